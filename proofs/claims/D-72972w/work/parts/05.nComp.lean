/-! SequenceBench$Method -/
set_option maxRecDepth 100000
def RX2 : String := "SequenceBench$Method"
abbrev cX2_of : ByteArray := prog_6_method_6_code
def yX2_of : MethodName := ⟨RX2, "of", "(I)LSequenceBench$Method;"⟩
def dkwX2_of_1 : List UInt8 := [176]
abbrev dktX2_of_1 : List UInt8 := dkwX2_of_1 ++ []
def dkwX2_of_0 : List UInt8 := [26, 154, 0, 9, 178, 0, 3, 167, 0, 17, 26, 4, 160, 0, 9, 178, 0, 7, 167, 0, 6, 178, 0, 10]
abbrev dktX2_of_0 : List UInt8 := dkwX2_of_0 ++ dktX2_of_1
theorem dksX2_of_0 : cX2_of.data.toList.drop 0 = dktX2_of_0 := by decide +kernel
theorem dksX2_of_1 : cX2_of.data.toList.drop 24 = dktX2_of_1 := dk_seg dksX2_of_0 24 rfl rfl
theorem dX2_of_0 : decode cX2_of 0 = .ok (.iload_n 0, 1) := dk_26 (dk_at dksX2_of_0 0 rfl rfl)
theorem dX2_of_1 : decode cX2_of 1 = .ok (.ifCond .ne 9, 3) := dk_154 0 9 (dk_at dksX2_of_0 1 rfl rfl)
theorem dX2_of_4 : decode cX2_of 4 = .ok (.getstatic 3, 3) := dk_178 0 3 (dk_at dksX2_of_0 4 rfl rfl)
theorem dX2_of_7 : decode cX2_of 7 = .ok (.goto 17, 3) := dk_167 0 17 (dk_at dksX2_of_0 7 rfl rfl)
theorem dX2_of_10 : decode cX2_of 10 = .ok (.iload_n 0, 1) := dk_26 (dk_at dksX2_of_0 10 rfl rfl)
theorem dX2_of_11 : decode cX2_of 11 = .ok (.iconst 1, 1) := dk_4 (dk_at dksX2_of_0 11 rfl rfl)
theorem dX2_of_12 : decode cX2_of 12 = .ok (.if_icmp .ne 9, 3) := dk_160 0 9 (dk_at dksX2_of_0 12 rfl rfl)
theorem dX2_of_15 : decode cX2_of 15 = .ok (.getstatic 7, 3) := dk_178 0 7 (dk_at dksX2_of_0 15 rfl rfl)
theorem dX2_of_18 : decode cX2_of 18 = .ok (.goto 6, 3) := dk_167 0 6 (dk_at dksX2_of_0 18 rfl rfl)
theorem dX2_of_21 : decode cX2_of 21 = .ok (.getstatic 10, 3) := dk_178 0 10 (dk_at dksX2_of_0 21 rfl rfl)
theorem dX2_of_24 : decode cX2_of 24 = .ok (.areturn, 1) := dk_176 (dk_at dksX2_of_1 0 rfl rfl)
abbrev cX2_number : ByteArray := prog_6_method_7_code
def yX2_number : MethodName := ⟨RX2, "number", "()I"⟩
def dkwX2_number_0 : List UInt8 := [42, 178, 0, 3, 166, 0, 7, 3, 167, 0, 15, 42, 178, 0, 7, 166, 0, 7, 4, 167, 0, 4, 5, 172]
abbrev dktX2_number_0 : List UInt8 := dkwX2_number_0 ++ []
theorem dksX2_number_0 : cX2_number.data.toList.drop 0 = dktX2_number_0 := by decide +kernel
theorem dX2_number_0 : decode cX2_number 0 = .ok (.aload_n 0, 1) := dk_42 (dk_at dksX2_number_0 0 rfl rfl)
theorem dX2_number_1 : decode cX2_number 1 = .ok (.getstatic 3, 3) := dk_178 0 3 (dk_at dksX2_number_0 1 rfl rfl)
theorem dX2_number_4 : decode cX2_number 4 = .ok (.if_acmp .ne 7, 3) := dk_166 0 7 (dk_at dksX2_number_0 4 rfl rfl)
theorem dX2_number_7 : decode cX2_number 7 = .ok (.iconst 0, 1) := dk_3 (dk_at dksX2_number_0 7 rfl rfl)
theorem dX2_number_8 : decode cX2_number 8 = .ok (.goto 15, 3) := dk_167 0 15 (dk_at dksX2_number_0 8 rfl rfl)
theorem dX2_number_11 : decode cX2_number 11 = .ok (.aload_n 0, 1) := dk_42 (dk_at dksX2_number_0 11 rfl rfl)
theorem dX2_number_12 : decode cX2_number 12 = .ok (.getstatic 7, 3) := dk_178 0 7 (dk_at dksX2_number_0 12 rfl rfl)
theorem dX2_number_15 : decode cX2_number 15 = .ok (.if_acmp .ne 7, 3) := dk_166 0 7 (dk_at dksX2_number_0 15 rfl rfl)
theorem dX2_number_18 : decode cX2_number 18 = .ok (.iconst 1, 1) := dk_4 (dk_at dksX2_number_0 18 rfl rfl)
theorem dX2_number_19 : decode cX2_number 19 = .ok (.goto 4, 3) := dk_167 0 4 (dk_at dksX2_number_0 19 rfl rfl)
theorem dX2_number_22 : decode cX2_number 22 = .ok (.iconst 2, 1) := dk_5 (dk_at dksX2_number_0 22 rfl rfl)
theorem dX2_number_23 : decode cX2_number 23 = .ok (.ireturn, 1) := dk_172 (dk_at dksX2_number_0 23 rfl rfl)
theorem q64 : (Jvm.Cond.initialized "SequenceBench$Method") ∈ lw_all := lw_g (lw_at lw_m1 3 rfl) rfl
theorem q106 : (Jvm.Cond.laysStatic "SequenceBench$Method" "CASCADE" "LSequenceBench$Method;") ∈ lw_tbl := lw_at lw_m1 45 rfl
theorem q121 : (Jvm.Cond.declares ({ cls := "SequenceBench$Method", name := "circuit", desc := "(LSequenceBench$Rig;)LSequenceBench$Circuit;" } : Jvm.MethodName)) ∈ lw_tbl := lw_at lw_m1 60 rfl
theorem q122 : (Jvm.Cond.sameMethod "SequenceBench$Method" "SequenceBench$Method" "circuit" "(LSequenceBench$Rig;)LSequenceBench$Circuit;") ∈ lw_all := lw_g (lw_at lw_m1 61 rfl) rfl
theorem q1178 : (Jvm.Cond.static ({ cls := "SequenceBench$Method", name := "of", desc := "(I)LSequenceBench$Method;" } : Jvm.MethodName)) ∈ lw_all := lw_g (lw_at lw_m5 157 rfl) rfl
theorem q1179 : (Jvm.Cond.code ({ cls := "SequenceBench$Method", name := "of", desc := "(I)LSequenceBench$Method;" } : Jvm.MethodName) prog_6_method_6_code (1 : Nat) (Option.some (Jvm.ClassFile.FieldType.object "SequenceBench$Method"))) ∈ lw_all := lw_g (lw_at lw_m5 158 rfl) rfl
theorem q1180 : (Jvm.Cond.fieldLink "SequenceBench$Method" (3 : Nat) "SequenceBench$Method" "DIRECT" "LSequenceBench$Method;") ∈ lw_all := lw_g (lw_at lw_m5 159 rfl) rfl
theorem q1181 : (Jvm.Cond.laysStatic "SequenceBench$Method" "DIRECT" "LSequenceBench$Method;") ∈ lw_tbl := lw_at lw_m5 160 rfl
theorem q1182 : (Jvm.Cond.fieldLink "SequenceBench$Method" (7 : Nat) "SequenceBench$Method" "CASCADE" "LSequenceBench$Method;") ∈ lw_all := lw_g (lw_at lw_m5 161 rfl) rfl
theorem q1183 : (Jvm.Cond.fieldLink "SequenceBench$Method" (10 : Nat) "SequenceBench$Method" "STEPPER" "LSequenceBench$Method;") ∈ lw_all := lw_g (lw_at lw_m5 162 rfl) rfl
theorem q1184 : (Jvm.Cond.laysStatic "SequenceBench$Method" "STEPPER" "LSequenceBench$Method;") ∈ lw_tbl := lw_at lw_m5 163 rfl
theorem q1200 : (Jvm.Cond.declares ({ cls := "SequenceBench$Method", name := "extraValves", desc := "(LSequenceBench$Sequence;)I" } : Jvm.MethodName)) ∈ lw_tbl := lw_at lw_m5 179 rfl
theorem q1201 : (Jvm.Cond.sameMethod "SequenceBench$Method" "SequenceBench$Method" "extraValves" "(LSequenceBench$Sequence;)I") ∈ lw_all := lw_g (lw_at lw_m5 180 rfl) rfl
theorem q1219 : (Jvm.Cond.instanceMethod ({ cls := "SequenceBench$Method", name := "number", desc := "()I" } : Jvm.MethodName)) ∈ lw_all := lw_g (lw_at lw_m5 198 rfl) rfl
theorem q1220 : (Jvm.Cond.sameMethod "SequenceBench$Method" "SequenceBench$Method" "number" "()I") ∈ lw_all := lw_g (lw_at lw_m5 199 rfl) rfl
theorem q1224 : (Jvm.Cond.code ({ cls := "SequenceBench$Method", name := "number", desc := "()I" } : Jvm.MethodName) prog_6_method_7_code (1 : Nat) (Option.some Jvm.ClassFile.FieldType.int)) ∈ lw_all := lw_g (lw_at lw_m5 203 rfl) rfl
theorem q1829 : (Jvm.Cond.castable "SequenceBench$Method" "java/lang/Object") ∈ lw_tbl := lw_at lw_m8 88 rfl

/-! SequenceBench$Rig -/
set_option maxRecDepth 100000
def RX3 : String := "SequenceBench$Rig"
def TX3 : u_T := fun k => match k with
  | 0 => ("SequenceBench$Rig", "sequence", "LSequenceBench$Sequence;", true)
  | 1 => ("SequenceBench$Rig", "strokes", "[I", true)
  | 2 => ("SequenceBench$Rig", "faults", "[I", true)
  | 3 => ("SequenceBench$Rig", "positions", "[I", true)
  | 4 => ("SequenceBench$Rig", "timers", "[I", true)
  | 5 => ("SequenceBench$Rig", "circuit", "LSequenceBench$Circuit;", true)
  | 6 => ("SequenceBench$Rig", "isStarted", "Z", false)
  | 7 => ("SequenceBench$Rig", "out", "I", false)
  | 8 => ("SequenceBench$Rig", "time", "I", false)
  | 9 => ("SequenceBench$Rig", "quiet", "I", false)
  | 10 => ("SequenceBench$Rig", "retracted", "I", false)
  | 11 => ("SequenceBench$Rig", "extended", "I", false)
  | 12 => ("SequenceBench$Rig", "plus", "I", false)
  | 13 => ("SequenceBench$Rig", "minus", "I", false)
  | 14 => ("SequenceBench$Rig", "running", "I", false)
  | 15 => ("SequenceBench$Rig", "eventTimes", "[I", true)
  | 16 => ("SequenceBench$Rig", "eventMoves", "[I", true)
  | 17 => ("SequenceBench$Rig", "events", "I", false)
  | 18 => ("SequenceBench$Rig", "right", "I", false)
  | 19 => ("SequenceBench$Rig", "dueStep", "I", false)
  | 20 => ("SequenceBench$Rig", "duePlus", "I", false)
  | 21 => ("SequenceBench$Rig", "dueMinus", "I", false)
  | 22 => ("SequenceBench$Rig", "cycles", "I", false)
  | 23 => ("SequenceBench$Rig", "latestCycle", "I", false)
  | _ => ("SequenceBench$Rig", "cycleBefore", "I", false)
def tyX3 : Nat → FieldType := fun k => match k with
  | 0 => .object "SequenceBench$Sequence"
  | 1 => .array .int
  | 2 => .array .int
  | 3 => .array .int
  | 4 => .array .int
  | 5 => .object "SequenceBench$Circuit"
  | 6 => .boolean
  | 7 => .int
  | 8 => .int
  | 9 => .int
  | 10 => .int
  | 11 => .int
  | 12 => .int
  | 13 => .int
  | 14 => .int
  | 15 => .array .int
  | 16 => .array .int
  | 17 => .int
  | 18 => .int
  | 19 => .int
  | 20 => .int
  | 21 => .int
  | 22 => .int
  | 23 => .int
  | _ => .int
abbrev wsX30 : List Cond := u_ws RX3 TX3 25
set_option maxRecDepth 100000 in
theorem nmX3 : ∀ a, a < 25 → ∀ b, b < 25 → a ≠ b → (TX3 a).2.1 ≠ (TX3 b).2.1 := by decide +kernel
set_option maxRecDepth 100000 in
theorem tyX3_ok : ∀ k, k < 25 → parseFieldDescriptor (TX3 k).2.2.1 = some (tyX3 k) := by decide +kernel
abbrev cX3_init : ByteArray := prog_11_method_1_code
def yX3_init : MethodName := ⟨RX3, "<init>", "(LSequenceBench$Sequence;LSequenceBench$Method;[I)V"⟩
def dkwX3_init_4 : List UInt8 := [177]
abbrev dktX3_init_4 : List UInt8 := dkwX3_init_4 ++ []
def dkwX3_init_3 : List UInt8 := [1, 167, 0, 8, 44, 42, 182, 0, 43, 181, 0, 49, 43, 198, 0, 11, 42, 43, 182, 0, 52, 182, 0, 58]
abbrev dktX3_init_3 : List UInt8 := dkwX3_init_3 ++ dktX3_init_4
def dkwX3_init_2 : List UInt8 := [181, 0, 28, 42, 43, 181, 0, 31, 42, 45, 182, 0, 35, 192, 0, 36, 181, 0, 40, 42, 43, 199, 0, 7]
abbrev dktX3_init_2 : List UInt8 := dkwX3_init_2 ++ dktX3_init_3
def dkwX3_init_1 : List UInt8 := [188, 10, 181, 0, 18, 42, 4, 181, 0, 21, 42, 16, 40, 188, 10, 181, 0, 25, 42, 16, 40, 188, 10]
abbrev dktX3_init_1 : List UInt8 := dkwX3_init_1 ++ dktX3_init_2
def dkwX3_init_0 : List UInt8 := [42, 183, 0, 3, 42, 16, 6, 188, 10, 181, 0, 9, 42, 16, 6, 188, 10, 181, 0, 15, 42, 16, 16]
abbrev dktX3_init_0 : List UInt8 := dkwX3_init_0 ++ dktX3_init_1
theorem dksX3_init_0 : cX3_init.data.toList.drop 0 = dktX3_init_0 := by decide +kernel
theorem dksX3_init_1 : cX3_init.data.toList.drop 23 = dktX3_init_1 := dk_seg dksX3_init_0 23 rfl rfl
theorem dksX3_init_2 : cX3_init.data.toList.drop 46 = dktX3_init_2 := dk_seg dksX3_init_1 23 rfl rfl
theorem dksX3_init_3 : cX3_init.data.toList.drop 70 = dktX3_init_3 := dk_seg dksX3_init_2 24 rfl rfl
theorem dksX3_init_4 : cX3_init.data.toList.drop 94 = dktX3_init_4 := dk_seg dksX3_init_3 24 rfl rfl
theorem dX3_init_0 : decode cX3_init 0 = .ok (.aload_n 0, 1) := dk_42 (dk_at dksX3_init_0 0 rfl rfl)
theorem dX3_init_1 : decode cX3_init 1 = .ok (.invokespecial 3, 3) := dk_183 0 3 (dk_at dksX3_init_0 1 rfl rfl)
theorem dX3_init_4 : decode cX3_init 4 = .ok (.aload_n 0, 1) := dk_42 (dk_at dksX3_init_0 4 rfl rfl)
theorem dX3_init_5 : decode cX3_init 5 = .ok (.bipush 6, 2) := dk_16 6 (dk_at dksX3_init_0 5 rfl rfl)
theorem dX3_init_7 : decode cX3_init 7 = .ok (.newarray .int, 2) := dk_188_10 (dk_at dksX3_init_0 7 rfl rfl)
theorem dX3_init_9 : decode cX3_init 9 = .ok (.putfield 9, 3) := dk_181 0 9 (dk_at dksX3_init_0 9 rfl rfl)
theorem dX3_init_12 : decode cX3_init 12 = .ok (.aload_n 0, 1) := dk_42 (dk_at dksX3_init_0 12 rfl rfl)
theorem dX3_init_13 : decode cX3_init 13 = .ok (.bipush 6, 2) := dk_16 6 (dk_at dksX3_init_0 13 rfl rfl)
theorem dX3_init_15 : decode cX3_init 15 = .ok (.newarray .int, 2) := dk_188_10 (dk_at dksX3_init_0 15 rfl rfl)
theorem dX3_init_17 : decode cX3_init 17 = .ok (.putfield 15, 3) := dk_181 0 15 (dk_at dksX3_init_0 17 rfl rfl)
theorem dX3_init_20 : decode cX3_init 20 = .ok (.aload_n 0, 1) := dk_42 (dk_at dksX3_init_0 20 rfl rfl)
theorem dX3_init_21 : decode cX3_init 21 = .ok (.bipush 16, 2) := dk_16 16 (dk_at dksX3_init_0 21 rfl rfl)
theorem dX3_init_23 : decode cX3_init 23 = .ok (.newarray .int, 2) := dk_188_10 (dk_at dksX3_init_1 0 rfl rfl)
theorem dX3_init_25 : decode cX3_init 25 = .ok (.putfield 18, 3) := dk_181 0 18 (dk_at dksX3_init_1 2 rfl rfl)
theorem dX3_init_28 : decode cX3_init 28 = .ok (.aload_n 0, 1) := dk_42 (dk_at dksX3_init_1 5 rfl rfl)
theorem dX3_init_29 : decode cX3_init 29 = .ok (.iconst 1, 1) := dk_4 (dk_at dksX3_init_1 6 rfl rfl)
theorem dX3_init_30 : decode cX3_init 30 = .ok (.putfield 21, 3) := dk_181 0 21 (dk_at dksX3_init_1 7 rfl rfl)
theorem dX3_init_33 : decode cX3_init 33 = .ok (.aload_n 0, 1) := dk_42 (dk_at dksX3_init_1 10 rfl rfl)
theorem dX3_init_34 : decode cX3_init 34 = .ok (.bipush 40, 2) := dk_16 40 (dk_at dksX3_init_1 11 rfl rfl)
theorem dX3_init_36 : decode cX3_init 36 = .ok (.newarray .int, 2) := dk_188_10 (dk_at dksX3_init_1 13 rfl rfl)
theorem dX3_init_38 : decode cX3_init 38 = .ok (.putfield 25, 3) := dk_181 0 25 (dk_at dksX3_init_1 15 rfl rfl)
theorem dX3_init_41 : decode cX3_init 41 = .ok (.aload_n 0, 1) := dk_42 (dk_at dksX3_init_1 18 rfl rfl)
theorem dX3_init_42 : decode cX3_init 42 = .ok (.bipush 40, 2) := dk_16 40 (dk_at dksX3_init_1 19 rfl rfl)
theorem dX3_init_44 : decode cX3_init 44 = .ok (.newarray .int, 2) := dk_188_10 (dk_at dksX3_init_1 21 rfl rfl)
theorem dX3_init_46 : decode cX3_init 46 = .ok (.putfield 28, 3) := dk_181 0 28 (dk_at dksX3_init_2 0 rfl rfl)
theorem dX3_init_49 : decode cX3_init 49 = .ok (.aload_n 0, 1) := dk_42 (dk_at dksX3_init_2 3 rfl rfl)
theorem dX3_init_50 : decode cX3_init 50 = .ok (.aload_n 1, 1) := dk_43 (dk_at dksX3_init_2 4 rfl rfl)
theorem dX3_init_51 : decode cX3_init 51 = .ok (.putfield 31, 3) := dk_181 0 31 (dk_at dksX3_init_2 5 rfl rfl)
theorem dX3_init_54 : decode cX3_init 54 = .ok (.aload_n 0, 1) := dk_42 (dk_at dksX3_init_2 8 rfl rfl)
theorem dX3_init_55 : decode cX3_init 55 = .ok (.aload_n 3, 1) := dk_45 (dk_at dksX3_init_2 9 rfl rfl)
theorem dX3_init_56 : decode cX3_init 56 = .ok (.invokevirtual 35, 3) := dk_182 0 35 (dk_at dksX3_init_2 10 rfl rfl)
theorem dX3_init_59 : decode cX3_init 59 = .ok (.checkcast 36, 3) := dk_192 0 36 (dk_at dksX3_init_2 13 rfl rfl)
theorem dX3_init_62 : decode cX3_init 62 = .ok (.putfield 40, 3) := dk_181 0 40 (dk_at dksX3_init_2 16 rfl rfl)
theorem dX3_init_65 : decode cX3_init 65 = .ok (.aload_n 0, 1) := dk_42 (dk_at dksX3_init_2 19 rfl rfl)
theorem dX3_init_66 : decode cX3_init 66 = .ok (.aload_n 1, 1) := dk_43 (dk_at dksX3_init_2 20 rfl rfl)
theorem dX3_init_67 : decode cX3_init 67 = .ok (.ifnonnull 7, 3) := dk_199 0 7 (dk_at dksX3_init_2 21 rfl rfl)
theorem dX3_init_70 : decode cX3_init 70 = .ok (.aconst_null, 1) := dk_1 (dk_at dksX3_init_3 0 rfl rfl)
theorem dX3_init_71 : decode cX3_init 71 = .ok (.goto 8, 3) := dk_167 0 8 (dk_at dksX3_init_3 1 rfl rfl)
theorem dX3_init_74 : decode cX3_init 74 = .ok (.aload_n 2, 1) := dk_44 (dk_at dksX3_init_3 4 rfl rfl)
theorem dX3_init_75 : decode cX3_init 75 = .ok (.aload_n 0, 1) := dk_42 (dk_at dksX3_init_3 5 rfl rfl)
theorem dX3_init_76 : decode cX3_init 76 = .ok (.invokevirtual 43, 3) := dk_182 0 43 (dk_at dksX3_init_3 6 rfl rfl)
theorem dX3_init_79 : decode cX3_init 79 = .ok (.putfield 49, 3) := dk_181 0 49 (dk_at dksX3_init_3 9 rfl rfl)
theorem dX3_init_82 : decode cX3_init 82 = .ok (.aload_n 1, 1) := dk_43 (dk_at dksX3_init_3 12 rfl rfl)
theorem dX3_init_83 : decode cX3_init 83 = .ok (.ifnull 11, 3) := dk_198 0 11 (dk_at dksX3_init_3 13 rfl rfl)
theorem dX3_init_86 : decode cX3_init 86 = .ok (.aload_n 0, 1) := dk_42 (dk_at dksX3_init_3 16 rfl rfl)
theorem dX3_init_87 : decode cX3_init 87 = .ok (.aload_n 1, 1) := dk_43 (dk_at dksX3_init_3 17 rfl rfl)
theorem dX3_init_88 : decode cX3_init 88 = .ok (.invokevirtual 52, 3) := dk_182 0 52 (dk_at dksX3_init_3 18 rfl rfl)
theorem dX3_init_91 : decode cX3_init 91 = .ok (.invokevirtual 58, 3) := dk_182 0 58 (dk_at dksX3_init_3 21 rfl rfl)
theorem dX3_init_94 : decode cX3_init 94 = .ok (.return_, 1) := dk_177 (dk_at dksX3_init_4 0 rfl rfl)
abbrev cX3_isComplete : ByteArray := prog_11_method_4_code
def yX3_isComplete : MethodName := ⟨RX3, "isComplete", "(I)Z"⟩
def dkwX3_isComplete_3 : List UInt8 := [167, 0, 4, 3, 172]
abbrev dktX3_isComplete_3 : List UInt8 := dkwX3_isComplete_3 ++ []
def dkwX3_isComplete_2 : List UInt8 := [180, 0, 70, 160, 0, 23, 42, 180, 0, 94, 44, 180, 0, 78, 126, 44, 180, 0, 78, 160, 0, 7, 4]
abbrev dktX3_isComplete_2 : List UInt8 := dkwX3_isComplete_2 ++ dktX3_isComplete_3
def dkwX3_isComplete_1 : List UInt8 := [180, 0, 88, 161, 0, 7, 4, 167, 0, 4, 3, 172, 42, 180, 0, 91, 44, 180, 0, 70, 126, 44]
abbrev dktX3_isComplete_1 : List UInt8 := dkwX3_isComplete_1 ++ dktX3_isComplete_2
def dkwX3_isComplete_0 : List UInt8 := [42, 180, 0, 31, 180, 0, 66, 27, 50, 77, 44, 180, 0, 88, 158, 0, 22, 42, 180, 0, 18, 27, 46, 44]
abbrev dktX3_isComplete_0 : List UInt8 := dkwX3_isComplete_0 ++ dktX3_isComplete_1
theorem dksX3_isComplete_0 : cX3_isComplete.data.toList.drop 0 = dktX3_isComplete_0 := by decide +kernel
theorem dksX3_isComplete_1 : cX3_isComplete.data.toList.drop 24 = dktX3_isComplete_1 := dk_seg dksX3_isComplete_0 24 rfl rfl
theorem dksX3_isComplete_2 : cX3_isComplete.data.toList.drop 46 = dktX3_isComplete_2 := dk_seg dksX3_isComplete_1 22 rfl rfl
theorem dksX3_isComplete_3 : cX3_isComplete.data.toList.drop 69 = dktX3_isComplete_3 := dk_seg dksX3_isComplete_2 23 rfl rfl
theorem dX3_isComplete_0 : decode cX3_isComplete 0 = .ok (.aload_n 0, 1) := dk_42 (dk_at dksX3_isComplete_0 0 rfl rfl)
theorem dX3_isComplete_1 : decode cX3_isComplete 1 = .ok (.getfield 31, 3) := dk_180 0 31 (dk_at dksX3_isComplete_0 1 rfl rfl)
theorem dX3_isComplete_4 : decode cX3_isComplete 4 = .ok (.getfield 66, 3) := dk_180 0 66 (dk_at dksX3_isComplete_0 4 rfl rfl)
theorem dX3_isComplete_7 : decode cX3_isComplete 7 = .ok (.iload_n 1, 1) := dk_27 (dk_at dksX3_isComplete_0 7 rfl rfl)
theorem dX3_isComplete_8 : decode cX3_isComplete 8 = .ok (.aaload, 1) := dk_50 (dk_at dksX3_isComplete_0 8 rfl rfl)
theorem dX3_isComplete_9 : decode cX3_isComplete 9 = .ok (.astore_n 2, 1) := dk_77 (dk_at dksX3_isComplete_0 9 rfl rfl)
theorem dX3_isComplete_10 : decode cX3_isComplete 10 = .ok (.aload_n 2, 1) := dk_44 (dk_at dksX3_isComplete_0 10 rfl rfl)
theorem dX3_isComplete_11 : decode cX3_isComplete 11 = .ok (.getfield 88, 3) := dk_180 0 88 (dk_at dksX3_isComplete_0 11 rfl rfl)
theorem dX3_isComplete_14 : decode cX3_isComplete 14 = .ok (.ifCond .le 22, 3) := dk_158 0 22 (dk_at dksX3_isComplete_0 14 rfl rfl)
theorem dX3_isComplete_17 : decode cX3_isComplete 17 = .ok (.aload_n 0, 1) := dk_42 (dk_at dksX3_isComplete_0 17 rfl rfl)
theorem dX3_isComplete_18 : decode cX3_isComplete 18 = .ok (.getfield 18, 3) := dk_180 0 18 (dk_at dksX3_isComplete_0 18 rfl rfl)
theorem dX3_isComplete_21 : decode cX3_isComplete 21 = .ok (.iload_n 1, 1) := dk_27 (dk_at dksX3_isComplete_0 21 rfl rfl)
theorem dX3_isComplete_22 : decode cX3_isComplete 22 = .ok (.iaload, 1) := dk_46 (dk_at dksX3_isComplete_0 22 rfl rfl)
theorem dX3_isComplete_23 : decode cX3_isComplete 23 = .ok (.aload_n 2, 1) := dk_44 (dk_at dksX3_isComplete_0 23 rfl rfl)
theorem dX3_isComplete_24 : decode cX3_isComplete 24 = .ok (.getfield 88, 3) := dk_180 0 88 (dk_at dksX3_isComplete_1 0 rfl rfl)
theorem dX3_isComplete_27 : decode cX3_isComplete 27 = .ok (.if_icmp .lt 7, 3) := dk_161 0 7 (dk_at dksX3_isComplete_1 3 rfl rfl)
theorem dX3_isComplete_30 : decode cX3_isComplete 30 = .ok (.iconst 1, 1) := dk_4 (dk_at dksX3_isComplete_1 6 rfl rfl)
theorem dX3_isComplete_31 : decode cX3_isComplete 31 = .ok (.goto 4, 3) := dk_167 0 4 (dk_at dksX3_isComplete_1 7 rfl rfl)
theorem dX3_isComplete_34 : decode cX3_isComplete 34 = .ok (.iconst 0, 1) := dk_3 (dk_at dksX3_isComplete_1 10 rfl rfl)
theorem dX3_isComplete_35 : decode cX3_isComplete 35 = .ok (.ireturn, 1) := dk_172 (dk_at dksX3_isComplete_1 11 rfl rfl)
theorem dX3_isComplete_36 : decode cX3_isComplete 36 = .ok (.aload_n 0, 1) := dk_42 (dk_at dksX3_isComplete_1 12 rfl rfl)
theorem dX3_isComplete_37 : decode cX3_isComplete 37 = .ok (.getfield 91, 3) := dk_180 0 91 (dk_at dksX3_isComplete_1 13 rfl rfl)
theorem dX3_isComplete_40 : decode cX3_isComplete 40 = .ok (.aload_n 2, 1) := dk_44 (dk_at dksX3_isComplete_1 16 rfl rfl)
theorem dX3_isComplete_41 : decode cX3_isComplete 41 = .ok (.getfield 70, 3) := dk_180 0 70 (dk_at dksX3_isComplete_1 17 rfl rfl)
theorem dX3_isComplete_44 : decode cX3_isComplete 44 = .ok (.iand, 1) := dk_126 (dk_at dksX3_isComplete_1 20 rfl rfl)
theorem dX3_isComplete_45 : decode cX3_isComplete 45 = .ok (.aload_n 2, 1) := dk_44 (dk_at dksX3_isComplete_1 21 rfl rfl)
theorem dX3_isComplete_46 : decode cX3_isComplete 46 = .ok (.getfield 70, 3) := dk_180 0 70 (dk_at dksX3_isComplete_2 0 rfl rfl)
theorem dX3_isComplete_49 : decode cX3_isComplete 49 = .ok (.if_icmp .ne 23, 3) := dk_160 0 23 (dk_at dksX3_isComplete_2 3 rfl rfl)
theorem dX3_isComplete_52 : decode cX3_isComplete 52 = .ok (.aload_n 0, 1) := dk_42 (dk_at dksX3_isComplete_2 6 rfl rfl)
theorem dX3_isComplete_53 : decode cX3_isComplete 53 = .ok (.getfield 94, 3) := dk_180 0 94 (dk_at dksX3_isComplete_2 7 rfl rfl)
theorem dX3_isComplete_56 : decode cX3_isComplete 56 = .ok (.aload_n 2, 1) := dk_44 (dk_at dksX3_isComplete_2 10 rfl rfl)
theorem dX3_isComplete_57 : decode cX3_isComplete 57 = .ok (.getfield 78, 3) := dk_180 0 78 (dk_at dksX3_isComplete_2 11 rfl rfl)
theorem dX3_isComplete_60 : decode cX3_isComplete 60 = .ok (.iand, 1) := dk_126 (dk_at dksX3_isComplete_2 14 rfl rfl)
theorem dX3_isComplete_61 : decode cX3_isComplete 61 = .ok (.aload_n 2, 1) := dk_44 (dk_at dksX3_isComplete_2 15 rfl rfl)
theorem dX3_isComplete_62 : decode cX3_isComplete 62 = .ok (.getfield 78, 3) := dk_180 0 78 (dk_at dksX3_isComplete_2 16 rfl rfl)
theorem dX3_isComplete_65 : decode cX3_isComplete 65 = .ok (.if_icmp .ne 7, 3) := dk_160 0 7 (dk_at dksX3_isComplete_2 19 rfl rfl)
theorem dX3_isComplete_68 : decode cX3_isComplete 68 = .ok (.iconst 1, 1) := dk_4 (dk_at dksX3_isComplete_2 22 rfl rfl)
theorem dX3_isComplete_69 : decode cX3_isComplete 69 = .ok (.goto 4, 3) := dk_167 0 4 (dk_at dksX3_isComplete_3 0 rfl rfl)
theorem dX3_isComplete_72 : decode cX3_isComplete 72 = .ok (.iconst 0, 1) := dk_3 (dk_at dksX3_isComplete_3 3 rfl rfl)
theorem dX3_isComplete_73 : decode cX3_isComplete 73 = .ok (.ireturn, 1) := dk_172 (dk_at dksX3_isComplete_3 4 rfl rfl)
abbrev cX3_expect : ByteArray := prog_11_method_2_code
def yX3_expect : MethodName := ⟨RX3, "expect", "(I)V"⟩
def dkwX3_expect_1 : List UInt8 := [180, 0, 31, 180, 0, 66, 27, 50, 180, 0, 78, 181, 0, 81, 177]
abbrev dktX3_expect_1 : List UInt8 := dkwX3_expect_1 ++ []
def dkwX3_expect_0 : List UInt8 := [42, 27, 181, 0, 62, 42, 42, 180, 0, 31, 180, 0, 66, 27, 50, 180, 0, 70, 181, 0, 75, 42, 42]
abbrev dktX3_expect_0 : List UInt8 := dkwX3_expect_0 ++ dktX3_expect_1
theorem dksX3_expect_0 : cX3_expect.data.toList.drop 0 = dktX3_expect_0 := by decide +kernel
theorem dksX3_expect_1 : cX3_expect.data.toList.drop 23 = dktX3_expect_1 := dk_seg dksX3_expect_0 23 rfl rfl
theorem dX3_expect_0 : decode cX3_expect 0 = .ok (.aload_n 0, 1) := dk_42 (dk_at dksX3_expect_0 0 rfl rfl)
theorem dX3_expect_1 : decode cX3_expect 1 = .ok (.iload_n 1, 1) := dk_27 (dk_at dksX3_expect_0 1 rfl rfl)
theorem dX3_expect_2 : decode cX3_expect 2 = .ok (.putfield 62, 3) := dk_181 0 62 (dk_at dksX3_expect_0 2 rfl rfl)
theorem dX3_expect_5 : decode cX3_expect 5 = .ok (.aload_n 0, 1) := dk_42 (dk_at dksX3_expect_0 5 rfl rfl)
theorem dX3_expect_6 : decode cX3_expect 6 = .ok (.aload_n 0, 1) := dk_42 (dk_at dksX3_expect_0 6 rfl rfl)
theorem dX3_expect_7 : decode cX3_expect 7 = .ok (.getfield 31, 3) := dk_180 0 31 (dk_at dksX3_expect_0 7 rfl rfl)
theorem dX3_expect_10 : decode cX3_expect 10 = .ok (.getfield 66, 3) := dk_180 0 66 (dk_at dksX3_expect_0 10 rfl rfl)
theorem dX3_expect_13 : decode cX3_expect 13 = .ok (.iload_n 1, 1) := dk_27 (dk_at dksX3_expect_0 13 rfl rfl)
theorem dX3_expect_14 : decode cX3_expect 14 = .ok (.aaload, 1) := dk_50 (dk_at dksX3_expect_0 14 rfl rfl)
theorem dX3_expect_15 : decode cX3_expect 15 = .ok (.getfield 70, 3) := dk_180 0 70 (dk_at dksX3_expect_0 15 rfl rfl)
theorem dX3_expect_18 : decode cX3_expect 18 = .ok (.putfield 75, 3) := dk_181 0 75 (dk_at dksX3_expect_0 18 rfl rfl)
theorem dX3_expect_21 : decode cX3_expect 21 = .ok (.aload_n 0, 1) := dk_42 (dk_at dksX3_expect_0 21 rfl rfl)
theorem dX3_expect_22 : decode cX3_expect 22 = .ok (.aload_n 0, 1) := dk_42 (dk_at dksX3_expect_0 22 rfl rfl)
theorem dX3_expect_23 : decode cX3_expect 23 = .ok (.getfield 31, 3) := dk_180 0 31 (dk_at dksX3_expect_1 0 rfl rfl)
theorem dX3_expect_26 : decode cX3_expect 26 = .ok (.getfield 66, 3) := dk_180 0 66 (dk_at dksX3_expect_1 3 rfl rfl)
theorem dX3_expect_29 : decode cX3_expect 29 = .ok (.iload_n 1, 1) := dk_27 (dk_at dksX3_expect_1 6 rfl rfl)
theorem dX3_expect_30 : decode cX3_expect 30 = .ok (.aaload, 1) := dk_50 (dk_at dksX3_expect_1 7 rfl rfl)
theorem dX3_expect_31 : decode cX3_expect 31 = .ok (.getfield 78, 3) := dk_180 0 78 (dk_at dksX3_expect_1 8 rfl rfl)
theorem dX3_expect_34 : decode cX3_expect 34 = .ok (.putfield 81, 3) := dk_181 0 81 (dk_at dksX3_expect_1 11 rfl rfl)
theorem dX3_expect_37 : decode cX3_expect 37 = .ok (.return_, 1) := dk_177 (dk_at dksX3_expect_1 14 rfl rfl)
abbrev cX3_ticks : ByteArray := prog_11_method_12_code
def yX3_ticks : MethodName := ⟨RX3, "ticks", "(I)I"⟩
def dkwX3_ticks_1 : List UInt8 := [180, 0, 108, 28, 100, 172]
abbrev dktX3_ticks_1 : List UInt8 := dkwX3_ticks_1 ++ []
def dkwX3_ticks_0 : List UInt8 := [42, 180, 0, 108, 61, 3, 62, 29, 27, 162, 0, 13, 42, 182, 0, 161, 132, 3, 1, 167, 255, 244, 42]
abbrev dktX3_ticks_0 : List UInt8 := dkwX3_ticks_0 ++ dktX3_ticks_1
theorem dksX3_ticks_0 : cX3_ticks.data.toList.drop 0 = dktX3_ticks_0 := by decide +kernel
theorem dksX3_ticks_1 : cX3_ticks.data.toList.drop 23 = dktX3_ticks_1 := dk_seg dksX3_ticks_0 23 rfl rfl
theorem dX3_ticks_0 : decode cX3_ticks 0 = .ok (.aload_n 0, 1) := dk_42 (dk_at dksX3_ticks_0 0 rfl rfl)
theorem dX3_ticks_1 : decode cX3_ticks 1 = .ok (.getfield 108, 3) := dk_180 0 108 (dk_at dksX3_ticks_0 1 rfl rfl)
theorem dX3_ticks_4 : decode cX3_ticks 4 = .ok (.istore_n 2, 1) := dk_61 (dk_at dksX3_ticks_0 4 rfl rfl)
theorem dX3_ticks_5 : decode cX3_ticks 5 = .ok (.iconst 0, 1) := dk_3 (dk_at dksX3_ticks_0 5 rfl rfl)
theorem dX3_ticks_6 : decode cX3_ticks 6 = .ok (.istore_n 3, 1) := dk_62 (dk_at dksX3_ticks_0 6 rfl rfl)
theorem dX3_ticks_7 : decode cX3_ticks 7 = .ok (.iload_n 3, 1) := dk_29 (dk_at dksX3_ticks_0 7 rfl rfl)
theorem dX3_ticks_8 : decode cX3_ticks 8 = .ok (.iload_n 1, 1) := dk_27 (dk_at dksX3_ticks_0 8 rfl rfl)
theorem dX3_ticks_9 : decode cX3_ticks 9 = .ok (.if_icmp .ge 13, 3) := dk_162 0 13 (dk_at dksX3_ticks_0 9 rfl rfl)
theorem dX3_ticks_12 : decode cX3_ticks 12 = .ok (.aload_n 0, 1) := dk_42 (dk_at dksX3_ticks_0 12 rfl rfl)
theorem dX3_ticks_13 : decode cX3_ticks 13 = .ok (.invokevirtual 161, 3) := dk_182 0 161 (dk_at dksX3_ticks_0 13 rfl rfl)
theorem dX3_ticks_16 : decode cX3_ticks 16 = .ok (.iinc 3 1, 3) := dk_132 3 1 (dk_at dksX3_ticks_0 16 rfl rfl)
theorem dX3_ticks_19 : decode cX3_ticks 19 = .ok (.goto (-12), 3) := dk_167 255 244 (dk_at dksX3_ticks_0 19 rfl rfl)
theorem dX3_ticks_22 : decode cX3_ticks 22 = .ok (.aload_n 0, 1) := dk_42 (dk_at dksX3_ticks_0 22 rfl rfl)
theorem dX3_ticks_23 : decode cX3_ticks 23 = .ok (.getfield 108, 3) := dk_180 0 108 (dk_at dksX3_ticks_1 0 rfl rfl)
theorem dX3_ticks_26 : decode cX3_ticks 26 = .ok (.iload_n 2, 1) := dk_28 (dk_at dksX3_ticks_1 3 rfl rfl)
theorem dX3_ticks_27 : decode cX3_ticks 27 = .ok (.isub, 1) := dk_100 (dk_at dksX3_ticks_1 4 rfl rfl)
theorem dX3_ticks_28 : decode cX3_ticks 28 = .ok (.ireturn, 1) := dk_172 (dk_at dksX3_ticks_1 5 rfl rfl)
abbrev cX3_tick : ByteArray := prog_11_method_11_code
def yX3_tick : MethodName := ⟨RX3, "tick", "()V"⟩
def dkwX3_tick_5 : List UInt8 := [180, 0, 111, 4, 96, 181, 0, 111, 177]
abbrev dktX3_tick_5 : List UInt8 := dkwX3_tick_5 ++ []
def dkwX3_tick_4 : List UInt8 := [180, 0, 18, 29, 46, 4, 96, 184, 0, 155, 167, 0, 4, 3, 79, 132, 3, 1, 167, 255, 207, 42, 89]
abbrev dktX3_tick_4 : List UInt8 := dkwX3_tick_4 ++ dktX3_tick_5
def dkwX3_tick_3 : List UInt8 := [162, 0, 43, 42, 180, 0, 18, 29, 42, 180, 0, 99, 29, 184, 0, 84, 153, 0, 19, 16, 60, 42]
abbrev dktX3_tick_3 : List UInt8 := dkwX3_tick_3 ++ dktX3_tick_4
def dkwX3_tick_2 : List UInt8 := [3, 167, 0, 9, 42, 180, 0, 152, 4, 96, 181, 0, 152, 3, 62, 29, 42, 180, 0, 31, 180, 0, 66, 190]
abbrev dktX3_tick_2 : List UInt8 := dkwX3_tick_2 ++ dktX3_tick_3
def dkwX3_tick_1 : List UInt8 := [185, 0, 140, 1, 0, 42, 182, 0, 145, 60, 42, 182, 0, 149, 61, 42, 27, 154, 0, 7, 28, 153, 0, 7]
abbrev dktX3_tick_1 : List UInt8 := dkwX3_tick_1 ++ dktX3_tick_2
def dkwX3_tick_0 : List UInt8 := [42, 182, 0, 137, 42, 3, 181, 0, 97, 42, 3, 181, 0, 98, 42, 3, 181, 0, 99, 42, 180, 0, 49]
abbrev dktX3_tick_0 : List UInt8 := dkwX3_tick_0 ++ dktX3_tick_1
theorem dksX3_tick_0 : cX3_tick.data.toList.drop 0 = dktX3_tick_0 := by decide +kernel
theorem dksX3_tick_1 : cX3_tick.data.toList.drop 23 = dktX3_tick_1 := dk_seg dksX3_tick_0 23 rfl rfl
theorem dksX3_tick_2 : cX3_tick.data.toList.drop 47 = dktX3_tick_2 := dk_seg dksX3_tick_1 24 rfl rfl
theorem dksX3_tick_3 : cX3_tick.data.toList.drop 71 = dktX3_tick_3 := dk_seg dksX3_tick_2 24 rfl rfl
theorem dksX3_tick_4 : cX3_tick.data.toList.drop 93 = dktX3_tick_4 := dk_seg dksX3_tick_3 22 rfl rfl
theorem dksX3_tick_5 : cX3_tick.data.toList.drop 116 = dktX3_tick_5 := dk_seg dksX3_tick_4 23 rfl rfl
theorem dX3_tick_0 : decode cX3_tick 0 = .ok (.aload_n 0, 1) := dk_42 (dk_at dksX3_tick_0 0 rfl rfl)
theorem dX3_tick_1 : decode cX3_tick 1 = .ok (.invokevirtual 137, 3) := dk_182 0 137 (dk_at dksX3_tick_0 1 rfl rfl)
theorem dX3_tick_4 : decode cX3_tick 4 = .ok (.aload_n 0, 1) := dk_42 (dk_at dksX3_tick_0 4 rfl rfl)
theorem dX3_tick_5 : decode cX3_tick 5 = .ok (.iconst 0, 1) := dk_3 (dk_at dksX3_tick_0 5 rfl rfl)
theorem dX3_tick_6 : decode cX3_tick 6 = .ok (.putfield 97, 3) := dk_181 0 97 (dk_at dksX3_tick_0 6 rfl rfl)
theorem dX3_tick_9 : decode cX3_tick 9 = .ok (.aload_n 0, 1) := dk_42 (dk_at dksX3_tick_0 9 rfl rfl)
theorem dX3_tick_10 : decode cX3_tick 10 = .ok (.iconst 0, 1) := dk_3 (dk_at dksX3_tick_0 10 rfl rfl)
theorem dX3_tick_11 : decode cX3_tick 11 = .ok (.putfield 98, 3) := dk_181 0 98 (dk_at dksX3_tick_0 11 rfl rfl)
theorem dX3_tick_14 : decode cX3_tick 14 = .ok (.aload_n 0, 1) := dk_42 (dk_at dksX3_tick_0 14 rfl rfl)
theorem dX3_tick_15 : decode cX3_tick 15 = .ok (.iconst 0, 1) := dk_3 (dk_at dksX3_tick_0 15 rfl rfl)
theorem dX3_tick_16 : decode cX3_tick 16 = .ok (.putfield 99, 3) := dk_181 0 99 (dk_at dksX3_tick_0 16 rfl rfl)
theorem dX3_tick_19 : decode cX3_tick 19 = .ok (.aload_n 0, 1) := dk_42 (dk_at dksX3_tick_0 19 rfl rfl)
theorem dX3_tick_20 : decode cX3_tick 20 = .ok (.getfield 49, 3) := dk_180 0 49 (dk_at dksX3_tick_0 20 rfl rfl)
theorem dX3_tick_23 : decode cX3_tick 23 = .ok (.invokeinterface 140 1, 5) := by decide +kernel
theorem dX3_tick_28 : decode cX3_tick 28 = .ok (.aload_n 0, 1) := dk_42 (dk_at dksX3_tick_1 5 rfl rfl)
theorem dX3_tick_29 : decode cX3_tick 29 = .ok (.invokevirtual 145, 3) := dk_182 0 145 (dk_at dksX3_tick_1 6 rfl rfl)
theorem dX3_tick_32 : decode cX3_tick 32 = .ok (.istore_n 1, 1) := dk_60 (dk_at dksX3_tick_1 9 rfl rfl)
theorem dX3_tick_33 : decode cX3_tick 33 = .ok (.aload_n 0, 1) := dk_42 (dk_at dksX3_tick_1 10 rfl rfl)
theorem dX3_tick_34 : decode cX3_tick 34 = .ok (.invokevirtual 149, 3) := dk_182 0 149 (dk_at dksX3_tick_1 11 rfl rfl)
theorem dX3_tick_37 : decode cX3_tick 37 = .ok (.istore_n 2, 1) := dk_61 (dk_at dksX3_tick_1 14 rfl rfl)
theorem dX3_tick_38 : decode cX3_tick 38 = .ok (.aload_n 0, 1) := dk_42 (dk_at dksX3_tick_1 15 rfl rfl)
theorem dX3_tick_39 : decode cX3_tick 39 = .ok (.iload_n 1, 1) := dk_27 (dk_at dksX3_tick_1 16 rfl rfl)
theorem dX3_tick_40 : decode cX3_tick 40 = .ok (.ifCond .ne 7, 3) := dk_154 0 7 (dk_at dksX3_tick_1 17 rfl rfl)
theorem dX3_tick_43 : decode cX3_tick 43 = .ok (.iload_n 2, 1) := dk_28 (dk_at dksX3_tick_1 20 rfl rfl)
theorem dX3_tick_44 : decode cX3_tick 44 = .ok (.ifCond .eq 7, 3) := dk_153 0 7 (dk_at dksX3_tick_1 21 rfl rfl)
theorem dX3_tick_47 : decode cX3_tick 47 = .ok (.iconst 0, 1) := dk_3 (dk_at dksX3_tick_2 0 rfl rfl)
theorem dX3_tick_48 : decode cX3_tick 48 = .ok (.goto 9, 3) := dk_167 0 9 (dk_at dksX3_tick_2 1 rfl rfl)
theorem dX3_tick_51 : decode cX3_tick 51 = .ok (.aload_n 0, 1) := dk_42 (dk_at dksX3_tick_2 4 rfl rfl)
theorem dX3_tick_52 : decode cX3_tick 52 = .ok (.getfield 152, 3) := dk_180 0 152 (dk_at dksX3_tick_2 5 rfl rfl)
theorem dX3_tick_55 : decode cX3_tick 55 = .ok (.iconst 1, 1) := dk_4 (dk_at dksX3_tick_2 8 rfl rfl)
theorem dX3_tick_56 : decode cX3_tick 56 = .ok (.iadd, 1) := dk_96 (dk_at dksX3_tick_2 9 rfl rfl)
theorem dX3_tick_57 : decode cX3_tick 57 = .ok (.putfield 152, 3) := dk_181 0 152 (dk_at dksX3_tick_2 10 rfl rfl)
theorem dX3_tick_60 : decode cX3_tick 60 = .ok (.iconst 0, 1) := dk_3 (dk_at dksX3_tick_2 13 rfl rfl)
theorem dX3_tick_61 : decode cX3_tick 61 = .ok (.istore_n 3, 1) := dk_62 (dk_at dksX3_tick_2 14 rfl rfl)
theorem dX3_tick_62 : decode cX3_tick 62 = .ok (.iload_n 3, 1) := dk_29 (dk_at dksX3_tick_2 15 rfl rfl)
theorem dX3_tick_63 : decode cX3_tick 63 = .ok (.aload_n 0, 1) := dk_42 (dk_at dksX3_tick_2 16 rfl rfl)
theorem dX3_tick_64 : decode cX3_tick 64 = .ok (.getfield 31, 3) := dk_180 0 31 (dk_at dksX3_tick_2 17 rfl rfl)
theorem dX3_tick_67 : decode cX3_tick 67 = .ok (.getfield 66, 3) := dk_180 0 66 (dk_at dksX3_tick_2 20 rfl rfl)
theorem dX3_tick_70 : decode cX3_tick 70 = .ok (.arraylength, 1) := dk_190 (dk_at dksX3_tick_2 23 rfl rfl)
theorem dX3_tick_71 : decode cX3_tick 71 = .ok (.if_icmp .ge 43, 3) := dk_162 0 43 (dk_at dksX3_tick_3 0 rfl rfl)
theorem dX3_tick_74 : decode cX3_tick 74 = .ok (.aload_n 0, 1) := dk_42 (dk_at dksX3_tick_3 3 rfl rfl)
theorem dX3_tick_75 : decode cX3_tick 75 = .ok (.getfield 18, 3) := dk_180 0 18 (dk_at dksX3_tick_3 4 rfl rfl)
theorem dX3_tick_78 : decode cX3_tick 78 = .ok (.iload_n 3, 1) := dk_29 (dk_at dksX3_tick_3 7 rfl rfl)
theorem dX3_tick_79 : decode cX3_tick 79 = .ok (.aload_n 0, 1) := dk_42 (dk_at dksX3_tick_3 8 rfl rfl)
theorem dX3_tick_80 : decode cX3_tick 80 = .ok (.getfield 99, 3) := dk_180 0 99 (dk_at dksX3_tick_3 9 rfl rfl)
theorem dX3_tick_83 : decode cX3_tick 83 = .ok (.iload_n 3, 1) := dk_29 (dk_at dksX3_tick_3 12 rfl rfl)
theorem dX3_tick_84 : decode cX3_tick 84 = .ok (.invokestatic 84, 3) := dk_184 0 84 (dk_at dksX3_tick_3 13 rfl rfl)
theorem dX3_tick_87 : decode cX3_tick 87 = .ok (.ifCond .eq 19, 3) := dk_153 0 19 (dk_at dksX3_tick_3 16 rfl rfl)
theorem dX3_tick_90 : decode cX3_tick 90 = .ok (.bipush 60, 2) := dk_16 60 (dk_at dksX3_tick_3 19 rfl rfl)
theorem dX3_tick_92 : decode cX3_tick 92 = .ok (.aload_n 0, 1) := dk_42 (dk_at dksX3_tick_3 21 rfl rfl)
theorem dX3_tick_93 : decode cX3_tick 93 = .ok (.getfield 18, 3) := dk_180 0 18 (dk_at dksX3_tick_4 0 rfl rfl)
theorem dX3_tick_96 : decode cX3_tick 96 = .ok (.iload_n 3, 1) := dk_29 (dk_at dksX3_tick_4 3 rfl rfl)
theorem dX3_tick_97 : decode cX3_tick 97 = .ok (.iaload, 1) := dk_46 (dk_at dksX3_tick_4 4 rfl rfl)
theorem dX3_tick_98 : decode cX3_tick 98 = .ok (.iconst 1, 1) := dk_4 (dk_at dksX3_tick_4 5 rfl rfl)
theorem dX3_tick_99 : decode cX3_tick 99 = .ok (.iadd, 1) := dk_96 (dk_at dksX3_tick_4 6 rfl rfl)
theorem dX3_tick_100 : decode cX3_tick 100 = .ok (.invokestatic 155, 3) := dk_184 0 155 (dk_at dksX3_tick_4 7 rfl rfl)
theorem dX3_tick_103 : decode cX3_tick 103 = .ok (.goto 4, 3) := dk_167 0 4 (dk_at dksX3_tick_4 10 rfl rfl)
theorem dX3_tick_106 : decode cX3_tick 106 = .ok (.iconst 0, 1) := dk_3 (dk_at dksX3_tick_4 13 rfl rfl)
theorem dX3_tick_107 : decode cX3_tick 107 = .ok (.iastore, 1) := dk_79 (dk_at dksX3_tick_4 14 rfl rfl)
theorem dX3_tick_108 : decode cX3_tick 108 = .ok (.iinc 3 1, 3) := dk_132 3 1 (dk_at dksX3_tick_4 15 rfl rfl)
theorem dX3_tick_111 : decode cX3_tick 111 = .ok (.goto (-49), 3) := dk_167 255 207 (dk_at dksX3_tick_4 18 rfl rfl)
theorem dX3_tick_114 : decode cX3_tick 114 = .ok (.aload_n 0, 1) := dk_42 (dk_at dksX3_tick_4 21 rfl rfl)
theorem dX3_tick_115 : decode cX3_tick 115 = .ok (.dup, 1) := dk_89 (dk_at dksX3_tick_4 22 rfl rfl)
theorem dX3_tick_116 : decode cX3_tick 116 = .ok (.getfield 111, 3) := dk_180 0 111 (dk_at dksX3_tick_5 0 rfl rfl)
theorem dX3_tick_119 : decode cX3_tick 119 = .ok (.iconst 1, 1) := dk_4 (dk_at dksX3_tick_5 3 rfl rfl)
theorem dX3_tick_120 : decode cX3_tick 120 = .ok (.iadd, 1) := dk_96 (dk_at dksX3_tick_5 4 rfl rfl)
theorem dX3_tick_121 : decode cX3_tick 121 = .ok (.putfield 111, 3) := dk_181 0 111 (dk_at dksX3_tick_5 5 rfl rfl)
theorem dX3_tick_124 : decode cX3_tick 124 = .ok (.return_, 1) := dk_177 (dk_at dksX3_tick_5 8 rfl rfl)
abbrev cX3_read : ByteArray := prog_11_method_6_code
def yX3_read : MethodName := ⟨RX3, "read", "()V"⟩
def dkwX3_read_3 : List UInt8 := [167, 255, 197, 177]
abbrev dktX3_read_3 : List UInt8 := dkwX3_read_3 ++ []
def dkwX3_read_2 : List UInt8 := [42, 27, 4, 182, 0, 102, 153, 0, 9, 4, 27, 120, 167, 0, 4, 3, 128, 181, 0, 91, 132, 1, 1]
abbrev dktX3_read_2 : List UInt8 := dkwX3_read_2 ++ dktX3_read_3
def dkwX3_read_1 : List UInt8 := [27, 3, 182, 0, 102, 153, 0, 9, 4, 27, 120, 167, 0, 4, 3, 128, 181, 0, 94, 42, 89, 180, 0, 91]
abbrev dktX3_read_1 : List UInt8 := dkwX3_read_1 ++ dktX3_read_2
def dkwX3_read_0 : List UInt8 := [42, 3, 181, 0, 94, 42, 3, 181, 0, 91, 3, 60, 27, 16, 6, 162, 0, 59, 42, 89, 180, 0, 94, 42]
abbrev dktX3_read_0 : List UInt8 := dkwX3_read_0 ++ dktX3_read_1
theorem dksX3_read_0 : cX3_read.data.toList.drop 0 = dktX3_read_0 := by decide +kernel
theorem dksX3_read_1 : cX3_read.data.toList.drop 24 = dktX3_read_1 := dk_seg dksX3_read_0 24 rfl rfl
theorem dksX3_read_2 : cX3_read.data.toList.drop 48 = dktX3_read_2 := dk_seg dksX3_read_1 24 rfl rfl
theorem dksX3_read_3 : cX3_read.data.toList.drop 71 = dktX3_read_3 := dk_seg dksX3_read_2 23 rfl rfl
theorem dX3_read_0 : decode cX3_read 0 = .ok (.aload_n 0, 1) := dk_42 (dk_at dksX3_read_0 0 rfl rfl)
theorem dX3_read_1 : decode cX3_read 1 = .ok (.iconst 0, 1) := dk_3 (dk_at dksX3_read_0 1 rfl rfl)
theorem dX3_read_2 : decode cX3_read 2 = .ok (.putfield 94, 3) := dk_181 0 94 (dk_at dksX3_read_0 2 rfl rfl)
theorem dX3_read_5 : decode cX3_read 5 = .ok (.aload_n 0, 1) := dk_42 (dk_at dksX3_read_0 5 rfl rfl)
theorem dX3_read_6 : decode cX3_read 6 = .ok (.iconst 0, 1) := dk_3 (dk_at dksX3_read_0 6 rfl rfl)
theorem dX3_read_7 : decode cX3_read 7 = .ok (.putfield 91, 3) := dk_181 0 91 (dk_at dksX3_read_0 7 rfl rfl)
theorem dX3_read_10 : decode cX3_read 10 = .ok (.iconst 0, 1) := dk_3 (dk_at dksX3_read_0 10 rfl rfl)
theorem dX3_read_11 : decode cX3_read 11 = .ok (.istore_n 1, 1) := dk_60 (dk_at dksX3_read_0 11 rfl rfl)
theorem dX3_read_12 : decode cX3_read 12 = .ok (.iload_n 1, 1) := dk_27 (dk_at dksX3_read_0 12 rfl rfl)
theorem dX3_read_13 : decode cX3_read 13 = .ok (.bipush 6, 2) := dk_16 6 (dk_at dksX3_read_0 13 rfl rfl)
theorem dX3_read_15 : decode cX3_read 15 = .ok (.if_icmp .ge 59, 3) := dk_162 0 59 (dk_at dksX3_read_0 15 rfl rfl)
theorem dX3_read_18 : decode cX3_read 18 = .ok (.aload_n 0, 1) := dk_42 (dk_at dksX3_read_0 18 rfl rfl)
theorem dX3_read_19 : decode cX3_read 19 = .ok (.dup, 1) := dk_89 (dk_at dksX3_read_0 19 rfl rfl)
theorem dX3_read_20 : decode cX3_read 20 = .ok (.getfield 94, 3) := dk_180 0 94 (dk_at dksX3_read_0 20 rfl rfl)
theorem dX3_read_23 : decode cX3_read 23 = .ok (.aload_n 0, 1) := dk_42 (dk_at dksX3_read_0 23 rfl rfl)
theorem dX3_read_24 : decode cX3_read 24 = .ok (.iload_n 1, 1) := dk_27 (dk_at dksX3_read_1 0 rfl rfl)
theorem dX3_read_25 : decode cX3_read 25 = .ok (.iconst 0, 1) := dk_3 (dk_at dksX3_read_1 1 rfl rfl)
theorem dX3_read_26 : decode cX3_read 26 = .ok (.invokevirtual 102, 3) := dk_182 0 102 (dk_at dksX3_read_1 2 rfl rfl)
theorem dX3_read_29 : decode cX3_read 29 = .ok (.ifCond .eq 9, 3) := dk_153 0 9 (dk_at dksX3_read_1 5 rfl rfl)
theorem dX3_read_32 : decode cX3_read 32 = .ok (.iconst 1, 1) := dk_4 (dk_at dksX3_read_1 8 rfl rfl)
theorem dX3_read_33 : decode cX3_read 33 = .ok (.iload_n 1, 1) := dk_27 (dk_at dksX3_read_1 9 rfl rfl)
theorem dX3_read_34 : decode cX3_read 34 = .ok (.ishl, 1) := dk_120 (dk_at dksX3_read_1 10 rfl rfl)
theorem dX3_read_35 : decode cX3_read 35 = .ok (.goto 4, 3) := dk_167 0 4 (dk_at dksX3_read_1 11 rfl rfl)
theorem dX3_read_38 : decode cX3_read 38 = .ok (.iconst 0, 1) := dk_3 (dk_at dksX3_read_1 14 rfl rfl)
theorem dX3_read_39 : decode cX3_read 39 = .ok (.ior, 1) := dk_128 (dk_at dksX3_read_1 15 rfl rfl)
theorem dX3_read_40 : decode cX3_read 40 = .ok (.putfield 94, 3) := dk_181 0 94 (dk_at dksX3_read_1 16 rfl rfl)
theorem dX3_read_43 : decode cX3_read 43 = .ok (.aload_n 0, 1) := dk_42 (dk_at dksX3_read_1 19 rfl rfl)
theorem dX3_read_44 : decode cX3_read 44 = .ok (.dup, 1) := dk_89 (dk_at dksX3_read_1 20 rfl rfl)
theorem dX3_read_45 : decode cX3_read 45 = .ok (.getfield 91, 3) := dk_180 0 91 (dk_at dksX3_read_1 21 rfl rfl)
theorem dX3_read_48 : decode cX3_read 48 = .ok (.aload_n 0, 1) := dk_42 (dk_at dksX3_read_2 0 rfl rfl)
theorem dX3_read_49 : decode cX3_read 49 = .ok (.iload_n 1, 1) := dk_27 (dk_at dksX3_read_2 1 rfl rfl)
theorem dX3_read_50 : decode cX3_read 50 = .ok (.iconst 1, 1) := dk_4 (dk_at dksX3_read_2 2 rfl rfl)
theorem dX3_read_51 : decode cX3_read 51 = .ok (.invokevirtual 102, 3) := dk_182 0 102 (dk_at dksX3_read_2 3 rfl rfl)
theorem dX3_read_54 : decode cX3_read 54 = .ok (.ifCond .eq 9, 3) := dk_153 0 9 (dk_at dksX3_read_2 6 rfl rfl)
theorem dX3_read_57 : decode cX3_read 57 = .ok (.iconst 1, 1) := dk_4 (dk_at dksX3_read_2 9 rfl rfl)
theorem dX3_read_58 : decode cX3_read 58 = .ok (.iload_n 1, 1) := dk_27 (dk_at dksX3_read_2 10 rfl rfl)
theorem dX3_read_59 : decode cX3_read 59 = .ok (.ishl, 1) := dk_120 (dk_at dksX3_read_2 11 rfl rfl)
theorem dX3_read_60 : decode cX3_read 60 = .ok (.goto 4, 3) := dk_167 0 4 (dk_at dksX3_read_2 12 rfl rfl)
theorem dX3_read_63 : decode cX3_read 63 = .ok (.iconst 0, 1) := dk_3 (dk_at dksX3_read_2 15 rfl rfl)
theorem dX3_read_64 : decode cX3_read 64 = .ok (.ior, 1) := dk_128 (dk_at dksX3_read_2 16 rfl rfl)
theorem dX3_read_65 : decode cX3_read 65 = .ok (.putfield 91, 3) := dk_181 0 91 (dk_at dksX3_read_2 17 rfl rfl)
theorem dX3_read_68 : decode cX3_read 68 = .ok (.iinc 1 1, 3) := dk_132 1 1 (dk_at dksX3_read_2 20 rfl rfl)
theorem dX3_read_71 : decode cX3_read 71 = .ok (.goto (-59), 3) := dk_167 255 197 (dk_at dksX3_read_3 0 rfl rfl)
theorem dX3_read_74 : decode cX3_read 74 = .ok (.return_, 1) := dk_177 (dk_at dksX3_read_3 3 rfl rfl)
abbrev cX3_sensor : ByteArray := prog_11_method_3_code
def yX3_sensor : MethodName := ⟨RX3, "sensor", "(II)Z"⟩
def dkwX3_sensor_3 : List UInt8 := [29, 21, 4, 4, 96, 184, 0, 84, 153, 0, 7, 4, 167, 0, 4, 3, 172]
abbrev dktX3_sensor_3 : List UInt8 := dkwX3_sensor_3 ++ []
def dkwX3_sensor_2 : List UInt8 := [160, 0, 7, 4, 167, 0, 4, 3, 54, 5, 29, 21, 4, 184, 0, 84, 154, 0, 23, 21, 5, 154, 0, 14]
abbrev dktX3_sensor_2 : List UInt8 := dkwX3_sensor_2 ++ dktX3_sensor_3
def dkwX3_sensor_1 : List UInt8 := [154, 0, 7, 4, 167, 0, 27, 3, 167, 0, 23, 42, 180, 0, 15, 27, 46, 42, 180, 0, 40, 27, 46]
abbrev dktX3_sensor_1 : List UInt8 := dkwX3_sensor_1 ++ dktX3_sensor_2
def dkwX3_sensor_0 : List UInt8 := [42, 180, 0, 9, 27, 46, 62, 4, 5, 28, 104, 96, 54, 4, 28, 154, 0, 20, 42, 180, 0, 15, 27, 46]
abbrev dktX3_sensor_0 : List UInt8 := dkwX3_sensor_0 ++ dktX3_sensor_1
theorem dksX3_sensor_0 : cX3_sensor.data.toList.drop 0 = dktX3_sensor_0 := by decide +kernel
theorem dksX3_sensor_1 : cX3_sensor.data.toList.drop 24 = dktX3_sensor_1 := dk_seg dksX3_sensor_0 24 rfl rfl
theorem dksX3_sensor_2 : cX3_sensor.data.toList.drop 47 = dktX3_sensor_2 := dk_seg dksX3_sensor_1 23 rfl rfl
theorem dksX3_sensor_3 : cX3_sensor.data.toList.drop 71 = dktX3_sensor_3 := dk_seg dksX3_sensor_2 24 rfl rfl
theorem dX3_sensor_0 : decode cX3_sensor 0 = .ok (.aload_n 0, 1) := dk_42 (dk_at dksX3_sensor_0 0 rfl rfl)
theorem dX3_sensor_1 : decode cX3_sensor 1 = .ok (.getfield 9, 3) := dk_180 0 9 (dk_at dksX3_sensor_0 1 rfl rfl)
theorem dX3_sensor_4 : decode cX3_sensor 4 = .ok (.iload_n 1, 1) := dk_27 (dk_at dksX3_sensor_0 4 rfl rfl)
theorem dX3_sensor_5 : decode cX3_sensor 5 = .ok (.iaload, 1) := dk_46 (dk_at dksX3_sensor_0 5 rfl rfl)
theorem dX3_sensor_6 : decode cX3_sensor 6 = .ok (.istore_n 3, 1) := dk_62 (dk_at dksX3_sensor_0 6 rfl rfl)
theorem dX3_sensor_7 : decode cX3_sensor 7 = .ok (.iconst 1, 1) := dk_4 (dk_at dksX3_sensor_0 7 rfl rfl)
theorem dX3_sensor_8 : decode cX3_sensor 8 = .ok (.iconst 2, 1) := dk_5 (dk_at dksX3_sensor_0 8 rfl rfl)
theorem dX3_sensor_9 : decode cX3_sensor 9 = .ok (.iload_n 2, 1) := dk_28 (dk_at dksX3_sensor_0 9 rfl rfl)
theorem dX3_sensor_10 : decode cX3_sensor 10 = .ok (.imul, 1) := dk_104 (dk_at dksX3_sensor_0 10 rfl rfl)
theorem dX3_sensor_11 : decode cX3_sensor 11 = .ok (.iadd, 1) := dk_96 (dk_at dksX3_sensor_0 11 rfl rfl)
theorem dX3_sensor_12 : decode cX3_sensor 12 = .ok (.istore 4, 2) := dk_54 4 (dk_at dksX3_sensor_0 12 rfl rfl)
theorem dX3_sensor_14 : decode cX3_sensor 14 = .ok (.iload_n 2, 1) := dk_28 (dk_at dksX3_sensor_0 14 rfl rfl)
theorem dX3_sensor_15 : decode cX3_sensor 15 = .ok (.ifCond .ne 20, 3) := dk_154 0 20 (dk_at dksX3_sensor_0 15 rfl rfl)
theorem dX3_sensor_18 : decode cX3_sensor 18 = .ok (.aload_n 0, 1) := dk_42 (dk_at dksX3_sensor_0 18 rfl rfl)
theorem dX3_sensor_19 : decode cX3_sensor 19 = .ok (.getfield 15, 3) := dk_180 0 15 (dk_at dksX3_sensor_0 19 rfl rfl)
theorem dX3_sensor_22 : decode cX3_sensor 22 = .ok (.iload_n 1, 1) := dk_27 (dk_at dksX3_sensor_0 22 rfl rfl)
theorem dX3_sensor_23 : decode cX3_sensor 23 = .ok (.iaload, 1) := dk_46 (dk_at dksX3_sensor_0 23 rfl rfl)
theorem dX3_sensor_24 : decode cX3_sensor 24 = .ok (.ifCond .ne 7, 3) := dk_154 0 7 (dk_at dksX3_sensor_1 0 rfl rfl)
theorem dX3_sensor_27 : decode cX3_sensor 27 = .ok (.iconst 1, 1) := dk_4 (dk_at dksX3_sensor_1 3 rfl rfl)
theorem dX3_sensor_28 : decode cX3_sensor 28 = .ok (.goto 27, 3) := dk_167 0 27 (dk_at dksX3_sensor_1 4 rfl rfl)
theorem dX3_sensor_31 : decode cX3_sensor 31 = .ok (.iconst 0, 1) := dk_3 (dk_at dksX3_sensor_1 7 rfl rfl)
theorem dX3_sensor_32 : decode cX3_sensor 32 = .ok (.goto 23, 3) := dk_167 0 23 (dk_at dksX3_sensor_1 8 rfl rfl)
theorem dX3_sensor_35 : decode cX3_sensor 35 = .ok (.aload_n 0, 1) := dk_42 (dk_at dksX3_sensor_1 11 rfl rfl)
theorem dX3_sensor_36 : decode cX3_sensor 36 = .ok (.getfield 15, 3) := dk_180 0 15 (dk_at dksX3_sensor_1 12 rfl rfl)
theorem dX3_sensor_39 : decode cX3_sensor 39 = .ok (.iload_n 1, 1) := dk_27 (dk_at dksX3_sensor_1 15 rfl rfl)
theorem dX3_sensor_40 : decode cX3_sensor 40 = .ok (.iaload, 1) := dk_46 (dk_at dksX3_sensor_1 16 rfl rfl)
theorem dX3_sensor_41 : decode cX3_sensor 41 = .ok (.aload_n 0, 1) := dk_42 (dk_at dksX3_sensor_1 17 rfl rfl)
theorem dX3_sensor_42 : decode cX3_sensor 42 = .ok (.getfield 40, 3) := dk_180 0 40 (dk_at dksX3_sensor_1 18 rfl rfl)
theorem dX3_sensor_45 : decode cX3_sensor 45 = .ok (.iload_n 1, 1) := dk_27 (dk_at dksX3_sensor_1 21 rfl rfl)
theorem dX3_sensor_46 : decode cX3_sensor 46 = .ok (.iaload, 1) := dk_46 (dk_at dksX3_sensor_1 22 rfl rfl)
theorem dX3_sensor_47 : decode cX3_sensor 47 = .ok (.if_icmp .ne 7, 3) := dk_160 0 7 (dk_at dksX3_sensor_2 0 rfl rfl)
theorem dX3_sensor_50 : decode cX3_sensor 50 = .ok (.iconst 1, 1) := dk_4 (dk_at dksX3_sensor_2 3 rfl rfl)
theorem dX3_sensor_51 : decode cX3_sensor 51 = .ok (.goto 4, 3) := dk_167 0 4 (dk_at dksX3_sensor_2 4 rfl rfl)
theorem dX3_sensor_54 : decode cX3_sensor 54 = .ok (.iconst 0, 1) := dk_3 (dk_at dksX3_sensor_2 7 rfl rfl)
theorem dX3_sensor_55 : decode cX3_sensor 55 = .ok (.istore 5, 2) := dk_54 5 (dk_at dksX3_sensor_2 8 rfl rfl)
theorem dX3_sensor_57 : decode cX3_sensor 57 = .ok (.iload_n 3, 1) := dk_29 (dk_at dksX3_sensor_2 10 rfl rfl)
theorem dX3_sensor_58 : decode cX3_sensor 58 = .ok (.iload 4, 2) := dk_21 4 (dk_at dksX3_sensor_2 11 rfl rfl)
theorem dX3_sensor_60 : decode cX3_sensor 60 = .ok (.invokestatic 84, 3) := dk_184 0 84 (dk_at dksX3_sensor_2 13 rfl rfl)
theorem dX3_sensor_63 : decode cX3_sensor 63 = .ok (.ifCond .ne 23, 3) := dk_154 0 23 (dk_at dksX3_sensor_2 16 rfl rfl)
theorem dX3_sensor_66 : decode cX3_sensor 66 = .ok (.iload 5, 2) := dk_21 5 (dk_at dksX3_sensor_2 19 rfl rfl)
theorem dX3_sensor_68 : decode cX3_sensor 68 = .ok (.ifCond .ne 14, 3) := dk_154 0 14 (dk_at dksX3_sensor_2 21 rfl rfl)
theorem dX3_sensor_71 : decode cX3_sensor 71 = .ok (.iload_n 3, 1) := dk_29 (dk_at dksX3_sensor_3 0 rfl rfl)
theorem dX3_sensor_72 : decode cX3_sensor 72 = .ok (.iload 4, 2) := dk_21 4 (dk_at dksX3_sensor_3 1 rfl rfl)
theorem dX3_sensor_74 : decode cX3_sensor 74 = .ok (.iconst 1, 1) := dk_4 (dk_at dksX3_sensor_3 3 rfl rfl)
theorem dX3_sensor_75 : decode cX3_sensor 75 = .ok (.iadd, 1) := dk_96 (dk_at dksX3_sensor_3 4 rfl rfl)
theorem dX3_sensor_76 : decode cX3_sensor 76 = .ok (.invokestatic 84, 3) := dk_184 0 84 (dk_at dksX3_sensor_3 5 rfl rfl)
theorem dX3_sensor_79 : decode cX3_sensor 79 = .ok (.ifCond .eq 7, 3) := dk_153 0 7 (dk_at dksX3_sensor_3 8 rfl rfl)
theorem dX3_sensor_82 : decode cX3_sensor 82 = .ok (.iconst 1, 1) := dk_4 (dk_at dksX3_sensor_3 11 rfl rfl)
theorem dX3_sensor_83 : decode cX3_sensor 83 = .ok (.goto 4, 3) := dk_167 0 4 (dk_at dksX3_sensor_3 12 rfl rfl)
theorem dX3_sensor_86 : decode cX3_sensor 86 = .ok (.iconst 0, 1) := dk_3 (dk_at dksX3_sensor_3 15 rfl rfl)
theorem dX3_sensor_87 : decode cX3_sensor 87 = .ok (.ireturn, 1) := dk_172 (dk_at dksX3_sensor_3 16 rfl rfl)
abbrev cX3_command : ByteArray := prog_11_method_5_code
def yX3_command : MethodName := ⟨RX3, "command", "(I)V"⟩
def dkwX3_command_2 : List UInt8 := [4, 27, 120, 167, 0, 4, 3, 128, 181, 0, 99, 177]
abbrev dktX3_command_2 : List UInt8 := dkwX3_command_2 ++ []
def dkwX3_command_1 : List UInt8 := [89, 180, 0, 98, 44, 180, 0, 78, 128, 181, 0, 98, 42, 89, 180, 0, 99, 44, 180, 0, 88, 158, 0, 9]
abbrev dktX3_command_1 : List UInt8 := dkwX3_command_1 ++ dktX3_command_2
def dkwX3_command_0 : List UInt8 := [42, 180, 0, 31, 180, 0, 66, 27, 50, 77, 42, 89, 180, 0, 97, 44, 180, 0, 70, 128, 181, 0, 97, 42]
abbrev dktX3_command_0 : List UInt8 := dkwX3_command_0 ++ dktX3_command_1
theorem dksX3_command_0 : cX3_command.data.toList.drop 0 = dktX3_command_0 := by decide +kernel
theorem dksX3_command_1 : cX3_command.data.toList.drop 24 = dktX3_command_1 := dk_seg dksX3_command_0 24 rfl rfl
theorem dksX3_command_2 : cX3_command.data.toList.drop 48 = dktX3_command_2 := dk_seg dksX3_command_1 24 rfl rfl
theorem dX3_command_0 : decode cX3_command 0 = .ok (.aload_n 0, 1) := dk_42 (dk_at dksX3_command_0 0 rfl rfl)
theorem dX3_command_1 : decode cX3_command 1 = .ok (.getfield 31, 3) := dk_180 0 31 (dk_at dksX3_command_0 1 rfl rfl)
theorem dX3_command_4 : decode cX3_command 4 = .ok (.getfield 66, 3) := dk_180 0 66 (dk_at dksX3_command_0 4 rfl rfl)
theorem dX3_command_7 : decode cX3_command 7 = .ok (.iload_n 1, 1) := dk_27 (dk_at dksX3_command_0 7 rfl rfl)
theorem dX3_command_8 : decode cX3_command 8 = .ok (.aaload, 1) := dk_50 (dk_at dksX3_command_0 8 rfl rfl)
theorem dX3_command_9 : decode cX3_command 9 = .ok (.astore_n 2, 1) := dk_77 (dk_at dksX3_command_0 9 rfl rfl)
theorem dX3_command_10 : decode cX3_command 10 = .ok (.aload_n 0, 1) := dk_42 (dk_at dksX3_command_0 10 rfl rfl)
theorem dX3_command_11 : decode cX3_command 11 = .ok (.dup, 1) := dk_89 (dk_at dksX3_command_0 11 rfl rfl)
theorem dX3_command_12 : decode cX3_command 12 = .ok (.getfield 97, 3) := dk_180 0 97 (dk_at dksX3_command_0 12 rfl rfl)
theorem dX3_command_15 : decode cX3_command 15 = .ok (.aload_n 2, 1) := dk_44 (dk_at dksX3_command_0 15 rfl rfl)
theorem dX3_command_16 : decode cX3_command 16 = .ok (.getfield 70, 3) := dk_180 0 70 (dk_at dksX3_command_0 16 rfl rfl)
theorem dX3_command_19 : decode cX3_command 19 = .ok (.ior, 1) := dk_128 (dk_at dksX3_command_0 19 rfl rfl)
theorem dX3_command_20 : decode cX3_command 20 = .ok (.putfield 97, 3) := dk_181 0 97 (dk_at dksX3_command_0 20 rfl rfl)
theorem dX3_command_23 : decode cX3_command 23 = .ok (.aload_n 0, 1) := dk_42 (dk_at dksX3_command_0 23 rfl rfl)
theorem dX3_command_24 : decode cX3_command 24 = .ok (.dup, 1) := dk_89 (dk_at dksX3_command_1 0 rfl rfl)
theorem dX3_command_25 : decode cX3_command 25 = .ok (.getfield 98, 3) := dk_180 0 98 (dk_at dksX3_command_1 1 rfl rfl)
theorem dX3_command_28 : decode cX3_command 28 = .ok (.aload_n 2, 1) := dk_44 (dk_at dksX3_command_1 4 rfl rfl)
theorem dX3_command_29 : decode cX3_command 29 = .ok (.getfield 78, 3) := dk_180 0 78 (dk_at dksX3_command_1 5 rfl rfl)
theorem dX3_command_32 : decode cX3_command 32 = .ok (.ior, 1) := dk_128 (dk_at dksX3_command_1 8 rfl rfl)
theorem dX3_command_33 : decode cX3_command 33 = .ok (.putfield 98, 3) := dk_181 0 98 (dk_at dksX3_command_1 9 rfl rfl)
theorem dX3_command_36 : decode cX3_command 36 = .ok (.aload_n 0, 1) := dk_42 (dk_at dksX3_command_1 12 rfl rfl)
theorem dX3_command_37 : decode cX3_command 37 = .ok (.dup, 1) := dk_89 (dk_at dksX3_command_1 13 rfl rfl)
theorem dX3_command_38 : decode cX3_command 38 = .ok (.getfield 99, 3) := dk_180 0 99 (dk_at dksX3_command_1 14 rfl rfl)
theorem dX3_command_41 : decode cX3_command 41 = .ok (.aload_n 2, 1) := dk_44 (dk_at dksX3_command_1 17 rfl rfl)
theorem dX3_command_42 : decode cX3_command 42 = .ok (.getfield 88, 3) := dk_180 0 88 (dk_at dksX3_command_1 18 rfl rfl)
theorem dX3_command_45 : decode cX3_command 45 = .ok (.ifCond .le 9, 3) := dk_158 0 9 (dk_at dksX3_command_1 21 rfl rfl)
theorem dX3_command_48 : decode cX3_command 48 = .ok (.iconst 1, 1) := dk_4 (dk_at dksX3_command_2 0 rfl rfl)
theorem dX3_command_49 : decode cX3_command 49 = .ok (.iload_n 1, 1) := dk_27 (dk_at dksX3_command_2 1 rfl rfl)
theorem dX3_command_50 : decode cX3_command 50 = .ok (.ishl, 1) := dk_120 (dk_at dksX3_command_2 2 rfl rfl)
theorem dX3_command_51 : decode cX3_command 51 = .ok (.goto 4, 3) := dk_167 0 4 (dk_at dksX3_command_2 3 rfl rfl)
theorem dX3_command_54 : decode cX3_command 54 = .ok (.iconst 0, 1) := dk_3 (dk_at dksX3_command_2 6 rfl rfl)
theorem dX3_command_55 : decode cX3_command 55 = .ok (.ior, 1) := dk_128 (dk_at dksX3_command_2 7 rfl rfl)
theorem dX3_command_56 : decode cX3_command 56 = .ok (.putfield 99, 3) := dk_181 0 99 (dk_at dksX3_command_2 8 rfl rfl)
theorem dX3_command_59 : decode cX3_command 59 = .ok (.return_, 1) := dk_177 (dk_at dksX3_command_2 11 rfl rfl)
abbrev cX3_switchValves : ByteArray := prog_11_method_9_code
def yX3_switchValves : MethodName := ⟨RX3, "switchValves", "()Z"⟩
def dkwX3_switchValves_3 : List UInt8 := [182, 0, 133, 132, 2, 1, 167, 255, 221, 27, 42, 180, 0, 130, 159, 0, 7, 4, 167, 0, 4, 3, 172]
abbrev dktX3_switchValves_3 : List UInt8 := dkwX3_switchValves_3 ++ []
def dkwX3_switchValves_2 : List UInt8 := [27, 42, 180, 0, 130, 130, 28, 184, 0, 84, 153, 0, 16, 42, 28, 42, 180, 0, 130, 28, 184, 0, 84]
abbrev dktX3_switchValves_2 : List UInt8 := dkwX3_switchValves_2 ++ dktX3_switchValves_3
def dkwX3_switchValves_1 : List UInt8 := [180, 0, 98, 42, 180, 0, 97, 2, 130, 126, 2, 130, 126, 181, 0, 130, 3, 61, 28, 16, 6, 162, 0, 35]
abbrev dktX3_switchValves_1 : List UInt8 := dkwX3_switchValves_1 ++ dktX3_switchValves_2
def dkwX3_switchValves_0 : List UInt8 := [42, 180, 0, 130, 60, 42, 42, 180, 0, 130, 42, 180, 0, 97, 42, 180, 0, 98, 2, 130, 126, 128, 42]
abbrev dktX3_switchValves_0 : List UInt8 := dkwX3_switchValves_0 ++ dktX3_switchValves_1
theorem dksX3_switchValves_0 : cX3_switchValves.data.toList.drop 0 = dktX3_switchValves_0 := by decide +kernel
theorem dksX3_switchValves_1 : cX3_switchValves.data.toList.drop 23 = dktX3_switchValves_1 := dk_seg dksX3_switchValves_0 23 rfl rfl
theorem dksX3_switchValves_2 : cX3_switchValves.data.toList.drop 47 = dktX3_switchValves_2 := dk_seg dksX3_switchValves_1 24 rfl rfl
theorem dksX3_switchValves_3 : cX3_switchValves.data.toList.drop 70 = dktX3_switchValves_3 := dk_seg dksX3_switchValves_2 23 rfl rfl
theorem dX3_switchValves_0 : decode cX3_switchValves 0 = .ok (.aload_n 0, 1) := dk_42 (dk_at dksX3_switchValves_0 0 rfl rfl)
theorem dX3_switchValves_1 : decode cX3_switchValves 1 = .ok (.getfield 130, 3) := dk_180 0 130 (dk_at dksX3_switchValves_0 1 rfl rfl)
theorem dX3_switchValves_4 : decode cX3_switchValves 4 = .ok (.istore_n 1, 1) := dk_60 (dk_at dksX3_switchValves_0 4 rfl rfl)
theorem dX3_switchValves_5 : decode cX3_switchValves 5 = .ok (.aload_n 0, 1) := dk_42 (dk_at dksX3_switchValves_0 5 rfl rfl)
theorem dX3_switchValves_6 : decode cX3_switchValves 6 = .ok (.aload_n 0, 1) := dk_42 (dk_at dksX3_switchValves_0 6 rfl rfl)
theorem dX3_switchValves_7 : decode cX3_switchValves 7 = .ok (.getfield 130, 3) := dk_180 0 130 (dk_at dksX3_switchValves_0 7 rfl rfl)
theorem dX3_switchValves_10 : decode cX3_switchValves 10 = .ok (.aload_n 0, 1) := dk_42 (dk_at dksX3_switchValves_0 10 rfl rfl)
theorem dX3_switchValves_11 : decode cX3_switchValves 11 = .ok (.getfield 97, 3) := dk_180 0 97 (dk_at dksX3_switchValves_0 11 rfl rfl)
theorem dX3_switchValves_14 : decode cX3_switchValves 14 = .ok (.aload_n 0, 1) := dk_42 (dk_at dksX3_switchValves_0 14 rfl rfl)
theorem dX3_switchValves_15 : decode cX3_switchValves 15 = .ok (.getfield 98, 3) := dk_180 0 98 (dk_at dksX3_switchValves_0 15 rfl rfl)
theorem dX3_switchValves_18 : decode cX3_switchValves 18 = .ok (.iconst (-1), 1) := dk_2 (dk_at dksX3_switchValves_0 18 rfl rfl)
theorem dX3_switchValves_19 : decode cX3_switchValves 19 = .ok (.ixor, 1) := dk_130 (dk_at dksX3_switchValves_0 19 rfl rfl)
theorem dX3_switchValves_20 : decode cX3_switchValves 20 = .ok (.iand, 1) := dk_126 (dk_at dksX3_switchValves_0 20 rfl rfl)
theorem dX3_switchValves_21 : decode cX3_switchValves 21 = .ok (.ior, 1) := dk_128 (dk_at dksX3_switchValves_0 21 rfl rfl)
theorem dX3_switchValves_22 : decode cX3_switchValves 22 = .ok (.aload_n 0, 1) := dk_42 (dk_at dksX3_switchValves_0 22 rfl rfl)
theorem dX3_switchValves_23 : decode cX3_switchValves 23 = .ok (.getfield 98, 3) := dk_180 0 98 (dk_at dksX3_switchValves_1 0 rfl rfl)
theorem dX3_switchValves_26 : decode cX3_switchValves 26 = .ok (.aload_n 0, 1) := dk_42 (dk_at dksX3_switchValves_1 3 rfl rfl)
theorem dX3_switchValves_27 : decode cX3_switchValves 27 = .ok (.getfield 97, 3) := dk_180 0 97 (dk_at dksX3_switchValves_1 4 rfl rfl)
theorem dX3_switchValves_30 : decode cX3_switchValves 30 = .ok (.iconst (-1), 1) := dk_2 (dk_at dksX3_switchValves_1 7 rfl rfl)
theorem dX3_switchValves_31 : decode cX3_switchValves 31 = .ok (.ixor, 1) := dk_130 (dk_at dksX3_switchValves_1 8 rfl rfl)
theorem dX3_switchValves_32 : decode cX3_switchValves 32 = .ok (.iand, 1) := dk_126 (dk_at dksX3_switchValves_1 9 rfl rfl)
theorem dX3_switchValves_33 : decode cX3_switchValves 33 = .ok (.iconst (-1), 1) := dk_2 (dk_at dksX3_switchValves_1 10 rfl rfl)
theorem dX3_switchValves_34 : decode cX3_switchValves 34 = .ok (.ixor, 1) := dk_130 (dk_at dksX3_switchValves_1 11 rfl rfl)
theorem dX3_switchValves_35 : decode cX3_switchValves 35 = .ok (.iand, 1) := dk_126 (dk_at dksX3_switchValves_1 12 rfl rfl)
theorem dX3_switchValves_36 : decode cX3_switchValves 36 = .ok (.putfield 130, 3) := dk_181 0 130 (dk_at dksX3_switchValves_1 13 rfl rfl)
theorem dX3_switchValves_39 : decode cX3_switchValves 39 = .ok (.iconst 0, 1) := dk_3 (dk_at dksX3_switchValves_1 16 rfl rfl)
theorem dX3_switchValves_40 : decode cX3_switchValves 40 = .ok (.istore_n 2, 1) := dk_61 (dk_at dksX3_switchValves_1 17 rfl rfl)
theorem dX3_switchValves_41 : decode cX3_switchValves 41 = .ok (.iload_n 2, 1) := dk_28 (dk_at dksX3_switchValves_1 18 rfl rfl)
theorem dX3_switchValves_42 : decode cX3_switchValves 42 = .ok (.bipush 6, 2) := dk_16 6 (dk_at dksX3_switchValves_1 19 rfl rfl)
theorem dX3_switchValves_44 : decode cX3_switchValves 44 = .ok (.if_icmp .ge 35, 3) := dk_162 0 35 (dk_at dksX3_switchValves_1 21 rfl rfl)
theorem dX3_switchValves_47 : decode cX3_switchValves 47 = .ok (.iload_n 1, 1) := dk_27 (dk_at dksX3_switchValves_2 0 rfl rfl)
theorem dX3_switchValves_48 : decode cX3_switchValves 48 = .ok (.aload_n 0, 1) := dk_42 (dk_at dksX3_switchValves_2 1 rfl rfl)
theorem dX3_switchValves_49 : decode cX3_switchValves 49 = .ok (.getfield 130, 3) := dk_180 0 130 (dk_at dksX3_switchValves_2 2 rfl rfl)
theorem dX3_switchValves_52 : decode cX3_switchValves 52 = .ok (.ixor, 1) := dk_130 (dk_at dksX3_switchValves_2 5 rfl rfl)
theorem dX3_switchValves_53 : decode cX3_switchValves 53 = .ok (.iload_n 2, 1) := dk_28 (dk_at dksX3_switchValves_2 6 rfl rfl)
theorem dX3_switchValves_54 : decode cX3_switchValves 54 = .ok (.invokestatic 84, 3) := dk_184 0 84 (dk_at dksX3_switchValves_2 7 rfl rfl)
theorem dX3_switchValves_57 : decode cX3_switchValves 57 = .ok (.ifCond .eq 16, 3) := dk_153 0 16 (dk_at dksX3_switchValves_2 10 rfl rfl)
theorem dX3_switchValves_60 : decode cX3_switchValves 60 = .ok (.aload_n 0, 1) := dk_42 (dk_at dksX3_switchValves_2 13 rfl rfl)
theorem dX3_switchValves_61 : decode cX3_switchValves 61 = .ok (.iload_n 2, 1) := dk_28 (dk_at dksX3_switchValves_2 14 rfl rfl)
theorem dX3_switchValves_62 : decode cX3_switchValves 62 = .ok (.aload_n 0, 1) := dk_42 (dk_at dksX3_switchValves_2 15 rfl rfl)
theorem dX3_switchValves_63 : decode cX3_switchValves 63 = .ok (.getfield 130, 3) := dk_180 0 130 (dk_at dksX3_switchValves_2 16 rfl rfl)
theorem dX3_switchValves_66 : decode cX3_switchValves 66 = .ok (.iload_n 2, 1) := dk_28 (dk_at dksX3_switchValves_2 19 rfl rfl)
theorem dX3_switchValves_67 : decode cX3_switchValves 67 = .ok (.invokestatic 84, 3) := dk_184 0 84 (dk_at dksX3_switchValves_2 20 rfl rfl)
theorem dX3_switchValves_70 : decode cX3_switchValves 70 = .ok (.invokevirtual 133, 3) := dk_182 0 133 (dk_at dksX3_switchValves_3 0 rfl rfl)
theorem dX3_switchValves_73 : decode cX3_switchValves 73 = .ok (.iinc 2 1, 3) := dk_132 2 1 (dk_at dksX3_switchValves_3 3 rfl rfl)
theorem dX3_switchValves_76 : decode cX3_switchValves 76 = .ok (.goto (-35), 3) := dk_167 255 221 (dk_at dksX3_switchValves_3 6 rfl rfl)
theorem dX3_switchValves_79 : decode cX3_switchValves 79 = .ok (.iload_n 1, 1) := dk_27 (dk_at dksX3_switchValves_3 9 rfl rfl)
theorem dX3_switchValves_80 : decode cX3_switchValves 80 = .ok (.aload_n 0, 1) := dk_42 (dk_at dksX3_switchValves_3 10 rfl rfl)
theorem dX3_switchValves_81 : decode cX3_switchValves 81 = .ok (.getfield 130, 3) := dk_180 0 130 (dk_at dksX3_switchValves_3 11 rfl rfl)
theorem dX3_switchValves_84 : decode cX3_switchValves 84 = .ok (.if_icmp .eq 7, 3) := dk_159 0 7 (dk_at dksX3_switchValves_3 14 rfl rfl)
theorem dX3_switchValves_87 : decode cX3_switchValves 87 = .ok (.iconst 1, 1) := dk_4 (dk_at dksX3_switchValves_3 17 rfl rfl)
theorem dX3_switchValves_88 : decode cX3_switchValves 88 = .ok (.goto 4, 3) := dk_167 0 4 (dk_at dksX3_switchValves_3 18 rfl rfl)
theorem dX3_switchValves_91 : decode cX3_switchValves 91 = .ok (.iconst 0, 1) := dk_3 (dk_at dksX3_switchValves_3 21 rfl rfl)
theorem dX3_switchValves_92 : decode cX3_switchValves 92 = .ok (.ireturn, 1) := dk_172 (dk_at dksX3_switchValves_3 22 rfl rfl)
abbrev cX3_record : ByteArray := prog_11_method_7_code
def yX3_record : MethodName := ⟨RX3, "record", "(IZ)V"⟩
def dkwX3_record_6 : List UInt8 := [4, 27, 120, 2, 130, 126, 181, 0, 81, 42, 182, 0, 114, 177]
abbrev dktX3_record_6 : List UInt8 := dkwX3_record_6 ++ []
def dkwX3_record_5 : List UInt8 := [120, 2, 130, 167, 0, 4, 2, 126, 181, 0, 75, 42, 89, 180, 0, 81, 28, 153, 0, 7, 2, 167, 0, 8]
abbrev dktX3_record_5 : List UInt8 := dkwX3_record_5 ++ dktX3_record_6
def dkwX3_record_4 : List UInt8 := [153, 0, 61, 42, 89, 180, 0, 105, 4, 96, 181, 0, 105, 42, 89, 180, 0, 75, 28, 153, 0, 11, 4, 27]
abbrev dktX3_record_4 : List UInt8 := dkwX3_record_4 ++ dktX3_record_5
def dkwX3_record_3 : List UInt8 := [153, 0, 83, 28, 153, 0, 10, 42, 180, 0, 75, 167, 0, 7, 42, 180, 0, 81, 27, 184, 0, 84]
abbrev dktX3_record_3 : List UInt8 := dkwX3_record_3 ++ dktX3_record_4
def dkwX3_record_2 : List UInt8 := [104, 28, 153, 0, 7, 4, 167, 0, 4, 3, 96, 79, 42, 89, 180, 0, 108, 4, 96, 181, 0, 108, 29]
abbrev dktX3_record_2 : List UInt8 := dkwX3_record_2 ++ dktX3_record_3
def dkwX3_record_1 : List UInt8 := [180, 0, 108, 16, 40, 112, 42, 180, 0, 111, 79, 42, 180, 0, 28, 42, 180, 0, 108, 16, 40, 112, 5, 27]
abbrev dktX3_record_1 : List UInt8 := dkwX3_record_1 ++ dktX3_record_2
def dkwX3_record_0 : List UInt8 := [42, 180, 0, 105, 42, 180, 0, 108, 160, 0, 7, 4, 167, 0, 4, 3, 62, 42, 180, 0, 25, 42]
abbrev dktX3_record_0 : List UInt8 := dkwX3_record_0 ++ dktX3_record_1
theorem dksX3_record_0 : cX3_record.data.toList.drop 0 = dktX3_record_0 := by decide +kernel
theorem dksX3_record_1 : cX3_record.data.toList.drop 22 = dktX3_record_1 := dk_seg dksX3_record_0 22 rfl rfl
theorem dksX3_record_2 : cX3_record.data.toList.drop 46 = dktX3_record_2 := dk_seg dksX3_record_1 24 rfl rfl
theorem dksX3_record_3 : cX3_record.data.toList.drop 69 = dktX3_record_3 := dk_seg dksX3_record_2 23 rfl rfl
theorem dksX3_record_4 : cX3_record.data.toList.drop 91 = dktX3_record_4 := dk_seg dksX3_record_3 22 rfl rfl
theorem dksX3_record_5 : cX3_record.data.toList.drop 115 = dktX3_record_5 := dk_seg dksX3_record_4 24 rfl rfl
theorem dksX3_record_6 : cX3_record.data.toList.drop 139 = dktX3_record_6 := dk_seg dksX3_record_5 24 rfl rfl
theorem dX3_record_0 : decode cX3_record 0 = .ok (.aload_n 0, 1) := dk_42 (dk_at dksX3_record_0 0 rfl rfl)
theorem dX3_record_1 : decode cX3_record 1 = .ok (.getfield 105, 3) := dk_180 0 105 (dk_at dksX3_record_0 1 rfl rfl)
theorem dX3_record_4 : decode cX3_record 4 = .ok (.aload_n 0, 1) := dk_42 (dk_at dksX3_record_0 4 rfl rfl)
theorem dX3_record_5 : decode cX3_record 5 = .ok (.getfield 108, 3) := dk_180 0 108 (dk_at dksX3_record_0 5 rfl rfl)
theorem dX3_record_8 : decode cX3_record 8 = .ok (.if_icmp .ne 7, 3) := dk_160 0 7 (dk_at dksX3_record_0 8 rfl rfl)
theorem dX3_record_11 : decode cX3_record 11 = .ok (.iconst 1, 1) := dk_4 (dk_at dksX3_record_0 11 rfl rfl)
theorem dX3_record_12 : decode cX3_record 12 = .ok (.goto 4, 3) := dk_167 0 4 (dk_at dksX3_record_0 12 rfl rfl)
theorem dX3_record_15 : decode cX3_record 15 = .ok (.iconst 0, 1) := dk_3 (dk_at dksX3_record_0 15 rfl rfl)
theorem dX3_record_16 : decode cX3_record 16 = .ok (.istore_n 3, 1) := dk_62 (dk_at dksX3_record_0 16 rfl rfl)
theorem dX3_record_17 : decode cX3_record 17 = .ok (.aload_n 0, 1) := dk_42 (dk_at dksX3_record_0 17 rfl rfl)
theorem dX3_record_18 : decode cX3_record 18 = .ok (.getfield 25, 3) := dk_180 0 25 (dk_at dksX3_record_0 18 rfl rfl)
theorem dX3_record_21 : decode cX3_record 21 = .ok (.aload_n 0, 1) := dk_42 (dk_at dksX3_record_0 21 rfl rfl)
theorem dX3_record_22 : decode cX3_record 22 = .ok (.getfield 108, 3) := dk_180 0 108 (dk_at dksX3_record_1 0 rfl rfl)
theorem dX3_record_25 : decode cX3_record 25 = .ok (.bipush 40, 2) := dk_16 40 (dk_at dksX3_record_1 3 rfl rfl)
theorem dX3_record_27 : decode cX3_record 27 = .ok (.irem, 1) := dk_112 (dk_at dksX3_record_1 5 rfl rfl)
theorem dX3_record_28 : decode cX3_record 28 = .ok (.aload_n 0, 1) := dk_42 (dk_at dksX3_record_1 6 rfl rfl)
theorem dX3_record_29 : decode cX3_record 29 = .ok (.getfield 111, 3) := dk_180 0 111 (dk_at dksX3_record_1 7 rfl rfl)
theorem dX3_record_32 : decode cX3_record 32 = .ok (.iastore, 1) := dk_79 (dk_at dksX3_record_1 10 rfl rfl)
theorem dX3_record_33 : decode cX3_record 33 = .ok (.aload_n 0, 1) := dk_42 (dk_at dksX3_record_1 11 rfl rfl)
theorem dX3_record_34 : decode cX3_record 34 = .ok (.getfield 28, 3) := dk_180 0 28 (dk_at dksX3_record_1 12 rfl rfl)
theorem dX3_record_37 : decode cX3_record 37 = .ok (.aload_n 0, 1) := dk_42 (dk_at dksX3_record_1 15 rfl rfl)
theorem dX3_record_38 : decode cX3_record 38 = .ok (.getfield 108, 3) := dk_180 0 108 (dk_at dksX3_record_1 16 rfl rfl)
theorem dX3_record_41 : decode cX3_record 41 = .ok (.bipush 40, 2) := dk_16 40 (dk_at dksX3_record_1 19 rfl rfl)
theorem dX3_record_43 : decode cX3_record 43 = .ok (.irem, 1) := dk_112 (dk_at dksX3_record_1 21 rfl rfl)
theorem dX3_record_44 : decode cX3_record 44 = .ok (.iconst 2, 1) := dk_5 (dk_at dksX3_record_1 22 rfl rfl)
theorem dX3_record_45 : decode cX3_record 45 = .ok (.iload_n 1, 1) := dk_27 (dk_at dksX3_record_1 23 rfl rfl)
theorem dX3_record_46 : decode cX3_record 46 = .ok (.imul, 1) := dk_104 (dk_at dksX3_record_2 0 rfl rfl)
theorem dX3_record_47 : decode cX3_record 47 = .ok (.iload_n 2, 1) := dk_28 (dk_at dksX3_record_2 1 rfl rfl)
theorem dX3_record_48 : decode cX3_record 48 = .ok (.ifCond .eq 7, 3) := dk_153 0 7 (dk_at dksX3_record_2 2 rfl rfl)
theorem dX3_record_51 : decode cX3_record 51 = .ok (.iconst 1, 1) := dk_4 (dk_at dksX3_record_2 5 rfl rfl)
theorem dX3_record_52 : decode cX3_record 52 = .ok (.goto 4, 3) := dk_167 0 4 (dk_at dksX3_record_2 6 rfl rfl)
theorem dX3_record_55 : decode cX3_record 55 = .ok (.iconst 0, 1) := dk_3 (dk_at dksX3_record_2 9 rfl rfl)
theorem dX3_record_56 : decode cX3_record 56 = .ok (.iadd, 1) := dk_96 (dk_at dksX3_record_2 10 rfl rfl)
theorem dX3_record_57 : decode cX3_record 57 = .ok (.iastore, 1) := dk_79 (dk_at dksX3_record_2 11 rfl rfl)
theorem dX3_record_58 : decode cX3_record 58 = .ok (.aload_n 0, 1) := dk_42 (dk_at dksX3_record_2 12 rfl rfl)
theorem dX3_record_59 : decode cX3_record 59 = .ok (.dup, 1) := dk_89 (dk_at dksX3_record_2 13 rfl rfl)
theorem dX3_record_60 : decode cX3_record 60 = .ok (.getfield 108, 3) := dk_180 0 108 (dk_at dksX3_record_2 14 rfl rfl)
theorem dX3_record_63 : decode cX3_record 63 = .ok (.iconst 1, 1) := dk_4 (dk_at dksX3_record_2 17 rfl rfl)
theorem dX3_record_64 : decode cX3_record 64 = .ok (.iadd, 1) := dk_96 (dk_at dksX3_record_2 18 rfl rfl)
theorem dX3_record_65 : decode cX3_record 65 = .ok (.putfield 108, 3) := dk_181 0 108 (dk_at dksX3_record_2 19 rfl rfl)
theorem dX3_record_68 : decode cX3_record 68 = .ok (.iload_n 3, 1) := dk_29 (dk_at dksX3_record_2 22 rfl rfl)
theorem dX3_record_69 : decode cX3_record 69 = .ok (.ifCond .eq 83, 3) := dk_153 0 83 (dk_at dksX3_record_3 0 rfl rfl)
theorem dX3_record_72 : decode cX3_record 72 = .ok (.iload_n 2, 1) := dk_28 (dk_at dksX3_record_3 3 rfl rfl)
theorem dX3_record_73 : decode cX3_record 73 = .ok (.ifCond .eq 10, 3) := dk_153 0 10 (dk_at dksX3_record_3 4 rfl rfl)
theorem dX3_record_76 : decode cX3_record 76 = .ok (.aload_n 0, 1) := dk_42 (dk_at dksX3_record_3 7 rfl rfl)
theorem dX3_record_77 : decode cX3_record 77 = .ok (.getfield 75, 3) := dk_180 0 75 (dk_at dksX3_record_3 8 rfl rfl)
theorem dX3_record_80 : decode cX3_record 80 = .ok (.goto 7, 3) := dk_167 0 7 (dk_at dksX3_record_3 11 rfl rfl)
theorem dX3_record_83 : decode cX3_record 83 = .ok (.aload_n 0, 1) := dk_42 (dk_at dksX3_record_3 14 rfl rfl)
theorem dX3_record_84 : decode cX3_record 84 = .ok (.getfield 81, 3) := dk_180 0 81 (dk_at dksX3_record_3 15 rfl rfl)
theorem dX3_record_87 : decode cX3_record 87 = .ok (.iload_n 1, 1) := dk_27 (dk_at dksX3_record_3 18 rfl rfl)
theorem dX3_record_88 : decode cX3_record 88 = .ok (.invokestatic 84, 3) := dk_184 0 84 (dk_at dksX3_record_3 19 rfl rfl)
theorem dX3_record_91 : decode cX3_record 91 = .ok (.ifCond .eq 61, 3) := dk_153 0 61 (dk_at dksX3_record_4 0 rfl rfl)
theorem dX3_record_94 : decode cX3_record 94 = .ok (.aload_n 0, 1) := dk_42 (dk_at dksX3_record_4 3 rfl rfl)
theorem dX3_record_95 : decode cX3_record 95 = .ok (.dup, 1) := dk_89 (dk_at dksX3_record_4 4 rfl rfl)
theorem dX3_record_96 : decode cX3_record 96 = .ok (.getfield 105, 3) := dk_180 0 105 (dk_at dksX3_record_4 5 rfl rfl)
theorem dX3_record_99 : decode cX3_record 99 = .ok (.iconst 1, 1) := dk_4 (dk_at dksX3_record_4 8 rfl rfl)
theorem dX3_record_100 : decode cX3_record 100 = .ok (.iadd, 1) := dk_96 (dk_at dksX3_record_4 9 rfl rfl)
theorem dX3_record_101 : decode cX3_record 101 = .ok (.putfield 105, 3) := dk_181 0 105 (dk_at dksX3_record_4 10 rfl rfl)
theorem dX3_record_104 : decode cX3_record 104 = .ok (.aload_n 0, 1) := dk_42 (dk_at dksX3_record_4 13 rfl rfl)
theorem dX3_record_105 : decode cX3_record 105 = .ok (.dup, 1) := dk_89 (dk_at dksX3_record_4 14 rfl rfl)
theorem dX3_record_106 : decode cX3_record 106 = .ok (.getfield 75, 3) := dk_180 0 75 (dk_at dksX3_record_4 15 rfl rfl)
theorem dX3_record_109 : decode cX3_record 109 = .ok (.iload_n 2, 1) := dk_28 (dk_at dksX3_record_4 18 rfl rfl)
theorem dX3_record_110 : decode cX3_record 110 = .ok (.ifCond .eq 11, 3) := dk_153 0 11 (dk_at dksX3_record_4 19 rfl rfl)
theorem dX3_record_113 : decode cX3_record 113 = .ok (.iconst 1, 1) := dk_4 (dk_at dksX3_record_4 22 rfl rfl)
theorem dX3_record_114 : decode cX3_record 114 = .ok (.iload_n 1, 1) := dk_27 (dk_at dksX3_record_4 23 rfl rfl)
theorem dX3_record_115 : decode cX3_record 115 = .ok (.ishl, 1) := dk_120 (dk_at dksX3_record_5 0 rfl rfl)
theorem dX3_record_116 : decode cX3_record 116 = .ok (.iconst (-1), 1) := dk_2 (dk_at dksX3_record_5 1 rfl rfl)
theorem dX3_record_117 : decode cX3_record 117 = .ok (.ixor, 1) := dk_130 (dk_at dksX3_record_5 2 rfl rfl)
theorem dX3_record_118 : decode cX3_record 118 = .ok (.goto 4, 3) := dk_167 0 4 (dk_at dksX3_record_5 3 rfl rfl)
theorem dX3_record_121 : decode cX3_record 121 = .ok (.iconst (-1), 1) := dk_2 (dk_at dksX3_record_5 6 rfl rfl)
theorem dX3_record_122 : decode cX3_record 122 = .ok (.iand, 1) := dk_126 (dk_at dksX3_record_5 7 rfl rfl)
theorem dX3_record_123 : decode cX3_record 123 = .ok (.putfield 75, 3) := dk_181 0 75 (dk_at dksX3_record_5 8 rfl rfl)
theorem dX3_record_126 : decode cX3_record 126 = .ok (.aload_n 0, 1) := dk_42 (dk_at dksX3_record_5 11 rfl rfl)
theorem dX3_record_127 : decode cX3_record 127 = .ok (.dup, 1) := dk_89 (dk_at dksX3_record_5 12 rfl rfl)
theorem dX3_record_128 : decode cX3_record 128 = .ok (.getfield 81, 3) := dk_180 0 81 (dk_at dksX3_record_5 13 rfl rfl)
theorem dX3_record_131 : decode cX3_record 131 = .ok (.iload_n 2, 1) := dk_28 (dk_at dksX3_record_5 16 rfl rfl)
theorem dX3_record_132 : decode cX3_record 132 = .ok (.ifCond .eq 7, 3) := dk_153 0 7 (dk_at dksX3_record_5 17 rfl rfl)
theorem dX3_record_135 : decode cX3_record 135 = .ok (.iconst (-1), 1) := dk_2 (dk_at dksX3_record_5 20 rfl rfl)
theorem dX3_record_136 : decode cX3_record 136 = .ok (.goto 8, 3) := dk_167 0 8 (dk_at dksX3_record_5 21 rfl rfl)
theorem dX3_record_139 : decode cX3_record 139 = .ok (.iconst 1, 1) := dk_4 (dk_at dksX3_record_6 0 rfl rfl)
theorem dX3_record_140 : decode cX3_record 140 = .ok (.iload_n 1, 1) := dk_27 (dk_at dksX3_record_6 1 rfl rfl)
theorem dX3_record_141 : decode cX3_record 141 = .ok (.ishl, 1) := dk_120 (dk_at dksX3_record_6 2 rfl rfl)
theorem dX3_record_142 : decode cX3_record 142 = .ok (.iconst (-1), 1) := dk_2 (dk_at dksX3_record_6 3 rfl rfl)
theorem dX3_record_143 : decode cX3_record 143 = .ok (.ixor, 1) := dk_130 (dk_at dksX3_record_6 4 rfl rfl)
theorem dX3_record_144 : decode cX3_record 144 = .ok (.iand, 1) := dk_126 (dk_at dksX3_record_6 5 rfl rfl)
theorem dX3_record_145 : decode cX3_record 145 = .ok (.putfield 81, 3) := dk_181 0 81 (dk_at dksX3_record_6 6 rfl rfl)
theorem dX3_record_148 : decode cX3_record 148 = .ok (.aload_n 0, 1) := dk_42 (dk_at dksX3_record_6 9 rfl rfl)
theorem dX3_record_149 : decode cX3_record 149 = .ok (.invokevirtual 114, 3) := dk_182 0 114 (dk_at dksX3_record_6 10 rfl rfl)
theorem dX3_record_152 : decode cX3_record 152 = .ok (.return_, 1) := dk_177 (dk_at dksX3_record_6 13 rfl rfl)
abbrev cX3_advance : ByteArray := prog_11_method_8_code
def yX3_advance : MethodName := ⟨RX3, "advance", "()V"⟩
def dkwX3_advance_3 : List UInt8 := [167, 255, 187, 177]
abbrev dktX3_advance_3 : List UInt8 := dkwX3_advance_3 ++ []
def dkwX3_advance_2 : List UInt8 := [180, 0, 121, 4, 96, 181, 0, 121, 42, 42, 180, 0, 124, 181, 0, 127, 42, 42, 180, 0, 111, 181, 0, 124]
abbrev dktX3_advance_2 : List UInt8 := dkwX3_advance_2 ++ dktX3_advance_3
def dkwX3_advance_1 : List UInt8 := [182, 0, 117, 182, 0, 58, 42, 180, 0, 62, 42, 180, 0, 31, 182, 0, 52, 160, 255, 216, 42, 89]
abbrev dktX3_advance_1 : List UInt8 := dkwX3_advance_1 ++ dktX3_advance_2
def dkwX3_advance_0 : List UInt8 := [42, 180, 0, 75, 154, 0, 68, 42, 180, 0, 81, 154, 0, 61, 42, 42, 180, 0, 31, 42, 180, 0, 62]
abbrev dktX3_advance_0 : List UInt8 := dkwX3_advance_0 ++ dktX3_advance_1
theorem dksX3_advance_0 : cX3_advance.data.toList.drop 0 = dktX3_advance_0 := by decide +kernel
theorem dksX3_advance_1 : cX3_advance.data.toList.drop 23 = dktX3_advance_1 := dk_seg dksX3_advance_0 23 rfl rfl
theorem dksX3_advance_2 : cX3_advance.data.toList.drop 45 = dktX3_advance_2 := dk_seg dksX3_advance_1 22 rfl rfl
theorem dksX3_advance_3 : cX3_advance.data.toList.drop 69 = dktX3_advance_3 := dk_seg dksX3_advance_2 24 rfl rfl
theorem dX3_advance_0 : decode cX3_advance 0 = .ok (.aload_n 0, 1) := dk_42 (dk_at dksX3_advance_0 0 rfl rfl)
theorem dX3_advance_1 : decode cX3_advance 1 = .ok (.getfield 75, 3) := dk_180 0 75 (dk_at dksX3_advance_0 1 rfl rfl)
theorem dX3_advance_4 : decode cX3_advance 4 = .ok (.ifCond .ne 68, 3) := dk_154 0 68 (dk_at dksX3_advance_0 4 rfl rfl)
theorem dX3_advance_7 : decode cX3_advance 7 = .ok (.aload_n 0, 1) := dk_42 (dk_at dksX3_advance_0 7 rfl rfl)
theorem dX3_advance_8 : decode cX3_advance 8 = .ok (.getfield 81, 3) := dk_180 0 81 (dk_at dksX3_advance_0 8 rfl rfl)
theorem dX3_advance_11 : decode cX3_advance 11 = .ok (.ifCond .ne 61, 3) := dk_154 0 61 (dk_at dksX3_advance_0 11 rfl rfl)
theorem dX3_advance_14 : decode cX3_advance 14 = .ok (.aload_n 0, 1) := dk_42 (dk_at dksX3_advance_0 14 rfl rfl)
theorem dX3_advance_15 : decode cX3_advance 15 = .ok (.aload_n 0, 1) := dk_42 (dk_at dksX3_advance_0 15 rfl rfl)
theorem dX3_advance_16 : decode cX3_advance 16 = .ok (.getfield 31, 3) := dk_180 0 31 (dk_at dksX3_advance_0 16 rfl rfl)
theorem dX3_advance_19 : decode cX3_advance 19 = .ok (.aload_n 0, 1) := dk_42 (dk_at dksX3_advance_0 19 rfl rfl)
theorem dX3_advance_20 : decode cX3_advance 20 = .ok (.getfield 62, 3) := dk_180 0 62 (dk_at dksX3_advance_0 20 rfl rfl)
theorem dX3_advance_23 : decode cX3_advance 23 = .ok (.invokevirtual 117, 3) := dk_182 0 117 (dk_at dksX3_advance_1 0 rfl rfl)
theorem dX3_advance_26 : decode cX3_advance 26 = .ok (.invokevirtual 58, 3) := dk_182 0 58 (dk_at dksX3_advance_1 3 rfl rfl)
theorem dX3_advance_29 : decode cX3_advance 29 = .ok (.aload_n 0, 1) := dk_42 (dk_at dksX3_advance_1 6 rfl rfl)
theorem dX3_advance_30 : decode cX3_advance 30 = .ok (.getfield 62, 3) := dk_180 0 62 (dk_at dksX3_advance_1 7 rfl rfl)
theorem dX3_advance_33 : decode cX3_advance 33 = .ok (.aload_n 0, 1) := dk_42 (dk_at dksX3_advance_1 10 rfl rfl)
theorem dX3_advance_34 : decode cX3_advance 34 = .ok (.getfield 31, 3) := dk_180 0 31 (dk_at dksX3_advance_1 11 rfl rfl)
theorem dX3_advance_37 : decode cX3_advance 37 = .ok (.invokevirtual 52, 3) := dk_182 0 52 (dk_at dksX3_advance_1 14 rfl rfl)
theorem dX3_advance_40 : decode cX3_advance 40 = .ok (.if_icmp .ne (-40), 3) := dk_160 255 216 (dk_at dksX3_advance_1 17 rfl rfl)
theorem dX3_advance_43 : decode cX3_advance 43 = .ok (.aload_n 0, 1) := dk_42 (dk_at dksX3_advance_1 20 rfl rfl)
theorem dX3_advance_44 : decode cX3_advance 44 = .ok (.dup, 1) := dk_89 (dk_at dksX3_advance_1 21 rfl rfl)
theorem dX3_advance_45 : decode cX3_advance 45 = .ok (.getfield 121, 3) := dk_180 0 121 (dk_at dksX3_advance_2 0 rfl rfl)
theorem dX3_advance_48 : decode cX3_advance 48 = .ok (.iconst 1, 1) := dk_4 (dk_at dksX3_advance_2 3 rfl rfl)
theorem dX3_advance_49 : decode cX3_advance 49 = .ok (.iadd, 1) := dk_96 (dk_at dksX3_advance_2 4 rfl rfl)
theorem dX3_advance_50 : decode cX3_advance 50 = .ok (.putfield 121, 3) := dk_181 0 121 (dk_at dksX3_advance_2 5 rfl rfl)
theorem dX3_advance_53 : decode cX3_advance 53 = .ok (.aload_n 0, 1) := dk_42 (dk_at dksX3_advance_2 8 rfl rfl)
theorem dX3_advance_54 : decode cX3_advance 54 = .ok (.aload_n 0, 1) := dk_42 (dk_at dksX3_advance_2 9 rfl rfl)
theorem dX3_advance_55 : decode cX3_advance 55 = .ok (.getfield 124, 3) := dk_180 0 124 (dk_at dksX3_advance_2 10 rfl rfl)
theorem dX3_advance_58 : decode cX3_advance 58 = .ok (.putfield 127, 3) := dk_181 0 127 (dk_at dksX3_advance_2 13 rfl rfl)
theorem dX3_advance_61 : decode cX3_advance 61 = .ok (.aload_n 0, 1) := dk_42 (dk_at dksX3_advance_2 16 rfl rfl)
theorem dX3_advance_62 : decode cX3_advance 62 = .ok (.aload_n 0, 1) := dk_42 (dk_at dksX3_advance_2 17 rfl rfl)
theorem dX3_advance_63 : decode cX3_advance 63 = .ok (.getfield 111, 3) := dk_180 0 111 (dk_at dksX3_advance_2 18 rfl rfl)
theorem dX3_advance_66 : decode cX3_advance 66 = .ok (.putfield 124, 3) := dk_181 0 124 (dk_at dksX3_advance_2 21 rfl rfl)
theorem dX3_advance_69 : decode cX3_advance 69 = .ok (.goto (-69), 3) := dk_167 255 187 (dk_at dksX3_advance_3 0 rfl rfl)
theorem dX3_advance_72 : decode cX3_advance 72 = .ok (.return_, 1) := dk_177 (dk_at dksX3_advance_3 3 rfl rfl)
abbrev cX3_moveCylinders : ByteArray := prog_11_method_10_code
def yX3_moveCylinders : MethodName := ⟨RX3, "moveCylinders", "()Z"⟩
def dkwX3_moveCylinders_3 : List UInt8 := [2, 96, 79, 4, 60, 132, 2, 1, 167, 255, 182, 27, 172]
abbrev dktX3_moveCylinders_3 : List UInt8 := dkwX3_moveCylinders_3 ++ []
def dkwX3_moveCylinders_2 : List UInt8 := [28, 46, 3, 184, 0, 84, 154, 0, 23, 42, 180, 0, 15, 28, 92, 46, 29, 158, 0, 7, 4, 167, 0, 4]
abbrev dktX3_moveCylinders_2 : List UInt8 := dkwX3_moveCylinders_2 ++ dktX3_moveCylinders_3
def dkwX3_moveCylinders_1 : List UInt8 := [180, 0, 40, 28, 46, 167, 0, 4, 3, 62, 42, 180, 0, 15, 28, 46, 29, 159, 0, 36, 42, 180, 0, 9]
abbrev dktX3_moveCylinders_1 : List UInt8 := dkwX3_moveCylinders_1 ++ dktX3_moveCylinders_2
def dkwX3_moveCylinders_0 : List UInt8 := [3, 60, 3, 61, 28, 16, 6, 162, 0, 74, 42, 180, 0, 130, 28, 184, 0, 84, 153, 0, 12, 42]
abbrev dktX3_moveCylinders_0 : List UInt8 := dkwX3_moveCylinders_0 ++ dktX3_moveCylinders_1
theorem dksX3_moveCylinders_0 : cX3_moveCylinders.data.toList.drop 0 = dktX3_moveCylinders_0 := by decide +kernel
theorem dksX3_moveCylinders_1 : cX3_moveCylinders.data.toList.drop 22 = dktX3_moveCylinders_1 := dk_seg dksX3_moveCylinders_0 22 rfl rfl
theorem dksX3_moveCylinders_2 : cX3_moveCylinders.data.toList.drop 46 = dktX3_moveCylinders_2 := dk_seg dksX3_moveCylinders_1 24 rfl rfl
theorem dksX3_moveCylinders_3 : cX3_moveCylinders.data.toList.drop 70 = dktX3_moveCylinders_3 := dk_seg dksX3_moveCylinders_2 24 rfl rfl
theorem dX3_moveCylinders_0 : decode cX3_moveCylinders 0 = .ok (.iconst 0, 1) := dk_3 (dk_at dksX3_moveCylinders_0 0 rfl rfl)
theorem dX3_moveCylinders_1 : decode cX3_moveCylinders 1 = .ok (.istore_n 1, 1) := dk_60 (dk_at dksX3_moveCylinders_0 1 rfl rfl)
theorem dX3_moveCylinders_2 : decode cX3_moveCylinders 2 = .ok (.iconst 0, 1) := dk_3 (dk_at dksX3_moveCylinders_0 2 rfl rfl)
theorem dX3_moveCylinders_3 : decode cX3_moveCylinders 3 = .ok (.istore_n 2, 1) := dk_61 (dk_at dksX3_moveCylinders_0 3 rfl rfl)
theorem dX3_moveCylinders_4 : decode cX3_moveCylinders 4 = .ok (.iload_n 2, 1) := dk_28 (dk_at dksX3_moveCylinders_0 4 rfl rfl)
theorem dX3_moveCylinders_5 : decode cX3_moveCylinders 5 = .ok (.bipush 6, 2) := dk_16 6 (dk_at dksX3_moveCylinders_0 5 rfl rfl)
theorem dX3_moveCylinders_7 : decode cX3_moveCylinders 7 = .ok (.if_icmp .ge 74, 3) := dk_162 0 74 (dk_at dksX3_moveCylinders_0 7 rfl rfl)
theorem dX3_moveCylinders_10 : decode cX3_moveCylinders 10 = .ok (.aload_n 0, 1) := dk_42 (dk_at dksX3_moveCylinders_0 10 rfl rfl)
theorem dX3_moveCylinders_11 : decode cX3_moveCylinders 11 = .ok (.getfield 130, 3) := dk_180 0 130 (dk_at dksX3_moveCylinders_0 11 rfl rfl)
theorem dX3_moveCylinders_14 : decode cX3_moveCylinders 14 = .ok (.iload_n 2, 1) := dk_28 (dk_at dksX3_moveCylinders_0 14 rfl rfl)
theorem dX3_moveCylinders_15 : decode cX3_moveCylinders 15 = .ok (.invokestatic 84, 3) := dk_184 0 84 (dk_at dksX3_moveCylinders_0 15 rfl rfl)
theorem dX3_moveCylinders_18 : decode cX3_moveCylinders 18 = .ok (.ifCond .eq 12, 3) := dk_153 0 12 (dk_at dksX3_moveCylinders_0 18 rfl rfl)
theorem dX3_moveCylinders_21 : decode cX3_moveCylinders 21 = .ok (.aload_n 0, 1) := dk_42 (dk_at dksX3_moveCylinders_0 21 rfl rfl)
theorem dX3_moveCylinders_22 : decode cX3_moveCylinders 22 = .ok (.getfield 40, 3) := dk_180 0 40 (dk_at dksX3_moveCylinders_1 0 rfl rfl)
theorem dX3_moveCylinders_25 : decode cX3_moveCylinders 25 = .ok (.iload_n 2, 1) := dk_28 (dk_at dksX3_moveCylinders_1 3 rfl rfl)
theorem dX3_moveCylinders_26 : decode cX3_moveCylinders 26 = .ok (.iaload, 1) := dk_46 (dk_at dksX3_moveCylinders_1 4 rfl rfl)
theorem dX3_moveCylinders_27 : decode cX3_moveCylinders 27 = .ok (.goto 4, 3) := dk_167 0 4 (dk_at dksX3_moveCylinders_1 5 rfl rfl)
theorem dX3_moveCylinders_30 : decode cX3_moveCylinders 30 = .ok (.iconst 0, 1) := dk_3 (dk_at dksX3_moveCylinders_1 8 rfl rfl)
theorem dX3_moveCylinders_31 : decode cX3_moveCylinders 31 = .ok (.istore_n 3, 1) := dk_62 (dk_at dksX3_moveCylinders_1 9 rfl rfl)
theorem dX3_moveCylinders_32 : decode cX3_moveCylinders 32 = .ok (.aload_n 0, 1) := dk_42 (dk_at dksX3_moveCylinders_1 10 rfl rfl)
theorem dX3_moveCylinders_33 : decode cX3_moveCylinders 33 = .ok (.getfield 15, 3) := dk_180 0 15 (dk_at dksX3_moveCylinders_1 11 rfl rfl)
theorem dX3_moveCylinders_36 : decode cX3_moveCylinders 36 = .ok (.iload_n 2, 1) := dk_28 (dk_at dksX3_moveCylinders_1 14 rfl rfl)
theorem dX3_moveCylinders_37 : decode cX3_moveCylinders 37 = .ok (.iaload, 1) := dk_46 (dk_at dksX3_moveCylinders_1 15 rfl rfl)
theorem dX3_moveCylinders_38 : decode cX3_moveCylinders 38 = .ok (.iload_n 3, 1) := dk_29 (dk_at dksX3_moveCylinders_1 16 rfl rfl)
theorem dX3_moveCylinders_39 : decode cX3_moveCylinders 39 = .ok (.if_icmp .eq 36, 3) := dk_159 0 36 (dk_at dksX3_moveCylinders_1 17 rfl rfl)
theorem dX3_moveCylinders_42 : decode cX3_moveCylinders 42 = .ok (.aload_n 0, 1) := dk_42 (dk_at dksX3_moveCylinders_1 20 rfl rfl)
theorem dX3_moveCylinders_43 : decode cX3_moveCylinders 43 = .ok (.getfield 9, 3) := dk_180 0 9 (dk_at dksX3_moveCylinders_1 21 rfl rfl)
theorem dX3_moveCylinders_46 : decode cX3_moveCylinders 46 = .ok (.iload_n 2, 1) := dk_28 (dk_at dksX3_moveCylinders_2 0 rfl rfl)
theorem dX3_moveCylinders_47 : decode cX3_moveCylinders 47 = .ok (.iaload, 1) := dk_46 (dk_at dksX3_moveCylinders_2 1 rfl rfl)
theorem dX3_moveCylinders_48 : decode cX3_moveCylinders 48 = .ok (.iconst 0, 1) := dk_3 (dk_at dksX3_moveCylinders_2 2 rfl rfl)
theorem dX3_moveCylinders_49 : decode cX3_moveCylinders 49 = .ok (.invokestatic 84, 3) := dk_184 0 84 (dk_at dksX3_moveCylinders_2 3 rfl rfl)
theorem dX3_moveCylinders_52 : decode cX3_moveCylinders 52 = .ok (.ifCond .ne 23, 3) := dk_154 0 23 (dk_at dksX3_moveCylinders_2 6 rfl rfl)
theorem dX3_moveCylinders_55 : decode cX3_moveCylinders 55 = .ok (.aload_n 0, 1) := dk_42 (dk_at dksX3_moveCylinders_2 9 rfl rfl)
theorem dX3_moveCylinders_56 : decode cX3_moveCylinders 56 = .ok (.getfield 15, 3) := dk_180 0 15 (dk_at dksX3_moveCylinders_2 10 rfl rfl)
theorem dX3_moveCylinders_59 : decode cX3_moveCylinders 59 = .ok (.iload_n 2, 1) := dk_28 (dk_at dksX3_moveCylinders_2 13 rfl rfl)
theorem dX3_moveCylinders_60 : decode cX3_moveCylinders 60 = .ok (.dup2, 1) := dk_92 (dk_at dksX3_moveCylinders_2 14 rfl rfl)
theorem dX3_moveCylinders_61 : decode cX3_moveCylinders 61 = .ok (.iaload, 1) := dk_46 (dk_at dksX3_moveCylinders_2 15 rfl rfl)
theorem dX3_moveCylinders_62 : decode cX3_moveCylinders 62 = .ok (.iload_n 3, 1) := dk_29 (dk_at dksX3_moveCylinders_2 16 rfl rfl)
theorem dX3_moveCylinders_63 : decode cX3_moveCylinders 63 = .ok (.ifCond .le 7, 3) := dk_158 0 7 (dk_at dksX3_moveCylinders_2 17 rfl rfl)
theorem dX3_moveCylinders_66 : decode cX3_moveCylinders 66 = .ok (.iconst 1, 1) := dk_4 (dk_at dksX3_moveCylinders_2 20 rfl rfl)
theorem dX3_moveCylinders_67 : decode cX3_moveCylinders 67 = .ok (.goto 4, 3) := dk_167 0 4 (dk_at dksX3_moveCylinders_2 21 rfl rfl)
theorem dX3_moveCylinders_70 : decode cX3_moveCylinders 70 = .ok (.iconst (-1), 1) := dk_2 (dk_at dksX3_moveCylinders_3 0 rfl rfl)
theorem dX3_moveCylinders_71 : decode cX3_moveCylinders 71 = .ok (.iadd, 1) := dk_96 (dk_at dksX3_moveCylinders_3 1 rfl rfl)
theorem dX3_moveCylinders_72 : decode cX3_moveCylinders 72 = .ok (.iastore, 1) := dk_79 (dk_at dksX3_moveCylinders_3 2 rfl rfl)
theorem dX3_moveCylinders_73 : decode cX3_moveCylinders 73 = .ok (.iconst 1, 1) := dk_4 (dk_at dksX3_moveCylinders_3 3 rfl rfl)
theorem dX3_moveCylinders_74 : decode cX3_moveCylinders 74 = .ok (.istore_n 1, 1) := dk_60 (dk_at dksX3_moveCylinders_3 4 rfl rfl)
theorem dX3_moveCylinders_75 : decode cX3_moveCylinders 75 = .ok (.iinc 2 1, 3) := dk_132 2 1 (dk_at dksX3_moveCylinders_3 5 rfl rfl)
theorem dX3_moveCylinders_78 : decode cX3_moveCylinders 78 = .ok (.goto (-74), 3) := dk_167 255 182 (dk_at dksX3_moveCylinders_3 8 rfl rfl)
theorem dX3_moveCylinders_81 : decode cX3_moveCylinders 81 = .ok (.iload_n 1, 1) := dk_27 (dk_at dksX3_moveCylinders_3 11 rfl rfl)
theorem dX3_moveCylinders_82 : decode cX3_moveCylinders 82 = .ok (.ireturn, 1) := dk_172 (dk_at dksX3_moveCylinders_3 12 rfl rfl)
abbrev cX3_makesCycles : ByteArray := prog_11_method_13_code
def yX3_makesCycles : MethodName := ⟨RX3, "makesCycles", "()Z"⟩
def dkwX3_makesCycles_2 : List UInt8 := [167, 0, 4, 3, 172]
abbrev dktX3_makesCycles_2 : List UInt8 := dkwX3_makesCycles_2 ++ []
def dkwX3_makesCycles_1 : List UInt8 := [17, 15, 160, 162, 0, 10, 42, 182, 0, 161, 167, 255, 223, 42, 180, 0, 121, 5, 161, 0, 7, 4]
abbrev dktX3_makesCycles_1 : List UInt8 := dkwX3_makesCycles_1 ++ dktX3_makesCycles_2
def dkwX3_makesCycles_0 : List UInt8 := [42, 180, 0, 121, 5, 162, 0, 31, 42, 180, 0, 105, 42, 180, 0, 108, 160, 0, 20, 42, 180, 0, 111]
abbrev dktX3_makesCycles_0 : List UInt8 := dkwX3_makesCycles_0 ++ dktX3_makesCycles_1
theorem dksX3_makesCycles_0 : cX3_makesCycles.data.toList.drop 0 = dktX3_makesCycles_0 := by decide +kernel
theorem dksX3_makesCycles_1 : cX3_makesCycles.data.toList.drop 23 = dktX3_makesCycles_1 := dk_seg dksX3_makesCycles_0 23 rfl rfl
theorem dksX3_makesCycles_2 : cX3_makesCycles.data.toList.drop 45 = dktX3_makesCycles_2 := dk_seg dksX3_makesCycles_1 22 rfl rfl
theorem dX3_makesCycles_0 : decode cX3_makesCycles 0 = .ok (.aload_n 0, 1) := dk_42 (dk_at dksX3_makesCycles_0 0 rfl rfl)
theorem dX3_makesCycles_1 : decode cX3_makesCycles 1 = .ok (.getfield 121, 3) := dk_180 0 121 (dk_at dksX3_makesCycles_0 1 rfl rfl)
theorem dX3_makesCycles_4 : decode cX3_makesCycles 4 = .ok (.iconst 2, 1) := dk_5 (dk_at dksX3_makesCycles_0 4 rfl rfl)
theorem dX3_makesCycles_5 : decode cX3_makesCycles 5 = .ok (.if_icmp .ge 31, 3) := dk_162 0 31 (dk_at dksX3_makesCycles_0 5 rfl rfl)
theorem dX3_makesCycles_8 : decode cX3_makesCycles 8 = .ok (.aload_n 0, 1) := dk_42 (dk_at dksX3_makesCycles_0 8 rfl rfl)
theorem dX3_makesCycles_9 : decode cX3_makesCycles 9 = .ok (.getfield 105, 3) := dk_180 0 105 (dk_at dksX3_makesCycles_0 9 rfl rfl)
theorem dX3_makesCycles_12 : decode cX3_makesCycles 12 = .ok (.aload_n 0, 1) := dk_42 (dk_at dksX3_makesCycles_0 12 rfl rfl)
theorem dX3_makesCycles_13 : decode cX3_makesCycles 13 = .ok (.getfield 108, 3) := dk_180 0 108 (dk_at dksX3_makesCycles_0 13 rfl rfl)
theorem dX3_makesCycles_16 : decode cX3_makesCycles 16 = .ok (.if_icmp .ne 20, 3) := dk_160 0 20 (dk_at dksX3_makesCycles_0 16 rfl rfl)
theorem dX3_makesCycles_19 : decode cX3_makesCycles 19 = .ok (.aload_n 0, 1) := dk_42 (dk_at dksX3_makesCycles_0 19 rfl rfl)
theorem dX3_makesCycles_20 : decode cX3_makesCycles 20 = .ok (.getfield 111, 3) := dk_180 0 111 (dk_at dksX3_makesCycles_0 20 rfl rfl)
theorem dX3_makesCycles_23 : decode cX3_makesCycles 23 = .ok (.sipush 4000, 3) := dk_17 15 160 (dk_at dksX3_makesCycles_1 0 rfl rfl)
theorem dX3_makesCycles_26 : decode cX3_makesCycles 26 = .ok (.if_icmp .ge 10, 3) := dk_162 0 10 (dk_at dksX3_makesCycles_1 3 rfl rfl)
theorem dX3_makesCycles_29 : decode cX3_makesCycles 29 = .ok (.aload_n 0, 1) := dk_42 (dk_at dksX3_makesCycles_1 6 rfl rfl)
theorem dX3_makesCycles_30 : decode cX3_makesCycles 30 = .ok (.invokevirtual 161, 3) := dk_182 0 161 (dk_at dksX3_makesCycles_1 7 rfl rfl)
theorem dX3_makesCycles_33 : decode cX3_makesCycles 33 = .ok (.goto (-33), 3) := dk_167 255 223 (dk_at dksX3_makesCycles_1 10 rfl rfl)
theorem dX3_makesCycles_36 : decode cX3_makesCycles 36 = .ok (.aload_n 0, 1) := dk_42 (dk_at dksX3_makesCycles_1 13 rfl rfl)
theorem dX3_makesCycles_37 : decode cX3_makesCycles 37 = .ok (.getfield 121, 3) := dk_180 0 121 (dk_at dksX3_makesCycles_1 14 rfl rfl)
theorem dX3_makesCycles_40 : decode cX3_makesCycles 40 = .ok (.iconst 2, 1) := dk_5 (dk_at dksX3_makesCycles_1 17 rfl rfl)
theorem dX3_makesCycles_41 : decode cX3_makesCycles 41 = .ok (.if_icmp .lt 7, 3) := dk_161 0 7 (dk_at dksX3_makesCycles_1 18 rfl rfl)
theorem dX3_makesCycles_44 : decode cX3_makesCycles 44 = .ok (.iconst 1, 1) := dk_4 (dk_at dksX3_makesCycles_1 21 rfl rfl)
theorem dX3_makesCycles_45 : decode cX3_makesCycles 45 = .ok (.goto 4, 3) := dk_167 0 4 (dk_at dksX3_makesCycles_2 0 rfl rfl)
theorem dX3_makesCycles_48 : decode cX3_makesCycles 48 = .ok (.iconst 0, 1) := dk_3 (dk_at dksX3_makesCycles_2 3 rfl rfl)
theorem dX3_makesCycles_49 : decode cX3_makesCycles 49 = .ok (.ireturn, 1) := dk_172 (dk_at dksX3_makesCycles_2 4 rfl rfl)
abbrev cX3_isLike : ByteArray := prog_11_method_14_code
def yX3_isLike : MethodName := ⟨RX3, "isLike", "(LSequenceBench$Rig;)Z"⟩
def dkwX3_isLike_2 : List UInt8 := [126, 61, 132, 3, 1, 167, 255, 224, 28, 172]
abbrev dktX3_isLike_2 : List UInt8 := dkwX3_isLike_2 ++ []
def dkwX3_isLike_1 : List UInt8 := [162, 0, 32, 28, 42, 180, 0, 15, 29, 46, 43, 180, 0, 15, 29, 46, 160, 0, 7, 4, 167, 0, 4, 3]
abbrev dktX3_isLike_1 : List UInt8 := dkwX3_isLike_1 ++ dktX3_isLike_2
def dkwX3_isLike_0 : List UInt8 := [42, 180, 0, 130, 43, 180, 0, 130, 160, 0, 7, 4, 167, 0, 4, 3, 61, 3, 62, 29, 16, 6]
abbrev dktX3_isLike_0 : List UInt8 := dkwX3_isLike_0 ++ dktX3_isLike_1
theorem dksX3_isLike_0 : cX3_isLike.data.toList.drop 0 = dktX3_isLike_0 := by decide +kernel
theorem dksX3_isLike_1 : cX3_isLike.data.toList.drop 22 = dktX3_isLike_1 := dk_seg dksX3_isLike_0 22 rfl rfl
theorem dksX3_isLike_2 : cX3_isLike.data.toList.drop 46 = dktX3_isLike_2 := dk_seg dksX3_isLike_1 24 rfl rfl
theorem dX3_isLike_0 : decode cX3_isLike 0 = .ok (.aload_n 0, 1) := dk_42 (dk_at dksX3_isLike_0 0 rfl rfl)
theorem dX3_isLike_1 : decode cX3_isLike 1 = .ok (.getfield 130, 3) := dk_180 0 130 (dk_at dksX3_isLike_0 1 rfl rfl)
theorem dX3_isLike_4 : decode cX3_isLike 4 = .ok (.aload_n 1, 1) := dk_43 (dk_at dksX3_isLike_0 4 rfl rfl)
theorem dX3_isLike_5 : decode cX3_isLike 5 = .ok (.getfield 130, 3) := dk_180 0 130 (dk_at dksX3_isLike_0 5 rfl rfl)
theorem dX3_isLike_8 : decode cX3_isLike 8 = .ok (.if_icmp .ne 7, 3) := dk_160 0 7 (dk_at dksX3_isLike_0 8 rfl rfl)
theorem dX3_isLike_11 : decode cX3_isLike 11 = .ok (.iconst 1, 1) := dk_4 (dk_at dksX3_isLike_0 11 rfl rfl)
theorem dX3_isLike_12 : decode cX3_isLike 12 = .ok (.goto 4, 3) := dk_167 0 4 (dk_at dksX3_isLike_0 12 rfl rfl)
theorem dX3_isLike_15 : decode cX3_isLike 15 = .ok (.iconst 0, 1) := dk_3 (dk_at dksX3_isLike_0 15 rfl rfl)
theorem dX3_isLike_16 : decode cX3_isLike 16 = .ok (.istore_n 2, 1) := dk_61 (dk_at dksX3_isLike_0 16 rfl rfl)
theorem dX3_isLike_17 : decode cX3_isLike 17 = .ok (.iconst 0, 1) := dk_3 (dk_at dksX3_isLike_0 17 rfl rfl)
theorem dX3_isLike_18 : decode cX3_isLike 18 = .ok (.istore_n 3, 1) := dk_62 (dk_at dksX3_isLike_0 18 rfl rfl)
theorem dX3_isLike_19 : decode cX3_isLike 19 = .ok (.iload_n 3, 1) := dk_29 (dk_at dksX3_isLike_0 19 rfl rfl)
theorem dX3_isLike_20 : decode cX3_isLike 20 = .ok (.bipush 6, 2) := dk_16 6 (dk_at dksX3_isLike_0 20 rfl rfl)
theorem dX3_isLike_22 : decode cX3_isLike 22 = .ok (.if_icmp .ge 32, 3) := dk_162 0 32 (dk_at dksX3_isLike_1 0 rfl rfl)
theorem dX3_isLike_25 : decode cX3_isLike 25 = .ok (.iload_n 2, 1) := dk_28 (dk_at dksX3_isLike_1 3 rfl rfl)
theorem dX3_isLike_26 : decode cX3_isLike 26 = .ok (.aload_n 0, 1) := dk_42 (dk_at dksX3_isLike_1 4 rfl rfl)
theorem dX3_isLike_27 : decode cX3_isLike 27 = .ok (.getfield 15, 3) := dk_180 0 15 (dk_at dksX3_isLike_1 5 rfl rfl)
theorem dX3_isLike_30 : decode cX3_isLike 30 = .ok (.iload_n 3, 1) := dk_29 (dk_at dksX3_isLike_1 8 rfl rfl)
theorem dX3_isLike_31 : decode cX3_isLike 31 = .ok (.iaload, 1) := dk_46 (dk_at dksX3_isLike_1 9 rfl rfl)
theorem dX3_isLike_32 : decode cX3_isLike 32 = .ok (.aload_n 1, 1) := dk_43 (dk_at dksX3_isLike_1 10 rfl rfl)
theorem dX3_isLike_33 : decode cX3_isLike 33 = .ok (.getfield 15, 3) := dk_180 0 15 (dk_at dksX3_isLike_1 11 rfl rfl)
theorem dX3_isLike_36 : decode cX3_isLike 36 = .ok (.iload_n 3, 1) := dk_29 (dk_at dksX3_isLike_1 14 rfl rfl)
theorem dX3_isLike_37 : decode cX3_isLike 37 = .ok (.iaload, 1) := dk_46 (dk_at dksX3_isLike_1 15 rfl rfl)
theorem dX3_isLike_38 : decode cX3_isLike 38 = .ok (.if_icmp .ne 7, 3) := dk_160 0 7 (dk_at dksX3_isLike_1 16 rfl rfl)
theorem dX3_isLike_41 : decode cX3_isLike 41 = .ok (.iconst 1, 1) := dk_4 (dk_at dksX3_isLike_1 19 rfl rfl)
theorem dX3_isLike_42 : decode cX3_isLike 42 = .ok (.goto 4, 3) := dk_167 0 4 (dk_at dksX3_isLike_1 20 rfl rfl)
theorem dX3_isLike_45 : decode cX3_isLike 45 = .ok (.iconst 0, 1) := dk_3 (dk_at dksX3_isLike_1 23 rfl rfl)
theorem dX3_isLike_46 : decode cX3_isLike 46 = .ok (.iand, 1) := dk_126 (dk_at dksX3_isLike_2 0 rfl rfl)
theorem dX3_isLike_47 : decode cX3_isLike 47 = .ok (.istore_n 2, 1) := dk_61 (dk_at dksX3_isLike_2 1 rfl rfl)
theorem dX3_isLike_48 : decode cX3_isLike 48 = .ok (.iinc 3 1, 3) := dk_132 3 1 (dk_at dksX3_isLike_2 2 rfl rfl)
theorem dX3_isLike_51 : decode cX3_isLike 51 = .ok (.goto (-32), 3) := dk_167 255 224 (dk_at dksX3_isLike_2 5 rfl rfl)
theorem dX3_isLike_54 : decode cX3_isLike 54 = .ok (.iload_n 2, 1) := dk_28 (dk_at dksX3_isLike_2 8 rfl rfl)
theorem dX3_isLike_55 : decode cX3_isLike 55 = .ok (.ireturn, 1) := dk_172 (dk_at dksX3_isLike_2 9 rfl rfl)
theorem q65 : (Jvm.Cond.initialized "SequenceBench$Rig") ∈ lw_all := lw_g (lw_at lw_m1 4 rfl) rfl
theorem q108 : (Jvm.Cond.instantiable "SequenceBench$Rig" (25 : Nat)) ∈ lw_all := lw_g (lw_at lw_m1 47 rfl) rfl
theorem q110 : (Jvm.Cond.instanceMethod ({ cls := "SequenceBench$Rig", name := "<init>", desc := "(LSequenceBench$Sequence;LSequenceBench$Method;[I)V" } : Jvm.MethodName)) ∈ lw_all := lw_g (lw_at lw_m1 49 rfl) rfl
theorem q111 : (Jvm.Cond.code ({ cls := "SequenceBench$Rig", name := "<init>", desc := "(LSequenceBench$Sequence;LSequenceBench$Method;[I)V" } : Jvm.MethodName) prog_11_method_1_code (4 : Nat) (Option.none : Option Jvm.ClassFile.FieldType)) ∈ lw_all := lw_g (lw_at lw_m1 50 rfl) rfl
theorem q112 : (Jvm.Cond.methodLink "SequenceBench$Rig" (3 : Nat) ({ cls := "java/lang/Object", name := "<init>", desc := "()V" } : Jvm.MethodName)) ∈ lw_all := lw_g (lw_at lw_m1 51 rfl) rfl
theorem q113 : (Jvm.Cond.methodLink "SequenceBench$Rig" (35 : Nat) ({ cls := "[I", name := "clone", desc := "()Ljava/lang/Object;" } : Jvm.MethodName)) ∈ lw_all := lw_g (lw_at lw_m1 52 rfl) rfl
theorem q119 : (Jvm.Cond.classLink "SequenceBench$Rig" (36 : Nat) "[I") ∈ lw_all := lw_g (lw_at lw_m1 58 rfl) rfl
theorem q120 : (Jvm.Cond.methodLink "SequenceBench$Rig" (43 : Nat) ({ cls := "SequenceBench$Method", name := "circuit", desc := "(LSequenceBench$Rig;)LSequenceBench$Circuit;" } : Jvm.MethodName)) ∈ lw_all := lw_g (lw_at lw_m1 59 rfl) rfl
theorem q141 : (Jvm.Cond.instanceMethod ({ cls := "SequenceBench$Rig", name := "isComplete", desc := "(I)Z" } : Jvm.MethodName)) ∈ lw_all := lw_g (lw_at lw_m1 80 rfl) rfl
theorem q142 : (Jvm.Cond.selects "SequenceBench$Rig" ({ cls := "SequenceBench$Rig", name := "isComplete", desc := "(I)Z" } : Jvm.MethodName) ({ cls := "SequenceBench$Rig", name := "isComplete", desc := "(I)Z" } : Jvm.MethodName)) ∈ lw_all := lw_g (lw_at lw_m1 81 rfl) rfl
theorem q143 : (Jvm.Cond.code ({ cls := "SequenceBench$Rig", name := "isComplete", desc := "(I)Z" } : Jvm.MethodName) prog_11_method_4_code (3 : Nat) (Option.some Jvm.ClassFile.FieldType.boolean)) ∈ lw_all := lw_g (lw_at lw_m1 82 rfl) rfl
theorem q207 : (Jvm.Cond.methodLink "SequenceBench$Rig" (52 : Nat) ({ cls := "SequenceBench$Sequence", name := "firstWithMoves", desc := "()I" } : Jvm.MethodName)) ∈ lw_all := lw_g (lw_at lw_m1 146 rfl) rfl
theorem q215 : (Jvm.Cond.methodLink "SequenceBench$Rig" (58 : Nat) ({ cls := "SequenceBench$Rig", name := "expect", desc := "(I)V" } : Jvm.MethodName)) ∈ lw_all := lw_g (lw_at lw_m1 154 rfl) rfl
theorem q216 : (Jvm.Cond.privateMethod ({ cls := "SequenceBench$Rig", name := "expect", desc := "(I)V" } : Jvm.MethodName)) ∈ lw_tbl := lw_at lw_m1 155 rfl
theorem q217 : (Jvm.Cond.instanceMethod ({ cls := "SequenceBench$Rig", name := "expect", desc := "(I)V" } : Jvm.MethodName)) ∈ lw_all := lw_g (lw_at lw_m1 156 rfl) rfl
theorem q218 : (Jvm.Cond.code ({ cls := "SequenceBench$Rig", name := "expect", desc := "(I)V" } : Jvm.MethodName) prog_11_method_2_code (2 : Nat) (Option.none : Option Jvm.ClassFile.FieldType)) ∈ lw_all := lw_g (lw_at lw_m1 157 rfl) rfl
theorem q221 : (Jvm.Cond.fieldLink "SequenceBench$Rig" (31 : Nat) "SequenceBench$Rig" "sequence" "LSequenceBench$Sequence;") ∈ lw_all := lw_g (lw_at lw_m1 160 rfl) rfl
theorem q223 : (Jvm.Cond.fieldLink "SequenceBench$Rig" (40 : Nat) "SequenceBench$Rig" "strokes" "[I") ∈ lw_all := lw_g (lw_at lw_m1 162 rfl) rfl
theorem q224 : (Jvm.Cond.fieldLink "SequenceBench$Rig" (9 : Nat) "SequenceBench$Rig" "faults" "[I") ∈ lw_all := lw_g (lw_at lw_m1 163 rfl) rfl
theorem q226 : (Jvm.Cond.fieldLink "SequenceBench$Rig" (15 : Nat) "SequenceBench$Rig" "positions" "[I") ∈ lw_all := lw_g (lw_at lw_m1 165 rfl) rfl
theorem q228 : (Jvm.Cond.fieldLink "SequenceBench$Rig" (18 : Nat) "SequenceBench$Rig" "timers" "[I") ∈ lw_all := lw_g (lw_at lw_m1 167 rfl) rfl
theorem q230 : (Jvm.Cond.fieldLink "SequenceBench$Rig" (49 : Nat) "SequenceBench$Rig" "circuit" "LSequenceBench$Circuit;") ∈ lw_all := lw_g (lw_at lw_m1 169 rfl) rfl
theorem q232 : (Jvm.Cond.fieldLink "SequenceBench$Rig" (21 : Nat) "SequenceBench$Rig" "isStarted" "Z") ∈ lw_all := lw_g (lw_at lw_m1 171 rfl) rfl
theorem q237 : (Jvm.Cond.fieldLink "SequenceBench$Rig" (130 : Nat) "SequenceBench$Rig" "out" "I") ∈ lw_all := lw_g (lw_at lw_m1 176 rfl) rfl
theorem q239 : (Jvm.Cond.fieldLink "SequenceBench$Rig" (111 : Nat) "SequenceBench$Rig" "time" "I") ∈ lw_all := lw_g (lw_at lw_m1 178 rfl) rfl
theorem q241 : (Jvm.Cond.fieldLink "SequenceBench$Rig" (152 : Nat) "SequenceBench$Rig" "quiet" "I") ∈ lw_all := lw_g (lw_at lw_m1 180 rfl) rfl
theorem q243 : (Jvm.Cond.fieldLink "SequenceBench$Rig" (94 : Nat) "SequenceBench$Rig" "retracted" "I") ∈ lw_all := lw_g (lw_at lw_m1 182 rfl) rfl
theorem q244 : (Jvm.Cond.fieldLink "SequenceBench$Rig" (91 : Nat) "SequenceBench$Rig" "extended" "I") ∈ lw_all := lw_g (lw_at lw_m1 183 rfl) rfl
theorem q245 : (Jvm.Cond.fieldLink "SequenceBench$Rig" (97 : Nat) "SequenceBench$Rig" "plus" "I") ∈ lw_all := lw_g (lw_at lw_m1 184 rfl) rfl
theorem q247 : (Jvm.Cond.fieldLink "SequenceBench$Rig" (98 : Nat) "SequenceBench$Rig" "minus" "I") ∈ lw_all := lw_g (lw_at lw_m1 186 rfl) rfl
theorem q249 : (Jvm.Cond.fieldLink "SequenceBench$Rig" (99 : Nat) "SequenceBench$Rig" "running" "I") ∈ lw_all := lw_g (lw_at lw_m1 188 rfl) rfl
theorem q250 : (Jvm.Cond.fieldLink "SequenceBench$Rig" (25 : Nat) "SequenceBench$Rig" "eventTimes" "[I") ∈ lw_all := lw_g (lw_at lw_m1 189 rfl) rfl
theorem q252 : (Jvm.Cond.fieldLink "SequenceBench$Rig" (28 : Nat) "SequenceBench$Rig" "eventMoves" "[I") ∈ lw_all := lw_g (lw_at lw_m1 191 rfl) rfl
theorem q254 : (Jvm.Cond.fieldLink "SequenceBench$Rig" (108 : Nat) "SequenceBench$Rig" "events" "I") ∈ lw_all := lw_g (lw_at lw_m1 193 rfl) rfl
theorem q256 : (Jvm.Cond.fieldLink "SequenceBench$Rig" (105 : Nat) "SequenceBench$Rig" "right" "I") ∈ lw_all := lw_g (lw_at lw_m1 195 rfl) rfl
theorem q258 : (Jvm.Cond.fieldLink "SequenceBench$Rig" (62 : Nat) "SequenceBench$Rig" "dueStep" "I") ∈ lw_all := lw_g (lw_at lw_m1 197 rfl) rfl
theorem q259 : (Jvm.Cond.fieldLink "SequenceBench$Rig" (75 : Nat) "SequenceBench$Rig" "duePlus" "I") ∈ lw_all := lw_g (lw_at lw_m1 198 rfl) rfl
theorem q260 : (Jvm.Cond.fieldLink "SequenceBench$Rig" (81 : Nat) "SequenceBench$Rig" "dueMinus" "I") ∈ lw_all := lw_g (lw_at lw_m1 199 rfl) rfl
theorem q261 : (Jvm.Cond.fieldLink "SequenceBench$Rig" (121 : Nat) "SequenceBench$Rig" "cycles" "I") ∈ lw_all := lw_g (lw_at lw_m1 200 rfl) rfl
theorem q263 : (Jvm.Cond.fieldLink "SequenceBench$Rig" (124 : Nat) "SequenceBench$Rig" "latestCycle" "I") ∈ lw_all := lw_g (lw_at lw_m1 202 rfl) rfl
theorem q265 : (Jvm.Cond.fieldLink "SequenceBench$Rig" (127 : Nat) "SequenceBench$Rig" "cycleBefore" "I") ∈ lw_all := lw_g (lw_at lw_m1 204 rfl) rfl
theorem q267 : (Jvm.Cond.laysFinal "SequenceBench$Rig" "SequenceBench$Rig" "sequence" "LSequenceBench$Sequence;") ∈ lw_all := lw_g (lw_at lw_m1 206 rfl) rfl
theorem q268 : (Jvm.Cond.soleField "SequenceBench$Rig" "sequence") ∈ lw_all := lw_g (lw_at lw_m1 207 rfl) rfl
theorem q269 : (Jvm.Cond.laysFinal "SequenceBench$Rig" "SequenceBench$Rig" "strokes" "[I") ∈ lw_all := lw_g (lw_at lw_m1 208 rfl) rfl
theorem q270 : (Jvm.Cond.soleField "SequenceBench$Rig" "strokes") ∈ lw_all := lw_g (lw_at lw_m1 209 rfl) rfl
theorem q271 : (Jvm.Cond.laysFinal "SequenceBench$Rig" "SequenceBench$Rig" "faults" "[I") ∈ lw_all := lw_g (lw_at lw_m1 210 rfl) rfl
theorem q272 : (Jvm.Cond.soleField "SequenceBench$Rig" "faults") ∈ lw_all := lw_g (lw_at lw_m1 211 rfl) rfl
theorem q273 : (Jvm.Cond.laysFinal "SequenceBench$Rig" "SequenceBench$Rig" "positions" "[I") ∈ lw_all := lw_g (lw_at lw_m1 212 rfl) rfl
theorem q274 : (Jvm.Cond.soleField "SequenceBench$Rig" "positions") ∈ lw_all := lw_g (lw_at lw_m1 213 rfl) rfl
theorem q275 : (Jvm.Cond.laysFinal "SequenceBench$Rig" "SequenceBench$Rig" "timers" "[I") ∈ lw_all := lw_g (lw_at lw_m1 214 rfl) rfl
theorem q276 : (Jvm.Cond.soleField "SequenceBench$Rig" "timers") ∈ lw_all := lw_g (lw_at lw_m1 215 rfl) rfl
theorem q277 : (Jvm.Cond.laysFinal "SequenceBench$Rig" "SequenceBench$Rig" "circuit" "LSequenceBench$Circuit;") ∈ lw_all := lw_g (lw_at lw_m1 216 rfl) rfl
theorem q278 : (Jvm.Cond.soleField "SequenceBench$Rig" "circuit") ∈ lw_all := lw_g (lw_at lw_m1 217 rfl) rfl
theorem q279 : (Jvm.Cond.lays "SequenceBench$Rig" "SequenceBench$Rig" "isStarted" "Z") ∈ lw_all := lw_g (lw_at lw_m1 218 rfl) rfl
theorem q280 : (Jvm.Cond.soleField "SequenceBench$Rig" "isStarted") ∈ lw_all := lw_g (lw_at lw_m1 219 rfl) rfl
theorem q281 : (Jvm.Cond.lays "SequenceBench$Rig" "SequenceBench$Rig" "out" "I") ∈ lw_all := lw_g (lw_at lw_m1 220 rfl) rfl
theorem q282 : (Jvm.Cond.soleField "SequenceBench$Rig" "out") ∈ lw_all := lw_g (lw_at lw_m1 221 rfl) rfl
theorem q283 : (Jvm.Cond.lays "SequenceBench$Rig" "SequenceBench$Rig" "time" "I") ∈ lw_all := lw_g (lw_at lw_m1 222 rfl) rfl
theorem q284 : (Jvm.Cond.soleField "SequenceBench$Rig" "time") ∈ lw_all := lw_g (lw_at lw_m1 223 rfl) rfl
theorem q285 : (Jvm.Cond.lays "SequenceBench$Rig" "SequenceBench$Rig" "quiet" "I") ∈ lw_all := lw_g (lw_at lw_m1 224 rfl) rfl
theorem q286 : (Jvm.Cond.soleField "SequenceBench$Rig" "quiet") ∈ lw_all := lw_g (lw_at lw_m1 225 rfl) rfl
theorem q287 : (Jvm.Cond.lays "SequenceBench$Rig" "SequenceBench$Rig" "retracted" "I") ∈ lw_all := lw_g (lw_at lw_m1 226 rfl) rfl
theorem q288 : (Jvm.Cond.soleField "SequenceBench$Rig" "retracted") ∈ lw_all := lw_g (lw_at lw_m1 227 rfl) rfl
theorem q289 : (Jvm.Cond.lays "SequenceBench$Rig" "SequenceBench$Rig" "extended" "I") ∈ lw_all := lw_g (lw_at lw_m1 228 rfl) rfl
theorem q290 : (Jvm.Cond.soleField "SequenceBench$Rig" "extended") ∈ lw_all := lw_g (lw_at lw_m1 229 rfl) rfl
theorem q291 : (Jvm.Cond.lays "SequenceBench$Rig" "SequenceBench$Rig" "plus" "I") ∈ lw_all := lw_g (lw_at lw_m1 230 rfl) rfl
theorem q292 : (Jvm.Cond.soleField "SequenceBench$Rig" "plus") ∈ lw_all := lw_g (lw_at lw_m1 231 rfl) rfl
theorem q293 : (Jvm.Cond.lays "SequenceBench$Rig" "SequenceBench$Rig" "minus" "I") ∈ lw_all := lw_g (lw_at lw_m1 232 rfl) rfl
theorem q294 : (Jvm.Cond.soleField "SequenceBench$Rig" "minus") ∈ lw_all := lw_g (lw_at lw_m1 233 rfl) rfl
theorem q295 : (Jvm.Cond.lays "SequenceBench$Rig" "SequenceBench$Rig" "running" "I") ∈ lw_all := lw_g (lw_at lw_m1 234 rfl) rfl
theorem q296 : (Jvm.Cond.soleField "SequenceBench$Rig" "running") ∈ lw_all := lw_g (lw_at lw_m1 235 rfl) rfl
theorem q297 : (Jvm.Cond.laysFinal "SequenceBench$Rig" "SequenceBench$Rig" "eventTimes" "[I") ∈ lw_all := lw_g (lw_at lw_m1 236 rfl) rfl
theorem q298 : (Jvm.Cond.soleField "SequenceBench$Rig" "eventTimes") ∈ lw_all := lw_g (lw_at lw_m1 237 rfl) rfl
theorem q299 : (Jvm.Cond.laysFinal "SequenceBench$Rig" "SequenceBench$Rig" "eventMoves" "[I") ∈ lw_all := lw_g (lw_at lw_m1 238 rfl) rfl
theorem q300 : (Jvm.Cond.soleField "SequenceBench$Rig" "eventMoves") ∈ lw_all := lw_g (lw_at lw_m1 239 rfl) rfl
theorem q301 : (Jvm.Cond.lays "SequenceBench$Rig" "SequenceBench$Rig" "events" "I") ∈ lw_all := lw_g (lw_at lw_m2 0 rfl) rfl
theorem q302 : (Jvm.Cond.soleField "SequenceBench$Rig" "events") ∈ lw_all := lw_g (lw_at lw_m2 1 rfl) rfl
theorem q303 : (Jvm.Cond.lays "SequenceBench$Rig" "SequenceBench$Rig" "right" "I") ∈ lw_all := lw_g (lw_at lw_m2 2 rfl) rfl
theorem q304 : (Jvm.Cond.soleField "SequenceBench$Rig" "right") ∈ lw_all := lw_g (lw_at lw_m2 3 rfl) rfl
theorem q305 : (Jvm.Cond.lays "SequenceBench$Rig" "SequenceBench$Rig" "dueStep" "I") ∈ lw_all := lw_g (lw_at lw_m2 4 rfl) rfl
theorem q306 : (Jvm.Cond.soleField "SequenceBench$Rig" "dueStep") ∈ lw_all := lw_g (lw_at lw_m2 5 rfl) rfl
theorem q307 : (Jvm.Cond.lays "SequenceBench$Rig" "SequenceBench$Rig" "duePlus" "I") ∈ lw_all := lw_g (lw_at lw_m2 6 rfl) rfl
theorem q308 : (Jvm.Cond.soleField "SequenceBench$Rig" "duePlus") ∈ lw_all := lw_g (lw_at lw_m2 7 rfl) rfl
theorem q309 : (Jvm.Cond.lays "SequenceBench$Rig" "SequenceBench$Rig" "dueMinus" "I") ∈ lw_all := lw_g (lw_at lw_m2 8 rfl) rfl
theorem q310 : (Jvm.Cond.soleField "SequenceBench$Rig" "dueMinus") ∈ lw_all := lw_g (lw_at lw_m2 9 rfl) rfl
theorem q311 : (Jvm.Cond.lays "SequenceBench$Rig" "SequenceBench$Rig" "cycles" "I") ∈ lw_all := lw_g (lw_at lw_m2 10 rfl) rfl
theorem q312 : (Jvm.Cond.soleField "SequenceBench$Rig" "cycles") ∈ lw_all := lw_g (lw_at lw_m2 11 rfl) rfl
theorem q313 : (Jvm.Cond.lays "SequenceBench$Rig" "SequenceBench$Rig" "latestCycle" "I") ∈ lw_all := lw_g (lw_at lw_m2 12 rfl) rfl
theorem q314 : (Jvm.Cond.soleField "SequenceBench$Rig" "latestCycle") ∈ lw_all := lw_g (lw_at lw_m2 13 rfl) rfl
theorem q315 : (Jvm.Cond.lays "SequenceBench$Rig" "SequenceBench$Rig" "cycleBefore" "I") ∈ lw_all := lw_g (lw_at lw_m2 14 rfl) rfl
theorem q316 : (Jvm.Cond.soleField "SequenceBench$Rig" "cycleBefore") ∈ lw_all := lw_g (lw_at lw_m2 15 rfl) rfl
theorem q317 : (Jvm.Cond.superclass "SequenceBench$Rig" "java/lang/Object") ∈ lw_all := lw_g (lw_at lw_m2 16 rfl) rfl
theorem q808 : (Jvm.Cond.fieldLinkNest "SequenceBench$Rig" (70 : Nat) "SequenceBench$Step" "plus" "I" "SequenceBench") ∈ lw_tbl := lw_at lw_m4 27 rfl
theorem q811 : (Jvm.Cond.fieldLinkNest "SequenceBench$Rig" (78 : Nat) "SequenceBench$Step" "minus" "I" "SequenceBench") ∈ lw_tbl := lw_at lw_m4 30 rfl
theorem q813 : (Jvm.Cond.fieldLinkNest "SequenceBench$Rig" (88 : Nat) "SequenceBench$Step" "pause" "I" "SequenceBench") ∈ lw_tbl := lw_at lw_m4 32 rfl
theorem q854 : (Jvm.Cond.selects "SequenceBench$Rig" ({ cls := "java/lang/Object", name := "getClass", desc := "()Ljava/lang/Class;" } : Jvm.MethodName) ({ cls := "java/lang/Object", name := "getClass", desc := "()Ljava/lang/Class;" } : Jvm.MethodName)) ∈ lw_all := lw_g (lw_at lw_m4 73 rfl) rfl
theorem q918 : (Jvm.Cond.fieldLinkNest "SequenceBench$Rig" (66 : Nat) "SequenceBench$Sequence" "steps" "[LSequenceBench$Step;" "SequenceBench") ∈ lw_tbl := lw_at lw_m4 137 rfl
theorem q1250 : (Jvm.Cond.instanceMethod ({ cls := "SequenceBench$Rig", name := "ticks", desc := "(I)I" } : Jvm.MethodName)) ∈ lw_all := lw_g (lw_at lw_m5 229 rfl) rfl
theorem q1251 : (Jvm.Cond.selects "SequenceBench$Rig" ({ cls := "SequenceBench$Rig", name := "ticks", desc := "(I)I" } : Jvm.MethodName) ({ cls := "SequenceBench$Rig", name := "ticks", desc := "(I)I" } : Jvm.MethodName)) ∈ lw_all := lw_g (lw_at lw_m5 230 rfl) rfl
theorem q1252 : (Jvm.Cond.code ({ cls := "SequenceBench$Rig", name := "ticks", desc := "(I)I" } : Jvm.MethodName) prog_11_method_12_code (4 : Nat) (Option.some Jvm.ClassFile.FieldType.int)) ∈ lw_all := lw_g (lw_at lw_m5 231 rfl) rfl
theorem q1253 : (Jvm.Cond.methodLink "SequenceBench$Rig" (161 : Nat) ({ cls := "SequenceBench$Rig", name := "tick", desc := "()V" } : Jvm.MethodName)) ∈ lw_all := lw_g (lw_at lw_m5 232 rfl) rfl
theorem q1254 : (Jvm.Cond.instanceMethod ({ cls := "SequenceBench$Rig", name := "tick", desc := "()V" } : Jvm.MethodName)) ∈ lw_all := lw_g (lw_at lw_m5 233 rfl) rfl
theorem q1255 : (Jvm.Cond.selects "SequenceBench$Rig" ({ cls := "SequenceBench$Rig", name := "tick", desc := "()V" } : Jvm.MethodName) ({ cls := "SequenceBench$Rig", name := "tick", desc := "()V" } : Jvm.MethodName)) ∈ lw_all := lw_g (lw_at lw_m5 234 rfl) rfl
theorem q1256 : (Jvm.Cond.code ({ cls := "SequenceBench$Rig", name := "tick", desc := "()V" } : Jvm.MethodName) prog_11_method_11_code (4 : Nat) (Option.none : Option Jvm.ClassFile.FieldType)) ∈ lw_all := lw_g (lw_at lw_m5 235 rfl) rfl
theorem q1257 : (Jvm.Cond.methodLink "SequenceBench$Rig" (137 : Nat) ({ cls := "SequenceBench$Rig", name := "read", desc := "()V" } : Jvm.MethodName)) ∈ lw_all := lw_g (lw_at lw_m5 236 rfl) rfl
theorem q1258 : (Jvm.Cond.privateMethod ({ cls := "SequenceBench$Rig", name := "read", desc := "()V" } : Jvm.MethodName)) ∈ lw_tbl := lw_at lw_m5 237 rfl
theorem q1259 : (Jvm.Cond.instanceMethod ({ cls := "SequenceBench$Rig", name := "read", desc := "()V" } : Jvm.MethodName)) ∈ lw_all := lw_g (lw_at lw_m5 238 rfl) rfl
theorem q1260 : (Jvm.Cond.code ({ cls := "SequenceBench$Rig", name := "read", desc := "()V" } : Jvm.MethodName) prog_11_method_6_code (2 : Nat) (Option.none : Option Jvm.ClassFile.FieldType)) ∈ lw_all := lw_g (lw_at lw_m5 239 rfl) rfl
theorem q1261 : (Jvm.Cond.methodLink "SequenceBench$Rig" (102 : Nat) ({ cls := "SequenceBench$Rig", name := "sensor", desc := "(II)Z" } : Jvm.MethodName)) ∈ lw_all := lw_g (lw_at lw_m6 0 rfl) rfl
theorem q1262 : (Jvm.Cond.instanceMethod ({ cls := "SequenceBench$Rig", name := "sensor", desc := "(II)Z" } : Jvm.MethodName)) ∈ lw_all := lw_g (lw_at lw_m6 1 rfl) rfl
theorem q1263 : (Jvm.Cond.selects "SequenceBench$Rig" ({ cls := "SequenceBench$Rig", name := "sensor", desc := "(II)Z" } : Jvm.MethodName) ({ cls := "SequenceBench$Rig", name := "sensor", desc := "(II)Z" } : Jvm.MethodName)) ∈ lw_all := lw_g (lw_at lw_m6 2 rfl) rfl
theorem q1264 : (Jvm.Cond.code ({ cls := "SequenceBench$Rig", name := "sensor", desc := "(II)Z" } : Jvm.MethodName) prog_11_method_3_code (6 : Nat) (Option.some Jvm.ClassFile.FieldType.boolean)) ∈ lw_all := lw_g (lw_at lw_m6 3 rfl) rfl
theorem q1265 : (Jvm.Cond.methodLinkNest "SequenceBench$Rig" (84 : Nat) ({ cls := "SequenceBench", name := "has", desc := "(II)Z" } : Jvm.MethodName) "SequenceBench") ∈ lw_tbl := lw_at lw_m6 4 rfl
theorem q1266 : (Jvm.Cond.interfaceEntry "SequenceBench$Rig" (140 : Nat)) ∈ lw_tbl := lw_at lw_m6 5 rfl
theorem q1267 : (Jvm.Cond.methodLink "SequenceBench$Rig" (140 : Nat) ({ cls := "SequenceBench$Circuit", name := "decide", desc := "()V" } : Jvm.MethodName)) ∈ lw_all := lw_g (lw_at lw_m6 6 rfl) rfl
theorem q1284 : (Jvm.Cond.instanceMethod ({ cls := "SequenceBench$Rig", name := "command", desc := "(I)V" } : Jvm.MethodName)) ∈ lw_all := lw_g (lw_at lw_m6 23 rfl) rfl
theorem q1285 : (Jvm.Cond.selects "SequenceBench$Rig" ({ cls := "SequenceBench$Rig", name := "command", desc := "(I)V" } : Jvm.MethodName) ({ cls := "SequenceBench$Rig", name := "command", desc := "(I)V" } : Jvm.MethodName)) ∈ lw_all := lw_g (lw_at lw_m6 24 rfl) rfl
theorem q1286 : (Jvm.Cond.code ({ cls := "SequenceBench$Rig", name := "command", desc := "(I)V" } : Jvm.MethodName) prog_11_method_5_code (3 : Nat) (Option.none : Option Jvm.ClassFile.FieldType)) ∈ lw_all := lw_g (lw_at lw_m6 25 rfl) rfl
theorem q1302 : (Jvm.Cond.methodLink "SequenceBench$Rig" (145 : Nat) ({ cls := "SequenceBench$Rig", name := "switchValves", desc := "()Z" } : Jvm.MethodName)) ∈ lw_all := lw_g (lw_at lw_m6 41 rfl) rfl
theorem q1303 : (Jvm.Cond.privateMethod ({ cls := "SequenceBench$Rig", name := "switchValves", desc := "()Z" } : Jvm.MethodName)) ∈ lw_tbl := lw_at lw_m6 42 rfl
theorem q1304 : (Jvm.Cond.instanceMethod ({ cls := "SequenceBench$Rig", name := "switchValves", desc := "()Z" } : Jvm.MethodName)) ∈ lw_all := lw_g (lw_at lw_m6 43 rfl) rfl
theorem q1305 : (Jvm.Cond.code ({ cls := "SequenceBench$Rig", name := "switchValves", desc := "()Z" } : Jvm.MethodName) prog_11_method_9_code (3 : Nat) (Option.some Jvm.ClassFile.FieldType.boolean)) ∈ lw_all := lw_g (lw_at lw_m6 44 rfl) rfl
theorem q1306 : (Jvm.Cond.methodLink "SequenceBench$Rig" (133 : Nat) ({ cls := "SequenceBench$Rig", name := "record", desc := "(IZ)V" } : Jvm.MethodName)) ∈ lw_all := lw_g (lw_at lw_m6 45 rfl) rfl
theorem q1307 : (Jvm.Cond.privateMethod ({ cls := "SequenceBench$Rig", name := "record", desc := "(IZ)V" } : Jvm.MethodName)) ∈ lw_tbl := lw_at lw_m6 46 rfl
theorem q1308 : (Jvm.Cond.instanceMethod ({ cls := "SequenceBench$Rig", name := "record", desc := "(IZ)V" } : Jvm.MethodName)) ∈ lw_all := lw_g (lw_at lw_m6 47 rfl) rfl
theorem q1309 : (Jvm.Cond.code ({ cls := "SequenceBench$Rig", name := "record", desc := "(IZ)V" } : Jvm.MethodName) prog_11_method_7_code (4 : Nat) (Option.none : Option Jvm.ClassFile.FieldType)) ∈ lw_all := lw_g (lw_at lw_m6 48 rfl) rfl
theorem q1310 : (Jvm.Cond.methodLink "SequenceBench$Rig" (114 : Nat) ({ cls := "SequenceBench$Rig", name := "advance", desc := "()V" } : Jvm.MethodName)) ∈ lw_all := lw_g (lw_at lw_m6 49 rfl) rfl
theorem q1311 : (Jvm.Cond.privateMethod ({ cls := "SequenceBench$Rig", name := "advance", desc := "()V" } : Jvm.MethodName)) ∈ lw_tbl := lw_at lw_m6 50 rfl
theorem q1312 : (Jvm.Cond.instanceMethod ({ cls := "SequenceBench$Rig", name := "advance", desc := "()V" } : Jvm.MethodName)) ∈ lw_all := lw_g (lw_at lw_m6 51 rfl) rfl
theorem q1313 : (Jvm.Cond.code ({ cls := "SequenceBench$Rig", name := "advance", desc := "()V" } : Jvm.MethodName) prog_11_method_8_code (1 : Nat) (Option.none : Option Jvm.ClassFile.FieldType)) ∈ lw_all := lw_g (lw_at lw_m6 52 rfl) rfl
theorem q1314 : (Jvm.Cond.methodLink "SequenceBench$Rig" (117 : Nat) ({ cls := "SequenceBench$Sequence", name := "after", desc := "(I)I" } : Jvm.MethodName)) ∈ lw_all := lw_g (lw_at lw_m6 53 rfl) rfl
theorem q1315 : (Jvm.Cond.methodLink "SequenceBench$Rig" (149 : Nat) ({ cls := "SequenceBench$Rig", name := "moveCylinders", desc := "()Z" } : Jvm.MethodName)) ∈ lw_all := lw_g (lw_at lw_m6 54 rfl) rfl
theorem q1316 : (Jvm.Cond.privateMethod ({ cls := "SequenceBench$Rig", name := "moveCylinders", desc := "()Z" } : Jvm.MethodName)) ∈ lw_tbl := lw_at lw_m6 55 rfl
theorem q1317 : (Jvm.Cond.instanceMethod ({ cls := "SequenceBench$Rig", name := "moveCylinders", desc := "()Z" } : Jvm.MethodName)) ∈ lw_all := lw_g (lw_at lw_m6 56 rfl) rfl
theorem q1318 : (Jvm.Cond.code ({ cls := "SequenceBench$Rig", name := "moveCylinders", desc := "()Z" } : Jvm.MethodName) prog_11_method_10_code (4 : Nat) (Option.some Jvm.ClassFile.FieldType.boolean)) ∈ lw_all := lw_g (lw_at lw_m6 57 rfl) rfl
theorem q1319 : (Jvm.Cond.methodLink "SequenceBench$Rig" (155 : Nat) ({ cls := "java/lang/Math", name := "min", desc := "(II)I" } : Jvm.MethodName)) ∈ lw_all := lw_g (lw_at lw_m6 58 rfl) rfl
theorem q1386 : (Jvm.Cond.instanceMethod ({ cls := "SequenceBench$Rig", name := "makesCycles", desc := "()Z" } : Jvm.MethodName)) ∈ lw_all := lw_g (lw_at lw_m6 125 rfl) rfl
theorem q1387 : (Jvm.Cond.selects "SequenceBench$Rig" ({ cls := "SequenceBench$Rig", name := "makesCycles", desc := "()Z" } : Jvm.MethodName) ({ cls := "SequenceBench$Rig", name := "makesCycles", desc := "()Z" } : Jvm.MethodName)) ∈ lw_all := lw_g (lw_at lw_m6 126 rfl) rfl
theorem q1388 : (Jvm.Cond.code ({ cls := "SequenceBench$Rig", name := "makesCycles", desc := "()Z" } : Jvm.MethodName) prog_11_method_13_code (1 : Nat) (Option.some Jvm.ClassFile.FieldType.boolean)) ∈ lw_all := lw_g (lw_at lw_m6 127 rfl) rfl
theorem q1424 : (Jvm.Cond.instanceMethod ({ cls := "SequenceBench$Rig", name := "isLike", desc := "(LSequenceBench$Rig;)Z" } : Jvm.MethodName)) ∈ lw_all := lw_g (lw_at lw_m6 163 rfl) rfl
theorem q1425 : (Jvm.Cond.selects "SequenceBench$Rig" ({ cls := "SequenceBench$Rig", name := "isLike", desc := "(LSequenceBench$Rig;)Z" } : Jvm.MethodName) ({ cls := "SequenceBench$Rig", name := "isLike", desc := "(LSequenceBench$Rig;)Z" } : Jvm.MethodName)) ∈ lw_all := lw_g (lw_at lw_m6 164 rfl) rfl
theorem q1426 : (Jvm.Cond.code ({ cls := "SequenceBench$Rig", name := "isLike", desc := "(LSequenceBench$Rig;)Z" } : Jvm.MethodName) prog_11_method_14_code (4 : Nat) (Option.some Jvm.ClassFile.FieldType.boolean)) ∈ lw_all := lw_g (lw_at lw_m6 165 rfl) rfl
theorem q1808 : (Jvm.Cond.castable "SequenceBench$Rig" "java/lang/Object") ∈ lw_tbl := lw_at lw_m8 67 rfl
theorem in_X3 : ∀ w ∈ wsX30, w ∈ lw_all := lw_in wsX30 [267, 269, 271, 273, 275, 277, 279, 281, 283, 285, 287, 289, 291, 293, 295, 297, 299, 301, 303, 305, 307, 309, 311, 313, 315] (by decide +kernel) (by decide +kernel)

/-! SequenceBench$Direct -/
set_option maxRecDepth 100000
def RX4 : String := "SequenceBench$Direct"
def TX4 : u_T := fun k => match k with
  | 0 => ("SequenceBench$Direct", "rig", "LSequenceBench$Rig;", true)
  | _ => ("SequenceBench$Direct", "conditions", "[LSequenceBench$Condition;", true)
def tyX4 : Nat → FieldType := fun k => match k with
  | 0 => .object "SequenceBench$Rig"
  | _ => .array (.object "SequenceBench$Condition")
abbrev wsX40 : List Cond := u_ws RX4 TX4 2
theorem nmX4 : ∀ a, a < 2 → ∀ b, b < 2 → a ≠ b → (TX4 a).2.1 ≠ (TX4 b).2.1 := by decide +kernel
theorem tyX4_ok : ∀ k, k < 2 → parseFieldDescriptor (TX4 k).2.2.1 = some (tyX4 k) := by decide +kernel
abbrev cX4_init : ByteArray := prog_5_method_1_code
def yX4_init : MethodName := ⟨RX4, "<init>", "(LSequenceBench$Rig;)V"⟩
def dkwX4_init_3 : List UInt8 := [186, 0, 39, 0, 0, 83, 132, 3, 1, 167, 255, 208, 177]
abbrev dktX4_init_3 : List UInt8 := dkwX4_init_3 ++ []
def dkwX4_init_2 : List UInt8 := [180, 0, 27, 29, 29, 154, 0, 14, 43, 21, 4, 186, 0, 35, 0, 0, 167, 0, 11, 43, 21, 4]
abbrev dktX4_init_2 : List UInt8 := dkwX4_init_2 ++ dktX4_init_3
def dkwX4_init_1 : List UInt8 := [181, 0, 27, 3, 62, 29, 42, 180, 0, 27, 190, 162, 0, 45, 44, 29, 182, 0, 31, 54, 4, 42]
abbrev dktX4_init_1 : List UInt8 := dkwX4_init_1 ++ dktX4_init_2
def dkwX4_init_0 : List UInt8 := [42, 183, 0, 1, 42, 43, 181, 0, 7, 43, 180, 0, 13, 77, 42, 44, 180, 0, 19, 190, 189, 0, 25]
abbrev dktX4_init_0 : List UInt8 := dkwX4_init_0 ++ dktX4_init_1
theorem dksX4_init_0 : cX4_init.data.toList.drop 0 = dktX4_init_0 := by decide +kernel
theorem dksX4_init_1 : cX4_init.data.toList.drop 23 = dktX4_init_1 := dk_seg dksX4_init_0 23 rfl rfl
theorem dksX4_init_2 : cX4_init.data.toList.drop 45 = dktX4_init_2 := dk_seg dksX4_init_1 22 rfl rfl
theorem dksX4_init_3 : cX4_init.data.toList.drop 67 = dktX4_init_3 := dk_seg dksX4_init_2 22 rfl rfl
theorem dX4_init_0 : decode cX4_init 0 = .ok (.aload_n 0, 1) := dk_42 (dk_at dksX4_init_0 0 rfl rfl)
theorem dX4_init_1 : decode cX4_init 1 = .ok (.invokespecial 1, 3) := dk_183 0 1 (dk_at dksX4_init_0 1 rfl rfl)
theorem dX4_init_4 : decode cX4_init 4 = .ok (.aload_n 0, 1) := dk_42 (dk_at dksX4_init_0 4 rfl rfl)
theorem dX4_init_5 : decode cX4_init 5 = .ok (.aload_n 1, 1) := dk_43 (dk_at dksX4_init_0 5 rfl rfl)
theorem dX4_init_6 : decode cX4_init 6 = .ok (.putfield 7, 3) := dk_181 0 7 (dk_at dksX4_init_0 6 rfl rfl)
theorem dX4_init_9 : decode cX4_init 9 = .ok (.aload_n 1, 1) := dk_43 (dk_at dksX4_init_0 9 rfl rfl)
theorem dX4_init_10 : decode cX4_init 10 = .ok (.getfield 13, 3) := dk_180 0 13 (dk_at dksX4_init_0 10 rfl rfl)
theorem dX4_init_13 : decode cX4_init 13 = .ok (.astore_n 2, 1) := dk_77 (dk_at dksX4_init_0 13 rfl rfl)
theorem dX4_init_14 : decode cX4_init 14 = .ok (.aload_n 0, 1) := dk_42 (dk_at dksX4_init_0 14 rfl rfl)
theorem dX4_init_15 : decode cX4_init 15 = .ok (.aload_n 2, 1) := dk_44 (dk_at dksX4_init_0 15 rfl rfl)
theorem dX4_init_16 : decode cX4_init 16 = .ok (.getfield 19, 3) := dk_180 0 19 (dk_at dksX4_init_0 16 rfl rfl)
theorem dX4_init_19 : decode cX4_init 19 = .ok (.arraylength, 1) := dk_190 (dk_at dksX4_init_0 19 rfl rfl)
theorem dX4_init_20 : decode cX4_init 20 = .ok (.anewarray 25, 3) := dk_189 0 25 (dk_at dksX4_init_0 20 rfl rfl)
theorem dX4_init_23 : decode cX4_init 23 = .ok (.putfield 27, 3) := dk_181 0 27 (dk_at dksX4_init_1 0 rfl rfl)
theorem dX4_init_26 : decode cX4_init 26 = .ok (.iconst 0, 1) := dk_3 (dk_at dksX4_init_1 3 rfl rfl)
theorem dX4_init_27 : decode cX4_init 27 = .ok (.istore_n 3, 1) := dk_62 (dk_at dksX4_init_1 4 rfl rfl)
theorem dX4_init_28 : decode cX4_init 28 = .ok (.iload_n 3, 1) := dk_29 (dk_at dksX4_init_1 5 rfl rfl)
theorem dX4_init_29 : decode cX4_init 29 = .ok (.aload_n 0, 1) := dk_42 (dk_at dksX4_init_1 6 rfl rfl)
theorem dX4_init_30 : decode cX4_init 30 = .ok (.getfield 27, 3) := dk_180 0 27 (dk_at dksX4_init_1 7 rfl rfl)
theorem dX4_init_33 : decode cX4_init 33 = .ok (.arraylength, 1) := dk_190 (dk_at dksX4_init_1 10 rfl rfl)
theorem dX4_init_34 : decode cX4_init 34 = .ok (.if_icmp .ge 45, 3) := dk_162 0 45 (dk_at dksX4_init_1 11 rfl rfl)
theorem dX4_init_37 : decode cX4_init 37 = .ok (.aload_n 2, 1) := dk_44 (dk_at dksX4_init_1 14 rfl rfl)
theorem dX4_init_38 : decode cX4_init 38 = .ok (.iload_n 3, 1) := dk_29 (dk_at dksX4_init_1 15 rfl rfl)
theorem dX4_init_39 : decode cX4_init 39 = .ok (.invokevirtual 31, 3) := dk_182 0 31 (dk_at dksX4_init_1 16 rfl rfl)
theorem dX4_init_42 : decode cX4_init 42 = .ok (.istore 4, 2) := dk_54 4 (dk_at dksX4_init_1 19 rfl rfl)
theorem dX4_init_44 : decode cX4_init 44 = .ok (.aload_n 0, 1) := dk_42 (dk_at dksX4_init_1 21 rfl rfl)
theorem dX4_init_45 : decode cX4_init 45 = .ok (.getfield 27, 3) := dk_180 0 27 (dk_at dksX4_init_2 0 rfl rfl)
theorem dX4_init_48 : decode cX4_init 48 = .ok (.iload_n 3, 1) := dk_29 (dk_at dksX4_init_2 3 rfl rfl)
theorem dX4_init_49 : decode cX4_init 49 = .ok (.iload_n 3, 1) := dk_29 (dk_at dksX4_init_2 4 rfl rfl)
theorem dX4_init_50 : decode cX4_init 50 = .ok (.ifCond .ne 14, 3) := dk_154 0 14 (dk_at dksX4_init_2 5 rfl rfl)
theorem dX4_init_53 : decode cX4_init 53 = .ok (.aload_n 1, 1) := dk_43 (dk_at dksX4_init_2 8 rfl rfl)
theorem dX4_init_54 : decode cX4_init 54 = .ok (.iload 4, 2) := dk_21 4 (dk_at dksX4_init_2 9 rfl rfl)
theorem dX4_init_56 : decode cX4_init 56 = .ok (.invokedynamic 35, 5) := by decide +kernel
theorem dX4_init_61 : decode cX4_init 61 = .ok (.goto 11, 3) := dk_167 0 11 (dk_at dksX4_init_2 16 rfl rfl)
theorem dX4_init_64 : decode cX4_init 64 = .ok (.aload_n 1, 1) := dk_43 (dk_at dksX4_init_2 19 rfl rfl)
theorem dX4_init_65 : decode cX4_init 65 = .ok (.iload 4, 2) := dk_21 4 (dk_at dksX4_init_2 20 rfl rfl)
theorem dX4_init_67 : decode cX4_init 67 = .ok (.invokedynamic 39, 5) := by decide +kernel
theorem dX4_init_72 : decode cX4_init 72 = .ok (.aastore, 1) := dk_83 (dk_at dksX4_init_3 5 rfl rfl)
theorem dX4_init_73 : decode cX4_init 73 = .ok (.iinc 3 1, 3) := dk_132 3 1 (dk_at dksX4_init_3 6 rfl rfl)
theorem dX4_init_76 : decode cX4_init 76 = .ok (.goto (-48), 3) := dk_167 255 208 (dk_at dksX4_init_3 9 rfl rfl)
theorem dX4_init_79 : decode cX4_init 79 = .ok (.return_, 1) := dk_177 (dk_at dksX4_init_3 12 rfl rfl)
abbrev cX4_lambda_new_0 : ByteArray := prog_5_method_5_code
def yX4_lambda_new_0 : MethodName := ⟨RX4, "lambda$new$0", "(LSequenceBench$Rig;I)Z"⟩
def dkwX4_lambda_new_0_0 : List UInt8 := [42, 180, 0, 51, 153, 0, 15, 42, 27, 182, 0, 47, 153, 0, 7, 4, 167, 0, 4, 3, 172]
abbrev dktX4_lambda_new_0_0 : List UInt8 := dkwX4_lambda_new_0_0 ++ []
theorem dksX4_lambda_new_0_0 : cX4_lambda_new_0.data.toList.drop 0 = dktX4_lambda_new_0_0 := by decide +kernel
theorem dX4_lambda_new_0_0 : decode cX4_lambda_new_0 0 = .ok (.aload_n 0, 1) := dk_42 (dk_at dksX4_lambda_new_0_0 0 rfl rfl)
theorem dX4_lambda_new_0_1 : decode cX4_lambda_new_0 1 = .ok (.getfield 51, 3) := dk_180 0 51 (dk_at dksX4_lambda_new_0_0 1 rfl rfl)
theorem dX4_lambda_new_0_4 : decode cX4_lambda_new_0 4 = .ok (.ifCond .eq 15, 3) := dk_153 0 15 (dk_at dksX4_lambda_new_0_0 4 rfl rfl)
theorem dX4_lambda_new_0_7 : decode cX4_lambda_new_0 7 = .ok (.aload_n 0, 1) := dk_42 (dk_at dksX4_lambda_new_0_0 7 rfl rfl)
theorem dX4_lambda_new_0_8 : decode cX4_lambda_new_0 8 = .ok (.iload_n 1, 1) := dk_27 (dk_at dksX4_lambda_new_0_0 8 rfl rfl)
theorem dX4_lambda_new_0_9 : decode cX4_lambda_new_0 9 = .ok (.invokevirtual 47, 3) := dk_182 0 47 (dk_at dksX4_lambda_new_0_0 9 rfl rfl)
theorem dX4_lambda_new_0_12 : decode cX4_lambda_new_0 12 = .ok (.ifCond .eq 7, 3) := dk_153 0 7 (dk_at dksX4_lambda_new_0_0 12 rfl rfl)
theorem dX4_lambda_new_0_15 : decode cX4_lambda_new_0 15 = .ok (.iconst 1, 1) := dk_4 (dk_at dksX4_lambda_new_0_0 15 rfl rfl)
theorem dX4_lambda_new_0_16 : decode cX4_lambda_new_0 16 = .ok (.goto 4, 3) := dk_167 0 4 (dk_at dksX4_lambda_new_0_0 16 rfl rfl)
theorem dX4_lambda_new_0_19 : decode cX4_lambda_new_0 19 = .ok (.iconst 0, 1) := dk_3 (dk_at dksX4_lambda_new_0_0 19 rfl rfl)
theorem dX4_lambda_new_0_20 : decode cX4_lambda_new_0 20 = .ok (.ireturn, 1) := dk_172 (dk_at dksX4_lambda_new_0_0 20 rfl rfl)
abbrev cX4_lambda_new_1 : ByteArray := prog_5_method_4_code
def yX4_lambda_new_1 : MethodName := ⟨RX4, "lambda$new$1", "(LSequenceBench$Rig;I)Z"⟩
def dkwX4_lambda_new_1_0 : List UInt8 := [42, 27, 182, 0, 47, 172]
abbrev dktX4_lambda_new_1_0 : List UInt8 := dkwX4_lambda_new_1_0 ++ []
theorem dksX4_lambda_new_1_0 : cX4_lambda_new_1.data.toList.drop 0 = dktX4_lambda_new_1_0 := by decide +kernel
theorem dX4_lambda_new_1_0 : decode cX4_lambda_new_1 0 = .ok (.aload_n 0, 1) := dk_42 (dk_at dksX4_lambda_new_1_0 0 rfl rfl)
theorem dX4_lambda_new_1_1 : decode cX4_lambda_new_1 1 = .ok (.iload_n 1, 1) := dk_27 (dk_at dksX4_lambda_new_1_0 1 rfl rfl)
theorem dX4_lambda_new_1_2 : decode cX4_lambda_new_1 2 = .ok (.invokevirtual 47, 3) := dk_182 0 47 (dk_at dksX4_lambda_new_1_0 2 rfl rfl)
theorem dX4_lambda_new_1_5 : decode cX4_lambda_new_1 5 = .ok (.ireturn, 1) := dk_172 (dk_at dksX4_lambda_new_1_0 5 rfl rfl)
abbrev cX4_active : ByteArray := prog_5_method_3_code
def yX4_active : MethodName := ⟨RX4, "active", "()I"⟩
theorem dX4_active_0 : decode cX4_active 0 = .ok (.iconst (-1), 1) := by decide +kernel
theorem dX4_active_1 : decode cX4_active 1 = .ok (.ireturn, 1) := by decide +kernel
abbrev cX4_decide : ByteArray := prog_5_method_2_code
def yX4_decide : MethodName := ⟨RX4, "decide", "()V"⟩
def dkwX4_decide_1 : List UInt8 := [153, 0, 11, 42, 180, 0, 7, 27, 182, 0, 43, 132, 1, 1, 167, 255, 222, 177]
abbrev dktX4_decide_1 : List UInt8 := dkwX4_decide_1 ++ []
def dkwX4_decide_0 : List UInt8 := [3, 60, 27, 42, 180, 0, 27, 190, 162, 0, 31, 42, 180, 0, 27, 27, 50, 185, 0, 40, 1, 0]
abbrev dktX4_decide_0 : List UInt8 := dkwX4_decide_0 ++ dktX4_decide_1
theorem dksX4_decide_0 : cX4_decide.data.toList.drop 0 = dktX4_decide_0 := by decide +kernel
theorem dksX4_decide_1 : cX4_decide.data.toList.drop 22 = dktX4_decide_1 := dk_seg dksX4_decide_0 22 rfl rfl
theorem dX4_decide_0 : decode cX4_decide 0 = .ok (.iconst 0, 1) := dk_3 (dk_at dksX4_decide_0 0 rfl rfl)
theorem dX4_decide_1 : decode cX4_decide 1 = .ok (.istore_n 1, 1) := dk_60 (dk_at dksX4_decide_0 1 rfl rfl)
theorem dX4_decide_2 : decode cX4_decide 2 = .ok (.iload_n 1, 1) := dk_27 (dk_at dksX4_decide_0 2 rfl rfl)
theorem dX4_decide_3 : decode cX4_decide 3 = .ok (.aload_n 0, 1) := dk_42 (dk_at dksX4_decide_0 3 rfl rfl)
theorem dX4_decide_4 : decode cX4_decide 4 = .ok (.getfield 27, 3) := dk_180 0 27 (dk_at dksX4_decide_0 4 rfl rfl)
theorem dX4_decide_7 : decode cX4_decide 7 = .ok (.arraylength, 1) := dk_190 (dk_at dksX4_decide_0 7 rfl rfl)
theorem dX4_decide_8 : decode cX4_decide 8 = .ok (.if_icmp .ge 31, 3) := dk_162 0 31 (dk_at dksX4_decide_0 8 rfl rfl)
theorem dX4_decide_11 : decode cX4_decide 11 = .ok (.aload_n 0, 1) := dk_42 (dk_at dksX4_decide_0 11 rfl rfl)
theorem dX4_decide_12 : decode cX4_decide 12 = .ok (.getfield 27, 3) := dk_180 0 27 (dk_at dksX4_decide_0 12 rfl rfl)
theorem dX4_decide_15 : decode cX4_decide 15 = .ok (.iload_n 1, 1) := dk_27 (dk_at dksX4_decide_0 15 rfl rfl)
theorem dX4_decide_16 : decode cX4_decide 16 = .ok (.aaload, 1) := dk_50 (dk_at dksX4_decide_0 16 rfl rfl)
theorem dX4_decide_17 : decode cX4_decide 17 = .ok (.invokeinterface 40 1, 5) := by decide +kernel
theorem dX4_decide_22 : decode cX4_decide 22 = .ok (.ifCond .eq 11, 3) := dk_153 0 11 (dk_at dksX4_decide_1 0 rfl rfl)
theorem dX4_decide_25 : decode cX4_decide 25 = .ok (.aload_n 0, 1) := dk_42 (dk_at dksX4_decide_1 3 rfl rfl)
theorem dX4_decide_26 : decode cX4_decide 26 = .ok (.getfield 7, 3) := dk_180 0 7 (dk_at dksX4_decide_1 4 rfl rfl)
theorem dX4_decide_29 : decode cX4_decide 29 = .ok (.iload_n 1, 1) := dk_27 (dk_at dksX4_decide_1 7 rfl rfl)
theorem dX4_decide_30 : decode cX4_decide 30 = .ok (.invokevirtual 43, 3) := dk_182 0 43 (dk_at dksX4_decide_1 8 rfl rfl)
theorem dX4_decide_33 : decode cX4_decide 33 = .ok (.iinc 1 1, 3) := dk_132 1 1 (dk_at dksX4_decide_1 11 rfl rfl)
theorem dX4_decide_36 : decode cX4_decide 36 = .ok (.goto (-34), 3) := dk_167 255 222 (dk_at dksX4_decide_1 14 rfl rfl)
theorem dX4_decide_39 : decode cX4_decide 39 = .ok (.return_, 1) := dk_177 (dk_at dksX4_decide_1 17 rfl rfl)
theorem q66 : (Jvm.Cond.initialized "SequenceBench$Direct") ∈ lw_all := lw_g (lw_at lw_m1 5 rfl) rfl
theorem q127 : (Jvm.Cond.instantiable "SequenceBench$Direct" (2 : Nat)) ∈ lw_all := lw_g (lw_at lw_m1 66 rfl) rfl
theorem q129 : (Jvm.Cond.instanceMethod ({ cls := "SequenceBench$Direct", name := "<init>", desc := "(LSequenceBench$Rig;)V" } : Jvm.MethodName)) ∈ lw_all := lw_g (lw_at lw_m1 68 rfl) rfl
theorem q130 : (Jvm.Cond.code ({ cls := "SequenceBench$Direct", name := "<init>", desc := "(LSequenceBench$Rig;)V" } : Jvm.MethodName) prog_5_method_1_code (5 : Nat) (Option.none : Option Jvm.ClassFile.FieldType)) ∈ lw_all := lw_g (lw_at lw_m1 69 rfl) rfl
theorem q131 : (Jvm.Cond.methodLink "SequenceBench$Direct" (1 : Nat) ({ cls := "java/lang/Object", name := "<init>", desc := "()V" } : Jvm.MethodName)) ∈ lw_all := lw_g (lw_at lw_m1 70 rfl) rfl
theorem q132 : (Jvm.Cond.classLink "SequenceBench$Direct" (25 : Nat) "SequenceBench$Condition") ∈ lw_all := lw_g (lw_at lw_m1 71 rfl) rfl
theorem q134 : (Jvm.Cond.methodLink "SequenceBench$Direct" (31 : Nat) ({ cls := "SequenceBench$Sequence", name := "before", desc := "(I)I" } : Jvm.MethodName)) ∈ lw_all := lw_g (lw_at lw_m1 73 rfl) rfl
theorem q138 : (Jvm.Cond.static ({ cls := "SequenceBench$Direct", name := "lambda$new$0", desc := "(LSequenceBench$Rig;I)Z" } : Jvm.MethodName)) ∈ lw_all := lw_g (lw_at lw_m1 77 rfl) rfl
theorem q139 : (Jvm.Cond.code ({ cls := "SequenceBench$Direct", name := "lambda$new$0", desc := "(LSequenceBench$Rig;I)Z" } : Jvm.MethodName) prog_5_method_5_code (2 : Nat) (Option.some Jvm.ClassFile.FieldType.boolean)) ∈ lw_all := lw_g (lw_at lw_m1 78 rfl) rfl
theorem q140 : (Jvm.Cond.methodLink "SequenceBench$Direct" (47 : Nat) ({ cls := "SequenceBench$Rig", name := "isComplete", desc := "(I)Z" } : Jvm.MethodName)) ∈ lw_all := lw_g (lw_at lw_m1 79 rfl) rfl
theorem q144 : (Jvm.Cond.static ({ cls := "SequenceBench$Direct", name := "lambda$new$1", desc := "(LSequenceBench$Rig;I)Z" } : Jvm.MethodName)) ∈ lw_all := lw_g (lw_at lw_m1 83 rfl) rfl
theorem q145 : (Jvm.Cond.code ({ cls := "SequenceBench$Direct", name := "lambda$new$1", desc := "(LSequenceBench$Rig;I)Z" } : Jvm.MethodName) prog_5_method_4_code (2 : Nat) (Option.some Jvm.ClassFile.FieldType.boolean)) ∈ lw_all := lw_g (lw_at lw_m1 84 rfl) rfl
theorem q146 : (Jvm.Cond.fieldLink "SequenceBench$Direct" (7 : Nat) "SequenceBench$Direct" "rig" "LSequenceBench$Rig;") ∈ lw_all := lw_g (lw_at lw_m1 85 rfl) rfl
theorem q147 : (Jvm.Cond.fieldLink "SequenceBench$Direct" (27 : Nat) "SequenceBench$Direct" "conditions" "[LSequenceBench$Condition;") ∈ lw_all := lw_g (lw_at lw_m1 86 rfl) rfl
theorem q148 : (Jvm.Cond.laysFinal "SequenceBench$Direct" "SequenceBench$Direct" "rig" "LSequenceBench$Rig;") ∈ lw_all := lw_g (lw_at lw_m1 87 rfl) rfl
theorem q149 : (Jvm.Cond.soleField "SequenceBench$Direct" "rig") ∈ lw_all := lw_g (lw_at lw_m1 88 rfl) rfl
theorem q150 : (Jvm.Cond.laysFinal "SequenceBench$Direct" "SequenceBench$Direct" "conditions" "[LSequenceBench$Condition;") ∈ lw_all := lw_g (lw_at lw_m1 89 rfl) rfl
theorem q151 : (Jvm.Cond.soleField "SequenceBench$Direct" "conditions") ∈ lw_all := lw_g (lw_at lw_m1 90 rfl) rfl
theorem q152 : (Jvm.Cond.superclass "SequenceBench$Direct" "java/lang/Object") ∈ lw_all := lw_g (lw_at lw_m1 91 rfl) rfl
theorem q219 : (Jvm.Cond.fieldLinkNest "SequenceBench$Direct" (13 : Nat) "SequenceBench$Rig" "sequence" "LSequenceBench$Sequence;" "SequenceBench") ∈ lw_tbl := lw_at lw_m1 158 rfl
theorem q235 : (Jvm.Cond.fieldLinkNest "SequenceBench$Direct" (51 : Nat) "SequenceBench$Rig" "isStarted" "Z" "SequenceBench") ∈ lw_tbl := lw_at lw_m1 174 rfl
theorem q849 : (Jvm.Cond.selects "SequenceBench$Direct" ({ cls := "java/lang/Object", name := "getClass", desc := "()Ljava/lang/Class;" } : Jvm.MethodName) ({ cls := "java/lang/Object", name := "getClass", desc := "()Ljava/lang/Class;" } : Jvm.MethodName)) ∈ lw_all := lw_g (lw_at lw_m4 68 rfl) rfl
theorem q916 : (Jvm.Cond.fieldLinkNest "SequenceBench$Direct" (19 : Nat) "SequenceBench$Sequence" "steps" "[LSequenceBench$Step;" "SequenceBench") ∈ lw_tbl := lw_at lw_m4 135 rfl
theorem q973 : (Jvm.Cond.castable "SequenceBench$Direct" "SequenceBench$Circuit") ∈ lw_tbl := lw_at lw_m4 192 rfl
theorem q974 : (Jvm.Cond.selects "SequenceBench$Direct" ({ cls := "SequenceBench$Circuit", name := "active", desc := "()I" } : Jvm.MethodName) ({ cls := "SequenceBench$Direct", name := "active", desc := "()I" } : Jvm.MethodName)) ∈ lw_all := lw_g (lw_at lw_m4 193 rfl) rfl
theorem q975 : (Jvm.Cond.unhidden "SequenceBench$Direct" "active" "()I") ∈ lw_tbl := lw_at lw_m4 194 rfl
theorem q976 : (Jvm.Cond.instanceMethod ({ cls := "SequenceBench$Direct", name := "active", desc := "()I" } : Jvm.MethodName)) ∈ lw_all := lw_g (lw_at lw_m4 195 rfl) rfl
theorem q977 : (Jvm.Cond.publicMethod ({ cls := "SequenceBench$Direct", name := "active", desc := "()I" } : Jvm.MethodName)) ∈ lw_tbl := lw_at lw_m4 196 rfl
theorem q978 : (Jvm.Cond.code ({ cls := "SequenceBench$Direct", name := "active", desc := "()I" } : Jvm.MethodName) prog_5_method_3_code (1 : Nat) (Option.some Jvm.ClassFile.FieldType.int)) ∈ lw_all := lw_g (lw_at lw_m4 197 rfl) rfl
theorem q1287 : (Jvm.Cond.selects "SequenceBench$Direct" ({ cls := "SequenceBench$Circuit", name := "decide", desc := "()V" } : Jvm.MethodName) ({ cls := "SequenceBench$Direct", name := "decide", desc := "()V" } : Jvm.MethodName)) ∈ lw_all := lw_g (lw_at lw_m6 26 rfl) rfl
theorem q1288 : (Jvm.Cond.unhidden "SequenceBench$Direct" "decide" "()V") ∈ lw_tbl := lw_at lw_m6 27 rfl
theorem q1289 : (Jvm.Cond.instanceMethod ({ cls := "SequenceBench$Direct", name := "decide", desc := "()V" } : Jvm.MethodName)) ∈ lw_all := lw_g (lw_at lw_m6 28 rfl) rfl
theorem q1290 : (Jvm.Cond.publicMethod ({ cls := "SequenceBench$Direct", name := "decide", desc := "()V" } : Jvm.MethodName)) ∈ lw_tbl := lw_at lw_m6 29 rfl
theorem q1291 : (Jvm.Cond.code ({ cls := "SequenceBench$Direct", name := "decide", desc := "()V" } : Jvm.MethodName) prog_5_method_2_code (2 : Nat) (Option.none : Option Jvm.ClassFile.FieldType)) ∈ lw_all := lw_g (lw_at lw_m6 30 rfl) rfl
theorem q1292 : (Jvm.Cond.interfaceEntry "SequenceBench$Direct" (40 : Nat)) ∈ lw_tbl := lw_at lw_m6 31 rfl
theorem q1293 : (Jvm.Cond.methodLink "SequenceBench$Direct" (40 : Nat) ({ cls := "SequenceBench$Condition", name := "holds", desc := "()Z" } : Jvm.MethodName)) ∈ lw_all := lw_g (lw_at lw_m6 32 rfl) rfl
theorem q1294 : (Jvm.Cond.methodLink "SequenceBench$Direct" (43 : Nat) ({ cls := "SequenceBench$Rig", name := "command", desc := "(I)V" } : Jvm.MethodName)) ∈ lw_all := lw_g (lw_at lw_m6 33 rfl) rfl
theorem q1823 : (Jvm.Cond.castable "SequenceBench$Direct" "java/lang/Object") ∈ lw_tbl := lw_at lw_m8 82 rfl
theorem in_X4 : ∀ w ∈ wsX40, w ∈ lw_all := lw_in wsX40 [148, 150] (by decide +kernel) (by decide +kernel)

/-! SequenceBench$Cascade -/
set_option maxRecDepth 100000
def RX5 : String := "SequenceBench$Cascade"
def TX5 : u_T := fun k => match k with
  | 0 => ("SequenceBench$Cascade", "rig", "LSequenceBench$Rig;", true)
  | 1 => ("SequenceBench$Cascade", "conditions", "[LSequenceBench$Condition;", true)
  | _ => ("SequenceBench$Cascade", "group", "I", false)
def tyX5 : Nat → FieldType := fun k => match k with
  | 0 => .object "SequenceBench$Rig"
  | 1 => .array (.object "SequenceBench$Condition")
  | _ => .int
abbrev wsX50 : List Cond := u_ws RX5 TX5 3
theorem nmX5 : ∀ a, a < 3 → ∀ b, b < 3 → a ≠ b → (TX5 a).2.1 ≠ (TX5 b).2.1 := by decide +kernel
theorem tyX5_ok : ∀ k, k < 3 → parseFieldDescriptor (TX5 k).2.2.1 = some (tyX5 k) := by decide +kernel
abbrev cX5_init : ByteArray := prog_2_method_1_code
def yX5_init : MethodName := ⟨RX5, "<init>", "(LSequenceBench$Rig;)V"⟩
def dkwX5_init_5 : List UInt8 := [21, 5, 21, 7, 186, 0, 53, 0, 0, 83, 132, 3, 1, 167, 255, 167, 177]
abbrev dktX5_init_5 : List UInt8 := dkwX5_init_5 ++ []
def dkwX5_init_4 : List UInt8 := [180, 0, 35, 29, 21, 6, 153, 0, 14, 42, 21, 4, 186, 0, 49, 0, 0, 167, 0, 16, 42, 21, 4, 43]
abbrev dktX5_init_4 : List UInt8 := dkwX5_init_4 ++ dktX5_init_5
def dkwX5_init_3 : List UInt8 := [160, 0, 7, 4, 167, 0, 4, 3, 54, 6, 29, 154, 0, 7, 4, 167, 0, 4, 3, 54, 7, 42]
abbrev dktX5_init_3 : List UInt8 := dkwX5_init_3 ++ dktX5_init_4
def dkwX5_init_2 : List UInt8 := [162, 0, 86, 44, 29, 182, 0, 39, 54, 4, 44, 29, 182, 0, 43, 54, 5, 44, 21, 4, 182, 0, 46, 29]
abbrev dktX5_init_2 : List UInt8 := dkwX5_init_2 ++ dktX5_init_3
def dkwX5_init_1 : List UInt8 := [181, 0, 25, 42, 44, 180, 0, 29, 190, 189, 0, 33, 181, 0, 35, 3, 62, 29, 42, 180, 0, 35, 190]
abbrev dktX5_init_1 : List UInt8 := dkwX5_init_1 ++ dktX5_init_2
def dkwX5_init_0 : List UInt8 := [42, 183, 0, 1, 42, 43, 181, 0, 7, 43, 180, 0, 13, 77, 42, 44, 180, 0, 19, 190, 4, 100]
abbrev dktX5_init_0 : List UInt8 := dkwX5_init_0 ++ dktX5_init_1
theorem dksX5_init_0 : cX5_init.data.toList.drop 0 = dktX5_init_0 := by decide +kernel
theorem dksX5_init_1 : cX5_init.data.toList.drop 22 = dktX5_init_1 := dk_seg dksX5_init_0 22 rfl rfl
theorem dksX5_init_2 : cX5_init.data.toList.drop 45 = dktX5_init_2 := dk_seg dksX5_init_1 23 rfl rfl
theorem dksX5_init_3 : cX5_init.data.toList.drop 69 = dktX5_init_3 := dk_seg dksX5_init_2 24 rfl rfl
theorem dksX5_init_4 : cX5_init.data.toList.drop 91 = dktX5_init_4 := dk_seg dksX5_init_3 22 rfl rfl
theorem dksX5_init_5 : cX5_init.data.toList.drop 115 = dktX5_init_5 := dk_seg dksX5_init_4 24 rfl rfl
theorem dX5_init_0 : decode cX5_init 0 = .ok (.aload_n 0, 1) := dk_42 (dk_at dksX5_init_0 0 rfl rfl)
theorem dX5_init_1 : decode cX5_init 1 = .ok (.invokespecial 1, 3) := dk_183 0 1 (dk_at dksX5_init_0 1 rfl rfl)
theorem dX5_init_4 : decode cX5_init 4 = .ok (.aload_n 0, 1) := dk_42 (dk_at dksX5_init_0 4 rfl rfl)
theorem dX5_init_5 : decode cX5_init 5 = .ok (.aload_n 1, 1) := dk_43 (dk_at dksX5_init_0 5 rfl rfl)
theorem dX5_init_6 : decode cX5_init 6 = .ok (.putfield 7, 3) := dk_181 0 7 (dk_at dksX5_init_0 6 rfl rfl)
theorem dX5_init_9 : decode cX5_init 9 = .ok (.aload_n 1, 1) := dk_43 (dk_at dksX5_init_0 9 rfl rfl)
theorem dX5_init_10 : decode cX5_init 10 = .ok (.getfield 13, 3) := dk_180 0 13 (dk_at dksX5_init_0 10 rfl rfl)
theorem dX5_init_13 : decode cX5_init 13 = .ok (.astore_n 2, 1) := dk_77 (dk_at dksX5_init_0 13 rfl rfl)
theorem dX5_init_14 : decode cX5_init 14 = .ok (.aload_n 0, 1) := dk_42 (dk_at dksX5_init_0 14 rfl rfl)
theorem dX5_init_15 : decode cX5_init 15 = .ok (.aload_n 2, 1) := dk_44 (dk_at dksX5_init_0 15 rfl rfl)
theorem dX5_init_16 : decode cX5_init 16 = .ok (.getfield 19, 3) := dk_180 0 19 (dk_at dksX5_init_0 16 rfl rfl)
theorem dX5_init_19 : decode cX5_init 19 = .ok (.arraylength, 1) := dk_190 (dk_at dksX5_init_0 19 rfl rfl)
theorem dX5_init_20 : decode cX5_init 20 = .ok (.iconst 1, 1) := dk_4 (dk_at dksX5_init_0 20 rfl rfl)
theorem dX5_init_21 : decode cX5_init 21 = .ok (.isub, 1) := dk_100 (dk_at dksX5_init_0 21 rfl rfl)
theorem dX5_init_22 : decode cX5_init 22 = .ok (.putfield 25, 3) := dk_181 0 25 (dk_at dksX5_init_1 0 rfl rfl)
theorem dX5_init_25 : decode cX5_init 25 = .ok (.aload_n 0, 1) := dk_42 (dk_at dksX5_init_1 3 rfl rfl)
theorem dX5_init_26 : decode cX5_init 26 = .ok (.aload_n 2, 1) := dk_44 (dk_at dksX5_init_1 4 rfl rfl)
theorem dX5_init_27 : decode cX5_init 27 = .ok (.getfield 29, 3) := dk_180 0 29 (dk_at dksX5_init_1 5 rfl rfl)
theorem dX5_init_30 : decode cX5_init 30 = .ok (.arraylength, 1) := dk_190 (dk_at dksX5_init_1 8 rfl rfl)
theorem dX5_init_31 : decode cX5_init 31 = .ok (.anewarray 33, 3) := dk_189 0 33 (dk_at dksX5_init_1 9 rfl rfl)
theorem dX5_init_34 : decode cX5_init 34 = .ok (.putfield 35, 3) := dk_181 0 35 (dk_at dksX5_init_1 12 rfl rfl)
theorem dX5_init_37 : decode cX5_init 37 = .ok (.iconst 0, 1) := dk_3 (dk_at dksX5_init_1 15 rfl rfl)
theorem dX5_init_38 : decode cX5_init 38 = .ok (.istore_n 3, 1) := dk_62 (dk_at dksX5_init_1 16 rfl rfl)
theorem dX5_init_39 : decode cX5_init 39 = .ok (.iload_n 3, 1) := dk_29 (dk_at dksX5_init_1 17 rfl rfl)
theorem dX5_init_40 : decode cX5_init 40 = .ok (.aload_n 0, 1) := dk_42 (dk_at dksX5_init_1 18 rfl rfl)
theorem dX5_init_41 : decode cX5_init 41 = .ok (.getfield 35, 3) := dk_180 0 35 (dk_at dksX5_init_1 19 rfl rfl)
theorem dX5_init_44 : decode cX5_init 44 = .ok (.arraylength, 1) := dk_190 (dk_at dksX5_init_1 22 rfl rfl)
theorem dX5_init_45 : decode cX5_init 45 = .ok (.if_icmp .ge 86, 3) := dk_162 0 86 (dk_at dksX5_init_2 0 rfl rfl)
theorem dX5_init_48 : decode cX5_init 48 = .ok (.aload_n 2, 1) := dk_44 (dk_at dksX5_init_2 3 rfl rfl)
theorem dX5_init_49 : decode cX5_init 49 = .ok (.iload_n 3, 1) := dk_29 (dk_at dksX5_init_2 4 rfl rfl)
theorem dX5_init_50 : decode cX5_init 50 = .ok (.invokevirtual 39, 3) := dk_182 0 39 (dk_at dksX5_init_2 5 rfl rfl)
theorem dX5_init_53 : decode cX5_init 53 = .ok (.istore 4, 2) := dk_54 4 (dk_at dksX5_init_2 8 rfl rfl)
theorem dX5_init_55 : decode cX5_init 55 = .ok (.aload_n 2, 1) := dk_44 (dk_at dksX5_init_2 10 rfl rfl)
theorem dX5_init_56 : decode cX5_init 56 = .ok (.iload_n 3, 1) := dk_29 (dk_at dksX5_init_2 11 rfl rfl)
theorem dX5_init_57 : decode cX5_init 57 = .ok (.invokevirtual 43, 3) := dk_182 0 43 (dk_at dksX5_init_2 12 rfl rfl)
theorem dX5_init_60 : decode cX5_init 60 = .ok (.istore 5, 2) := dk_54 5 (dk_at dksX5_init_2 15 rfl rfl)
theorem dX5_init_62 : decode cX5_init 62 = .ok (.aload_n 2, 1) := dk_44 (dk_at dksX5_init_2 17 rfl rfl)
theorem dX5_init_63 : decode cX5_init 63 = .ok (.iload 4, 2) := dk_21 4 (dk_at dksX5_init_2 18 rfl rfl)
theorem dX5_init_65 : decode cX5_init 65 = .ok (.invokevirtual 46, 3) := dk_182 0 46 (dk_at dksX5_init_2 20 rfl rfl)
theorem dX5_init_68 : decode cX5_init 68 = .ok (.iload_n 3, 1) := dk_29 (dk_at dksX5_init_2 23 rfl rfl)
theorem dX5_init_69 : decode cX5_init 69 = .ok (.if_icmp .ne 7, 3) := dk_160 0 7 (dk_at dksX5_init_3 0 rfl rfl)
theorem dX5_init_72 : decode cX5_init 72 = .ok (.iconst 1, 1) := dk_4 (dk_at dksX5_init_3 3 rfl rfl)
theorem dX5_init_73 : decode cX5_init 73 = .ok (.goto 4, 3) := dk_167 0 4 (dk_at dksX5_init_3 4 rfl rfl)
theorem dX5_init_76 : decode cX5_init 76 = .ok (.iconst 0, 1) := dk_3 (dk_at dksX5_init_3 7 rfl rfl)
theorem dX5_init_77 : decode cX5_init 77 = .ok (.istore 6, 2) := dk_54 6 (dk_at dksX5_init_3 8 rfl rfl)
theorem dX5_init_79 : decode cX5_init 79 = .ok (.iload_n 3, 1) := dk_29 (dk_at dksX5_init_3 10 rfl rfl)
theorem dX5_init_80 : decode cX5_init 80 = .ok (.ifCond .ne 7, 3) := dk_154 0 7 (dk_at dksX5_init_3 11 rfl rfl)
theorem dX5_init_83 : decode cX5_init 83 = .ok (.iconst 1, 1) := dk_4 (dk_at dksX5_init_3 14 rfl rfl)
theorem dX5_init_84 : decode cX5_init 84 = .ok (.goto 4, 3) := dk_167 0 4 (dk_at dksX5_init_3 15 rfl rfl)
theorem dX5_init_87 : decode cX5_init 87 = .ok (.iconst 0, 1) := dk_3 (dk_at dksX5_init_3 18 rfl rfl)
theorem dX5_init_88 : decode cX5_init 88 = .ok (.istore 7, 2) := dk_54 7 (dk_at dksX5_init_3 19 rfl rfl)
theorem dX5_init_90 : decode cX5_init 90 = .ok (.aload_n 0, 1) := dk_42 (dk_at dksX5_init_3 21 rfl rfl)
theorem dX5_init_91 : decode cX5_init 91 = .ok (.getfield 35, 3) := dk_180 0 35 (dk_at dksX5_init_4 0 rfl rfl)
theorem dX5_init_94 : decode cX5_init 94 = .ok (.iload_n 3, 1) := dk_29 (dk_at dksX5_init_4 3 rfl rfl)
theorem dX5_init_95 : decode cX5_init 95 = .ok (.iload 6, 2) := dk_21 6 (dk_at dksX5_init_4 4 rfl rfl)
theorem dX5_init_97 : decode cX5_init 97 = .ok (.ifCond .eq 14, 3) := dk_153 0 14 (dk_at dksX5_init_4 6 rfl rfl)
theorem dX5_init_100 : decode cX5_init 100 = .ok (.aload_n 0, 1) := dk_42 (dk_at dksX5_init_4 9 rfl rfl)
theorem dX5_init_101 : decode cX5_init 101 = .ok (.iload 4, 2) := dk_21 4 (dk_at dksX5_init_4 10 rfl rfl)
theorem dX5_init_103 : decode cX5_init 103 = .ok (.invokedynamic 49, 5) := by decide +kernel
theorem dX5_init_108 : decode cX5_init 108 = .ok (.goto 16, 3) := dk_167 0 16 (dk_at dksX5_init_4 17 rfl rfl)
theorem dX5_init_111 : decode cX5_init 111 = .ok (.aload_n 0, 1) := dk_42 (dk_at dksX5_init_4 20 rfl rfl)
theorem dX5_init_112 : decode cX5_init 112 = .ok (.iload 4, 2) := dk_21 4 (dk_at dksX5_init_4 21 rfl rfl)
theorem dX5_init_114 : decode cX5_init 114 = .ok (.aload_n 1, 1) := dk_43 (dk_at dksX5_init_4 23 rfl rfl)
theorem dX5_init_115 : decode cX5_init 115 = .ok (.iload 5, 2) := dk_21 5 (dk_at dksX5_init_5 0 rfl rfl)
theorem dX5_init_117 : decode cX5_init 117 = .ok (.iload 7, 2) := dk_21 7 (dk_at dksX5_init_5 2 rfl rfl)
theorem dX5_init_119 : decode cX5_init 119 = .ok (.invokedynamic 53, 5) := by decide +kernel
theorem dX5_init_124 : decode cX5_init 124 = .ok (.aastore, 1) := dk_83 (dk_at dksX5_init_5 9 rfl rfl)
theorem dX5_init_125 : decode cX5_init 125 = .ok (.iinc 3 1, 3) := dk_132 3 1 (dk_at dksX5_init_5 10 rfl rfl)
theorem dX5_init_128 : decode cX5_init 128 = .ok (.goto (-89), 3) := dk_167 255 167 (dk_at dksX5_init_5 13 rfl rfl)
theorem dX5_init_131 : decode cX5_init 131 = .ok (.return_, 1) := dk_177 (dk_at dksX5_init_5 16 rfl rfl)
abbrev cX5_lambda_new_0 : ByteArray := prog_2_method_5_code
def yX5_lambda_new_0 : MethodName := ⟨RX5, "lambda$new$0", "(I)Z"⟩
def dkwX5_lambda_new_0_0 : List UInt8 := [42, 180, 0, 25, 27, 160, 0, 7, 4, 167, 0, 4, 3, 172]
abbrev dktX5_lambda_new_0_0 : List UInt8 := dkwX5_lambda_new_0_0 ++ []
theorem dksX5_lambda_new_0_0 : cX5_lambda_new_0.data.toList.drop 0 = dktX5_lambda_new_0_0 := by decide +kernel
theorem dX5_lambda_new_0_0 : decode cX5_lambda_new_0 0 = .ok (.aload_n 0, 1) := dk_42 (dk_at dksX5_lambda_new_0_0 0 rfl rfl)
theorem dX5_lambda_new_0_1 : decode cX5_lambda_new_0 1 = .ok (.getfield 25, 3) := dk_180 0 25 (dk_at dksX5_lambda_new_0_0 1 rfl rfl)
theorem dX5_lambda_new_0_4 : decode cX5_lambda_new_0 4 = .ok (.iload_n 1, 1) := dk_27 (dk_at dksX5_lambda_new_0_0 4 rfl rfl)
theorem dX5_lambda_new_0_5 : decode cX5_lambda_new_0 5 = .ok (.if_icmp .ne 7, 3) := dk_160 0 7 (dk_at dksX5_lambda_new_0_0 5 rfl rfl)
theorem dX5_lambda_new_0_8 : decode cX5_lambda_new_0 8 = .ok (.iconst 1, 1) := dk_4 (dk_at dksX5_lambda_new_0_0 8 rfl rfl)
theorem dX5_lambda_new_0_9 : decode cX5_lambda_new_0 9 = .ok (.goto 4, 3) := dk_167 0 4 (dk_at dksX5_lambda_new_0_0 9 rfl rfl)
theorem dX5_lambda_new_0_12 : decode cX5_lambda_new_0 12 = .ok (.iconst 0, 1) := dk_3 (dk_at dksX5_lambda_new_0_0 12 rfl rfl)
theorem dX5_lambda_new_0_13 : decode cX5_lambda_new_0 13 = .ok (.ireturn, 1) := dk_172 (dk_at dksX5_lambda_new_0_0 13 rfl rfl)
abbrev cX5_lambda_new_1 : ByteArray := prog_2_method_4_code
def yX5_lambda_new_1 : MethodName := ⟨RX5, "lambda$new$1", "(ILSequenceBench$Rig;IZ)Z"⟩
def dkwX5_lambda_new_1_1 : List UInt8 := [180, 0, 63, 153, 0, 7, 4, 167, 0, 4, 3, 172]
abbrev dktX5_lambda_new_1_1 : List UInt8 := dkwX5_lambda_new_1_1 ++ []
def dkwX5_lambda_new_1_0 : List UInt8 := [42, 180, 0, 25, 27, 160, 0, 27, 44, 29, 182, 0, 59, 153, 0, 19, 21, 4, 153, 0, 10, 44]
abbrev dktX5_lambda_new_1_0 : List UInt8 := dkwX5_lambda_new_1_0 ++ dktX5_lambda_new_1_1
theorem dksX5_lambda_new_1_0 : cX5_lambda_new_1.data.toList.drop 0 = dktX5_lambda_new_1_0 := by decide +kernel
theorem dksX5_lambda_new_1_1 : cX5_lambda_new_1.data.toList.drop 22 = dktX5_lambda_new_1_1 := dk_seg dksX5_lambda_new_1_0 22 rfl rfl
theorem dX5_lambda_new_1_0 : decode cX5_lambda_new_1 0 = .ok (.aload_n 0, 1) := dk_42 (dk_at dksX5_lambda_new_1_0 0 rfl rfl)
theorem dX5_lambda_new_1_1 : decode cX5_lambda_new_1 1 = .ok (.getfield 25, 3) := dk_180 0 25 (dk_at dksX5_lambda_new_1_0 1 rfl rfl)
theorem dX5_lambda_new_1_4 : decode cX5_lambda_new_1 4 = .ok (.iload_n 1, 1) := dk_27 (dk_at dksX5_lambda_new_1_0 4 rfl rfl)
theorem dX5_lambda_new_1_5 : decode cX5_lambda_new_1 5 = .ok (.if_icmp .ne 27, 3) := dk_160 0 27 (dk_at dksX5_lambda_new_1_0 5 rfl rfl)
theorem dX5_lambda_new_1_8 : decode cX5_lambda_new_1 8 = .ok (.aload_n 2, 1) := dk_44 (dk_at dksX5_lambda_new_1_0 8 rfl rfl)
theorem dX5_lambda_new_1_9 : decode cX5_lambda_new_1 9 = .ok (.iload_n 3, 1) := dk_29 (dk_at dksX5_lambda_new_1_0 9 rfl rfl)
theorem dX5_lambda_new_1_10 : decode cX5_lambda_new_1 10 = .ok (.invokevirtual 59, 3) := dk_182 0 59 (dk_at dksX5_lambda_new_1_0 10 rfl rfl)
theorem dX5_lambda_new_1_13 : decode cX5_lambda_new_1 13 = .ok (.ifCond .eq 19, 3) := dk_153 0 19 (dk_at dksX5_lambda_new_1_0 13 rfl rfl)
theorem dX5_lambda_new_1_16 : decode cX5_lambda_new_1 16 = .ok (.iload 4, 2) := dk_21 4 (dk_at dksX5_lambda_new_1_0 16 rfl rfl)
theorem dX5_lambda_new_1_18 : decode cX5_lambda_new_1 18 = .ok (.ifCond .eq 10, 3) := dk_153 0 10 (dk_at dksX5_lambda_new_1_0 18 rfl rfl)
theorem dX5_lambda_new_1_21 : decode cX5_lambda_new_1 21 = .ok (.aload_n 2, 1) := dk_44 (dk_at dksX5_lambda_new_1_0 21 rfl rfl)
theorem dX5_lambda_new_1_22 : decode cX5_lambda_new_1 22 = .ok (.getfield 63, 3) := dk_180 0 63 (dk_at dksX5_lambda_new_1_1 0 rfl rfl)
theorem dX5_lambda_new_1_25 : decode cX5_lambda_new_1 25 = .ok (.ifCond .eq 7, 3) := dk_153 0 7 (dk_at dksX5_lambda_new_1_1 3 rfl rfl)
theorem dX5_lambda_new_1_28 : decode cX5_lambda_new_1 28 = .ok (.iconst 1, 1) := dk_4 (dk_at dksX5_lambda_new_1_1 6 rfl rfl)
theorem dX5_lambda_new_1_29 : decode cX5_lambda_new_1 29 = .ok (.goto 4, 3) := dk_167 0 4 (dk_at dksX5_lambda_new_1_1 7 rfl rfl)
theorem dX5_lambda_new_1_32 : decode cX5_lambda_new_1 32 = .ok (.iconst 0, 1) := dk_3 (dk_at dksX5_lambda_new_1_1 10 rfl rfl)
theorem dX5_lambda_new_1_33 : decode cX5_lambda_new_1 33 = .ok (.ireturn, 1) := dk_172 (dk_at dksX5_lambda_new_1_1 11 rfl rfl)
abbrev cX5_active : ByteArray := prog_2_method_3_code
def yX5_active : MethodName := ⟨RX5, "active", "()I"⟩
theorem dX5_active_0 : decode cX5_active 0 = .ok (.aload_n 0, 1) := by decide +kernel
theorem dX5_active_1 : decode cX5_active 1 = .ok (.getfield 25, 3) := by decide +kernel
theorem dX5_active_4 : decode cX5_active 4 = .ok (.ireturn, 1) := by decide +kernel
abbrev cX5_decide : ByteArray := prog_2_method_2_code
def yX5_decide : MethodName := ⟨RX5, "decide", "()V"⟩
def dkwX5_decide_4 : List UInt8 := [185, 0, 67, 1, 0, 153, 0, 11, 42, 180, 0, 7, 29, 182, 0, 70, 132, 3, 1, 167, 255, 222, 177]
abbrev dktX5_decide_4 : List UInt8 := dkwX5_decide_4 ++ []
def dkwX5_decide_3 : List UInt8 := [42, 28, 181, 0, 25, 3, 62, 29, 42, 180, 0, 35, 190, 162, 0, 31, 42, 180, 0, 35, 29, 50]
abbrev dktX5_decide_3 : List UInt8 := dkwX5_decide_3 ++ dktX5_decide_4
def dkwX5_decide_2 : List UInt8 := [182, 0, 59, 153, 0, 26, 43, 28, 182, 0, 46, 154, 0, 13, 42, 180, 0, 7, 180, 0, 63, 153, 0, 8]
abbrev dktX5_decide_2 : List UInt8 := dkwX5_decide_2 ++ dktX5_decide_3
def dkwX5_decide_1 : List UInt8 := [167, 0, 9, 42, 180, 0, 25, 4, 96, 61, 42, 180, 0, 7, 43, 42, 180, 0, 25, 182, 0, 56]
abbrev dktX5_decide_1 : List UInt8 := dkwX5_decide_1 ++ dktX5_decide_2
def dkwX5_decide_0 : List UInt8 := [42, 180, 0, 7, 180, 0, 13, 76, 42, 180, 0, 25, 43, 180, 0, 19, 190, 4, 100, 160, 0, 7, 3]
abbrev dktX5_decide_0 : List UInt8 := dkwX5_decide_0 ++ dktX5_decide_1
theorem dksX5_decide_0 : cX5_decide.data.toList.drop 0 = dktX5_decide_0 := by decide +kernel
theorem dksX5_decide_1 : cX5_decide.data.toList.drop 23 = dktX5_decide_1 := dk_seg dksX5_decide_0 23 rfl rfl
theorem dksX5_decide_2 : cX5_decide.data.toList.drop 45 = dktX5_decide_2 := dk_seg dksX5_decide_1 22 rfl rfl
theorem dksX5_decide_3 : cX5_decide.data.toList.drop 69 = dktX5_decide_3 := dk_seg dksX5_decide_2 24 rfl rfl
theorem dksX5_decide_4 : cX5_decide.data.toList.drop 91 = dktX5_decide_4 := dk_seg dksX5_decide_3 22 rfl rfl
theorem dX5_decide_0 : decode cX5_decide 0 = .ok (.aload_n 0, 1) := dk_42 (dk_at dksX5_decide_0 0 rfl rfl)
theorem dX5_decide_1 : decode cX5_decide 1 = .ok (.getfield 7, 3) := dk_180 0 7 (dk_at dksX5_decide_0 1 rfl rfl)
theorem dX5_decide_4 : decode cX5_decide 4 = .ok (.getfield 13, 3) := dk_180 0 13 (dk_at dksX5_decide_0 4 rfl rfl)
theorem dX5_decide_7 : decode cX5_decide 7 = .ok (.astore_n 1, 1) := dk_76 (dk_at dksX5_decide_0 7 rfl rfl)
theorem dX5_decide_8 : decode cX5_decide 8 = .ok (.aload_n 0, 1) := dk_42 (dk_at dksX5_decide_0 8 rfl rfl)
theorem dX5_decide_9 : decode cX5_decide 9 = .ok (.getfield 25, 3) := dk_180 0 25 (dk_at dksX5_decide_0 9 rfl rfl)
theorem dX5_decide_12 : decode cX5_decide 12 = .ok (.aload_n 1, 1) := dk_43 (dk_at dksX5_decide_0 12 rfl rfl)
theorem dX5_decide_13 : decode cX5_decide 13 = .ok (.getfield 19, 3) := dk_180 0 19 (dk_at dksX5_decide_0 13 rfl rfl)
theorem dX5_decide_16 : decode cX5_decide 16 = .ok (.arraylength, 1) := dk_190 (dk_at dksX5_decide_0 16 rfl rfl)
theorem dX5_decide_17 : decode cX5_decide 17 = .ok (.iconst 1, 1) := dk_4 (dk_at dksX5_decide_0 17 rfl rfl)
theorem dX5_decide_18 : decode cX5_decide 18 = .ok (.isub, 1) := dk_100 (dk_at dksX5_decide_0 18 rfl rfl)
theorem dX5_decide_19 : decode cX5_decide 19 = .ok (.if_icmp .ne 7, 3) := dk_160 0 7 (dk_at dksX5_decide_0 19 rfl rfl)
theorem dX5_decide_22 : decode cX5_decide 22 = .ok (.iconst 0, 1) := dk_3 (dk_at dksX5_decide_0 22 rfl rfl)
theorem dX5_decide_23 : decode cX5_decide 23 = .ok (.goto 9, 3) := dk_167 0 9 (dk_at dksX5_decide_1 0 rfl rfl)
theorem dX5_decide_26 : decode cX5_decide 26 = .ok (.aload_n 0, 1) := dk_42 (dk_at dksX5_decide_1 3 rfl rfl)
theorem dX5_decide_27 : decode cX5_decide 27 = .ok (.getfield 25, 3) := dk_180 0 25 (dk_at dksX5_decide_1 4 rfl rfl)
theorem dX5_decide_30 : decode cX5_decide 30 = .ok (.iconst 1, 1) := dk_4 (dk_at dksX5_decide_1 7 rfl rfl)
theorem dX5_decide_31 : decode cX5_decide 31 = .ok (.iadd, 1) := dk_96 (dk_at dksX5_decide_1 8 rfl rfl)
theorem dX5_decide_32 : decode cX5_decide 32 = .ok (.istore_n 2, 1) := dk_61 (dk_at dksX5_decide_1 9 rfl rfl)
theorem dX5_decide_33 : decode cX5_decide 33 = .ok (.aload_n 0, 1) := dk_42 (dk_at dksX5_decide_1 10 rfl rfl)
theorem dX5_decide_34 : decode cX5_decide 34 = .ok (.getfield 7, 3) := dk_180 0 7 (dk_at dksX5_decide_1 11 rfl rfl)
theorem dX5_decide_37 : decode cX5_decide 37 = .ok (.aload_n 1, 1) := dk_43 (dk_at dksX5_decide_1 14 rfl rfl)
theorem dX5_decide_38 : decode cX5_decide 38 = .ok (.aload_n 0, 1) := dk_42 (dk_at dksX5_decide_1 15 rfl rfl)
theorem dX5_decide_39 : decode cX5_decide 39 = .ok (.getfield 25, 3) := dk_180 0 25 (dk_at dksX5_decide_1 16 rfl rfl)
theorem dX5_decide_42 : decode cX5_decide 42 = .ok (.invokevirtual 56, 3) := dk_182 0 56 (dk_at dksX5_decide_1 19 rfl rfl)
theorem dX5_decide_45 : decode cX5_decide 45 = .ok (.invokevirtual 59, 3) := dk_182 0 59 (dk_at dksX5_decide_2 0 rfl rfl)
theorem dX5_decide_48 : decode cX5_decide 48 = .ok (.ifCond .eq 26, 3) := dk_153 0 26 (dk_at dksX5_decide_2 3 rfl rfl)
theorem dX5_decide_51 : decode cX5_decide 51 = .ok (.aload_n 1, 1) := dk_43 (dk_at dksX5_decide_2 6 rfl rfl)
theorem dX5_decide_52 : decode cX5_decide 52 = .ok (.iload_n 2, 1) := dk_28 (dk_at dksX5_decide_2 7 rfl rfl)
theorem dX5_decide_53 : decode cX5_decide 53 = .ok (.invokevirtual 46, 3) := dk_182 0 46 (dk_at dksX5_decide_2 8 rfl rfl)
theorem dX5_decide_56 : decode cX5_decide 56 = .ok (.ifCond .ne 13, 3) := dk_154 0 13 (dk_at dksX5_decide_2 11 rfl rfl)
theorem dX5_decide_59 : decode cX5_decide 59 = .ok (.aload_n 0, 1) := dk_42 (dk_at dksX5_decide_2 14 rfl rfl)
theorem dX5_decide_60 : decode cX5_decide 60 = .ok (.getfield 7, 3) := dk_180 0 7 (dk_at dksX5_decide_2 15 rfl rfl)
theorem dX5_decide_63 : decode cX5_decide 63 = .ok (.getfield 63, 3) := dk_180 0 63 (dk_at dksX5_decide_2 18 rfl rfl)
theorem dX5_decide_66 : decode cX5_decide 66 = .ok (.ifCond .eq 8, 3) := dk_153 0 8 (dk_at dksX5_decide_2 21 rfl rfl)
theorem dX5_decide_69 : decode cX5_decide 69 = .ok (.aload_n 0, 1) := dk_42 (dk_at dksX5_decide_3 0 rfl rfl)
theorem dX5_decide_70 : decode cX5_decide 70 = .ok (.iload_n 2, 1) := dk_28 (dk_at dksX5_decide_3 1 rfl rfl)
theorem dX5_decide_71 : decode cX5_decide 71 = .ok (.putfield 25, 3) := dk_181 0 25 (dk_at dksX5_decide_3 2 rfl rfl)
theorem dX5_decide_74 : decode cX5_decide 74 = .ok (.iconst 0, 1) := dk_3 (dk_at dksX5_decide_3 5 rfl rfl)
theorem dX5_decide_75 : decode cX5_decide 75 = .ok (.istore_n 3, 1) := dk_62 (dk_at dksX5_decide_3 6 rfl rfl)
theorem dX5_decide_76 : decode cX5_decide 76 = .ok (.iload_n 3, 1) := dk_29 (dk_at dksX5_decide_3 7 rfl rfl)
theorem dX5_decide_77 : decode cX5_decide 77 = .ok (.aload_n 0, 1) := dk_42 (dk_at dksX5_decide_3 8 rfl rfl)
theorem dX5_decide_78 : decode cX5_decide 78 = .ok (.getfield 35, 3) := dk_180 0 35 (dk_at dksX5_decide_3 9 rfl rfl)
theorem dX5_decide_81 : decode cX5_decide 81 = .ok (.arraylength, 1) := dk_190 (dk_at dksX5_decide_3 12 rfl rfl)
theorem dX5_decide_82 : decode cX5_decide 82 = .ok (.if_icmp .ge 31, 3) := dk_162 0 31 (dk_at dksX5_decide_3 13 rfl rfl)
theorem dX5_decide_85 : decode cX5_decide 85 = .ok (.aload_n 0, 1) := dk_42 (dk_at dksX5_decide_3 16 rfl rfl)
theorem dX5_decide_86 : decode cX5_decide 86 = .ok (.getfield 35, 3) := dk_180 0 35 (dk_at dksX5_decide_3 17 rfl rfl)
theorem dX5_decide_89 : decode cX5_decide 89 = .ok (.iload_n 3, 1) := dk_29 (dk_at dksX5_decide_3 20 rfl rfl)
theorem dX5_decide_90 : decode cX5_decide 90 = .ok (.aaload, 1) := dk_50 (dk_at dksX5_decide_3 21 rfl rfl)
theorem dX5_decide_91 : decode cX5_decide 91 = .ok (.invokeinterface 67 1, 5) := by decide +kernel
theorem dX5_decide_96 : decode cX5_decide 96 = .ok (.ifCond .eq 11, 3) := dk_153 0 11 (dk_at dksX5_decide_4 5 rfl rfl)
theorem dX5_decide_99 : decode cX5_decide 99 = .ok (.aload_n 0, 1) := dk_42 (dk_at dksX5_decide_4 8 rfl rfl)
theorem dX5_decide_100 : decode cX5_decide 100 = .ok (.getfield 7, 3) := dk_180 0 7 (dk_at dksX5_decide_4 9 rfl rfl)
theorem dX5_decide_103 : decode cX5_decide 103 = .ok (.iload_n 3, 1) := dk_29 (dk_at dksX5_decide_4 12 rfl rfl)
theorem dX5_decide_104 : decode cX5_decide 104 = .ok (.invokevirtual 70, 3) := dk_182 0 70 (dk_at dksX5_decide_4 13 rfl rfl)
theorem dX5_decide_107 : decode cX5_decide 107 = .ok (.iinc 3 1, 3) := dk_132 3 1 (dk_at dksX5_decide_4 16 rfl rfl)
theorem dX5_decide_110 : decode cX5_decide 110 = .ok (.goto (-34), 3) := dk_167 255 222 (dk_at dksX5_decide_4 19 rfl rfl)
theorem dX5_decide_113 : decode cX5_decide 113 = .ok (.return_, 1) := dk_177 (dk_at dksX5_decide_4 22 rfl rfl)
theorem q67 : (Jvm.Cond.initialized "SequenceBench$Cascade") ∈ lw_all := lw_g (lw_at lw_m1 6 rfl) rfl
theorem q159 : (Jvm.Cond.instantiable "SequenceBench$Cascade" (3 : Nat)) ∈ lw_all := lw_g (lw_at lw_m1 98 rfl) rfl
theorem q161 : (Jvm.Cond.instanceMethod ({ cls := "SequenceBench$Cascade", name := "<init>", desc := "(LSequenceBench$Rig;)V" } : Jvm.MethodName)) ∈ lw_all := lw_g (lw_at lw_m1 100 rfl) rfl
theorem q162 : (Jvm.Cond.code ({ cls := "SequenceBench$Cascade", name := "<init>", desc := "(LSequenceBench$Rig;)V" } : Jvm.MethodName) prog_2_method_1_code (8 : Nat) (Option.none : Option Jvm.ClassFile.FieldType)) ∈ lw_all := lw_g (lw_at lw_m1 101 rfl) rfl
theorem q163 : (Jvm.Cond.methodLink "SequenceBench$Cascade" (1 : Nat) ({ cls := "java/lang/Object", name := "<init>", desc := "()V" } : Jvm.MethodName)) ∈ lw_all := lw_g (lw_at lw_m1 102 rfl) rfl
theorem q164 : (Jvm.Cond.classLink "SequenceBench$Cascade" (33 : Nat) "SequenceBench$Condition") ∈ lw_all := lw_g (lw_at lw_m1 103 rfl) rfl
theorem q165 : (Jvm.Cond.methodLink "SequenceBench$Cascade" (39 : Nat) ({ cls := "SequenceBench$Sequence", name := "groupOf", desc := "(I)I" } : Jvm.MethodName)) ∈ lw_all := lw_g (lw_at lw_m1 104 rfl) rfl
theorem q169 : (Jvm.Cond.methodLink "SequenceBench$Cascade" (43 : Nat) ({ cls := "SequenceBench$Sequence", name := "before", desc := "(I)I" } : Jvm.MethodName)) ∈ lw_all := lw_g (lw_at lw_m1 108 rfl) rfl
theorem q170 : (Jvm.Cond.methodLink "SequenceBench$Cascade" (46 : Nat) ({ cls := "SequenceBench$Sequence", name := "firstOf", desc := "(I)I" } : Jvm.MethodName)) ∈ lw_all := lw_g (lw_at lw_m1 109 rfl) rfl
theorem q174 : (Jvm.Cond.privateMethod ({ cls := "SequenceBench$Cascade", name := "lambda$new$0", desc := "(I)Z" } : Jvm.MethodName)) ∈ lw_tbl := lw_at lw_m1 113 rfl
theorem q175 : (Jvm.Cond.instanceMethod ({ cls := "SequenceBench$Cascade", name := "lambda$new$0", desc := "(I)Z" } : Jvm.MethodName)) ∈ lw_all := lw_g (lw_at lw_m1 114 rfl) rfl
theorem q176 : (Jvm.Cond.code ({ cls := "SequenceBench$Cascade", name := "lambda$new$0", desc := "(I)Z" } : Jvm.MethodName) prog_2_method_5_code (2 : Nat) (Option.some Jvm.ClassFile.FieldType.boolean)) ∈ lw_all := lw_g (lw_at lw_m1 115 rfl) rfl
theorem q177 : (Jvm.Cond.privateMethod ({ cls := "SequenceBench$Cascade", name := "lambda$new$1", desc := "(ILSequenceBench$Rig;IZ)Z" } : Jvm.MethodName)) ∈ lw_tbl := lw_at lw_m1 116 rfl
theorem q178 : (Jvm.Cond.instanceMethod ({ cls := "SequenceBench$Cascade", name := "lambda$new$1", desc := "(ILSequenceBench$Rig;IZ)Z" } : Jvm.MethodName)) ∈ lw_all := lw_g (lw_at lw_m1 117 rfl) rfl
theorem q179 : (Jvm.Cond.code ({ cls := "SequenceBench$Cascade", name := "lambda$new$1", desc := "(ILSequenceBench$Rig;IZ)Z" } : Jvm.MethodName) prog_2_method_4_code (5 : Nat) (Option.some Jvm.ClassFile.FieldType.boolean)) ∈ lw_all := lw_g (lw_at lw_m1 118 rfl) rfl
theorem q180 : (Jvm.Cond.methodLink "SequenceBench$Cascade" (59 : Nat) ({ cls := "SequenceBench$Rig", name := "isComplete", desc := "(I)Z" } : Jvm.MethodName)) ∈ lw_all := lw_g (lw_at lw_m1 119 rfl) rfl
theorem q181 : (Jvm.Cond.fieldLink "SequenceBench$Cascade" (7 : Nat) "SequenceBench$Cascade" "rig" "LSequenceBench$Rig;") ∈ lw_all := lw_g (lw_at lw_m1 120 rfl) rfl
theorem q182 : (Jvm.Cond.fieldLink "SequenceBench$Cascade" (35 : Nat) "SequenceBench$Cascade" "conditions" "[LSequenceBench$Condition;") ∈ lw_all := lw_g (lw_at lw_m1 121 rfl) rfl
theorem q183 : (Jvm.Cond.fieldLink "SequenceBench$Cascade" (25 : Nat) "SequenceBench$Cascade" "group" "I") ∈ lw_all := lw_g (lw_at lw_m1 122 rfl) rfl
theorem q184 : (Jvm.Cond.laysFinal "SequenceBench$Cascade" "SequenceBench$Cascade" "rig" "LSequenceBench$Rig;") ∈ lw_all := lw_g (lw_at lw_m1 123 rfl) rfl
theorem q185 : (Jvm.Cond.soleField "SequenceBench$Cascade" "rig") ∈ lw_all := lw_g (lw_at lw_m1 124 rfl) rfl
theorem q186 : (Jvm.Cond.laysFinal "SequenceBench$Cascade" "SequenceBench$Cascade" "conditions" "[LSequenceBench$Condition;") ∈ lw_all := lw_g (lw_at lw_m1 125 rfl) rfl
theorem q187 : (Jvm.Cond.soleField "SequenceBench$Cascade" "conditions") ∈ lw_all := lw_g (lw_at lw_m1 126 rfl) rfl
theorem q188 : (Jvm.Cond.lays "SequenceBench$Cascade" "SequenceBench$Cascade" "group" "I") ∈ lw_all := lw_g (lw_at lw_m1 127 rfl) rfl
theorem q189 : (Jvm.Cond.soleField "SequenceBench$Cascade" "group") ∈ lw_all := lw_g (lw_at lw_m1 128 rfl) rfl
theorem q190 : (Jvm.Cond.superclass "SequenceBench$Cascade" "java/lang/Object") ∈ lw_all := lw_g (lw_at lw_m1 129 rfl) rfl
theorem q220 : (Jvm.Cond.fieldLinkNest "SequenceBench$Cascade" (13 : Nat) "SequenceBench$Rig" "sequence" "LSequenceBench$Sequence;" "SequenceBench") ∈ lw_tbl := lw_at lw_m1 159 rfl
theorem q234 : (Jvm.Cond.fieldLinkNest "SequenceBench$Cascade" (63 : Nat) "SequenceBench$Rig" "isStarted" "Z" "SequenceBench") ∈ lw_tbl := lw_at lw_m1 173 rfl
theorem q848 : (Jvm.Cond.selects "SequenceBench$Cascade" ({ cls := "java/lang/Object", name := "getClass", desc := "()Ljava/lang/Class;" } : Jvm.MethodName) ({ cls := "java/lang/Object", name := "getClass", desc := "()Ljava/lang/Class;" } : Jvm.MethodName)) ∈ lw_all := lw_g (lw_at lw_m4 67 rfl) rfl
theorem q917 : (Jvm.Cond.fieldLinkNest "SequenceBench$Cascade" (29 : Nat) "SequenceBench$Sequence" "steps" "[LSequenceBench$Step;" "SequenceBench") ∈ lw_tbl := lw_at lw_m4 136 rfl
theorem q923 : (Jvm.Cond.fieldLinkNest "SequenceBench$Cascade" (19 : Nat) "SequenceBench$Sequence" "cuts" "[I" "SequenceBench") ∈ lw_tbl := lw_at lw_m4 142 rfl
theorem q967 : (Jvm.Cond.castable "SequenceBench$Cascade" "SequenceBench$Circuit") ∈ lw_tbl := lw_at lw_m4 186 rfl
theorem q968 : (Jvm.Cond.selects "SequenceBench$Cascade" ({ cls := "SequenceBench$Circuit", name := "active", desc := "()I" } : Jvm.MethodName) ({ cls := "SequenceBench$Cascade", name := "active", desc := "()I" } : Jvm.MethodName)) ∈ lw_all := lw_g (lw_at lw_m4 187 rfl) rfl
theorem q969 : (Jvm.Cond.unhidden "SequenceBench$Cascade" "active" "()I") ∈ lw_tbl := lw_at lw_m4 188 rfl
theorem q970 : (Jvm.Cond.instanceMethod ({ cls := "SequenceBench$Cascade", name := "active", desc := "()I" } : Jvm.MethodName)) ∈ lw_all := lw_g (lw_at lw_m4 189 rfl) rfl
theorem q971 : (Jvm.Cond.publicMethod ({ cls := "SequenceBench$Cascade", name := "active", desc := "()I" } : Jvm.MethodName)) ∈ lw_tbl := lw_at lw_m4 190 rfl
theorem q972 : (Jvm.Cond.code ({ cls := "SequenceBench$Cascade", name := "active", desc := "()I" } : Jvm.MethodName) prog_2_method_3_code (1 : Nat) (Option.some Jvm.ClassFile.FieldType.int)) ∈ lw_all := lw_g (lw_at lw_m4 191 rfl) rfl
theorem q1270 : (Jvm.Cond.selects "SequenceBench$Cascade" ({ cls := "SequenceBench$Circuit", name := "decide", desc := "()V" } : Jvm.MethodName) ({ cls := "SequenceBench$Cascade", name := "decide", desc := "()V" } : Jvm.MethodName)) ∈ lw_all := lw_g (lw_at lw_m6 9 rfl) rfl
theorem q1271 : (Jvm.Cond.unhidden "SequenceBench$Cascade" "decide" "()V") ∈ lw_tbl := lw_at lw_m6 10 rfl
theorem q1272 : (Jvm.Cond.instanceMethod ({ cls := "SequenceBench$Cascade", name := "decide", desc := "()V" } : Jvm.MethodName)) ∈ lw_all := lw_g (lw_at lw_m6 11 rfl) rfl
theorem q1273 : (Jvm.Cond.publicMethod ({ cls := "SequenceBench$Cascade", name := "decide", desc := "()V" } : Jvm.MethodName)) ∈ lw_tbl := lw_at lw_m6 12 rfl
theorem q1274 : (Jvm.Cond.code ({ cls := "SequenceBench$Cascade", name := "decide", desc := "()V" } : Jvm.MethodName) prog_2_method_2_code (4 : Nat) (Option.none : Option Jvm.ClassFile.FieldType)) ∈ lw_all := lw_g (lw_at lw_m6 13 rfl) rfl
theorem q1275 : (Jvm.Cond.methodLink "SequenceBench$Cascade" (56 : Nat) ({ cls := "SequenceBench$Sequence", name := "lastOf", desc := "(I)I" } : Jvm.MethodName)) ∈ lw_all := lw_g (lw_at lw_m6 14 rfl) rfl
theorem q1279 : (Jvm.Cond.interfaceEntry "SequenceBench$Cascade" (67 : Nat)) ∈ lw_tbl := lw_at lw_m6 18 rfl
theorem q1280 : (Jvm.Cond.methodLink "SequenceBench$Cascade" (67 : Nat) ({ cls := "SequenceBench$Condition", name := "holds", desc := "()Z" } : Jvm.MethodName)) ∈ lw_all := lw_g (lw_at lw_m6 19 rfl) rfl
theorem q1283 : (Jvm.Cond.methodLink "SequenceBench$Cascade" (70 : Nat) ({ cls := "SequenceBench$Rig", name := "command", desc := "(I)V" } : Jvm.MethodName)) ∈ lw_all := lw_g (lw_at lw_m6 22 rfl) rfl
theorem q1809 : (Jvm.Cond.castable "SequenceBench$Cascade" "java/lang/Object") ∈ lw_tbl := lw_at lw_m8 68 rfl
theorem in_X5 : ∀ w ∈ wsX50, w ∈ lw_all := lw_in wsX50 [184, 186, 188] (by decide +kernel) (by decide +kernel)

/-! SequenceBench$Stepper -/
set_option maxRecDepth 100000
def RX6 : String := "SequenceBench$Stepper"
def TX6 : u_T := fun k => match k with
  | 0 => ("SequenceBench$Stepper", "rig", "LSequenceBench$Rig;", true)
  | _ => ("SequenceBench$Stepper", "step", "I", false)
def tyX6 : Nat → FieldType := fun k => match k with
  | 0 => .object "SequenceBench$Rig"
  | _ => .int
abbrev wsX60 : List Cond := u_ws RX6 TX6 2
theorem nmX6 : ∀ a, a < 2 → ∀ b, b < 2 → a ≠ b → (TX6 a).2.1 ≠ (TX6 b).2.1 := by decide +kernel
theorem tyX6_ok : ∀ k, k < 2 → parseFieldDescriptor (TX6 k).2.2.1 = some (tyX6 k) := by decide +kernel
abbrev cX6_init : ByteArray := prog_15_method_1_code
def yX6_init : MethodName := ⟨RX6, "<init>", "(LSequenceBench$Rig;)V"⟩
def dkwX6_init_0 : List UInt8 := [42, 183, 0, 1, 42, 2, 181, 0, 7, 42, 43, 181, 0, 13, 177]
abbrev dktX6_init_0 : List UInt8 := dkwX6_init_0 ++ []
theorem dksX6_init_0 : cX6_init.data.toList.drop 0 = dktX6_init_0 := by decide +kernel
theorem dX6_init_0 : decode cX6_init 0 = .ok (.aload_n 0, 1) := dk_42 (dk_at dksX6_init_0 0 rfl rfl)
theorem dX6_init_1 : decode cX6_init 1 = .ok (.invokespecial 1, 3) := dk_183 0 1 (dk_at dksX6_init_0 1 rfl rfl)
theorem dX6_init_4 : decode cX6_init 4 = .ok (.aload_n 0, 1) := dk_42 (dk_at dksX6_init_0 4 rfl rfl)
theorem dX6_init_5 : decode cX6_init 5 = .ok (.iconst (-1), 1) := dk_2 (dk_at dksX6_init_0 5 rfl rfl)
theorem dX6_init_6 : decode cX6_init 6 = .ok (.putfield 7, 3) := dk_181 0 7 (dk_at dksX6_init_0 6 rfl rfl)
theorem dX6_init_9 : decode cX6_init 9 = .ok (.aload_n 0, 1) := dk_42 (dk_at dksX6_init_0 9 rfl rfl)
theorem dX6_init_10 : decode cX6_init 10 = .ok (.aload_n 1, 1) := dk_43 (dk_at dksX6_init_0 10 rfl rfl)
theorem dX6_init_11 : decode cX6_init 11 = .ok (.putfield 13, 3) := dk_181 0 13 (dk_at dksX6_init_0 11 rfl rfl)
theorem dX6_init_14 : decode cX6_init 14 = .ok (.return_, 1) := dk_177 (dk_at dksX6_init_0 14 rfl rfl)
abbrev cX6_active : ByteArray := prog_15_method_3_code
def yX6_active : MethodName := ⟨RX6, "active", "()I"⟩
theorem dX6_active_0 : decode cX6_active 0 = .ok (.aload_n 0, 1) := by decide +kernel
theorem dX6_active_1 : decode cX6_active 1 = .ok (.getfield 7, 3) := by decide +kernel
theorem dX6_active_4 : decode cX6_active 4 = .ok (.ireturn, 1) := by decide +kernel
abbrev cX6_decide : ByteArray := prog_15_method_2_code
def yX6_decide : MethodName := ⟨RX6, "decide", "()V"⟩
def dkwX6_decide_4 : List UInt8 := [182, 0, 37, 177]
abbrev dktX6_decide_4 : List UInt8 := dkwX6_decide_4 ++ []
def dkwX6_decide_3 : List UInt8 := [180, 0, 7, 4, 96, 181, 0, 7, 42, 180, 0, 7, 155, 0, 14, 42, 180, 0, 13, 42, 180, 0, 7]
abbrev dktX6_decide_3 : List UInt8 := dkwX6_decide_3 ++ dktX6_decide_4
def dkwX6_decide_2 : List UInt8 := [180, 0, 7, 42, 180, 0, 13, 180, 0, 27, 180, 0, 31, 190, 4, 100, 160, 0, 7, 2, 167, 0, 9, 42]
abbrev dktX6_decide_2 : List UInt8 := dkwX6_decide_2 ++ dktX6_decide_3
def dkwX6_decide_1 : List UInt8 := [181, 0, 7, 167, 0, 51, 42, 180, 0, 13, 42, 180, 0, 7, 182, 0, 23, 153, 0, 37, 42, 42]
abbrev dktX6_decide_1 : List UInt8 := dkwX6_decide_1 ++ dktX6_decide_2
def dkwX6_decide_0 : List UInt8 := [42, 180, 0, 7, 156, 0, 25, 42, 42, 180, 0, 13, 180, 0, 17, 153, 0, 7, 3, 167, 0, 4, 2]
abbrev dktX6_decide_0 : List UInt8 := dkwX6_decide_0 ++ dktX6_decide_1
theorem dksX6_decide_0 : cX6_decide.data.toList.drop 0 = dktX6_decide_0 := by decide +kernel
theorem dksX6_decide_1 : cX6_decide.data.toList.drop 23 = dktX6_decide_1 := dk_seg dksX6_decide_0 23 rfl rfl
theorem dksX6_decide_2 : cX6_decide.data.toList.drop 45 = dktX6_decide_2 := dk_seg dksX6_decide_1 22 rfl rfl
theorem dksX6_decide_3 : cX6_decide.data.toList.drop 69 = dktX6_decide_3 := dk_seg dksX6_decide_2 24 rfl rfl
theorem dksX6_decide_4 : cX6_decide.data.toList.drop 92 = dktX6_decide_4 := dk_seg dksX6_decide_3 23 rfl rfl
theorem dX6_decide_0 : decode cX6_decide 0 = .ok (.aload_n 0, 1) := dk_42 (dk_at dksX6_decide_0 0 rfl rfl)
theorem dX6_decide_1 : decode cX6_decide 1 = .ok (.getfield 7, 3) := dk_180 0 7 (dk_at dksX6_decide_0 1 rfl rfl)
theorem dX6_decide_4 : decode cX6_decide 4 = .ok (.ifCond .ge 25, 3) := dk_156 0 25 (dk_at dksX6_decide_0 4 rfl rfl)
theorem dX6_decide_7 : decode cX6_decide 7 = .ok (.aload_n 0, 1) := dk_42 (dk_at dksX6_decide_0 7 rfl rfl)
theorem dX6_decide_8 : decode cX6_decide 8 = .ok (.aload_n 0, 1) := dk_42 (dk_at dksX6_decide_0 8 rfl rfl)
theorem dX6_decide_9 : decode cX6_decide 9 = .ok (.getfield 13, 3) := dk_180 0 13 (dk_at dksX6_decide_0 9 rfl rfl)
theorem dX6_decide_12 : decode cX6_decide 12 = .ok (.getfield 17, 3) := dk_180 0 17 (dk_at dksX6_decide_0 12 rfl rfl)
theorem dX6_decide_15 : decode cX6_decide 15 = .ok (.ifCond .eq 7, 3) := dk_153 0 7 (dk_at dksX6_decide_0 15 rfl rfl)
theorem dX6_decide_18 : decode cX6_decide 18 = .ok (.iconst 0, 1) := dk_3 (dk_at dksX6_decide_0 18 rfl rfl)
theorem dX6_decide_19 : decode cX6_decide 19 = .ok (.goto 4, 3) := dk_167 0 4 (dk_at dksX6_decide_0 19 rfl rfl)
theorem dX6_decide_22 : decode cX6_decide 22 = .ok (.iconst (-1), 1) := dk_2 (dk_at dksX6_decide_0 22 rfl rfl)
theorem dX6_decide_23 : decode cX6_decide 23 = .ok (.putfield 7, 3) := dk_181 0 7 (dk_at dksX6_decide_1 0 rfl rfl)
theorem dX6_decide_26 : decode cX6_decide 26 = .ok (.goto 51, 3) := dk_167 0 51 (dk_at dksX6_decide_1 3 rfl rfl)
theorem dX6_decide_29 : decode cX6_decide 29 = .ok (.aload_n 0, 1) := dk_42 (dk_at dksX6_decide_1 6 rfl rfl)
theorem dX6_decide_30 : decode cX6_decide 30 = .ok (.getfield 13, 3) := dk_180 0 13 (dk_at dksX6_decide_1 7 rfl rfl)
theorem dX6_decide_33 : decode cX6_decide 33 = .ok (.aload_n 0, 1) := dk_42 (dk_at dksX6_decide_1 10 rfl rfl)
theorem dX6_decide_34 : decode cX6_decide 34 = .ok (.getfield 7, 3) := dk_180 0 7 (dk_at dksX6_decide_1 11 rfl rfl)
theorem dX6_decide_37 : decode cX6_decide 37 = .ok (.invokevirtual 23, 3) := dk_182 0 23 (dk_at dksX6_decide_1 14 rfl rfl)
theorem dX6_decide_40 : decode cX6_decide 40 = .ok (.ifCond .eq 37, 3) := dk_153 0 37 (dk_at dksX6_decide_1 17 rfl rfl)
theorem dX6_decide_43 : decode cX6_decide 43 = .ok (.aload_n 0, 1) := dk_42 (dk_at dksX6_decide_1 20 rfl rfl)
theorem dX6_decide_44 : decode cX6_decide 44 = .ok (.aload_n 0, 1) := dk_42 (dk_at dksX6_decide_1 21 rfl rfl)
theorem dX6_decide_45 : decode cX6_decide 45 = .ok (.getfield 7, 3) := dk_180 0 7 (dk_at dksX6_decide_2 0 rfl rfl)
theorem dX6_decide_48 : decode cX6_decide 48 = .ok (.aload_n 0, 1) := dk_42 (dk_at dksX6_decide_2 3 rfl rfl)
theorem dX6_decide_49 : decode cX6_decide 49 = .ok (.getfield 13, 3) := dk_180 0 13 (dk_at dksX6_decide_2 4 rfl rfl)
theorem dX6_decide_52 : decode cX6_decide 52 = .ok (.getfield 27, 3) := dk_180 0 27 (dk_at dksX6_decide_2 7 rfl rfl)
theorem dX6_decide_55 : decode cX6_decide 55 = .ok (.getfield 31, 3) := dk_180 0 31 (dk_at dksX6_decide_2 10 rfl rfl)
theorem dX6_decide_58 : decode cX6_decide 58 = .ok (.arraylength, 1) := dk_190 (dk_at dksX6_decide_2 13 rfl rfl)
theorem dX6_decide_59 : decode cX6_decide 59 = .ok (.iconst 1, 1) := dk_4 (dk_at dksX6_decide_2 14 rfl rfl)
theorem dX6_decide_60 : decode cX6_decide 60 = .ok (.isub, 1) := dk_100 (dk_at dksX6_decide_2 15 rfl rfl)
theorem dX6_decide_61 : decode cX6_decide 61 = .ok (.if_icmp .ne 7, 3) := dk_160 0 7 (dk_at dksX6_decide_2 16 rfl rfl)
theorem dX6_decide_64 : decode cX6_decide 64 = .ok (.iconst (-1), 1) := dk_2 (dk_at dksX6_decide_2 19 rfl rfl)
theorem dX6_decide_65 : decode cX6_decide 65 = .ok (.goto 9, 3) := dk_167 0 9 (dk_at dksX6_decide_2 20 rfl rfl)
theorem dX6_decide_68 : decode cX6_decide 68 = .ok (.aload_n 0, 1) := dk_42 (dk_at dksX6_decide_2 23 rfl rfl)
theorem dX6_decide_69 : decode cX6_decide 69 = .ok (.getfield 7, 3) := dk_180 0 7 (dk_at dksX6_decide_3 0 rfl rfl)
theorem dX6_decide_72 : decode cX6_decide 72 = .ok (.iconst 1, 1) := dk_4 (dk_at dksX6_decide_3 3 rfl rfl)
theorem dX6_decide_73 : decode cX6_decide 73 = .ok (.iadd, 1) := dk_96 (dk_at dksX6_decide_3 4 rfl rfl)
theorem dX6_decide_74 : decode cX6_decide 74 = .ok (.putfield 7, 3) := dk_181 0 7 (dk_at dksX6_decide_3 5 rfl rfl)
theorem dX6_decide_77 : decode cX6_decide 77 = .ok (.aload_n 0, 1) := dk_42 (dk_at dksX6_decide_3 8 rfl rfl)
theorem dX6_decide_78 : decode cX6_decide 78 = .ok (.getfield 7, 3) := dk_180 0 7 (dk_at dksX6_decide_3 9 rfl rfl)
theorem dX6_decide_81 : decode cX6_decide 81 = .ok (.ifCond .lt 14, 3) := dk_155 0 14 (dk_at dksX6_decide_3 12 rfl rfl)
theorem dX6_decide_84 : decode cX6_decide 84 = .ok (.aload_n 0, 1) := dk_42 (dk_at dksX6_decide_3 15 rfl rfl)
theorem dX6_decide_85 : decode cX6_decide 85 = .ok (.getfield 13, 3) := dk_180 0 13 (dk_at dksX6_decide_3 16 rfl rfl)
theorem dX6_decide_88 : decode cX6_decide 88 = .ok (.aload_n 0, 1) := dk_42 (dk_at dksX6_decide_3 19 rfl rfl)
theorem dX6_decide_89 : decode cX6_decide 89 = .ok (.getfield 7, 3) := dk_180 0 7 (dk_at dksX6_decide_3 20 rfl rfl)
theorem dX6_decide_92 : decode cX6_decide 92 = .ok (.invokevirtual 37, 3) := dk_182 0 37 (dk_at dksX6_decide_4 0 rfl rfl)
theorem dX6_decide_95 : decode cX6_decide 95 = .ok (.return_, 1) := dk_177 (dk_at dksX6_decide_4 3 rfl rfl)
theorem q68 : (Jvm.Cond.initialized "SequenceBench$Stepper") ∈ lw_all := lw_g (lw_at lw_m1 7 rfl) rfl
theorem q195 : (Jvm.Cond.instantiable "SequenceBench$Stepper" (2 : Nat)) ∈ lw_all := lw_g (lw_at lw_m1 134 rfl) rfl
theorem q197 : (Jvm.Cond.instanceMethod ({ cls := "SequenceBench$Stepper", name := "<init>", desc := "(LSequenceBench$Rig;)V" } : Jvm.MethodName)) ∈ lw_all := lw_g (lw_at lw_m1 136 rfl) rfl
theorem q198 : (Jvm.Cond.code ({ cls := "SequenceBench$Stepper", name := "<init>", desc := "(LSequenceBench$Rig;)V" } : Jvm.MethodName) prog_15_method_1_code (2 : Nat) (Option.none : Option Jvm.ClassFile.FieldType)) ∈ lw_all := lw_g (lw_at lw_m1 137 rfl) rfl
theorem q199 : (Jvm.Cond.methodLink "SequenceBench$Stepper" (1 : Nat) ({ cls := "java/lang/Object", name := "<init>", desc := "()V" } : Jvm.MethodName)) ∈ lw_all := lw_g (lw_at lw_m1 138 rfl) rfl
theorem q200 : (Jvm.Cond.fieldLink "SequenceBench$Stepper" (13 : Nat) "SequenceBench$Stepper" "rig" "LSequenceBench$Rig;") ∈ lw_all := lw_g (lw_at lw_m1 139 rfl) rfl
theorem q201 : (Jvm.Cond.fieldLink "SequenceBench$Stepper" (7 : Nat) "SequenceBench$Stepper" "step" "I") ∈ lw_all := lw_g (lw_at lw_m1 140 rfl) rfl
theorem q202 : (Jvm.Cond.laysFinal "SequenceBench$Stepper" "SequenceBench$Stepper" "rig" "LSequenceBench$Rig;") ∈ lw_all := lw_g (lw_at lw_m1 141 rfl) rfl
theorem q203 : (Jvm.Cond.soleField "SequenceBench$Stepper" "rig") ∈ lw_all := lw_g (lw_at lw_m1 142 rfl) rfl
theorem q204 : (Jvm.Cond.lays "SequenceBench$Stepper" "SequenceBench$Stepper" "step" "I") ∈ lw_all := lw_g (lw_at lw_m1 143 rfl) rfl
theorem q205 : (Jvm.Cond.soleField "SequenceBench$Stepper" "step") ∈ lw_all := lw_g (lw_at lw_m1 144 rfl) rfl
theorem q206 : (Jvm.Cond.superclass "SequenceBench$Stepper" "java/lang/Object") ∈ lw_all := lw_g (lw_at lw_m1 145 rfl) rfl
theorem q222 : (Jvm.Cond.fieldLinkNest "SequenceBench$Stepper" (27 : Nat) "SequenceBench$Rig" "sequence" "LSequenceBench$Sequence;" "SequenceBench") ∈ lw_tbl := lw_at lw_m1 161 rfl
theorem q233 : (Jvm.Cond.fieldLinkNest "SequenceBench$Stepper" (17 : Nat) "SequenceBench$Rig" "isStarted" "Z" "SequenceBench") ∈ lw_tbl := lw_at lw_m1 172 rfl
theorem q858 : (Jvm.Cond.selects "SequenceBench$Stepper" ({ cls := "java/lang/Object", name := "getClass", desc := "()Ljava/lang/Class;" } : Jvm.MethodName) ({ cls := "java/lang/Object", name := "getClass", desc := "()Ljava/lang/Class;" } : Jvm.MethodName)) ∈ lw_all := lw_g (lw_at lw_m4 77 rfl) rfl
theorem q919 : (Jvm.Cond.fieldLinkNest "SequenceBench$Stepper" (31 : Nat) "SequenceBench$Sequence" "steps" "[LSequenceBench$Step;" "SequenceBench") ∈ lw_tbl := lw_at lw_m4 138 rfl
theorem q979 : (Jvm.Cond.castable "SequenceBench$Stepper" "SequenceBench$Circuit") ∈ lw_tbl := lw_at lw_m4 198 rfl
theorem q980 : (Jvm.Cond.selects "SequenceBench$Stepper" ({ cls := "SequenceBench$Circuit", name := "active", desc := "()I" } : Jvm.MethodName) ({ cls := "SequenceBench$Stepper", name := "active", desc := "()I" } : Jvm.MethodName)) ∈ lw_all := lw_g (lw_at lw_m4 199 rfl) rfl
theorem q981 : (Jvm.Cond.unhidden "SequenceBench$Stepper" "active" "()I") ∈ lw_tbl := lw_at lw_m4 200 rfl
theorem q982 : (Jvm.Cond.instanceMethod ({ cls := "SequenceBench$Stepper", name := "active", desc := "()I" } : Jvm.MethodName)) ∈ lw_all := lw_g (lw_at lw_m4 201 rfl) rfl
theorem q983 : (Jvm.Cond.publicMethod ({ cls := "SequenceBench$Stepper", name := "active", desc := "()I" } : Jvm.MethodName)) ∈ lw_tbl := lw_at lw_m4 202 rfl
theorem q984 : (Jvm.Cond.code ({ cls := "SequenceBench$Stepper", name := "active", desc := "()I" } : Jvm.MethodName) prog_15_method_3_code (1 : Nat) (Option.some Jvm.ClassFile.FieldType.int)) ∈ lw_all := lw_g (lw_at lw_m4 203 rfl) rfl
theorem q1295 : (Jvm.Cond.selects "SequenceBench$Stepper" ({ cls := "SequenceBench$Circuit", name := "decide", desc := "()V" } : Jvm.MethodName) ({ cls := "SequenceBench$Stepper", name := "decide", desc := "()V" } : Jvm.MethodName)) ∈ lw_all := lw_g (lw_at lw_m6 34 rfl) rfl
theorem q1296 : (Jvm.Cond.unhidden "SequenceBench$Stepper" "decide" "()V") ∈ lw_tbl := lw_at lw_m6 35 rfl
theorem q1297 : (Jvm.Cond.instanceMethod ({ cls := "SequenceBench$Stepper", name := "decide", desc := "()V" } : Jvm.MethodName)) ∈ lw_all := lw_g (lw_at lw_m6 36 rfl) rfl
theorem q1298 : (Jvm.Cond.publicMethod ({ cls := "SequenceBench$Stepper", name := "decide", desc := "()V" } : Jvm.MethodName)) ∈ lw_tbl := lw_at lw_m6 37 rfl
theorem q1299 : (Jvm.Cond.code ({ cls := "SequenceBench$Stepper", name := "decide", desc := "()V" } : Jvm.MethodName) prog_15_method_2_code (1 : Nat) (Option.none : Option Jvm.ClassFile.FieldType)) ∈ lw_all := lw_g (lw_at lw_m6 38 rfl) rfl
theorem q1300 : (Jvm.Cond.methodLink "SequenceBench$Stepper" (23 : Nat) ({ cls := "SequenceBench$Rig", name := "isComplete", desc := "(I)Z" } : Jvm.MethodName)) ∈ lw_all := lw_g (lw_at lw_m6 39 rfl) rfl
theorem q1301 : (Jvm.Cond.methodLink "SequenceBench$Stepper" (37 : Nat) ({ cls := "SequenceBench$Rig", name := "command", desc := "(I)V" } : Jvm.MethodName)) ∈ lw_all := lw_g (lw_at lw_m6 40 rfl) rfl
theorem q1824 : (Jvm.Cond.castable "SequenceBench$Stepper" "java/lang/Object") ∈ lw_tbl := lw_at lw_m8 83 rfl
theorem in_X6 : ∀ w ∈ wsX60, w ∈ lw_all := lw_in wsX60 [202, 204] (by decide +kernel) (by decide +kernel)

/-! SequenceBench$Reader -/
set_option maxRecDepth 100000
def RX8 : String := "SequenceBench$Reader"
def TX8 : u_T := fun k => match k with
  | 0 => ("SequenceBench$Reader", "steps", "Ljava/util/ArrayList;", true)
  | 1 => ("SequenceBench$Reader", "wrongMove", "LSequenceBench$SequenceError;", false)
  | 2 => ("SequenceBench$Reader", "at", "I", false)
  | 3 => ("SequenceBench$Reader", "out", "I", false)
  | 4 => ("SequenceBench$Reader", "plus", "I", false)
  | 5 => ("SequenceBench$Reader", "minus", "I", false)
  | _ => ("SequenceBench$Reader", "this$0", "LSequenceBench;", true)
def tyX8 : Nat → FieldType := fun k => match k with
  | 0 => .object "java/util/ArrayList"
  | 1 => .object "SequenceBench$SequenceError"
  | 2 => .int
  | 3 => .int
  | 4 => .int
  | 5 => .int
  | _ => .object "SequenceBench"
abbrev wsX80 : List Cond := u_ws RX8 TX8 7
theorem nmX8 : ∀ a, a < 7 → ∀ b, b < 7 → a ≠ b → (TX8 a).2.1 ≠ (TX8 b).2.1 := by decide +kernel
theorem tyX8_ok : ∀ k, k < 7 → parseFieldDescriptor (TX8 k).2.2.1 = some (tyX8 k) := by decide +kernel
abbrev cX8_init : ByteArray := prog_10_method_1_code
def yX8_init : MethodName := ⟨RX8, "<init>", "(LSequenceBench;)V"⟩
def dkwX8_init_0 : List UInt8 := [42, 43, 181, 0, 3, 42, 183, 0, 9, 42, 187, 0, 15, 89, 16, 16, 183, 0, 17, 181, 0, 20, 177]
abbrev dktX8_init_0 : List UInt8 := dkwX8_init_0 ++ []
theorem dksX8_init_0 : cX8_init.data.toList.drop 0 = dktX8_init_0 := by decide +kernel
theorem dX8_init_0 : decode cX8_init 0 = .ok (.aload_n 0, 1) := dk_42 (dk_at dksX8_init_0 0 rfl rfl)
theorem dX8_init_1 : decode cX8_init 1 = .ok (.aload_n 1, 1) := dk_43 (dk_at dksX8_init_0 1 rfl rfl)
theorem dX8_init_2 : decode cX8_init 2 = .ok (.putfield 3, 3) := dk_181 0 3 (dk_at dksX8_init_0 2 rfl rfl)
theorem dX8_init_5 : decode cX8_init 5 = .ok (.aload_n 0, 1) := dk_42 (dk_at dksX8_init_0 5 rfl rfl)
theorem dX8_init_6 : decode cX8_init 6 = .ok (.invokespecial 9, 3) := dk_183 0 9 (dk_at dksX8_init_0 6 rfl rfl)
theorem dX8_init_9 : decode cX8_init 9 = .ok (.aload_n 0, 1) := dk_42 (dk_at dksX8_init_0 9 rfl rfl)
theorem dX8_init_10 : decode cX8_init 10 = .ok (.new 15, 3) := dk_187 0 15 (dk_at dksX8_init_0 10 rfl rfl)
theorem dX8_init_13 : decode cX8_init 13 = .ok (.dup, 1) := dk_89 (dk_at dksX8_init_0 13 rfl rfl)
theorem dX8_init_14 : decode cX8_init 14 = .ok (.bipush 16, 2) := dk_16 16 (dk_at dksX8_init_0 14 rfl rfl)
theorem dX8_init_16 : decode cX8_init 16 = .ok (.invokespecial 17, 3) := dk_183 0 17 (dk_at dksX8_init_0 16 rfl rfl)
theorem dX8_init_19 : decode cX8_init 19 = .ok (.putfield 20, 3) := dk_181 0 20 (dk_at dksX8_init_0 19 rfl rfl)
theorem dX8_init_22 : decode cX8_init 22 = .ok (.return_, 1) := dk_177 (dk_at dksX8_init_0 22 rfl rfl)
abbrev cX8_read : ByteArray := prog_10_method_9_code
def yX8_read : MethodName := ⟨RX8, "read", "()LSequenceBench$Sequence;"⟩
def dkwX8_read_4 : List UInt8 := [180, 0, 3, 180, 0, 28, 183, 0, 37, 191, 187, 0, 115, 89, 42, 180, 0, 20, 183, 0, 117, 176]
abbrev dktX8_read_4 : List UInt8 := dkwX8_read_4 ++ []
def dkwX8_read_3 : List UInt8 := [132, 2, 1, 167, 255, 225, 42, 180, 0, 74, 154, 0, 7, 27, 154, 0, 19, 187, 0, 35, 89, 6, 42]
abbrev dktX8_read_3 : List UInt8 := dkwX8_read_3 ++ dktX8_read_4
def dkwX8_read_2 : List UInt8 := [182, 0, 86, 162, 0, 26, 27, 42, 180, 0, 20, 28, 182, 0, 108, 192, 0, 96, 182, 0, 112, 128, 60]
abbrev dktX8_read_2 : List UInt8 := dkwX8_read_2 ++ dktX8_read_3
def dkwX8_read_1 : List UInt8 := [167, 255, 238, 42, 180, 0, 60, 198, 0, 8, 42, 180, 0, 60, 191, 3, 60, 3, 61, 28, 42, 180, 0, 20]
abbrev dktX8_read_1 : List UInt8 := dkwX8_read_1 ++ dktX8_read_2
def dkwX8_read_0 : List UInt8 := [42, 182, 0, 105, 42, 180, 0, 24, 42, 180, 0, 3, 180, 0, 28, 162, 0, 10, 42, 182, 0, 105]
abbrev dktX8_read_0 : List UInt8 := dkwX8_read_0 ++ dktX8_read_1
theorem dksX8_read_0 : cX8_read.data.toList.drop 0 = dktX8_read_0 := by decide +kernel
theorem dksX8_read_1 : cX8_read.data.toList.drop 22 = dktX8_read_1 := dk_seg dksX8_read_0 22 rfl rfl
theorem dksX8_read_2 : cX8_read.data.toList.drop 46 = dktX8_read_2 := dk_seg dksX8_read_1 24 rfl rfl
theorem dksX8_read_3 : cX8_read.data.toList.drop 69 = dktX8_read_3 := dk_seg dksX8_read_2 23 rfl rfl
theorem dksX8_read_4 : cX8_read.data.toList.drop 92 = dktX8_read_4 := dk_seg dksX8_read_3 23 rfl rfl
theorem dX8_read_0 : decode cX8_read 0 = .ok (.aload_n 0, 1) := dk_42 (dk_at dksX8_read_0 0 rfl rfl)
theorem dX8_read_1 : decode cX8_read 1 = .ok (.invokevirtual 105, 3) := dk_182 0 105 (dk_at dksX8_read_0 1 rfl rfl)
theorem dX8_read_4 : decode cX8_read 4 = .ok (.aload_n 0, 1) := dk_42 (dk_at dksX8_read_0 4 rfl rfl)
theorem dX8_read_5 : decode cX8_read 5 = .ok (.getfield 24, 3) := dk_180 0 24 (dk_at dksX8_read_0 5 rfl rfl)
theorem dX8_read_8 : decode cX8_read 8 = .ok (.aload_n 0, 1) := dk_42 (dk_at dksX8_read_0 8 rfl rfl)
theorem dX8_read_9 : decode cX8_read 9 = .ok (.getfield 3, 3) := dk_180 0 3 (dk_at dksX8_read_0 9 rfl rfl)
theorem dX8_read_12 : decode cX8_read 12 = .ok (.getfield 28, 3) := dk_180 0 28 (dk_at dksX8_read_0 12 rfl rfl)
theorem dX8_read_15 : decode cX8_read 15 = .ok (.if_icmp .ge 10, 3) := dk_162 0 10 (dk_at dksX8_read_0 15 rfl rfl)
theorem dX8_read_18 : decode cX8_read 18 = .ok (.aload_n 0, 1) := dk_42 (dk_at dksX8_read_0 18 rfl rfl)
theorem dX8_read_19 : decode cX8_read 19 = .ok (.invokevirtual 105, 3) := dk_182 0 105 (dk_at dksX8_read_0 19 rfl rfl)
theorem dX8_read_22 : decode cX8_read 22 = .ok (.goto (-18), 3) := dk_167 255 238 (dk_at dksX8_read_1 0 rfl rfl)
theorem dX8_read_25 : decode cX8_read 25 = .ok (.aload_n 0, 1) := dk_42 (dk_at dksX8_read_1 3 rfl rfl)
theorem dX8_read_26 : decode cX8_read 26 = .ok (.getfield 60, 3) := dk_180 0 60 (dk_at dksX8_read_1 4 rfl rfl)
theorem dX8_read_29 : decode cX8_read 29 = .ok (.ifnull 8, 3) := dk_198 0 8 (dk_at dksX8_read_1 7 rfl rfl)
theorem dX8_read_32 : decode cX8_read 32 = .ok (.aload_n 0, 1) := dk_42 (dk_at dksX8_read_1 10 rfl rfl)
theorem dX8_read_33 : decode cX8_read 33 = .ok (.getfield 60, 3) := dk_180 0 60 (dk_at dksX8_read_1 11 rfl rfl)
theorem dX8_read_36 : decode cX8_read 36 = .ok (.athrow, 1) := dk_191 (dk_at dksX8_read_1 14 rfl rfl)
theorem dX8_read_37 : decode cX8_read 37 = .ok (.iconst 0, 1) := dk_3 (dk_at dksX8_read_1 15 rfl rfl)
theorem dX8_read_38 : decode cX8_read 38 = .ok (.istore_n 1, 1) := dk_60 (dk_at dksX8_read_1 16 rfl rfl)
theorem dX8_read_39 : decode cX8_read 39 = .ok (.iconst 0, 1) := dk_3 (dk_at dksX8_read_1 17 rfl rfl)
theorem dX8_read_40 : decode cX8_read 40 = .ok (.istore_n 2, 1) := dk_61 (dk_at dksX8_read_1 18 rfl rfl)
theorem dX8_read_41 : decode cX8_read 41 = .ok (.iload_n 2, 1) := dk_28 (dk_at dksX8_read_1 19 rfl rfl)
theorem dX8_read_42 : decode cX8_read 42 = .ok (.aload_n 0, 1) := dk_42 (dk_at dksX8_read_1 20 rfl rfl)
theorem dX8_read_43 : decode cX8_read 43 = .ok (.getfield 20, 3) := dk_180 0 20 (dk_at dksX8_read_1 21 rfl rfl)
theorem dX8_read_46 : decode cX8_read 46 = .ok (.invokevirtual 86, 3) := dk_182 0 86 (dk_at dksX8_read_2 0 rfl rfl)
theorem dX8_read_49 : decode cX8_read 49 = .ok (.if_icmp .ge 26, 3) := dk_162 0 26 (dk_at dksX8_read_2 3 rfl rfl)
theorem dX8_read_52 : decode cX8_read 52 = .ok (.iload_n 1, 1) := dk_27 (dk_at dksX8_read_2 6 rfl rfl)
theorem dX8_read_53 : decode cX8_read 53 = .ok (.aload_n 0, 1) := dk_42 (dk_at dksX8_read_2 7 rfl rfl)
theorem dX8_read_54 : decode cX8_read 54 = .ok (.getfield 20, 3) := dk_180 0 20 (dk_at dksX8_read_2 8 rfl rfl)
theorem dX8_read_57 : decode cX8_read 57 = .ok (.iload_n 2, 1) := dk_28 (dk_at dksX8_read_2 11 rfl rfl)
theorem dX8_read_58 : decode cX8_read 58 = .ok (.invokevirtual 108, 3) := dk_182 0 108 (dk_at dksX8_read_2 12 rfl rfl)
theorem dX8_read_61 : decode cX8_read 61 = .ok (.checkcast 96, 3) := dk_192 0 96 (dk_at dksX8_read_2 15 rfl rfl)
theorem dX8_read_64 : decode cX8_read 64 = .ok (.invokevirtual 112, 3) := dk_182 0 112 (dk_at dksX8_read_2 18 rfl rfl)
theorem dX8_read_67 : decode cX8_read 67 = .ok (.ior, 1) := dk_128 (dk_at dksX8_read_2 21 rfl rfl)
theorem dX8_read_68 : decode cX8_read 68 = .ok (.istore_n 1, 1) := dk_60 (dk_at dksX8_read_2 22 rfl rfl)
theorem dX8_read_69 : decode cX8_read 69 = .ok (.iinc 2 1, 3) := dk_132 2 1 (dk_at dksX8_read_3 0 rfl rfl)
theorem dX8_read_72 : decode cX8_read 72 = .ok (.goto (-31), 3) := dk_167 255 225 (dk_at dksX8_read_3 3 rfl rfl)
theorem dX8_read_75 : decode cX8_read 75 = .ok (.aload_n 0, 1) := dk_42 (dk_at dksX8_read_3 6 rfl rfl)
theorem dX8_read_76 : decode cX8_read 76 = .ok (.getfield 74, 3) := dk_180 0 74 (dk_at dksX8_read_3 7 rfl rfl)
theorem dX8_read_79 : decode cX8_read 79 = .ok (.ifCond .ne 7, 3) := dk_154 0 7 (dk_at dksX8_read_3 10 rfl rfl)
theorem dX8_read_82 : decode cX8_read 82 = .ok (.iload_n 1, 1) := dk_27 (dk_at dksX8_read_3 13 rfl rfl)
theorem dX8_read_83 : decode cX8_read 83 = .ok (.ifCond .ne 19, 3) := dk_154 0 19 (dk_at dksX8_read_3 14 rfl rfl)
theorem dX8_read_86 : decode cX8_read 86 = .ok (.new 35, 3) := dk_187 0 35 (dk_at dksX8_read_3 17 rfl rfl)
theorem dX8_read_89 : decode cX8_read 89 = .ok (.dup, 1) := dk_89 (dk_at dksX8_read_3 20 rfl rfl)
theorem dX8_read_90 : decode cX8_read 90 = .ok (.iconst 3, 1) := dk_6 (dk_at dksX8_read_3 21 rfl rfl)
theorem dX8_read_91 : decode cX8_read 91 = .ok (.aload_n 0, 1) := dk_42 (dk_at dksX8_read_3 22 rfl rfl)
theorem dX8_read_92 : decode cX8_read 92 = .ok (.getfield 3, 3) := dk_180 0 3 (dk_at dksX8_read_4 0 rfl rfl)
theorem dX8_read_95 : decode cX8_read 95 = .ok (.getfield 28, 3) := dk_180 0 28 (dk_at dksX8_read_4 3 rfl rfl)
theorem dX8_read_98 : decode cX8_read 98 = .ok (.invokespecial 37, 3) := dk_183 0 37 (dk_at dksX8_read_4 6 rfl rfl)
theorem dX8_read_101 : decode cX8_read 101 = .ok (.athrow, 1) := dk_191 (dk_at dksX8_read_4 9 rfl rfl)
theorem dX8_read_102 : decode cX8_read 102 = .ok (.new 115, 3) := dk_187 0 115 (dk_at dksX8_read_4 10 rfl rfl)
theorem dX8_read_105 : decode cX8_read 105 = .ok (.dup, 1) := dk_89 (dk_at dksX8_read_4 13 rfl rfl)
theorem dX8_read_106 : decode cX8_read 106 = .ok (.aload_n 0, 1) := dk_42 (dk_at dksX8_read_4 14 rfl rfl)
theorem dX8_read_107 : decode cX8_read 107 = .ok (.getfield 20, 3) := dk_180 0 20 (dk_at dksX8_read_4 15 rfl rfl)
theorem dX8_read_110 : decode cX8_read 110 = .ok (.invokespecial 117, 3) := dk_183 0 117 (dk_at dksX8_read_4 18 rfl rfl)
theorem dX8_read_113 : decode cX8_read 113 = .ok (.areturn, 1) := dk_176 (dk_at dksX8_read_4 21 rfl rfl)
abbrev cX8_step : ByteArray := prog_10_method_8_code
def yX8_step : MethodName := ⟨RX8, "step", "()V"⟩
def dkwX8_step_4 : List UInt8 := [187, 0, 96, 89, 42, 180, 0, 64, 42, 180, 0, 67, 27, 183, 0, 98, 182, 0, 101, 87, 177]
abbrev dktX8_step_4 : List UInt8 := dkwX8_step_4 ++ []
def dkwX8_step_3 : List UInt8 := [42, 42, 180, 0, 74, 42, 180, 0, 64, 128, 42, 180, 0, 67, 2, 130, 126, 181, 0, 74, 42, 180, 0, 20]
abbrev dktX8_step_3 : List UInt8 := dkwX8_step_3 ++ dktX8_step_4
def dkwX8_step_2 : List UInt8 := [167, 0, 24, 42, 182, 0, 40, 16, 84, 160, 0, 11, 42, 182, 0, 93, 60, 167, 0, 7, 42, 182, 0, 83]
abbrev dktX8_step_2 : List UInt8 := dkwX8_step_2 ++ dktX8_step_3
def dkwX8_step_1 : List UInt8 := [181, 0, 64, 42, 3, 181, 0, 67, 3, 60, 42, 182, 0, 40, 16, 40, 160, 0, 10, 42, 182, 0, 90]
abbrev dktX8_step_1 : List UInt8 := dkwX8_step_1 ++ dktX8_step_2
def dkwX8_step_0 : List UInt8 := [42, 42, 180, 0, 20, 182, 0, 86, 16, 16, 162, 0, 7, 4, 167, 0, 4, 3, 182, 0, 56, 42, 3]
abbrev dktX8_step_0 : List UInt8 := dkwX8_step_0 ++ dktX8_step_1
theorem dksX8_step_0 : cX8_step.data.toList.drop 0 = dktX8_step_0 := by decide +kernel
theorem dksX8_step_1 : cX8_step.data.toList.drop 23 = dktX8_step_1 := dk_seg dksX8_step_0 23 rfl rfl
theorem dksX8_step_2 : cX8_step.data.toList.drop 46 = dktX8_step_2 := dk_seg dksX8_step_1 23 rfl rfl
theorem dksX8_step_3 : cX8_step.data.toList.drop 70 = dktX8_step_3 := dk_seg dksX8_step_2 24 rfl rfl
theorem dksX8_step_4 : cX8_step.data.toList.drop 94 = dktX8_step_4 := dk_seg dksX8_step_3 24 rfl rfl
theorem dX8_step_0 : decode cX8_step 0 = .ok (.aload_n 0, 1) := dk_42 (dk_at dksX8_step_0 0 rfl rfl)
theorem dX8_step_1 : decode cX8_step 1 = .ok (.aload_n 0, 1) := dk_42 (dk_at dksX8_step_0 1 rfl rfl)
theorem dX8_step_2 : decode cX8_step 2 = .ok (.getfield 20, 3) := dk_180 0 20 (dk_at dksX8_step_0 2 rfl rfl)
theorem dX8_step_5 : decode cX8_step 5 = .ok (.invokevirtual 86, 3) := dk_182 0 86 (dk_at dksX8_step_0 5 rfl rfl)
theorem dX8_step_8 : decode cX8_step 8 = .ok (.bipush 16, 2) := dk_16 16 (dk_at dksX8_step_0 8 rfl rfl)
theorem dX8_step_10 : decode cX8_step 10 = .ok (.if_icmp .ge 7, 3) := dk_162 0 7 (dk_at dksX8_step_0 10 rfl rfl)
theorem dX8_step_13 : decode cX8_step 13 = .ok (.iconst 1, 1) := dk_4 (dk_at dksX8_step_0 13 rfl rfl)
theorem dX8_step_14 : decode cX8_step 14 = .ok (.goto 4, 3) := dk_167 0 4 (dk_at dksX8_step_0 14 rfl rfl)
theorem dX8_step_17 : decode cX8_step 17 = .ok (.iconst 0, 1) := dk_3 (dk_at dksX8_step_0 17 rfl rfl)
theorem dX8_step_18 : decode cX8_step 18 = .ok (.invokevirtual 56, 3) := dk_182 0 56 (dk_at dksX8_step_0 18 rfl rfl)
theorem dX8_step_21 : decode cX8_step 21 = .ok (.aload_n 0, 1) := dk_42 (dk_at dksX8_step_0 21 rfl rfl)
theorem dX8_step_22 : decode cX8_step 22 = .ok (.iconst 0, 1) := dk_3 (dk_at dksX8_step_0 22 rfl rfl)
theorem dX8_step_23 : decode cX8_step 23 = .ok (.putfield 64, 3) := dk_181 0 64 (dk_at dksX8_step_1 0 rfl rfl)
theorem dX8_step_26 : decode cX8_step 26 = .ok (.aload_n 0, 1) := dk_42 (dk_at dksX8_step_1 3 rfl rfl)
theorem dX8_step_27 : decode cX8_step 27 = .ok (.iconst 0, 1) := dk_3 (dk_at dksX8_step_1 4 rfl rfl)
theorem dX8_step_28 : decode cX8_step 28 = .ok (.putfield 67, 3) := dk_181 0 67 (dk_at dksX8_step_1 5 rfl rfl)
theorem dX8_step_31 : decode cX8_step 31 = .ok (.iconst 0, 1) := dk_3 (dk_at dksX8_step_1 8 rfl rfl)
theorem dX8_step_32 : decode cX8_step 32 = .ok (.istore_n 1, 1) := dk_60 (dk_at dksX8_step_1 9 rfl rfl)
theorem dX8_step_33 : decode cX8_step 33 = .ok (.aload_n 0, 1) := dk_42 (dk_at dksX8_step_1 10 rfl rfl)
theorem dX8_step_34 : decode cX8_step 34 = .ok (.invokevirtual 40, 3) := dk_182 0 40 (dk_at dksX8_step_1 11 rfl rfl)
theorem dX8_step_37 : decode cX8_step 37 = .ok (.bipush 40, 2) := dk_16 40 (dk_at dksX8_step_1 14 rfl rfl)
theorem dX8_step_39 : decode cX8_step 39 = .ok (.if_icmp .ne 10, 3) := dk_160 0 10 (dk_at dksX8_step_1 16 rfl rfl)
theorem dX8_step_42 : decode cX8_step 42 = .ok (.aload_n 0, 1) := dk_42 (dk_at dksX8_step_1 19 rfl rfl)
theorem dX8_step_43 : decode cX8_step 43 = .ok (.invokevirtual 90, 3) := dk_182 0 90 (dk_at dksX8_step_1 20 rfl rfl)
theorem dX8_step_46 : decode cX8_step 46 = .ok (.goto 24, 3) := dk_167 0 24 (dk_at dksX8_step_2 0 rfl rfl)
theorem dX8_step_49 : decode cX8_step 49 = .ok (.aload_n 0, 1) := dk_42 (dk_at dksX8_step_2 3 rfl rfl)
theorem dX8_step_50 : decode cX8_step 50 = .ok (.invokevirtual 40, 3) := dk_182 0 40 (dk_at dksX8_step_2 4 rfl rfl)
theorem dX8_step_53 : decode cX8_step 53 = .ok (.bipush 84, 2) := dk_16 84 (dk_at dksX8_step_2 7 rfl rfl)
theorem dX8_step_55 : decode cX8_step 55 = .ok (.if_icmp .ne 11, 3) := dk_160 0 11 (dk_at dksX8_step_2 9 rfl rfl)
theorem dX8_step_58 : decode cX8_step 58 = .ok (.aload_n 0, 1) := dk_42 (dk_at dksX8_step_2 12 rfl rfl)
theorem dX8_step_59 : decode cX8_step 59 = .ok (.invokevirtual 93, 3) := dk_182 0 93 (dk_at dksX8_step_2 13 rfl rfl)
theorem dX8_step_62 : decode cX8_step 62 = .ok (.istore_n 1, 1) := dk_60 (dk_at dksX8_step_2 16 rfl rfl)
theorem dX8_step_63 : decode cX8_step 63 = .ok (.goto 7, 3) := dk_167 0 7 (dk_at dksX8_step_2 17 rfl rfl)
theorem dX8_step_66 : decode cX8_step 66 = .ok (.aload_n 0, 1) := dk_42 (dk_at dksX8_step_2 20 rfl rfl)
theorem dX8_step_67 : decode cX8_step 67 = .ok (.invokevirtual 83, 3) := dk_182 0 83 (dk_at dksX8_step_2 21 rfl rfl)
theorem dX8_step_70 : decode cX8_step 70 = .ok (.aload_n 0, 1) := dk_42 (dk_at dksX8_step_3 0 rfl rfl)
theorem dX8_step_71 : decode cX8_step 71 = .ok (.aload_n 0, 1) := dk_42 (dk_at dksX8_step_3 1 rfl rfl)
theorem dX8_step_72 : decode cX8_step 72 = .ok (.getfield 74, 3) := dk_180 0 74 (dk_at dksX8_step_3 2 rfl rfl)
theorem dX8_step_75 : decode cX8_step 75 = .ok (.aload_n 0, 1) := dk_42 (dk_at dksX8_step_3 5 rfl rfl)
theorem dX8_step_76 : decode cX8_step 76 = .ok (.getfield 64, 3) := dk_180 0 64 (dk_at dksX8_step_3 6 rfl rfl)
theorem dX8_step_79 : decode cX8_step 79 = .ok (.ior, 1) := dk_128 (dk_at dksX8_step_3 9 rfl rfl)
theorem dX8_step_80 : decode cX8_step 80 = .ok (.aload_n 0, 1) := dk_42 (dk_at dksX8_step_3 10 rfl rfl)
theorem dX8_step_81 : decode cX8_step 81 = .ok (.getfield 67, 3) := dk_180 0 67 (dk_at dksX8_step_3 11 rfl rfl)
theorem dX8_step_84 : decode cX8_step 84 = .ok (.iconst (-1), 1) := dk_2 (dk_at dksX8_step_3 14 rfl rfl)
theorem dX8_step_85 : decode cX8_step 85 = .ok (.ixor, 1) := dk_130 (dk_at dksX8_step_3 15 rfl rfl)
theorem dX8_step_86 : decode cX8_step 86 = .ok (.iand, 1) := dk_126 (dk_at dksX8_step_3 16 rfl rfl)
theorem dX8_step_87 : decode cX8_step 87 = .ok (.putfield 74, 3) := dk_181 0 74 (dk_at dksX8_step_3 17 rfl rfl)
theorem dX8_step_90 : decode cX8_step 90 = .ok (.aload_n 0, 1) := dk_42 (dk_at dksX8_step_3 20 rfl rfl)
theorem dX8_step_91 : decode cX8_step 91 = .ok (.getfield 20, 3) := dk_180 0 20 (dk_at dksX8_step_3 21 rfl rfl)
theorem dX8_step_94 : decode cX8_step 94 = .ok (.new 96, 3) := dk_187 0 96 (dk_at dksX8_step_4 0 rfl rfl)
theorem dX8_step_97 : decode cX8_step 97 = .ok (.dup, 1) := dk_89 (dk_at dksX8_step_4 3 rfl rfl)
theorem dX8_step_98 : decode cX8_step 98 = .ok (.aload_n 0, 1) := dk_42 (dk_at dksX8_step_4 4 rfl rfl)
theorem dX8_step_99 : decode cX8_step 99 = .ok (.getfield 64, 3) := dk_180 0 64 (dk_at dksX8_step_4 5 rfl rfl)
theorem dX8_step_102 : decode cX8_step 102 = .ok (.aload_n 0, 1) := dk_42 (dk_at dksX8_step_4 8 rfl rfl)
theorem dX8_step_103 : decode cX8_step 103 = .ok (.getfield 67, 3) := dk_180 0 67 (dk_at dksX8_step_4 9 rfl rfl)
theorem dX8_step_106 : decode cX8_step 106 = .ok (.iload_n 1, 1) := dk_27 (dk_at dksX8_step_4 12 rfl rfl)
theorem dX8_step_107 : decode cX8_step 107 = .ok (.invokespecial 98, 3) := dk_183 0 98 (dk_at dksX8_step_4 13 rfl rfl)
theorem dX8_step_110 : decode cX8_step 110 = .ok (.invokevirtual 101, 3) := dk_182 0 101 (dk_at dksX8_step_4 16 rfl rfl)
theorem dX8_step_113 : decode cX8_step 113 = .ok (.pop, 1) := dk_87 (dk_at dksX8_step_4 19 rfl rfl)
theorem dX8_step_114 : decode cX8_step 114 = .ok (.return_, 1) := dk_177 (dk_at dksX8_step_4 20 rfl rfl)
abbrev cX8_require : ByteArray := prog_10_method_3_code
def yX8_require : MethodName := ⟨RX8, "require", "(Z)V"⟩
def dkwX8_require_0 : List UInt8 := [27, 154, 0, 16, 187, 0, 35, 89, 4, 42, 180, 0, 24, 183, 0, 37, 191, 177]
abbrev dktX8_require_0 : List UInt8 := dkwX8_require_0 ++ []
theorem dksX8_require_0 : cX8_require.data.toList.drop 0 = dktX8_require_0 := by decide +kernel
theorem dX8_require_0 : decode cX8_require 0 = .ok (.iload_n 1, 1) := dk_27 (dk_at dksX8_require_0 0 rfl rfl)
theorem dX8_require_1 : decode cX8_require 1 = .ok (.ifCond .ne 16, 3) := dk_154 0 16 (dk_at dksX8_require_0 1 rfl rfl)
theorem dX8_require_4 : decode cX8_require 4 = .ok (.new 35, 3) := dk_187 0 35 (dk_at dksX8_require_0 4 rfl rfl)
theorem dX8_require_7 : decode cX8_require 7 = .ok (.dup, 1) := dk_89 (dk_at dksX8_require_0 7 rfl rfl)
theorem dX8_require_8 : decode cX8_require 8 = .ok (.iconst 1, 1) := dk_4 (dk_at dksX8_require_0 8 rfl rfl)
theorem dX8_require_9 : decode cX8_require 9 = .ok (.aload_n 0, 1) := dk_42 (dk_at dksX8_require_0 9 rfl rfl)
theorem dX8_require_10 : decode cX8_require 10 = .ok (.getfield 24, 3) := dk_180 0 24 (dk_at dksX8_require_0 10 rfl rfl)
theorem dX8_require_13 : decode cX8_require 13 = .ok (.invokespecial 37, 3) := dk_183 0 37 (dk_at dksX8_require_0 13 rfl rfl)
theorem dX8_require_16 : decode cX8_require 16 = .ok (.athrow, 1) := dk_191 (dk_at dksX8_require_0 16 rfl rfl)
theorem dX8_require_17 : decode cX8_require 17 = .ok (.return_, 1) := dk_177 (dk_at dksX8_require_0 17 rfl rfl)
abbrev cX8_peek : ByteArray := prog_10_method_2_code
def yX8_peek : MethodName := ⟨RX8, "peek", "()C"⟩
def dkwX8_peek_1 : List UInt8 := [180, 0, 24, 52, 167, 0, 4, 3, 172]
abbrev dktX8_peek_1 : List UInt8 := dkwX8_peek_1 ++ []
def dkwX8_peek_0 : List UInt8 := [42, 180, 0, 24, 42, 180, 0, 3, 180, 0, 28, 162, 0, 18, 42, 180, 0, 3, 180, 0, 31, 42]
abbrev dktX8_peek_0 : List UInt8 := dkwX8_peek_0 ++ dktX8_peek_1
theorem dksX8_peek_0 : cX8_peek.data.toList.drop 0 = dktX8_peek_0 := by decide +kernel
theorem dksX8_peek_1 : cX8_peek.data.toList.drop 22 = dktX8_peek_1 := dk_seg dksX8_peek_0 22 rfl rfl
theorem dX8_peek_0 : decode cX8_peek 0 = .ok (.aload_n 0, 1) := dk_42 (dk_at dksX8_peek_0 0 rfl rfl)
theorem dX8_peek_1 : decode cX8_peek 1 = .ok (.getfield 24, 3) := dk_180 0 24 (dk_at dksX8_peek_0 1 rfl rfl)
theorem dX8_peek_4 : decode cX8_peek 4 = .ok (.aload_n 0, 1) := dk_42 (dk_at dksX8_peek_0 4 rfl rfl)
theorem dX8_peek_5 : decode cX8_peek 5 = .ok (.getfield 3, 3) := dk_180 0 3 (dk_at dksX8_peek_0 5 rfl rfl)
theorem dX8_peek_8 : decode cX8_peek 8 = .ok (.getfield 28, 3) := dk_180 0 28 (dk_at dksX8_peek_0 8 rfl rfl)
theorem dX8_peek_11 : decode cX8_peek 11 = .ok (.if_icmp .ge 18, 3) := dk_162 0 18 (dk_at dksX8_peek_0 11 rfl rfl)
theorem dX8_peek_14 : decode cX8_peek 14 = .ok (.aload_n 0, 1) := dk_42 (dk_at dksX8_peek_0 14 rfl rfl)
theorem dX8_peek_15 : decode cX8_peek 15 = .ok (.getfield 3, 3) := dk_180 0 3 (dk_at dksX8_peek_0 15 rfl rfl)
theorem dX8_peek_18 : decode cX8_peek 18 = .ok (.getfield 31, 3) := dk_180 0 31 (dk_at dksX8_peek_0 18 rfl rfl)
theorem dX8_peek_21 : decode cX8_peek 21 = .ok (.aload_n 0, 1) := dk_42 (dk_at dksX8_peek_0 21 rfl rfl)
theorem dX8_peek_22 : decode cX8_peek 22 = .ok (.getfield 24, 3) := dk_180 0 24 (dk_at dksX8_peek_1 0 rfl rfl)
theorem dX8_peek_25 : decode cX8_peek 25 = .ok (.caload, 1) := dk_52 (dk_at dksX8_peek_1 3 rfl rfl)
theorem dX8_peek_26 : decode cX8_peek 26 = .ok (.goto 4, 3) := dk_167 0 4 (dk_at dksX8_peek_1 4 rfl rfl)
theorem dX8_peek_29 : decode cX8_peek 29 = .ok (.iconst 0, 1) := dk_3 (dk_at dksX8_peek_1 7 rfl rfl)
theorem dX8_peek_30 : decode cX8_peek 30 = .ok (.ireturn, 1) := dk_172 (dk_at dksX8_peek_1 8 rfl rfl)
abbrev cX8_group : ByteArray := prog_10_method_7_code
def yX8_group : MethodName := ⟨RX8, "group", "()V"⟩
def dkwX8_group_1 : List UInt8 := [159, 0, 10, 42, 182, 0, 83, 167, 255, 243, 42, 89, 180, 0, 24, 4, 96, 181, 0, 24, 177]
abbrev dktX8_group_1 : List UInt8 := dkwX8_group_1 ++ []
def dkwX8_group_0 : List UInt8 := [42, 89, 180, 0, 24, 4, 96, 181, 0, 24, 42, 182, 0, 83, 42, 182, 0, 83, 42, 182, 0, 40, 16, 41]
abbrev dktX8_group_0 : List UInt8 := dkwX8_group_0 ++ dktX8_group_1
theorem dksX8_group_0 : cX8_group.data.toList.drop 0 = dktX8_group_0 := by decide +kernel
theorem dksX8_group_1 : cX8_group.data.toList.drop 24 = dktX8_group_1 := dk_seg dksX8_group_0 24 rfl rfl
theorem dX8_group_0 : decode cX8_group 0 = .ok (.aload_n 0, 1) := dk_42 (dk_at dksX8_group_0 0 rfl rfl)
theorem dX8_group_1 : decode cX8_group 1 = .ok (.dup, 1) := dk_89 (dk_at dksX8_group_0 1 rfl rfl)
theorem dX8_group_2 : decode cX8_group 2 = .ok (.getfield 24, 3) := dk_180 0 24 (dk_at dksX8_group_0 2 rfl rfl)
theorem dX8_group_5 : decode cX8_group 5 = .ok (.iconst 1, 1) := dk_4 (dk_at dksX8_group_0 5 rfl rfl)
theorem dX8_group_6 : decode cX8_group 6 = .ok (.iadd, 1) := dk_96 (dk_at dksX8_group_0 6 rfl rfl)
theorem dX8_group_7 : decode cX8_group 7 = .ok (.putfield 24, 3) := dk_181 0 24 (dk_at dksX8_group_0 7 rfl rfl)
theorem dX8_group_10 : decode cX8_group 10 = .ok (.aload_n 0, 1) := dk_42 (dk_at dksX8_group_0 10 rfl rfl)
theorem dX8_group_11 : decode cX8_group 11 = .ok (.invokevirtual 83, 3) := dk_182 0 83 (dk_at dksX8_group_0 11 rfl rfl)
theorem dX8_group_14 : decode cX8_group 14 = .ok (.aload_n 0, 1) := dk_42 (dk_at dksX8_group_0 14 rfl rfl)
theorem dX8_group_15 : decode cX8_group 15 = .ok (.invokevirtual 83, 3) := dk_182 0 83 (dk_at dksX8_group_0 15 rfl rfl)
theorem dX8_group_18 : decode cX8_group 18 = .ok (.aload_n 0, 1) := dk_42 (dk_at dksX8_group_0 18 rfl rfl)
theorem dX8_group_19 : decode cX8_group 19 = .ok (.invokevirtual 40, 3) := dk_182 0 40 (dk_at dksX8_group_0 19 rfl rfl)
theorem dX8_group_22 : decode cX8_group 22 = .ok (.bipush 41, 2) := dk_16 41 (dk_at dksX8_group_0 22 rfl rfl)
theorem dX8_group_24 : decode cX8_group 24 = .ok (.if_icmp .eq 10, 3) := dk_159 0 10 (dk_at dksX8_group_1 0 rfl rfl)
theorem dX8_group_27 : decode cX8_group 27 = .ok (.aload_n 0, 1) := dk_42 (dk_at dksX8_group_1 3 rfl rfl)
theorem dX8_group_28 : decode cX8_group 28 = .ok (.invokevirtual 83, 3) := dk_182 0 83 (dk_at dksX8_group_1 4 rfl rfl)
theorem dX8_group_31 : decode cX8_group 31 = .ok (.goto (-13), 3) := dk_167 255 243 (dk_at dksX8_group_1 7 rfl rfl)
theorem dX8_group_34 : decode cX8_group 34 = .ok (.aload_n 0, 1) := dk_42 (dk_at dksX8_group_1 10 rfl rfl)
theorem dX8_group_35 : decode cX8_group 35 = .ok (.dup, 1) := dk_89 (dk_at dksX8_group_1 11 rfl rfl)
theorem dX8_group_36 : decode cX8_group 36 = .ok (.getfield 24, 3) := dk_180 0 24 (dk_at dksX8_group_1 12 rfl rfl)
theorem dX8_group_39 : decode cX8_group 39 = .ok (.iconst 1, 1) := dk_4 (dk_at dksX8_group_1 15 rfl rfl)
theorem dX8_group_40 : decode cX8_group 40 = .ok (.iadd, 1) := dk_96 (dk_at dksX8_group_1 16 rfl rfl)
theorem dX8_group_41 : decode cX8_group 41 = .ok (.putfield 24, 3) := dk_181 0 24 (dk_at dksX8_group_1 17 rfl rfl)
theorem dX8_group_44 : decode cX8_group 44 = .ok (.return_, 1) := dk_177 (dk_at dksX8_group_1 20 rfl rfl)
abbrev cX8_move : ByteArray := prog_10_method_5_code
def yX8_move : MethodName := ⟨RX8, "move", "()V"⟩
def dkwX8_move_7 : List UInt8 := [128, 181, 0, 67, 177]
abbrev dktX8_move_7 : List UInt8 := dkwX8_move_7 ++ []
def dkwX8_move_6 : List UInt8 := [167, 0, 4, 3, 128, 181, 0, 64, 42, 89, 180, 0, 67, 29, 153, 0, 7, 3, 167, 0, 6, 4, 28, 120]
abbrev dktX8_move_6 : List UInt8 := dkwX8_move_6 ++ dktX8_move_7
def dkwX8_move_5 : List UInt8 := [187, 0, 35, 89, 5, 27, 183, 0, 37, 181, 0, 60, 42, 89, 180, 0, 64, 29, 153, 0, 9, 4, 28, 120]
abbrev dktX8_move_5 : List UInt8 := dkwX8_move_5 ++ dktX8_move_6
def dkwX8_move_4 : List UInt8 := [180, 0, 67, 128, 28, 184, 0, 70, 154, 0, 15, 42, 180, 0, 74, 28, 184, 0, 70, 29, 160, 0, 16, 42]
abbrev dktX8_move_4 : List UInt8 := dkwX8_move_4 ++ dktX8_move_5
def dkwX8_move_3 : List UInt8 := [3, 62, 42, 89, 180, 0, 24, 4, 96, 181, 0, 24, 42, 180, 0, 60, 199, 0, 44, 42, 180, 0, 64, 42]
abbrev dktX8_move_3 : List UInt8 := dkwX8_move_3 ++ dktX8_move_4
def dkwX8_move_2 : List UInt8 := [160, 0, 7, 4, 167, 0, 4, 3, 182, 0, 56, 42, 182, 0, 40, 16, 43, 160, 0, 7, 4, 167, 0, 4]
abbrev dktX8_move_2 : List UInt8 := dkwX8_move_2 ++ dktX8_move_3
def dkwX8_move_1 : List UInt8 := [180, 0, 24, 4, 96, 181, 0, 24, 42, 42, 182, 0, 40, 16, 43, 159, 0, 12, 42, 182, 0, 40, 16, 45]
abbrev dktX8_move_1 : List UInt8 := dkwX8_move_1 ++ dktX8_move_2
def dkwX8_move_0 : List UInt8 := [42, 42, 182, 0, 52, 182, 0, 56, 42, 180, 0, 24, 60, 42, 182, 0, 40, 16, 65, 100, 61, 42, 89]
abbrev dktX8_move_0 : List UInt8 := dkwX8_move_0 ++ dktX8_move_1
theorem dksX8_move_0 : cX8_move.data.toList.drop 0 = dktX8_move_0 := by decide +kernel
theorem dksX8_move_1 : cX8_move.data.toList.drop 23 = dktX8_move_1 := dk_seg dksX8_move_0 23 rfl rfl
theorem dksX8_move_2 : cX8_move.data.toList.drop 47 = dktX8_move_2 := dk_seg dksX8_move_1 24 rfl rfl
theorem dksX8_move_3 : cX8_move.data.toList.drop 71 = dktX8_move_3 := dk_seg dksX8_move_2 24 rfl rfl
theorem dksX8_move_4 : cX8_move.data.toList.drop 95 = dktX8_move_4 := dk_seg dksX8_move_3 24 rfl rfl
theorem dksX8_move_5 : cX8_move.data.toList.drop 119 = dktX8_move_5 := dk_seg dksX8_move_4 24 rfl rfl
theorem dksX8_move_6 : cX8_move.data.toList.drop 143 = dktX8_move_6 := dk_seg dksX8_move_5 24 rfl rfl
theorem dksX8_move_7 : cX8_move.data.toList.drop 167 = dktX8_move_7 := dk_seg dksX8_move_6 24 rfl rfl
theorem dX8_move_0 : decode cX8_move 0 = .ok (.aload_n 0, 1) := dk_42 (dk_at dksX8_move_0 0 rfl rfl)
theorem dX8_move_1 : decode cX8_move 1 = .ok (.aload_n 0, 1) := dk_42 (dk_at dksX8_move_0 1 rfl rfl)
theorem dX8_move_2 : decode cX8_move 2 = .ok (.invokevirtual 52, 3) := dk_182 0 52 (dk_at dksX8_move_0 2 rfl rfl)
theorem dX8_move_5 : decode cX8_move 5 = .ok (.invokevirtual 56, 3) := dk_182 0 56 (dk_at dksX8_move_0 5 rfl rfl)
theorem dX8_move_8 : decode cX8_move 8 = .ok (.aload_n 0, 1) := dk_42 (dk_at dksX8_move_0 8 rfl rfl)
theorem dX8_move_9 : decode cX8_move 9 = .ok (.getfield 24, 3) := dk_180 0 24 (dk_at dksX8_move_0 9 rfl rfl)
theorem dX8_move_12 : decode cX8_move 12 = .ok (.istore_n 1, 1) := dk_60 (dk_at dksX8_move_0 12 rfl rfl)
theorem dX8_move_13 : decode cX8_move 13 = .ok (.aload_n 0, 1) := dk_42 (dk_at dksX8_move_0 13 rfl rfl)
theorem dX8_move_14 : decode cX8_move 14 = .ok (.invokevirtual 40, 3) := dk_182 0 40 (dk_at dksX8_move_0 14 rfl rfl)
theorem dX8_move_17 : decode cX8_move 17 = .ok (.bipush 65, 2) := dk_16 65 (dk_at dksX8_move_0 17 rfl rfl)
theorem dX8_move_19 : decode cX8_move 19 = .ok (.isub, 1) := dk_100 (dk_at dksX8_move_0 19 rfl rfl)
theorem dX8_move_20 : decode cX8_move 20 = .ok (.istore_n 2, 1) := dk_61 (dk_at dksX8_move_0 20 rfl rfl)
theorem dX8_move_21 : decode cX8_move 21 = .ok (.aload_n 0, 1) := dk_42 (dk_at dksX8_move_0 21 rfl rfl)
theorem dX8_move_22 : decode cX8_move 22 = .ok (.dup, 1) := dk_89 (dk_at dksX8_move_0 22 rfl rfl)
theorem dX8_move_23 : decode cX8_move 23 = .ok (.getfield 24, 3) := dk_180 0 24 (dk_at dksX8_move_1 0 rfl rfl)
theorem dX8_move_26 : decode cX8_move 26 = .ok (.iconst 1, 1) := dk_4 (dk_at dksX8_move_1 3 rfl rfl)
theorem dX8_move_27 : decode cX8_move 27 = .ok (.iadd, 1) := dk_96 (dk_at dksX8_move_1 4 rfl rfl)
theorem dX8_move_28 : decode cX8_move 28 = .ok (.putfield 24, 3) := dk_181 0 24 (dk_at dksX8_move_1 5 rfl rfl)
theorem dX8_move_31 : decode cX8_move 31 = .ok (.aload_n 0, 1) := dk_42 (dk_at dksX8_move_1 8 rfl rfl)
theorem dX8_move_32 : decode cX8_move 32 = .ok (.aload_n 0, 1) := dk_42 (dk_at dksX8_move_1 9 rfl rfl)
theorem dX8_move_33 : decode cX8_move 33 = .ok (.invokevirtual 40, 3) := dk_182 0 40 (dk_at dksX8_move_1 10 rfl rfl)
theorem dX8_move_36 : decode cX8_move 36 = .ok (.bipush 43, 2) := dk_16 43 (dk_at dksX8_move_1 13 rfl rfl)
theorem dX8_move_38 : decode cX8_move 38 = .ok (.if_icmp .eq 12, 3) := dk_159 0 12 (dk_at dksX8_move_1 15 rfl rfl)
theorem dX8_move_41 : decode cX8_move 41 = .ok (.aload_n 0, 1) := dk_42 (dk_at dksX8_move_1 18 rfl rfl)
theorem dX8_move_42 : decode cX8_move 42 = .ok (.invokevirtual 40, 3) := dk_182 0 40 (dk_at dksX8_move_1 19 rfl rfl)
theorem dX8_move_45 : decode cX8_move 45 = .ok (.bipush 45, 2) := dk_16 45 (dk_at dksX8_move_1 22 rfl rfl)
theorem dX8_move_47 : decode cX8_move 47 = .ok (.if_icmp .ne 7, 3) := dk_160 0 7 (dk_at dksX8_move_2 0 rfl rfl)
theorem dX8_move_50 : decode cX8_move 50 = .ok (.iconst 1, 1) := dk_4 (dk_at dksX8_move_2 3 rfl rfl)
theorem dX8_move_51 : decode cX8_move 51 = .ok (.goto 4, 3) := dk_167 0 4 (dk_at dksX8_move_2 4 rfl rfl)
theorem dX8_move_54 : decode cX8_move 54 = .ok (.iconst 0, 1) := dk_3 (dk_at dksX8_move_2 7 rfl rfl)
theorem dX8_move_55 : decode cX8_move 55 = .ok (.invokevirtual 56, 3) := dk_182 0 56 (dk_at dksX8_move_2 8 rfl rfl)
theorem dX8_move_58 : decode cX8_move 58 = .ok (.aload_n 0, 1) := dk_42 (dk_at dksX8_move_2 11 rfl rfl)
theorem dX8_move_59 : decode cX8_move 59 = .ok (.invokevirtual 40, 3) := dk_182 0 40 (dk_at dksX8_move_2 12 rfl rfl)
theorem dX8_move_62 : decode cX8_move 62 = .ok (.bipush 43, 2) := dk_16 43 (dk_at dksX8_move_2 15 rfl rfl)
theorem dX8_move_64 : decode cX8_move 64 = .ok (.if_icmp .ne 7, 3) := dk_160 0 7 (dk_at dksX8_move_2 17 rfl rfl)
theorem dX8_move_67 : decode cX8_move 67 = .ok (.iconst 1, 1) := dk_4 (dk_at dksX8_move_2 20 rfl rfl)
theorem dX8_move_68 : decode cX8_move 68 = .ok (.goto 4, 3) := dk_167 0 4 (dk_at dksX8_move_2 21 rfl rfl)
theorem dX8_move_71 : decode cX8_move 71 = .ok (.iconst 0, 1) := dk_3 (dk_at dksX8_move_3 0 rfl rfl)
theorem dX8_move_72 : decode cX8_move 72 = .ok (.istore_n 3, 1) := dk_62 (dk_at dksX8_move_3 1 rfl rfl)
theorem dX8_move_73 : decode cX8_move 73 = .ok (.aload_n 0, 1) := dk_42 (dk_at dksX8_move_3 2 rfl rfl)
theorem dX8_move_74 : decode cX8_move 74 = .ok (.dup, 1) := dk_89 (dk_at dksX8_move_3 3 rfl rfl)
theorem dX8_move_75 : decode cX8_move 75 = .ok (.getfield 24, 3) := dk_180 0 24 (dk_at dksX8_move_3 4 rfl rfl)
theorem dX8_move_78 : decode cX8_move 78 = .ok (.iconst 1, 1) := dk_4 (dk_at dksX8_move_3 7 rfl rfl)
theorem dX8_move_79 : decode cX8_move 79 = .ok (.iadd, 1) := dk_96 (dk_at dksX8_move_3 8 rfl rfl)
theorem dX8_move_80 : decode cX8_move 80 = .ok (.putfield 24, 3) := dk_181 0 24 (dk_at dksX8_move_3 9 rfl rfl)
theorem dX8_move_83 : decode cX8_move 83 = .ok (.aload_n 0, 1) := dk_42 (dk_at dksX8_move_3 12 rfl rfl)
theorem dX8_move_84 : decode cX8_move 84 = .ok (.getfield 60, 3) := dk_180 0 60 (dk_at dksX8_move_3 13 rfl rfl)
theorem dX8_move_87 : decode cX8_move 87 = .ok (.ifnonnull 44, 3) := dk_199 0 44 (dk_at dksX8_move_3 16 rfl rfl)
theorem dX8_move_90 : decode cX8_move 90 = .ok (.aload_n 0, 1) := dk_42 (dk_at dksX8_move_3 19 rfl rfl)
theorem dX8_move_91 : decode cX8_move 91 = .ok (.getfield 64, 3) := dk_180 0 64 (dk_at dksX8_move_3 20 rfl rfl)
theorem dX8_move_94 : decode cX8_move 94 = .ok (.aload_n 0, 1) := dk_42 (dk_at dksX8_move_3 23 rfl rfl)
theorem dX8_move_95 : decode cX8_move 95 = .ok (.getfield 67, 3) := dk_180 0 67 (dk_at dksX8_move_4 0 rfl rfl)
theorem dX8_move_98 : decode cX8_move 98 = .ok (.ior, 1) := dk_128 (dk_at dksX8_move_4 3 rfl rfl)
theorem dX8_move_99 : decode cX8_move 99 = .ok (.iload_n 2, 1) := dk_28 (dk_at dksX8_move_4 4 rfl rfl)
theorem dX8_move_100 : decode cX8_move 100 = .ok (.invokestatic 70, 3) := dk_184 0 70 (dk_at dksX8_move_4 5 rfl rfl)
theorem dX8_move_103 : decode cX8_move 103 = .ok (.ifCond .ne 15, 3) := dk_154 0 15 (dk_at dksX8_move_4 8 rfl rfl)
theorem dX8_move_106 : decode cX8_move 106 = .ok (.aload_n 0, 1) := dk_42 (dk_at dksX8_move_4 11 rfl rfl)
theorem dX8_move_107 : decode cX8_move 107 = .ok (.getfield 74, 3) := dk_180 0 74 (dk_at dksX8_move_4 12 rfl rfl)
theorem dX8_move_110 : decode cX8_move 110 = .ok (.iload_n 2, 1) := dk_28 (dk_at dksX8_move_4 15 rfl rfl)
theorem dX8_move_111 : decode cX8_move 111 = .ok (.invokestatic 70, 3) := dk_184 0 70 (dk_at dksX8_move_4 16 rfl rfl)
theorem dX8_move_114 : decode cX8_move 114 = .ok (.iload_n 3, 1) := dk_29 (dk_at dksX8_move_4 19 rfl rfl)
theorem dX8_move_115 : decode cX8_move 115 = .ok (.if_icmp .ne 16, 3) := dk_160 0 16 (dk_at dksX8_move_4 20 rfl rfl)
theorem dX8_move_118 : decode cX8_move 118 = .ok (.aload_n 0, 1) := dk_42 (dk_at dksX8_move_4 23 rfl rfl)
theorem dX8_move_119 : decode cX8_move 119 = .ok (.new 35, 3) := dk_187 0 35 (dk_at dksX8_move_5 0 rfl rfl)
theorem dX8_move_122 : decode cX8_move 122 = .ok (.dup, 1) := dk_89 (dk_at dksX8_move_5 3 rfl rfl)
theorem dX8_move_123 : decode cX8_move 123 = .ok (.iconst 2, 1) := dk_5 (dk_at dksX8_move_5 4 rfl rfl)
theorem dX8_move_124 : decode cX8_move 124 = .ok (.iload_n 1, 1) := dk_27 (dk_at dksX8_move_5 5 rfl rfl)
theorem dX8_move_125 : decode cX8_move 125 = .ok (.invokespecial 37, 3) := dk_183 0 37 (dk_at dksX8_move_5 6 rfl rfl)
theorem dX8_move_128 : decode cX8_move 128 = .ok (.putfield 60, 3) := dk_181 0 60 (dk_at dksX8_move_5 9 rfl rfl)
theorem dX8_move_131 : decode cX8_move 131 = .ok (.aload_n 0, 1) := dk_42 (dk_at dksX8_move_5 12 rfl rfl)
theorem dX8_move_132 : decode cX8_move 132 = .ok (.dup, 1) := dk_89 (dk_at dksX8_move_5 13 rfl rfl)
theorem dX8_move_133 : decode cX8_move 133 = .ok (.getfield 64, 3) := dk_180 0 64 (dk_at dksX8_move_5 14 rfl rfl)
theorem dX8_move_136 : decode cX8_move 136 = .ok (.iload_n 3, 1) := dk_29 (dk_at dksX8_move_5 17 rfl rfl)
theorem dX8_move_137 : decode cX8_move 137 = .ok (.ifCond .eq 9, 3) := dk_153 0 9 (dk_at dksX8_move_5 18 rfl rfl)
theorem dX8_move_140 : decode cX8_move 140 = .ok (.iconst 1, 1) := dk_4 (dk_at dksX8_move_5 21 rfl rfl)
theorem dX8_move_141 : decode cX8_move 141 = .ok (.iload_n 2, 1) := dk_28 (dk_at dksX8_move_5 22 rfl rfl)
theorem dX8_move_142 : decode cX8_move 142 = .ok (.ishl, 1) := dk_120 (dk_at dksX8_move_5 23 rfl rfl)
theorem dX8_move_143 : decode cX8_move 143 = .ok (.goto 4, 3) := dk_167 0 4 (dk_at dksX8_move_6 0 rfl rfl)
theorem dX8_move_146 : decode cX8_move 146 = .ok (.iconst 0, 1) := dk_3 (dk_at dksX8_move_6 3 rfl rfl)
theorem dX8_move_147 : decode cX8_move 147 = .ok (.ior, 1) := dk_128 (dk_at dksX8_move_6 4 rfl rfl)
theorem dX8_move_148 : decode cX8_move 148 = .ok (.putfield 64, 3) := dk_181 0 64 (dk_at dksX8_move_6 5 rfl rfl)
theorem dX8_move_151 : decode cX8_move 151 = .ok (.aload_n 0, 1) := dk_42 (dk_at dksX8_move_6 8 rfl rfl)
theorem dX8_move_152 : decode cX8_move 152 = .ok (.dup, 1) := dk_89 (dk_at dksX8_move_6 9 rfl rfl)
theorem dX8_move_153 : decode cX8_move 153 = .ok (.getfield 67, 3) := dk_180 0 67 (dk_at dksX8_move_6 10 rfl rfl)
theorem dX8_move_156 : decode cX8_move 156 = .ok (.iload_n 3, 1) := dk_29 (dk_at dksX8_move_6 13 rfl rfl)
theorem dX8_move_157 : decode cX8_move 157 = .ok (.ifCond .eq 7, 3) := dk_153 0 7 (dk_at dksX8_move_6 14 rfl rfl)
theorem dX8_move_160 : decode cX8_move 160 = .ok (.iconst 0, 1) := dk_3 (dk_at dksX8_move_6 17 rfl rfl)
theorem dX8_move_161 : decode cX8_move 161 = .ok (.goto 6, 3) := dk_167 0 6 (dk_at dksX8_move_6 18 rfl rfl)
theorem dX8_move_164 : decode cX8_move 164 = .ok (.iconst 1, 1) := dk_4 (dk_at dksX8_move_6 21 rfl rfl)
theorem dX8_move_165 : decode cX8_move 165 = .ok (.iload_n 2, 1) := dk_28 (dk_at dksX8_move_6 22 rfl rfl)
theorem dX8_move_166 : decode cX8_move 166 = .ok (.ishl, 1) := dk_120 (dk_at dksX8_move_6 23 rfl rfl)
theorem dX8_move_167 : decode cX8_move 167 = .ok (.ior, 1) := dk_128 (dk_at dksX8_move_7 0 rfl rfl)
theorem dX8_move_168 : decode cX8_move 168 = .ok (.putfield 67, 3) := dk_181 0 67 (dk_at dksX8_move_7 1 rfl rfl)
theorem dX8_move_171 : decode cX8_move 171 = .ok (.return_, 1) := dk_177 (dk_at dksX8_move_7 4 rfl rfl)
abbrev cX8_isLetter : ByteArray := prog_10_method_4_code
def yX8_isLetter : MethodName := ⟨RX8, "isLetter", "()Z"⟩
def dkwX8_isLetter_0 : List UInt8 := [42, 182, 0, 40, 133, 20, 0, 44, 20, 0, 46, 184, 0, 48, 172]
abbrev dktX8_isLetter_0 : List UInt8 := dkwX8_isLetter_0 ++ []
theorem dksX8_isLetter_0 : cX8_isLetter.data.toList.drop 0 = dktX8_isLetter_0 := by decide +kernel
theorem dX8_isLetter_0 : decode cX8_isLetter 0 = .ok (.aload_n 0, 1) := dk_42 (dk_at dksX8_isLetter_0 0 rfl rfl)
theorem dX8_isLetter_1 : decode cX8_isLetter 1 = .ok (.invokevirtual 40, 3) := dk_182 0 40 (dk_at dksX8_isLetter_0 1 rfl rfl)
theorem dX8_isLetter_4 : decode cX8_isLetter 4 = .ok (.i2l, 1) := dk_133 (dk_at dksX8_isLetter_0 4 rfl rfl)
theorem dX8_isLetter_5 : decode cX8_isLetter 5 = .ok (.ldc2_w 44, 3) := dk_20 0 44 (dk_at dksX8_isLetter_0 5 rfl rfl)
theorem dX8_isLetter_8 : decode cX8_isLetter 8 = .ok (.ldc2_w 46, 3) := dk_20 0 46 (dk_at dksX8_isLetter_0 8 rfl rfl)
theorem dX8_isLetter_11 : decode cX8_isLetter 11 = .ok (.invokestatic 48, 3) := dk_184 0 48 (dk_at dksX8_isLetter_0 11 rfl rfl)
theorem dX8_isLetter_14 : decode cX8_isLetter 14 = .ok (.ireturn, 1) := dk_172 (dk_at dksX8_isLetter_0 14 rfl rfl)
abbrev cX8_pause : ByteArray := prog_10_method_6_code
def yX8_pause : MethodName := ⟨RX8, "pause", "()I"⟩
def dkwX8_pause_4 : List UInt8 := [184, 0, 48, 154, 0, 13, 187, 0, 35, 89, 4, 27, 183, 0, 37, 191, 28, 172]
abbrev dktX8_pause_4 : List UInt8 := dkwX8_pause_4 ++ []
def dkwX8_pause_3 : List UInt8 := [96, 16, 48, 100, 61, 42, 89, 180, 0, 24, 4, 96, 181, 0, 24, 167, 255, 206, 28, 133, 10, 20, 0, 81]
abbrev dktX8_pause_3 : List UInt8 := dkwX8_pause_3 ++ dktX8_pause_4
def dkwX8_pause_2 : List UInt8 := [184, 0, 48, 153, 0, 39, 42, 180, 0, 24, 27, 5, 96, 162, 0, 29, 16, 10, 28, 104, 42, 182, 0, 40]
abbrev dktX8_pause_2 : List UInt8 := dkwX8_pause_2 ++ dktX8_pause_3
def dkwX8_pause_1 : List UInt8 := [184, 0, 48, 182, 0, 56, 42, 180, 0, 24, 60, 3, 61, 42, 182, 0, 40, 133, 20, 0, 77, 20, 0, 79]
abbrev dktX8_pause_1 : List UInt8 := dkwX8_pause_1 ++ dktX8_pause_2
def dkwX8_pause_0 : List UInt8 := [42, 89, 180, 0, 24, 4, 96, 181, 0, 24, 42, 42, 182, 0, 40, 133, 20, 0, 77, 20, 0, 79]
abbrev dktX8_pause_0 : List UInt8 := dkwX8_pause_0 ++ dktX8_pause_1
theorem dksX8_pause_0 : cX8_pause.data.toList.drop 0 = dktX8_pause_0 := by decide +kernel
theorem dksX8_pause_1 : cX8_pause.data.toList.drop 22 = dktX8_pause_1 := dk_seg dksX8_pause_0 22 rfl rfl
theorem dksX8_pause_2 : cX8_pause.data.toList.drop 46 = dktX8_pause_2 := dk_seg dksX8_pause_1 24 rfl rfl
theorem dksX8_pause_3 : cX8_pause.data.toList.drop 70 = dktX8_pause_3 := dk_seg dksX8_pause_2 24 rfl rfl
theorem dksX8_pause_4 : cX8_pause.data.toList.drop 94 = dktX8_pause_4 := dk_seg dksX8_pause_3 24 rfl rfl
theorem dX8_pause_0 : decode cX8_pause 0 = .ok (.aload_n 0, 1) := dk_42 (dk_at dksX8_pause_0 0 rfl rfl)
theorem dX8_pause_1 : decode cX8_pause 1 = .ok (.dup, 1) := dk_89 (dk_at dksX8_pause_0 1 rfl rfl)
theorem dX8_pause_2 : decode cX8_pause 2 = .ok (.getfield 24, 3) := dk_180 0 24 (dk_at dksX8_pause_0 2 rfl rfl)
theorem dX8_pause_5 : decode cX8_pause 5 = .ok (.iconst 1, 1) := dk_4 (dk_at dksX8_pause_0 5 rfl rfl)
theorem dX8_pause_6 : decode cX8_pause 6 = .ok (.iadd, 1) := dk_96 (dk_at dksX8_pause_0 6 rfl rfl)
theorem dX8_pause_7 : decode cX8_pause 7 = .ok (.putfield 24, 3) := dk_181 0 24 (dk_at dksX8_pause_0 7 rfl rfl)
theorem dX8_pause_10 : decode cX8_pause 10 = .ok (.aload_n 0, 1) := dk_42 (dk_at dksX8_pause_0 10 rfl rfl)
theorem dX8_pause_11 : decode cX8_pause 11 = .ok (.aload_n 0, 1) := dk_42 (dk_at dksX8_pause_0 11 rfl rfl)
theorem dX8_pause_12 : decode cX8_pause 12 = .ok (.invokevirtual 40, 3) := dk_182 0 40 (dk_at dksX8_pause_0 12 rfl rfl)
theorem dX8_pause_15 : decode cX8_pause 15 = .ok (.i2l, 1) := dk_133 (dk_at dksX8_pause_0 15 rfl rfl)
theorem dX8_pause_16 : decode cX8_pause 16 = .ok (.ldc2_w 77, 3) := dk_20 0 77 (dk_at dksX8_pause_0 16 rfl rfl)
theorem dX8_pause_19 : decode cX8_pause 19 = .ok (.ldc2_w 79, 3) := dk_20 0 79 (dk_at dksX8_pause_0 19 rfl rfl)
theorem dX8_pause_22 : decode cX8_pause 22 = .ok (.invokestatic 48, 3) := dk_184 0 48 (dk_at dksX8_pause_1 0 rfl rfl)
theorem dX8_pause_25 : decode cX8_pause 25 = .ok (.invokevirtual 56, 3) := dk_182 0 56 (dk_at dksX8_pause_1 3 rfl rfl)
theorem dX8_pause_28 : decode cX8_pause 28 = .ok (.aload_n 0, 1) := dk_42 (dk_at dksX8_pause_1 6 rfl rfl)
theorem dX8_pause_29 : decode cX8_pause 29 = .ok (.getfield 24, 3) := dk_180 0 24 (dk_at dksX8_pause_1 7 rfl rfl)
theorem dX8_pause_32 : decode cX8_pause 32 = .ok (.istore_n 1, 1) := dk_60 (dk_at dksX8_pause_1 10 rfl rfl)
theorem dX8_pause_33 : decode cX8_pause 33 = .ok (.iconst 0, 1) := dk_3 (dk_at dksX8_pause_1 11 rfl rfl)
theorem dX8_pause_34 : decode cX8_pause 34 = .ok (.istore_n 2, 1) := dk_61 (dk_at dksX8_pause_1 12 rfl rfl)
theorem dX8_pause_35 : decode cX8_pause 35 = .ok (.aload_n 0, 1) := dk_42 (dk_at dksX8_pause_1 13 rfl rfl)
theorem dX8_pause_36 : decode cX8_pause 36 = .ok (.invokevirtual 40, 3) := dk_182 0 40 (dk_at dksX8_pause_1 14 rfl rfl)
theorem dX8_pause_39 : decode cX8_pause 39 = .ok (.i2l, 1) := dk_133 (dk_at dksX8_pause_1 17 rfl rfl)
theorem dX8_pause_40 : decode cX8_pause 40 = .ok (.ldc2_w 77, 3) := dk_20 0 77 (dk_at dksX8_pause_1 18 rfl rfl)
theorem dX8_pause_43 : decode cX8_pause 43 = .ok (.ldc2_w 79, 3) := dk_20 0 79 (dk_at dksX8_pause_1 21 rfl rfl)
theorem dX8_pause_46 : decode cX8_pause 46 = .ok (.invokestatic 48, 3) := dk_184 0 48 (dk_at dksX8_pause_2 0 rfl rfl)
theorem dX8_pause_49 : decode cX8_pause 49 = .ok (.ifCond .eq 39, 3) := dk_153 0 39 (dk_at dksX8_pause_2 3 rfl rfl)
theorem dX8_pause_52 : decode cX8_pause 52 = .ok (.aload_n 0, 1) := dk_42 (dk_at dksX8_pause_2 6 rfl rfl)
theorem dX8_pause_53 : decode cX8_pause 53 = .ok (.getfield 24, 3) := dk_180 0 24 (dk_at dksX8_pause_2 7 rfl rfl)
theorem dX8_pause_56 : decode cX8_pause 56 = .ok (.iload_n 1, 1) := dk_27 (dk_at dksX8_pause_2 10 rfl rfl)
theorem dX8_pause_57 : decode cX8_pause 57 = .ok (.iconst 2, 1) := dk_5 (dk_at dksX8_pause_2 11 rfl rfl)
theorem dX8_pause_58 : decode cX8_pause 58 = .ok (.iadd, 1) := dk_96 (dk_at dksX8_pause_2 12 rfl rfl)
theorem dX8_pause_59 : decode cX8_pause 59 = .ok (.if_icmp .ge 29, 3) := dk_162 0 29 (dk_at dksX8_pause_2 13 rfl rfl)
theorem dX8_pause_62 : decode cX8_pause 62 = .ok (.bipush 10, 2) := dk_16 10 (dk_at dksX8_pause_2 16 rfl rfl)
theorem dX8_pause_64 : decode cX8_pause 64 = .ok (.iload_n 2, 1) := dk_28 (dk_at dksX8_pause_2 18 rfl rfl)
theorem dX8_pause_65 : decode cX8_pause 65 = .ok (.imul, 1) := dk_104 (dk_at dksX8_pause_2 19 rfl rfl)
theorem dX8_pause_66 : decode cX8_pause 66 = .ok (.aload_n 0, 1) := dk_42 (dk_at dksX8_pause_2 20 rfl rfl)
theorem dX8_pause_67 : decode cX8_pause 67 = .ok (.invokevirtual 40, 3) := dk_182 0 40 (dk_at dksX8_pause_2 21 rfl rfl)
theorem dX8_pause_70 : decode cX8_pause 70 = .ok (.iadd, 1) := dk_96 (dk_at dksX8_pause_3 0 rfl rfl)
theorem dX8_pause_71 : decode cX8_pause 71 = .ok (.bipush 48, 2) := dk_16 48 (dk_at dksX8_pause_3 1 rfl rfl)
theorem dX8_pause_73 : decode cX8_pause 73 = .ok (.isub, 1) := dk_100 (dk_at dksX8_pause_3 3 rfl rfl)
theorem dX8_pause_74 : decode cX8_pause 74 = .ok (.istore_n 2, 1) := dk_61 (dk_at dksX8_pause_3 4 rfl rfl)
theorem dX8_pause_75 : decode cX8_pause 75 = .ok (.aload_n 0, 1) := dk_42 (dk_at dksX8_pause_3 5 rfl rfl)
theorem dX8_pause_76 : decode cX8_pause 76 = .ok (.dup, 1) := dk_89 (dk_at dksX8_pause_3 6 rfl rfl)
theorem dX8_pause_77 : decode cX8_pause 77 = .ok (.getfield 24, 3) := dk_180 0 24 (dk_at dksX8_pause_3 7 rfl rfl)
theorem dX8_pause_80 : decode cX8_pause 80 = .ok (.iconst 1, 1) := dk_4 (dk_at dksX8_pause_3 10 rfl rfl)
theorem dX8_pause_81 : decode cX8_pause 81 = .ok (.iadd, 1) := dk_96 (dk_at dksX8_pause_3 11 rfl rfl)
theorem dX8_pause_82 : decode cX8_pause 82 = .ok (.putfield 24, 3) := dk_181 0 24 (dk_at dksX8_pause_3 12 rfl rfl)
theorem dX8_pause_85 : decode cX8_pause 85 = .ok (.goto (-50), 3) := dk_167 255 206 (dk_at dksX8_pause_3 15 rfl rfl)
theorem dX8_pause_88 : decode cX8_pause 88 = .ok (.iload_n 2, 1) := dk_28 (dk_at dksX8_pause_3 18 rfl rfl)
theorem dX8_pause_89 : decode cX8_pause 89 = .ok (.i2l, 1) := dk_133 (dk_at dksX8_pause_3 19 rfl rfl)
theorem dX8_pause_90 : decode cX8_pause 90 = .ok (.lconst 1, 1) := dk_10 (dk_at dksX8_pause_3 20 rfl rfl)
theorem dX8_pause_91 : decode cX8_pause 91 = .ok (.ldc2_w 81, 3) := dk_20 0 81 (dk_at dksX8_pause_3 21 rfl rfl)
theorem dX8_pause_94 : decode cX8_pause 94 = .ok (.invokestatic 48, 3) := dk_184 0 48 (dk_at dksX8_pause_4 0 rfl rfl)
theorem dX8_pause_97 : decode cX8_pause 97 = .ok (.ifCond .ne 13, 3) := dk_154 0 13 (dk_at dksX8_pause_4 3 rfl rfl)
theorem dX8_pause_100 : decode cX8_pause 100 = .ok (.new 35, 3) := dk_187 0 35 (dk_at dksX8_pause_4 6 rfl rfl)
theorem dX8_pause_103 : decode cX8_pause 103 = .ok (.dup, 1) := dk_89 (dk_at dksX8_pause_4 9 rfl rfl)
theorem dX8_pause_104 : decode cX8_pause 104 = .ok (.iconst 1, 1) := dk_4 (dk_at dksX8_pause_4 10 rfl rfl)
theorem dX8_pause_105 : decode cX8_pause 105 = .ok (.iload_n 1, 1) := dk_27 (dk_at dksX8_pause_4 11 rfl rfl)
theorem dX8_pause_106 : decode cX8_pause 106 = .ok (.invokespecial 37, 3) := dk_183 0 37 (dk_at dksX8_pause_4 12 rfl rfl)
theorem dX8_pause_109 : decode cX8_pause 109 = .ok (.athrow, 1) := dk_191 (dk_at dksX8_pause_4 15 rfl rfl)
theorem dX8_pause_110 : decode cX8_pause 110 = .ok (.iload_n 2, 1) := dk_28 (dk_at dksX8_pause_4 16 rfl rfl)
theorem dX8_pause_111 : decode cX8_pause 111 = .ok (.ireturn, 1) := dk_172 (dk_at dksX8_pause_4 17 rfl rfl)
theorem q75 : (Jvm.Cond.initialized "SequenceBench$Reader") ∈ lw_all := lw_g (lw_at lw_m1 14 rfl) rfl
theorem q319 : (Jvm.Cond.fieldLinkNest "SequenceBench$Reader" (31 : Nat) "SequenceBench" "text" "[C" "SequenceBench") ∈ lw_tbl := lw_at lw_m2 18 rfl
theorem q320 : (Jvm.Cond.fieldLinkNest "SequenceBench$Reader" (28 : Nat) "SequenceBench" "textLength" "I" "SequenceBench") ∈ lw_tbl := lw_at lw_m2 19 rfl
theorem q358 : (Jvm.Cond.instantiable "SequenceBench$Reader" (7 : Nat)) ∈ lw_all := lw_g (lw_at lw_m2 57 rfl) rfl
theorem q360 : (Jvm.Cond.instanceMethod ({ cls := "SequenceBench$Reader", name := "<init>", desc := "(LSequenceBench;)V" } : Jvm.MethodName)) ∈ lw_all := lw_g (lw_at lw_m2 59 rfl) rfl
theorem q361 : (Jvm.Cond.code ({ cls := "SequenceBench$Reader", name := "<init>", desc := "(LSequenceBench;)V" } : Jvm.MethodName) prog_10_method_1_code (2 : Nat) (Option.none : Option Jvm.ClassFile.FieldType)) ∈ lw_all := lw_g (lw_at lw_m2 60 rfl) rfl
theorem q362 : (Jvm.Cond.methodLink "SequenceBench$Reader" (9 : Nat) ({ cls := "java/lang/Object", name := "<init>", desc := "()V" } : Jvm.MethodName)) ∈ lw_all := lw_g (lw_at lw_m2 61 rfl) rfl
theorem q363 : (Jvm.Cond.classLink "SequenceBench$Reader" (15 : Nat) "java/util/ArrayList") ∈ lw_all := lw_g (lw_at lw_m2 62 rfl) rfl
theorem q365 : (Jvm.Cond.methodLink "SequenceBench$Reader" (17 : Nat) ({ cls := "java/util/ArrayList", name := "<init>", desc := "(I)V" } : Jvm.MethodName)) ∈ lw_all := lw_g (lw_at lw_m2 64 rfl) rfl
theorem q703 : (Jvm.Cond.fieldLink "SequenceBench$Reader" (20 : Nat) "SequenceBench$Reader" "steps" "Ljava/util/ArrayList;") ∈ lw_all := lw_g (lw_at lw_m3 162 rfl) rfl
theorem q704 : (Jvm.Cond.fieldLink "SequenceBench$Reader" (60 : Nat) "SequenceBench$Reader" "wrongMove" "LSequenceBench$SequenceError;") ∈ lw_all := lw_g (lw_at lw_m3 163 rfl) rfl
theorem q705 : (Jvm.Cond.fieldLink "SequenceBench$Reader" (24 : Nat) "SequenceBench$Reader" "at" "I") ∈ lw_all := lw_g (lw_at lw_m3 164 rfl) rfl
theorem q706 : (Jvm.Cond.fieldLink "SequenceBench$Reader" (74 : Nat) "SequenceBench$Reader" "out" "I") ∈ lw_all := lw_g (lw_at lw_m3 165 rfl) rfl
theorem q707 : (Jvm.Cond.fieldLink "SequenceBench$Reader" (64 : Nat) "SequenceBench$Reader" "plus" "I") ∈ lw_all := lw_g (lw_at lw_m3 166 rfl) rfl
theorem q708 : (Jvm.Cond.fieldLink "SequenceBench$Reader" (67 : Nat) "SequenceBench$Reader" "minus" "I") ∈ lw_all := lw_g (lw_at lw_m3 167 rfl) rfl
theorem q709 : (Jvm.Cond.fieldLink "SequenceBench$Reader" (3 : Nat) "SequenceBench$Reader" "this$0" "LSequenceBench;") ∈ lw_all := lw_g (lw_at lw_m3 168 rfl) rfl
theorem q710 : (Jvm.Cond.laysFinal "SequenceBench$Reader" "SequenceBench$Reader" "steps" "Ljava/util/ArrayList;") ∈ lw_all := lw_g (lw_at lw_m3 169 rfl) rfl
theorem q711 : (Jvm.Cond.soleField "SequenceBench$Reader" "steps") ∈ lw_all := lw_g (lw_at lw_m3 170 rfl) rfl
theorem q712 : (Jvm.Cond.lays "SequenceBench$Reader" "SequenceBench$Reader" "wrongMove" "LSequenceBench$SequenceError;") ∈ lw_all := lw_g (lw_at lw_m3 171 rfl) rfl
theorem q713 : (Jvm.Cond.soleField "SequenceBench$Reader" "wrongMove") ∈ lw_all := lw_g (lw_at lw_m3 172 rfl) rfl
theorem q714 : (Jvm.Cond.lays "SequenceBench$Reader" "SequenceBench$Reader" "at" "I") ∈ lw_all := lw_g (lw_at lw_m3 173 rfl) rfl
theorem q715 : (Jvm.Cond.soleField "SequenceBench$Reader" "at") ∈ lw_all := lw_g (lw_at lw_m3 174 rfl) rfl
theorem q716 : (Jvm.Cond.lays "SequenceBench$Reader" "SequenceBench$Reader" "out" "I") ∈ lw_all := lw_g (lw_at lw_m3 175 rfl) rfl
theorem q717 : (Jvm.Cond.soleField "SequenceBench$Reader" "out") ∈ lw_all := lw_g (lw_at lw_m3 176 rfl) rfl
theorem q718 : (Jvm.Cond.lays "SequenceBench$Reader" "SequenceBench$Reader" "plus" "I") ∈ lw_all := lw_g (lw_at lw_m3 177 rfl) rfl
theorem q719 : (Jvm.Cond.soleField "SequenceBench$Reader" "plus") ∈ lw_all := lw_g (lw_at lw_m3 178 rfl) rfl
theorem q720 : (Jvm.Cond.lays "SequenceBench$Reader" "SequenceBench$Reader" "minus" "I") ∈ lw_all := lw_g (lw_at lw_m3 179 rfl) rfl
theorem q721 : (Jvm.Cond.soleField "SequenceBench$Reader" "minus") ∈ lw_all := lw_g (lw_at lw_m3 180 rfl) rfl
theorem q722 : (Jvm.Cond.laysFinal "SequenceBench$Reader" "SequenceBench$Reader" "this$0" "LSequenceBench;") ∈ lw_all := lw_g (lw_at lw_m3 181 rfl) rfl
theorem q723 : (Jvm.Cond.soleField "SequenceBench$Reader" "this$0") ∈ lw_all := lw_g (lw_at lw_m3 182 rfl) rfl
theorem q724 : (Jvm.Cond.superclass "SequenceBench$Reader" "java/lang/Object") ∈ lw_all := lw_g (lw_at lw_m3 183 rfl) rfl
theorem q726 : (Jvm.Cond.instanceMethod ({ cls := "SequenceBench$Reader", name := "read", desc := "()LSequenceBench$Sequence;" } : Jvm.MethodName)) ∈ lw_all := lw_g (lw_at lw_m3 185 rfl) rfl
theorem q727 : (Jvm.Cond.selects "SequenceBench$Reader" ({ cls := "SequenceBench$Reader", name := "read", desc := "()LSequenceBench$Sequence;" } : Jvm.MethodName) ({ cls := "SequenceBench$Reader", name := "read", desc := "()LSequenceBench$Sequence;" } : Jvm.MethodName)) ∈ lw_all := lw_g (lw_at lw_m3 186 rfl) rfl
theorem q728 : (Jvm.Cond.code ({ cls := "SequenceBench$Reader", name := "read", desc := "()LSequenceBench$Sequence;" } : Jvm.MethodName) prog_10_method_9_code (3 : Nat) (Option.some (Jvm.ClassFile.FieldType.object "SequenceBench$Sequence"))) ∈ lw_all := lw_g (lw_at lw_m3 187 rfl) rfl
theorem q729 : (Jvm.Cond.methodLink "SequenceBench$Reader" (105 : Nat) ({ cls := "SequenceBench$Reader", name := "step", desc := "()V" } : Jvm.MethodName)) ∈ lw_all := lw_g (lw_at lw_m3 188 rfl) rfl
theorem q730 : (Jvm.Cond.privateMethod ({ cls := "SequenceBench$Reader", name := "step", desc := "()V" } : Jvm.MethodName)) ∈ lw_tbl := lw_at lw_m3 189 rfl
theorem q731 : (Jvm.Cond.instanceMethod ({ cls := "SequenceBench$Reader", name := "step", desc := "()V" } : Jvm.MethodName)) ∈ lw_all := lw_g (lw_at lw_m3 190 rfl) rfl
theorem q732 : (Jvm.Cond.code ({ cls := "SequenceBench$Reader", name := "step", desc := "()V" } : Jvm.MethodName) prog_10_method_8_code (2 : Nat) (Option.none : Option Jvm.ClassFile.FieldType)) ∈ lw_all := lw_g (lw_at lw_m3 191 rfl) rfl
theorem q733 : (Jvm.Cond.methodLink "SequenceBench$Reader" (86 : Nat) ({ cls := "java/util/ArrayList", name := "size", desc := "()I" } : Jvm.MethodName)) ∈ lw_all := lw_g (lw_at lw_m3 192 rfl) rfl
theorem q737 : (Jvm.Cond.methodLink "SequenceBench$Reader" (56 : Nat) ({ cls := "SequenceBench$Reader", name := "require", desc := "(Z)V" } : Jvm.MethodName)) ∈ lw_all := lw_g (lw_at lw_m3 196 rfl) rfl
theorem q738 : (Jvm.Cond.privateMethod ({ cls := "SequenceBench$Reader", name := "require", desc := "(Z)V" } : Jvm.MethodName)) ∈ lw_tbl := lw_at lw_m3 197 rfl
theorem q739 : (Jvm.Cond.instanceMethod ({ cls := "SequenceBench$Reader", name := "require", desc := "(Z)V" } : Jvm.MethodName)) ∈ lw_all := lw_g (lw_at lw_m3 198 rfl) rfl
theorem q740 : (Jvm.Cond.code ({ cls := "SequenceBench$Reader", name := "require", desc := "(Z)V" } : Jvm.MethodName) prog_10_method_3_code (2 : Nat) (Option.none : Option Jvm.ClassFile.FieldType)) ∈ lw_all := lw_g (lw_at lw_m3 199 rfl) rfl
theorem q741 : (Jvm.Cond.classLink "SequenceBench$Reader" (35 : Nat) "SequenceBench$SequenceError") ∈ lw_all := lw_g (lw_at lw_m3 200 rfl) rfl
theorem q750 : (Jvm.Cond.methodLink "SequenceBench$Reader" (37 : Nat) ({ cls := "SequenceBench$SequenceError", name := "<init>", desc := "(II)V" } : Jvm.MethodName)) ∈ lw_all := lw_g (lw_at lw_m3 209 rfl) rfl
theorem q769 : (Jvm.Cond.methodLink "SequenceBench$Reader" (40 : Nat) ({ cls := "SequenceBench$Reader", name := "peek", desc := "()C" } : Jvm.MethodName)) ∈ lw_all := lw_g (lw_at lw_m3 228 rfl) rfl
theorem q770 : (Jvm.Cond.privateMethod ({ cls := "SequenceBench$Reader", name := "peek", desc := "()C" } : Jvm.MethodName)) ∈ lw_tbl := lw_at lw_m3 229 rfl
theorem q771 : (Jvm.Cond.instanceMethod ({ cls := "SequenceBench$Reader", name := "peek", desc := "()C" } : Jvm.MethodName)) ∈ lw_all := lw_g (lw_at lw_m3 230 rfl) rfl
theorem q772 : (Jvm.Cond.code ({ cls := "SequenceBench$Reader", name := "peek", desc := "()C" } : Jvm.MethodName) prog_10_method_2_code (1 : Nat) (Option.some Jvm.ClassFile.FieldType.char)) ∈ lw_all := lw_g (lw_at lw_m3 231 rfl) rfl
theorem q773 : (Jvm.Cond.methodLink "SequenceBench$Reader" (90 : Nat) ({ cls := "SequenceBench$Reader", name := "group", desc := "()V" } : Jvm.MethodName)) ∈ lw_all := lw_g (lw_at lw_m3 232 rfl) rfl
theorem q774 : (Jvm.Cond.privateMethod ({ cls := "SequenceBench$Reader", name := "group", desc := "()V" } : Jvm.MethodName)) ∈ lw_tbl := lw_at lw_m3 233 rfl
theorem q775 : (Jvm.Cond.instanceMethod ({ cls := "SequenceBench$Reader", name := "group", desc := "()V" } : Jvm.MethodName)) ∈ lw_all := lw_g (lw_at lw_m3 234 rfl) rfl
theorem q776 : (Jvm.Cond.code ({ cls := "SequenceBench$Reader", name := "group", desc := "()V" } : Jvm.MethodName) prog_10_method_7_code (1 : Nat) (Option.none : Option Jvm.ClassFile.FieldType)) ∈ lw_all := lw_g (lw_at lw_m3 235 rfl) rfl
theorem q777 : (Jvm.Cond.methodLink "SequenceBench$Reader" (83 : Nat) ({ cls := "SequenceBench$Reader", name := "move", desc := "()V" } : Jvm.MethodName)) ∈ lw_all := lw_g (lw_at lw_m3 236 rfl) rfl
theorem q778 : (Jvm.Cond.privateMethod ({ cls := "SequenceBench$Reader", name := "move", desc := "()V" } : Jvm.MethodName)) ∈ lw_tbl := lw_at lw_m3 237 rfl
theorem q779 : (Jvm.Cond.instanceMethod ({ cls := "SequenceBench$Reader", name := "move", desc := "()V" } : Jvm.MethodName)) ∈ lw_all := lw_g (lw_at lw_m3 238 rfl) rfl
theorem q780 : (Jvm.Cond.code ({ cls := "SequenceBench$Reader", name := "move", desc := "()V" } : Jvm.MethodName) prog_10_method_5_code (4 : Nat) (Option.none : Option Jvm.ClassFile.FieldType)) ∈ lw_all := lw_g (lw_at lw_m3 239 rfl) rfl
theorem q781 : (Jvm.Cond.methodLink "SequenceBench$Reader" (52 : Nat) ({ cls := "SequenceBench$Reader", name := "isLetter", desc := "()Z" } : Jvm.MethodName)) ∈ lw_all := lw_g (lw_at lw_m4 0 rfl) rfl
theorem q782 : (Jvm.Cond.privateMethod ({ cls := "SequenceBench$Reader", name := "isLetter", desc := "()Z" } : Jvm.MethodName)) ∈ lw_tbl := lw_at lw_m4 1 rfl
theorem q783 : (Jvm.Cond.instanceMethod ({ cls := "SequenceBench$Reader", name := "isLetter", desc := "()Z" } : Jvm.MethodName)) ∈ lw_all := lw_g (lw_at lw_m4 2 rfl) rfl
theorem q784 : (Jvm.Cond.code ({ cls := "SequenceBench$Reader", name := "isLetter", desc := "()Z" } : Jvm.MethodName) prog_10_method_4_code (1 : Nat) (Option.some Jvm.ClassFile.FieldType.boolean)) ∈ lw_all := lw_g (lw_at lw_m4 3 rfl) rfl
theorem q785 : (Jvm.Cond.constantLong "SequenceBench$Reader" (44 : Nat) (65 : Int64)) ∈ lw_all := lw_g (lw_at lw_m4 4 rfl) rfl
theorem q786 : (Jvm.Cond.constantLong "SequenceBench$Reader" (46 : Nat) (70 : Int64)) ∈ lw_all := lw_g (lw_at lw_m4 5 rfl) rfl
theorem q787 : (Jvm.Cond.methodLinkNest "SequenceBench$Reader" (48 : Nat) ({ cls := "SequenceBench", name := "isIn", desc := "(JJJ)Z" } : Jvm.MethodName) "SequenceBench") ∈ lw_tbl := lw_at lw_m4 6 rfl
theorem q790 : (Jvm.Cond.methodLinkNest "SequenceBench$Reader" (70 : Nat) ({ cls := "SequenceBench", name := "has", desc := "(II)Z" } : Jvm.MethodName) "SequenceBench") ∈ lw_tbl := lw_at lw_m4 9 rfl
theorem q793 : (Jvm.Cond.methodLink "SequenceBench$Reader" (93 : Nat) ({ cls := "SequenceBench$Reader", name := "pause", desc := "()I" } : Jvm.MethodName)) ∈ lw_all := lw_g (lw_at lw_m4 12 rfl) rfl
theorem q794 : (Jvm.Cond.privateMethod ({ cls := "SequenceBench$Reader", name := "pause", desc := "()I" } : Jvm.MethodName)) ∈ lw_tbl := lw_at lw_m4 13 rfl
theorem q795 : (Jvm.Cond.instanceMethod ({ cls := "SequenceBench$Reader", name := "pause", desc := "()I" } : Jvm.MethodName)) ∈ lw_all := lw_g (lw_at lw_m4 14 rfl) rfl
theorem q796 : (Jvm.Cond.code ({ cls := "SequenceBench$Reader", name := "pause", desc := "()I" } : Jvm.MethodName) prog_10_method_6_code (3 : Nat) (Option.some Jvm.ClassFile.FieldType.int)) ∈ lw_all := lw_g (lw_at lw_m4 15 rfl) rfl
theorem q797 : (Jvm.Cond.constantLong "SequenceBench$Reader" (77 : Nat) (48 : Int64)) ∈ lw_all := lw_g (lw_at lw_m4 16 rfl) rfl
theorem q798 : (Jvm.Cond.constantLong "SequenceBench$Reader" (79 : Nat) (57 : Int64)) ∈ lw_all := lw_g (lw_at lw_m4 17 rfl) rfl
theorem q799 : (Jvm.Cond.constantLong "SequenceBench$Reader" (81 : Nat) (60 : Int64)) ∈ lw_all := lw_g (lw_at lw_m4 18 rfl) rfl
theorem q800 : (Jvm.Cond.classLink "SequenceBench$Reader" (96 : Nat) "SequenceBench$Step") ∈ lw_all := lw_g (lw_at lw_m4 19 rfl) rfl
theorem q802 : (Jvm.Cond.methodLink "SequenceBench$Reader" (98 : Nat) ({ cls := "SequenceBench$Step", name := "<init>", desc := "(III)V" } : Jvm.MethodName)) ∈ lw_all := lw_g (lw_at lw_m4 21 rfl) rfl
theorem q822 : (Jvm.Cond.methodLink "SequenceBench$Reader" (101 : Nat) ({ cls := "java/util/ArrayList", name := "add", desc := "(Ljava/lang/Object;)Z" } : Jvm.MethodName)) ∈ lw_all := lw_g (lw_at lw_m4 41 rfl) rfl
theorem q853 : (Jvm.Cond.selects "SequenceBench$Reader" ({ cls := "java/lang/Object", name := "getClass", desc := "()Ljava/lang/Class;" } : Jvm.MethodName) ({ cls := "java/lang/Object", name := "getClass", desc := "()Ljava/lang/Class;" } : Jvm.MethodName)) ∈ lw_all := lw_g (lw_at lw_m4 72 rfl) rfl
theorem q874 : (Jvm.Cond.methodLink "SequenceBench$Reader" (108 : Nat) ({ cls := "java/util/ArrayList", name := "get", desc := "(I)Ljava/lang/Object;" } : Jvm.MethodName)) ∈ lw_all := lw_g (lw_at lw_m4 93 rfl) rfl
theorem q888 : (Jvm.Cond.methodLink "SequenceBench$Reader" (112 : Nat) ({ cls := "SequenceBench$Step", name := "moves", desc := "()I" } : Jvm.MethodName)) ∈ lw_all := lw_g (lw_at lw_m4 107 rfl) rfl
theorem q889 : (Jvm.Cond.classLink "SequenceBench$Reader" (115 : Nat) "SequenceBench$Sequence") ∈ lw_all := lw_g (lw_at lw_m4 108 rfl) rfl
theorem q891 : (Jvm.Cond.methodLink "SequenceBench$Reader" (117 : Nat) ({ cls := "SequenceBench$Sequence", name := "<init>", desc := "(Ljava/util/ArrayList;)V" } : Jvm.MethodName)) ∈ lw_all := lw_g (lw_at lw_m4 110 rfl) rfl
theorem q1813 : (Jvm.Cond.castable "SequenceBench$Reader" "java/lang/Object") ∈ lw_tbl := lw_at lw_m8 72 rfl
theorem in_X8 : ∀ w ∈ wsX80, w ∈ lw_all := lw_in wsX80 [710, 712, 714, 716, 718, 720, 722] (by decide +kernel) (by decide +kernel)

/-! SequenceBench$SequenceError -/
set_option maxRecDepth 100000
def RX9 : String := "SequenceBench$SequenceError"
def TX9 : u_T := fun k => match k with
  | 0 => ("java/lang/Throwable", "cause", "Ljava/lang/Throwable;", false)
  | 1 => ("java/lang/Throwable", "stackTrace", "[Ljava/lang/StackTraceElement;", false)
  | 2 => ("java/lang/Throwable", "suppressedExceptions", "Ljava/util/List;", false)
  | 3 => ("java/lang/Throwable", "detailMessage", "Ljava/lang/String;", false)
  | 4 => ("java/lang/Throwable", "backtrace", "Ljava/lang/Object;", false)
  | 5 => ("java/lang/Throwable", "depth", "I", false)
  | 6 => ("SequenceBench$SequenceError", "kind", "I", true)
  | _ => ("SequenceBench$SequenceError", "position", "I", true)
def tyX9 : Nat → FieldType := fun k => match k with
  | 0 => .object "java/lang/Throwable"
  | 1 => .array (.object "java/lang/StackTraceElement")
  | 2 => .object "java/util/List"
  | 3 => .object "java/lang/String"
  | 4 => .object "java/lang/Object"
  | 5 => .int
  | 6 => .int
  | _ => .int
abbrev wsX90 : List Cond := u_ws RX9 TX9 8
theorem nmX9 : ∀ a, a < 8 → ∀ b, b < 8 → a ≠ b → (TX9 a).2.1 ≠ (TX9 b).2.1 := by decide +kernel
theorem tyX9_ok : ∀ k, k < 8 → parseFieldDescriptor (TX9 k).2.2.1 = some (tyX9 k) := by decide +kernel
abbrev cX9_init : ByteArray := prog_13_method_1_code
def yX9_init : MethodName := ⟨RX9, "<init>", "(II)V"⟩
def dkwX9_init_0 : List UInt8 := [42, 1, 1, 3, 3, 183, 0, 1, 42, 27, 181, 0, 7, 42, 28, 181, 0, 13, 177]
abbrev dktX9_init_0 : List UInt8 := dkwX9_init_0 ++ []
theorem dksX9_init_0 : cX9_init.data.toList.drop 0 = dktX9_init_0 := by decide +kernel
theorem dX9_init_0 : decode cX9_init 0 = .ok (.aload_n 0, 1) := dk_42 (dk_at dksX9_init_0 0 rfl rfl)
theorem dX9_init_1 : decode cX9_init 1 = .ok (.aconst_null, 1) := dk_1 (dk_at dksX9_init_0 1 rfl rfl)
theorem dX9_init_2 : decode cX9_init 2 = .ok (.aconst_null, 1) := dk_1 (dk_at dksX9_init_0 2 rfl rfl)
theorem dX9_init_3 : decode cX9_init 3 = .ok (.iconst 0, 1) := dk_3 (dk_at dksX9_init_0 3 rfl rfl)
theorem dX9_init_4 : decode cX9_init 4 = .ok (.iconst 0, 1) := dk_3 (dk_at dksX9_init_0 4 rfl rfl)
theorem dX9_init_5 : decode cX9_init 5 = .ok (.invokespecial 1, 3) := dk_183 0 1 (dk_at dksX9_init_0 5 rfl rfl)
theorem dX9_init_8 : decode cX9_init 8 = .ok (.aload_n 0, 1) := dk_42 (dk_at dksX9_init_0 8 rfl rfl)
theorem dX9_init_9 : decode cX9_init 9 = .ok (.iload_n 1, 1) := dk_27 (dk_at dksX9_init_0 9 rfl rfl)
theorem dX9_init_10 : decode cX9_init 10 = .ok (.putfield 7, 3) := dk_181 0 7 (dk_at dksX9_init_0 10 rfl rfl)
theorem dX9_init_13 : decode cX9_init 13 = .ok (.aload_n 0, 1) := dk_42 (dk_at dksX9_init_0 13 rfl rfl)
theorem dX9_init_14 : decode cX9_init 14 = .ok (.iload_n 2, 1) := dk_28 (dk_at dksX9_init_0 14 rfl rfl)
theorem dX9_init_15 : decode cX9_init 15 = .ok (.putfield 13, 3) := dk_181 0 13 (dk_at dksX9_init_0 15 rfl rfl)
theorem dX9_init_18 : decode cX9_init 18 = .ok (.return_, 1) := dk_177 (dk_at dksX9_init_0 18 rfl rfl)
theorem q91 : (Jvm.Cond.initialized "SequenceBench$SequenceError") ∈ lw_all := lw_g (lw_at lw_m1 30 rfl) rfl
theorem q412 : (Jvm.Cond.selects "SequenceBench$SequenceError" ({ cls := "java/lang/Throwable", name := "fillInStackTrace", desc := "()Ljava/lang/Throwable;" } : Jvm.MethodName) ({ cls := "java/lang/Throwable", name := "fillInStackTrace", desc := "()Ljava/lang/Throwable;" } : Jvm.MethodName)) ∈ lw_all := lw_g (lw_at lw_m2 111 rfl) rfl
theorem q742 : (Jvm.Cond.instantiable "SequenceBench$SequenceError" (8 : Nat)) ∈ lw_all := lw_g (lw_at lw_m3 201 rfl) rfl
theorem q743 : (Jvm.Cond.castable "SequenceBench$SequenceError" "SequenceBench$SequenceError") ∈ lw_tbl := lw_at lw_m3 202 rfl
theorem q744 : (Jvm.Cond.selects "SequenceBench$SequenceError" ({ cls := "java/lang/Throwable", name := "fillInStackTrace", desc := "(I)Ljava/lang/Throwable;" } : Jvm.MethodName) ({ cls := "java/lang/Throwable", name := "fillInStackTrace", desc := "(I)Ljava/lang/Throwable;" } : Jvm.MethodName)) ∈ lw_all := lw_g (lw_at lw_m3 203 rfl) rfl
theorem q745 : (Jvm.Cond.lays "SequenceBench$SequenceError" "java/lang/Throwable" "cause" "Ljava/lang/Throwable;") ∈ lw_all := lw_g (lw_at lw_m3 204 rfl) rfl
theorem q746 : (Jvm.Cond.lays "SequenceBench$SequenceError" "java/lang/Throwable" "stackTrace" "[Ljava/lang/StackTraceElement;") ∈ lw_all := lw_g (lw_at lw_m3 205 rfl) rfl
theorem q747 : (Jvm.Cond.lays "SequenceBench$SequenceError" "java/lang/Throwable" "suppressedExceptions" "Ljava/util/List;") ∈ lw_all := lw_g (lw_at lw_m3 206 rfl) rfl
theorem q748 : (Jvm.Cond.lays "SequenceBench$SequenceError" "java/lang/Throwable" "detailMessage" "Ljava/lang/String;") ∈ lw_all := lw_g (lw_at lw_m3 207 rfl) rfl
theorem q749 : (Jvm.Cond.lays "SequenceBench$SequenceError" "java/lang/Throwable" "backtrace" "Ljava/lang/Object;") ∈ lw_all := lw_g (lw_at lw_m3 208 rfl) rfl
theorem q751 : (Jvm.Cond.instanceMethod ({ cls := "SequenceBench$SequenceError", name := "<init>", desc := "(II)V" } : Jvm.MethodName)) ∈ lw_all := lw_g (lw_at lw_m3 210 rfl) rfl
theorem q752 : (Jvm.Cond.code ({ cls := "SequenceBench$SequenceError", name := "<init>", desc := "(II)V" } : Jvm.MethodName) prog_13_method_1_code (3 : Nat) (Option.none : Option Jvm.ClassFile.FieldType)) ∈ lw_all := lw_g (lw_at lw_m3 211 rfl) rfl
theorem q753 : (Jvm.Cond.methodLink "SequenceBench$SequenceError" (1 : Nat) ({ cls := "java/lang/Exception", name := "<init>", desc := "(Ljava/lang/String;Ljava/lang/Throwable;ZZ)V" } : Jvm.MethodName)) ∈ lw_all := lw_g (lw_at lw_m3 212 rfl) rfl
theorem q759 : (Jvm.Cond.fieldLink "SequenceBench$SequenceError" (7 : Nat) "SequenceBench$SequenceError" "kind" "I") ∈ lw_all := lw_g (lw_at lw_m3 218 rfl) rfl
theorem q761 : (Jvm.Cond.fieldLink "SequenceBench$SequenceError" (13 : Nat) "SequenceBench$SequenceError" "position" "I") ∈ lw_all := lw_g (lw_at lw_m3 220 rfl) rfl
theorem q763 : (Jvm.Cond.laysFinal "SequenceBench$SequenceError" "SequenceBench$SequenceError" "kind" "I") ∈ lw_all := lw_g (lw_at lw_m3 222 rfl) rfl
theorem q764 : (Jvm.Cond.soleField "SequenceBench$SequenceError" "kind") ∈ lw_all := lw_g (lw_at lw_m3 223 rfl) rfl
theorem q765 : (Jvm.Cond.laysFinal "SequenceBench$SequenceError" "SequenceBench$SequenceError" "position" "I") ∈ lw_all := lw_g (lw_at lw_m3 224 rfl) rfl
theorem q766 : (Jvm.Cond.soleField "SequenceBench$SequenceError" "position") ∈ lw_all := lw_g (lw_at lw_m3 225 rfl) rfl
theorem q767 : (Jvm.Cond.lays "SequenceBench$SequenceError" "java/lang/Throwable" "depth" "I") ∈ lw_all := lw_g (lw_at lw_m3 226 rfl) rfl
theorem q768 : (Jvm.Cond.superclass "SequenceBench$SequenceError" "java/lang/Exception") ∈ lw_all := lw_g (lw_at lw_m3 227 rfl) rfl
theorem q856 : (Jvm.Cond.selects "SequenceBench$SequenceError" ({ cls := "java/lang/Object", name := "getClass", desc := "()Ljava/lang/Class;" } : Jvm.MethodName) ({ cls := "java/lang/Object", name := "getClass", desc := "()Ljava/lang/Class;" } : Jvm.MethodName)) ∈ lw_all := lw_g (lw_at lw_m4 75 rfl) rfl
theorem q1817 : (Jvm.Cond.castable "SequenceBench$SequenceError" "java/lang/Object") ∈ lw_tbl := lw_at lw_m8 76 rfl
theorem in_X9 : ∀ w ∈ wsX90, w ∈ lw_all := lw_in wsX90 [745, 746, 747, 748, 749, 767, 763, 765] (by decide +kernel) (by decide +kernel)

/-! SequenceBench$Step -/
set_option maxRecDepth 100000
def RX10 : String := "SequenceBench$Step"
def TX10 : u_T := fun k => match k with
  | 0 => ("SequenceBench$Step", "plus", "I", true)
  | 1 => ("SequenceBench$Step", "minus", "I", true)
  | _ => ("SequenceBench$Step", "pause", "I", true)
def tyX10 : Nat → FieldType := fun k => match k with
  | 0 => .int
  | 1 => .int
  | _ => .int
abbrev wsX100 : List Cond := u_ws RX10 TX10 3
theorem nmX10 : ∀ a, a < 3 → ∀ b, b < 3 → a ≠ b → (TX10 a).2.1 ≠ (TX10 b).2.1 := by decide +kernel
theorem tyX10_ok : ∀ k, k < 3 → parseFieldDescriptor (TX10 k).2.2.1 = some (tyX10 k) := by decide +kernel
abbrev cX10_moves : ByteArray := prog_14_method_2_code
def yX10_moves : MethodName := ⟨RX10, "moves", "()I"⟩
def dkwX10_moves_0 : List UInt8 := [42, 180, 0, 7, 42, 180, 0, 13, 128, 172]
abbrev dktX10_moves_0 : List UInt8 := dkwX10_moves_0 ++ []
theorem dksX10_moves_0 : cX10_moves.data.toList.drop 0 = dktX10_moves_0 := by decide +kernel
theorem dX10_moves_0 : decode cX10_moves 0 = .ok (.aload_n 0, 1) := dk_42 (dk_at dksX10_moves_0 0 rfl rfl)
theorem dX10_moves_1 : decode cX10_moves 1 = .ok (.getfield 7, 3) := dk_180 0 7 (dk_at dksX10_moves_0 1 rfl rfl)
theorem dX10_moves_4 : decode cX10_moves 4 = .ok (.aload_n 0, 1) := dk_42 (dk_at dksX10_moves_0 4 rfl rfl)
theorem dX10_moves_5 : decode cX10_moves 5 = .ok (.getfield 13, 3) := dk_180 0 13 (dk_at dksX10_moves_0 5 rfl rfl)
theorem dX10_moves_8 : decode cX10_moves 8 = .ok (.ior, 1) := dk_128 (dk_at dksX10_moves_0 8 rfl rfl)
theorem dX10_moves_9 : decode cX10_moves 9 = .ok (.ireturn, 1) := dk_172 (dk_at dksX10_moves_0 9 rfl rfl)
abbrev cX10_init : ByteArray := prog_14_method_1_code
def yX10_init : MethodName := ⟨RX10, "<init>", "(III)V"⟩
def dkwX10_init_0 : List UInt8 := [42, 183, 0, 1, 42, 27, 181, 0, 7, 42, 28, 181, 0, 13, 42, 29, 181, 0, 16, 177]
abbrev dktX10_init_0 : List UInt8 := dkwX10_init_0 ++ []
theorem dksX10_init_0 : cX10_init.data.toList.drop 0 = dktX10_init_0 := by decide +kernel
theorem dX10_init_0 : decode cX10_init 0 = .ok (.aload_n 0, 1) := dk_42 (dk_at dksX10_init_0 0 rfl rfl)
theorem dX10_init_1 : decode cX10_init 1 = .ok (.invokespecial 1, 3) := dk_183 0 1 (dk_at dksX10_init_0 1 rfl rfl)
theorem dX10_init_4 : decode cX10_init 4 = .ok (.aload_n 0, 1) := dk_42 (dk_at dksX10_init_0 4 rfl rfl)
theorem dX10_init_5 : decode cX10_init 5 = .ok (.iload_n 1, 1) := dk_27 (dk_at dksX10_init_0 5 rfl rfl)
theorem dX10_init_6 : decode cX10_init 6 = .ok (.putfield 7, 3) := dk_181 0 7 (dk_at dksX10_init_0 6 rfl rfl)
theorem dX10_init_9 : decode cX10_init 9 = .ok (.aload_n 0, 1) := dk_42 (dk_at dksX10_init_0 9 rfl rfl)
theorem dX10_init_10 : decode cX10_init 10 = .ok (.iload_n 2, 1) := dk_28 (dk_at dksX10_init_0 10 rfl rfl)
theorem dX10_init_11 : decode cX10_init 11 = .ok (.putfield 13, 3) := dk_181 0 13 (dk_at dksX10_init_0 11 rfl rfl)
theorem dX10_init_14 : decode cX10_init 14 = .ok (.aload_n 0, 1) := dk_42 (dk_at dksX10_init_0 14 rfl rfl)
theorem dX10_init_15 : decode cX10_init 15 = .ok (.iload_n 3, 1) := dk_29 (dk_at dksX10_init_0 15 rfl rfl)
theorem dX10_init_16 : decode cX10_init 16 = .ok (.putfield 16, 3) := dk_181 0 16 (dk_at dksX10_init_0 16 rfl rfl)
theorem dX10_init_19 : decode cX10_init 19 = .ok (.return_, 1) := dk_177 (dk_at dksX10_init_0 19 rfl rfl)
abbrev cX10_direction : ByteArray := prog_14_method_3_code
def yX10_direction : MethodName := ⟨RX10, "direction", "(I)I"⟩
def dkwX10_direction_1 : List UInt8 := [153, 0, 7, 2, 167, 0, 4, 3, 172]
abbrev dktX10_direction_1 : List UInt8 := dkwX10_direction_1 ++ []
def dkwX10_direction_0 : List UInt8 := [42, 180, 0, 7, 27, 184, 0, 19, 153, 0, 7, 4, 167, 0, 19, 42, 180, 0, 13, 27, 184, 0, 19]
abbrev dktX10_direction_0 : List UInt8 := dkwX10_direction_0 ++ dktX10_direction_1
theorem dksX10_direction_0 : cX10_direction.data.toList.drop 0 = dktX10_direction_0 := by decide +kernel
theorem dksX10_direction_1 : cX10_direction.data.toList.drop 23 = dktX10_direction_1 := dk_seg dksX10_direction_0 23 rfl rfl
theorem dX10_direction_0 : decode cX10_direction 0 = .ok (.aload_n 0, 1) := dk_42 (dk_at dksX10_direction_0 0 rfl rfl)
theorem dX10_direction_1 : decode cX10_direction 1 = .ok (.getfield 7, 3) := dk_180 0 7 (dk_at dksX10_direction_0 1 rfl rfl)
theorem dX10_direction_4 : decode cX10_direction 4 = .ok (.iload_n 1, 1) := dk_27 (dk_at dksX10_direction_0 4 rfl rfl)
theorem dX10_direction_5 : decode cX10_direction 5 = .ok (.invokestatic 19, 3) := dk_184 0 19 (dk_at dksX10_direction_0 5 rfl rfl)
theorem dX10_direction_8 : decode cX10_direction 8 = .ok (.ifCond .eq 7, 3) := dk_153 0 7 (dk_at dksX10_direction_0 8 rfl rfl)
theorem dX10_direction_11 : decode cX10_direction 11 = .ok (.iconst 1, 1) := dk_4 (dk_at dksX10_direction_0 11 rfl rfl)
theorem dX10_direction_12 : decode cX10_direction 12 = .ok (.goto 19, 3) := dk_167 0 19 (dk_at dksX10_direction_0 12 rfl rfl)
theorem dX10_direction_15 : decode cX10_direction 15 = .ok (.aload_n 0, 1) := dk_42 (dk_at dksX10_direction_0 15 rfl rfl)
theorem dX10_direction_16 : decode cX10_direction 16 = .ok (.getfield 13, 3) := dk_180 0 13 (dk_at dksX10_direction_0 16 rfl rfl)
theorem dX10_direction_19 : decode cX10_direction 19 = .ok (.iload_n 1, 1) := dk_27 (dk_at dksX10_direction_0 19 rfl rfl)
theorem dX10_direction_20 : decode cX10_direction 20 = .ok (.invokestatic 19, 3) := dk_184 0 19 (dk_at dksX10_direction_0 20 rfl rfl)
theorem dX10_direction_23 : decode cX10_direction 23 = .ok (.ifCond .eq 7, 3) := dk_153 0 7 (dk_at dksX10_direction_1 0 rfl rfl)
theorem dX10_direction_26 : decode cX10_direction 26 = .ok (.iconst (-1), 1) := dk_2 (dk_at dksX10_direction_1 3 rfl rfl)
theorem dX10_direction_27 : decode cX10_direction 27 = .ok (.goto 4, 3) := dk_167 0 4 (dk_at dksX10_direction_1 4 rfl rfl)
theorem dX10_direction_30 : decode cX10_direction 30 = .ok (.iconst 0, 1) := dk_3 (dk_at dksX10_direction_1 7 rfl rfl)
theorem dX10_direction_31 : decode cX10_direction 31 = .ok (.ireturn, 1) := dk_172 (dk_at dksX10_direction_1 8 rfl rfl)
abbrev cX10_isMade : ByteArray := prog_14_method_4_code
def yX10_isMade : MethodName := ⟨RX10, "isMade", "(I)Z"⟩
def dkwX10_isMade_1 : List UInt8 := [180, 0, 13, 126, 154, 0, 7, 4, 167, 0, 4, 3, 172]
abbrev dktX10_isMade_1 : List UInt8 := dkwX10_isMade_1 ++ []
def dkwX10_isMade_0 : List UInt8 := [42, 180, 0, 16, 154, 0, 29, 27, 42, 180, 0, 7, 126, 42, 180, 0, 7, 160, 0, 16, 27, 42]
abbrev dktX10_isMade_0 : List UInt8 := dkwX10_isMade_0 ++ dktX10_isMade_1
theorem dksX10_isMade_0 : cX10_isMade.data.toList.drop 0 = dktX10_isMade_0 := by decide +kernel
theorem dksX10_isMade_1 : cX10_isMade.data.toList.drop 22 = dktX10_isMade_1 := dk_seg dksX10_isMade_0 22 rfl rfl
theorem dX10_isMade_0 : decode cX10_isMade 0 = .ok (.aload_n 0, 1) := dk_42 (dk_at dksX10_isMade_0 0 rfl rfl)
theorem dX10_isMade_1 : decode cX10_isMade 1 = .ok (.getfield 16, 3) := dk_180 0 16 (dk_at dksX10_isMade_0 1 rfl rfl)
theorem dX10_isMade_4 : decode cX10_isMade 4 = .ok (.ifCond .ne 29, 3) := dk_154 0 29 (dk_at dksX10_isMade_0 4 rfl rfl)
theorem dX10_isMade_7 : decode cX10_isMade 7 = .ok (.iload_n 1, 1) := dk_27 (dk_at dksX10_isMade_0 7 rfl rfl)
theorem dX10_isMade_8 : decode cX10_isMade 8 = .ok (.aload_n 0, 1) := dk_42 (dk_at dksX10_isMade_0 8 rfl rfl)
theorem dX10_isMade_9 : decode cX10_isMade 9 = .ok (.getfield 7, 3) := dk_180 0 7 (dk_at dksX10_isMade_0 9 rfl rfl)
theorem dX10_isMade_12 : decode cX10_isMade 12 = .ok (.iand, 1) := dk_126 (dk_at dksX10_isMade_0 12 rfl rfl)
theorem dX10_isMade_13 : decode cX10_isMade 13 = .ok (.aload_n 0, 1) := dk_42 (dk_at dksX10_isMade_0 13 rfl rfl)
theorem dX10_isMade_14 : decode cX10_isMade 14 = .ok (.getfield 7, 3) := dk_180 0 7 (dk_at dksX10_isMade_0 14 rfl rfl)
theorem dX10_isMade_17 : decode cX10_isMade 17 = .ok (.if_icmp .ne 16, 3) := dk_160 0 16 (dk_at dksX10_isMade_0 17 rfl rfl)
theorem dX10_isMade_20 : decode cX10_isMade 20 = .ok (.iload_n 1, 1) := dk_27 (dk_at dksX10_isMade_0 20 rfl rfl)
theorem dX10_isMade_21 : decode cX10_isMade 21 = .ok (.aload_n 0, 1) := dk_42 (dk_at dksX10_isMade_0 21 rfl rfl)
theorem dX10_isMade_22 : decode cX10_isMade 22 = .ok (.getfield 13, 3) := dk_180 0 13 (dk_at dksX10_isMade_1 0 rfl rfl)
theorem dX10_isMade_25 : decode cX10_isMade 25 = .ok (.iand, 1) := dk_126 (dk_at dksX10_isMade_1 3 rfl rfl)
theorem dX10_isMade_26 : decode cX10_isMade 26 = .ok (.ifCond .ne 7, 3) := dk_154 0 7 (dk_at dksX10_isMade_1 4 rfl rfl)
theorem dX10_isMade_29 : decode cX10_isMade 29 = .ok (.iconst 1, 1) := dk_4 (dk_at dksX10_isMade_1 7 rfl rfl)
theorem dX10_isMade_30 : decode cX10_isMade 30 = .ok (.goto 4, 3) := dk_167 0 4 (dk_at dksX10_isMade_1 8 rfl rfl)
theorem dX10_isMade_33 : decode cX10_isMade 33 = .ok (.iconst 0, 1) := dk_3 (dk_at dksX10_isMade_1 11 rfl rfl)
theorem dX10_isMade_34 : decode cX10_isMade 34 = .ok (.ireturn, 1) := dk_172 (dk_at dksX10_isMade_1 12 rfl rfl)
theorem q92 : (Jvm.Cond.initialized "SequenceBench$Step") ∈ lw_all := lw_g (lw_at lw_m1 31 rfl) rfl
theorem q212 : (Jvm.Cond.instanceMethod ({ cls := "SequenceBench$Step", name := "moves", desc := "()I" } : Jvm.MethodName)) ∈ lw_all := lw_g (lw_at lw_m1 151 rfl) rfl
theorem q213 : (Jvm.Cond.selects "SequenceBench$Step" ({ cls := "SequenceBench$Step", name := "moves", desc := "()I" } : Jvm.MethodName) ({ cls := "SequenceBench$Step", name := "moves", desc := "()I" } : Jvm.MethodName)) ∈ lw_all := lw_g (lw_at lw_m1 152 rfl) rfl
theorem q214 : (Jvm.Cond.code ({ cls := "SequenceBench$Step", name := "moves", desc := "()I" } : Jvm.MethodName) prog_14_method_2_code (1 : Nat) (Option.some Jvm.ClassFile.FieldType.int)) ∈ lw_all := lw_g (lw_at lw_m1 153 rfl) rfl
theorem q801 : (Jvm.Cond.instantiable "SequenceBench$Step" (3 : Nat)) ∈ lw_all := lw_g (lw_at lw_m4 20 rfl) rfl
theorem q803 : (Jvm.Cond.instanceMethod ({ cls := "SequenceBench$Step", name := "<init>", desc := "(III)V" } : Jvm.MethodName)) ∈ lw_all := lw_g (lw_at lw_m4 22 rfl) rfl
theorem q804 : (Jvm.Cond.code ({ cls := "SequenceBench$Step", name := "<init>", desc := "(III)V" } : Jvm.MethodName) prog_14_method_1_code (4 : Nat) (Option.none : Option Jvm.ClassFile.FieldType)) ∈ lw_all := lw_g (lw_at lw_m4 23 rfl) rfl
theorem q805 : (Jvm.Cond.methodLink "SequenceBench$Step" (1 : Nat) ({ cls := "java/lang/Object", name := "<init>", desc := "()V" } : Jvm.MethodName)) ∈ lw_all := lw_g (lw_at lw_m4 24 rfl) rfl
theorem q806 : (Jvm.Cond.fieldLink "SequenceBench$Step" (7 : Nat) "SequenceBench$Step" "plus" "I") ∈ lw_all := lw_g (lw_at lw_m4 25 rfl) rfl
theorem q809 : (Jvm.Cond.fieldLink "SequenceBench$Step" (13 : Nat) "SequenceBench$Step" "minus" "I") ∈ lw_all := lw_g (lw_at lw_m4 28 rfl) rfl
theorem q812 : (Jvm.Cond.fieldLink "SequenceBench$Step" (16 : Nat) "SequenceBench$Step" "pause" "I") ∈ lw_all := lw_g (lw_at lw_m4 31 rfl) rfl
theorem q815 : (Jvm.Cond.laysFinal "SequenceBench$Step" "SequenceBench$Step" "plus" "I") ∈ lw_all := lw_g (lw_at lw_m4 34 rfl) rfl
theorem q816 : (Jvm.Cond.soleField "SequenceBench$Step" "plus") ∈ lw_all := lw_g (lw_at lw_m4 35 rfl) rfl
theorem q817 : (Jvm.Cond.laysFinal "SequenceBench$Step" "SequenceBench$Step" "minus" "I") ∈ lw_all := lw_g (lw_at lw_m4 36 rfl) rfl
theorem q818 : (Jvm.Cond.soleField "SequenceBench$Step" "minus") ∈ lw_all := lw_g (lw_at lw_m4 37 rfl) rfl
theorem q819 : (Jvm.Cond.laysFinal "SequenceBench$Step" "SequenceBench$Step" "pause" "I") ∈ lw_all := lw_g (lw_at lw_m4 38 rfl) rfl
theorem q820 : (Jvm.Cond.soleField "SequenceBench$Step" "pause") ∈ lw_all := lw_g (lw_at lw_m4 39 rfl) rfl
theorem q821 : (Jvm.Cond.superclass "SequenceBench$Step" "java/lang/Object") ∈ lw_all := lw_g (lw_at lw_m4 40 rfl) rfl
theorem q857 : (Jvm.Cond.selects "SequenceBench$Step" ({ cls := "java/lang/Object", name := "getClass", desc := "()Ljava/lang/Class;" } : Jvm.MethodName) ({ cls := "java/lang/Object", name := "getClass", desc := "()Ljava/lang/Class;" } : Jvm.MethodName)) ∈ lw_all := lw_g (lw_at lw_m4 76 rfl) rfl
theorem q1108 : (Jvm.Cond.instanceMethod ({ cls := "SequenceBench$Step", name := "direction", desc := "(I)I" } : Jvm.MethodName)) ∈ lw_all := lw_g (lw_at lw_m5 87 rfl) rfl
theorem q1109 : (Jvm.Cond.selects "SequenceBench$Step" ({ cls := "SequenceBench$Step", name := "direction", desc := "(I)I" } : Jvm.MethodName) ({ cls := "SequenceBench$Step", name := "direction", desc := "(I)I" } : Jvm.MethodName)) ∈ lw_all := lw_g (lw_at lw_m5 88 rfl) rfl
theorem q1110 : (Jvm.Cond.code ({ cls := "SequenceBench$Step", name := "direction", desc := "(I)I" } : Jvm.MethodName) prog_14_method_3_code (2 : Nat) (Option.some Jvm.ClassFile.FieldType.int)) ∈ lw_all := lw_g (lw_at lw_m5 89 rfl) rfl
theorem q1111 : (Jvm.Cond.methodLinkNest "SequenceBench$Step" (19 : Nat) ({ cls := "SequenceBench", name := "has", desc := "(II)Z" } : Jvm.MethodName) "SequenceBench") ∈ lw_tbl := lw_at lw_m5 90 rfl
theorem q1137 : (Jvm.Cond.instanceMethod ({ cls := "SequenceBench$Step", name := "isMade", desc := "(I)Z" } : Jvm.MethodName)) ∈ lw_all := lw_g (lw_at lw_m5 116 rfl) rfl
theorem q1138 : (Jvm.Cond.selects "SequenceBench$Step" ({ cls := "SequenceBench$Step", name := "isMade", desc := "(I)Z" } : Jvm.MethodName) ({ cls := "SequenceBench$Step", name := "isMade", desc := "(I)Z" } : Jvm.MethodName)) ∈ lw_all := lw_g (lw_at lw_m5 117 rfl) rfl
theorem q1139 : (Jvm.Cond.code ({ cls := "SequenceBench$Step", name := "isMade", desc := "(I)Z" } : Jvm.MethodName) prog_14_method_4_code (2 : Nat) (Option.some Jvm.ClassFile.FieldType.boolean)) ∈ lw_all := lw_g (lw_at lw_m5 118 rfl) rfl
theorem q1805 : (Jvm.Cond.castable "SequenceBench$Step" "java/lang/Object") ∈ lw_tbl := lw_at lw_m8 64 rfl
theorem in_X10 : ∀ w ∈ wsX100, w ∈ lw_all := lw_in wsX100 [815, 817, 819] (by decide +kernel) (by decide +kernel)

/-! SequenceBench$Sequence -/
set_option maxRecDepth 100000
def RX11 : String := "SequenceBench$Sequence"
def TX11 : u_T := fun k => match k with
  | 0 => ("SequenceBench$Sequence", "steps", "[LSequenceBench$Step;", true)
  | 1 => ("SequenceBench$Sequence", "outs", "[I", true)
  | _ => ("SequenceBench$Sequence", "cuts", "[I", true)
def tyX11 : Nat → FieldType := fun k => match k with
  | 0 => .array (.object "SequenceBench$Step")
  | 1 => .array .int
  | _ => .array .int
abbrev wsX110 : List Cond := u_ws RX11 TX11 3
theorem nmX11 : ∀ a, a < 3 → ∀ b, b < 3 → a ≠ b → (TX11 a).2.1 ≠ (TX11 b).2.1 := by decide +kernel
theorem tyX11_ok : ∀ k, k < 3 → parseFieldDescriptor (TX11 k).2.2.1 = some (tyX11 k) := by decide +kernel
abbrev cX11_before : ByteArray := prog_12_method_2_code
def yX11_before : MethodName := ⟨RX11, "before", "(I)I"⟩
def dkwX11_before_0 : List UInt8 := [27, 154, 0, 13, 42, 180, 0, 15, 190, 4, 100, 167, 0, 6, 27, 4, 100, 172]
abbrev dktX11_before_0 : List UInt8 := dkwX11_before_0 ++ []
theorem dksX11_before_0 : cX11_before.data.toList.drop 0 = dktX11_before_0 := by decide +kernel
theorem dX11_before_0 : decode cX11_before 0 = .ok (.iload_n 1, 1) := dk_27 (dk_at dksX11_before_0 0 rfl rfl)
theorem dX11_before_1 : decode cX11_before 1 = .ok (.ifCond .ne 13, 3) := dk_154 0 13 (dk_at dksX11_before_0 1 rfl rfl)
theorem dX11_before_4 : decode cX11_before 4 = .ok (.aload_n 0, 1) := dk_42 (dk_at dksX11_before_0 4 rfl rfl)
theorem dX11_before_5 : decode cX11_before 5 = .ok (.getfield 15, 3) := dk_180 0 15 (dk_at dksX11_before_0 5 rfl rfl)
theorem dX11_before_8 : decode cX11_before 8 = .ok (.arraylength, 1) := dk_190 (dk_at dksX11_before_0 8 rfl rfl)
theorem dX11_before_9 : decode cX11_before 9 = .ok (.iconst 1, 1) := dk_4 (dk_at dksX11_before_0 9 rfl rfl)
theorem dX11_before_10 : decode cX11_before 10 = .ok (.isub, 1) := dk_100 (dk_at dksX11_before_0 10 rfl rfl)
theorem dX11_before_11 : decode cX11_before 11 = .ok (.goto 6, 3) := dk_167 0 6 (dk_at dksX11_before_0 11 rfl rfl)
theorem dX11_before_14 : decode cX11_before 14 = .ok (.iload_n 1, 1) := dk_27 (dk_at dksX11_before_0 14 rfl rfl)
theorem dX11_before_15 : decode cX11_before 15 = .ok (.iconst 1, 1) := dk_4 (dk_at dksX11_before_0 15 rfl rfl)
theorem dX11_before_16 : decode cX11_before 16 = .ok (.isub, 1) := dk_100 (dk_at dksX11_before_0 16 rfl rfl)
theorem dX11_before_17 : decode cX11_before 17 = .ok (.ireturn, 1) := dk_172 (dk_at dksX11_before_0 17 rfl rfl)
abbrev cX11_groupOf : ByteArray := prog_12_method_10_code
def yX11_groupOf : MethodName := ⟨RX11, "groupOf", "(I)I"⟩
def dkwX11_groupOf_1 : List UInt8 := [46, 27, 163, 0, 7, 29, 167, 0, 4, 28, 61, 132, 3, 1, 167, 255, 228, 28, 172]
abbrev dktX11_groupOf_1 : List UInt8 := dkwX11_groupOf_1 ++ []
def dkwX11_groupOf_0 : List UInt8 := [42, 180, 0, 40, 190, 4, 100, 61, 3, 62, 29, 42, 180, 0, 40, 190, 162, 0, 25, 42, 180, 0, 40, 29]
abbrev dktX11_groupOf_0 : List UInt8 := dkwX11_groupOf_0 ++ dktX11_groupOf_1
theorem dksX11_groupOf_0 : cX11_groupOf.data.toList.drop 0 = dktX11_groupOf_0 := by decide +kernel
theorem dksX11_groupOf_1 : cX11_groupOf.data.toList.drop 24 = dktX11_groupOf_1 := dk_seg dksX11_groupOf_0 24 rfl rfl
theorem dX11_groupOf_0 : decode cX11_groupOf 0 = .ok (.aload_n 0, 1) := dk_42 (dk_at dksX11_groupOf_0 0 rfl rfl)
theorem dX11_groupOf_1 : decode cX11_groupOf 1 = .ok (.getfield 40, 3) := dk_180 0 40 (dk_at dksX11_groupOf_0 1 rfl rfl)
theorem dX11_groupOf_4 : decode cX11_groupOf 4 = .ok (.arraylength, 1) := dk_190 (dk_at dksX11_groupOf_0 4 rfl rfl)
theorem dX11_groupOf_5 : decode cX11_groupOf 5 = .ok (.iconst 1, 1) := dk_4 (dk_at dksX11_groupOf_0 5 rfl rfl)
theorem dX11_groupOf_6 : decode cX11_groupOf 6 = .ok (.isub, 1) := dk_100 (dk_at dksX11_groupOf_0 6 rfl rfl)
theorem dX11_groupOf_7 : decode cX11_groupOf 7 = .ok (.istore_n 2, 1) := dk_61 (dk_at dksX11_groupOf_0 7 rfl rfl)
theorem dX11_groupOf_8 : decode cX11_groupOf 8 = .ok (.iconst 0, 1) := dk_3 (dk_at dksX11_groupOf_0 8 rfl rfl)
theorem dX11_groupOf_9 : decode cX11_groupOf 9 = .ok (.istore_n 3, 1) := dk_62 (dk_at dksX11_groupOf_0 9 rfl rfl)
theorem dX11_groupOf_10 : decode cX11_groupOf 10 = .ok (.iload_n 3, 1) := dk_29 (dk_at dksX11_groupOf_0 10 rfl rfl)
theorem dX11_groupOf_11 : decode cX11_groupOf 11 = .ok (.aload_n 0, 1) := dk_42 (dk_at dksX11_groupOf_0 11 rfl rfl)
theorem dX11_groupOf_12 : decode cX11_groupOf 12 = .ok (.getfield 40, 3) := dk_180 0 40 (dk_at dksX11_groupOf_0 12 rfl rfl)
theorem dX11_groupOf_15 : decode cX11_groupOf 15 = .ok (.arraylength, 1) := dk_190 (dk_at dksX11_groupOf_0 15 rfl rfl)
theorem dX11_groupOf_16 : decode cX11_groupOf 16 = .ok (.if_icmp .ge 25, 3) := dk_162 0 25 (dk_at dksX11_groupOf_0 16 rfl rfl)
theorem dX11_groupOf_19 : decode cX11_groupOf 19 = .ok (.aload_n 0, 1) := dk_42 (dk_at dksX11_groupOf_0 19 rfl rfl)
theorem dX11_groupOf_20 : decode cX11_groupOf 20 = .ok (.getfield 40, 3) := dk_180 0 40 (dk_at dksX11_groupOf_0 20 rfl rfl)
theorem dX11_groupOf_23 : decode cX11_groupOf 23 = .ok (.iload_n 3, 1) := dk_29 (dk_at dksX11_groupOf_0 23 rfl rfl)
theorem dX11_groupOf_24 : decode cX11_groupOf 24 = .ok (.iaload, 1) := dk_46 (dk_at dksX11_groupOf_1 0 rfl rfl)
theorem dX11_groupOf_25 : decode cX11_groupOf 25 = .ok (.iload_n 1, 1) := dk_27 (dk_at dksX11_groupOf_1 1 rfl rfl)
theorem dX11_groupOf_26 : decode cX11_groupOf 26 = .ok (.if_icmp .gt 7, 3) := dk_163 0 7 (dk_at dksX11_groupOf_1 2 rfl rfl)
theorem dX11_groupOf_29 : decode cX11_groupOf 29 = .ok (.iload_n 3, 1) := dk_29 (dk_at dksX11_groupOf_1 5 rfl rfl)
theorem dX11_groupOf_30 : decode cX11_groupOf 30 = .ok (.goto 4, 3) := dk_167 0 4 (dk_at dksX11_groupOf_1 6 rfl rfl)
theorem dX11_groupOf_33 : decode cX11_groupOf 33 = .ok (.iload_n 2, 1) := dk_28 (dk_at dksX11_groupOf_1 9 rfl rfl)
theorem dX11_groupOf_34 : decode cX11_groupOf 34 = .ok (.istore_n 2, 1) := dk_61 (dk_at dksX11_groupOf_1 10 rfl rfl)
theorem dX11_groupOf_35 : decode cX11_groupOf 35 = .ok (.iinc 3 1, 3) := dk_132 3 1 (dk_at dksX11_groupOf_1 11 rfl rfl)
theorem dX11_groupOf_38 : decode cX11_groupOf 38 = .ok (.goto (-28), 3) := dk_167 255 228 (dk_at dksX11_groupOf_1 14 rfl rfl)
theorem dX11_groupOf_41 : decode cX11_groupOf 41 = .ok (.iload_n 2, 1) := dk_28 (dk_at dksX11_groupOf_1 17 rfl rfl)
theorem dX11_groupOf_42 : decode cX11_groupOf 42 = .ok (.ireturn, 1) := dk_172 (dk_at dksX11_groupOf_1 18 rfl rfl)
abbrev cX11_firstOf : ByteArray := prog_12_method_11_code
def yX11_firstOf : MethodName := ⟨RX11, "firstOf", "(I)I"⟩
def dkwX11_firstOf_0 : List UInt8 := [42, 180, 0, 40, 27, 46, 172]
abbrev dktX11_firstOf_0 : List UInt8 := dkwX11_firstOf_0 ++ []
theorem dksX11_firstOf_0 : cX11_firstOf.data.toList.drop 0 = dktX11_firstOf_0 := by decide +kernel
theorem dX11_firstOf_0 : decode cX11_firstOf 0 = .ok (.aload_n 0, 1) := dk_42 (dk_at dksX11_firstOf_0 0 rfl rfl)
theorem dX11_firstOf_1 : decode cX11_firstOf 1 = .ok (.getfield 40, 3) := dk_180 0 40 (dk_at dksX11_firstOf_0 1 rfl rfl)
theorem dX11_firstOf_4 : decode cX11_firstOf 4 = .ok (.iload_n 1, 1) := dk_27 (dk_at dksX11_firstOf_0 4 rfl rfl)
theorem dX11_firstOf_5 : decode cX11_firstOf 5 = .ok (.iaload, 1) := dk_46 (dk_at dksX11_firstOf_0 5 rfl rfl)
theorem dX11_firstOf_6 : decode cX11_firstOf 6 = .ok (.ireturn, 1) := dk_172 (dk_at dksX11_firstOf_0 6 rfl rfl)
abbrev cX11_firstWithMoves : ByteArray := prog_12_method_5_code
def yX11_firstWithMoves : MethodName := ⟨RX11, "firstWithMoves", "()I"⟩
def dkwX11_firstWithMoves_0 : List UInt8 := [3, 60, 42, 180, 0, 15, 27, 50, 182, 0, 43, 154, 0, 9, 132, 1, 1, 167, 255, 241, 27, 172]
abbrev dktX11_firstWithMoves_0 : List UInt8 := dkwX11_firstWithMoves_0 ++ []
theorem dksX11_firstWithMoves_0 : cX11_firstWithMoves.data.toList.drop 0 = dktX11_firstWithMoves_0 := by decide +kernel
theorem dX11_firstWithMoves_0 : decode cX11_firstWithMoves 0 = .ok (.iconst 0, 1) := dk_3 (dk_at dksX11_firstWithMoves_0 0 rfl rfl)
theorem dX11_firstWithMoves_1 : decode cX11_firstWithMoves 1 = .ok (.istore_n 1, 1) := dk_60 (dk_at dksX11_firstWithMoves_0 1 rfl rfl)
theorem dX11_firstWithMoves_2 : decode cX11_firstWithMoves 2 = .ok (.aload_n 0, 1) := dk_42 (dk_at dksX11_firstWithMoves_0 2 rfl rfl)
theorem dX11_firstWithMoves_3 : decode cX11_firstWithMoves 3 = .ok (.getfield 15, 3) := dk_180 0 15 (dk_at dksX11_firstWithMoves_0 3 rfl rfl)
theorem dX11_firstWithMoves_6 : decode cX11_firstWithMoves 6 = .ok (.iload_n 1, 1) := dk_27 (dk_at dksX11_firstWithMoves_0 6 rfl rfl)
theorem dX11_firstWithMoves_7 : decode cX11_firstWithMoves 7 = .ok (.aaload, 1) := dk_50 (dk_at dksX11_firstWithMoves_0 7 rfl rfl)
theorem dX11_firstWithMoves_8 : decode cX11_firstWithMoves 8 = .ok (.invokevirtual 43, 3) := dk_182 0 43 (dk_at dksX11_firstWithMoves_0 8 rfl rfl)
theorem dX11_firstWithMoves_11 : decode cX11_firstWithMoves 11 = .ok (.ifCond .ne 9, 3) := dk_154 0 9 (dk_at dksX11_firstWithMoves_0 11 rfl rfl)
theorem dX11_firstWithMoves_14 : decode cX11_firstWithMoves 14 = .ok (.iinc 1 1, 3) := dk_132 1 1 (dk_at dksX11_firstWithMoves_0 14 rfl rfl)
theorem dX11_firstWithMoves_17 : decode cX11_firstWithMoves 17 = .ok (.goto (-15), 3) := dk_167 255 241 (dk_at dksX11_firstWithMoves_0 17 rfl rfl)
theorem dX11_firstWithMoves_20 : decode cX11_firstWithMoves 20 = .ok (.iload_n 1, 1) := dk_27 (dk_at dksX11_firstWithMoves_0 20 rfl rfl)
theorem dX11_firstWithMoves_21 : decode cX11_firstWithMoves 21 = .ok (.ireturn, 1) := dk_172 (dk_at dksX11_firstWithMoves_0 21 rfl rfl)
abbrev cX11_init : ByteArray := prog_12_method_1_code
def yX11_init : MethodName := ⟨RX11, "<init>", "(Ljava/util/ArrayList;)V"⟩
def dkwX11_init_4 : List UInt8 := [182, 0, 36, 181, 0, 40, 177]
abbrev dktX11_init_4 : List UInt8 := dkwX11_init_4 ++ []
def dkwX11_init_3 : List UInt8 := [128, 42, 180, 0, 15, 29, 50, 180, 0, 33, 2, 130, 126, 61, 132, 3, 1, 167, 255, 199, 42, 42]
abbrev dktX11_init_3 : List UInt8 := dkwX11_init_3 ++ dktX11_init_4
def dkwX11_init_2 : List UInt8 := [182, 0, 25, 192, 0, 13, 83, 42, 180, 0, 21, 29, 28, 79, 28, 42, 180, 0, 15, 29, 50, 180, 0, 29]
abbrev dktX11_init_2 : List UInt8 := dkwX11_init_2 ++ dktX11_init_3
def dkwX11_init_1 : List UInt8 := [181, 0, 21, 3, 61, 3, 62, 29, 42, 180, 0, 15, 190, 162, 0, 54, 42, 180, 0, 15, 29, 43, 29]
abbrev dktX11_init_1 : List UInt8 := dkwX11_init_1 ++ dktX11_init_2
def dkwX11_init_0 : List UInt8 := [42, 183, 0, 1, 42, 43, 182, 0, 7, 189, 0, 13, 181, 0, 15, 42, 43, 182, 0, 7, 188, 10]
abbrev dktX11_init_0 : List UInt8 := dkwX11_init_0 ++ dktX11_init_1
theorem dksX11_init_0 : cX11_init.data.toList.drop 0 = dktX11_init_0 := by decide +kernel
theorem dksX11_init_1 : cX11_init.data.toList.drop 22 = dktX11_init_1 := dk_seg dksX11_init_0 22 rfl rfl
theorem dksX11_init_2 : cX11_init.data.toList.drop 45 = dktX11_init_2 := dk_seg dksX11_init_1 23 rfl rfl
theorem dksX11_init_3 : cX11_init.data.toList.drop 69 = dktX11_init_3 := dk_seg dksX11_init_2 24 rfl rfl
theorem dksX11_init_4 : cX11_init.data.toList.drop 91 = dktX11_init_4 := dk_seg dksX11_init_3 22 rfl rfl
theorem dX11_init_0 : decode cX11_init 0 = .ok (.aload_n 0, 1) := dk_42 (dk_at dksX11_init_0 0 rfl rfl)
theorem dX11_init_1 : decode cX11_init 1 = .ok (.invokespecial 1, 3) := dk_183 0 1 (dk_at dksX11_init_0 1 rfl rfl)
theorem dX11_init_4 : decode cX11_init 4 = .ok (.aload_n 0, 1) := dk_42 (dk_at dksX11_init_0 4 rfl rfl)
theorem dX11_init_5 : decode cX11_init 5 = .ok (.aload_n 1, 1) := dk_43 (dk_at dksX11_init_0 5 rfl rfl)
theorem dX11_init_6 : decode cX11_init 6 = .ok (.invokevirtual 7, 3) := dk_182 0 7 (dk_at dksX11_init_0 6 rfl rfl)
theorem dX11_init_9 : decode cX11_init 9 = .ok (.anewarray 13, 3) := dk_189 0 13 (dk_at dksX11_init_0 9 rfl rfl)
theorem dX11_init_12 : decode cX11_init 12 = .ok (.putfield 15, 3) := dk_181 0 15 (dk_at dksX11_init_0 12 rfl rfl)
theorem dX11_init_15 : decode cX11_init 15 = .ok (.aload_n 0, 1) := dk_42 (dk_at dksX11_init_0 15 rfl rfl)
theorem dX11_init_16 : decode cX11_init 16 = .ok (.aload_n 1, 1) := dk_43 (dk_at dksX11_init_0 16 rfl rfl)
theorem dX11_init_17 : decode cX11_init 17 = .ok (.invokevirtual 7, 3) := dk_182 0 7 (dk_at dksX11_init_0 17 rfl rfl)
theorem dX11_init_20 : decode cX11_init 20 = .ok (.newarray .int, 2) := dk_188_10 (dk_at dksX11_init_0 20 rfl rfl)
theorem dX11_init_22 : decode cX11_init 22 = .ok (.putfield 21, 3) := dk_181 0 21 (dk_at dksX11_init_1 0 rfl rfl)
theorem dX11_init_25 : decode cX11_init 25 = .ok (.iconst 0, 1) := dk_3 (dk_at dksX11_init_1 3 rfl rfl)
theorem dX11_init_26 : decode cX11_init 26 = .ok (.istore_n 2, 1) := dk_61 (dk_at dksX11_init_1 4 rfl rfl)
theorem dX11_init_27 : decode cX11_init 27 = .ok (.iconst 0, 1) := dk_3 (dk_at dksX11_init_1 5 rfl rfl)
theorem dX11_init_28 : decode cX11_init 28 = .ok (.istore_n 3, 1) := dk_62 (dk_at dksX11_init_1 6 rfl rfl)
theorem dX11_init_29 : decode cX11_init 29 = .ok (.iload_n 3, 1) := dk_29 (dk_at dksX11_init_1 7 rfl rfl)
theorem dX11_init_30 : decode cX11_init 30 = .ok (.aload_n 0, 1) := dk_42 (dk_at dksX11_init_1 8 rfl rfl)
theorem dX11_init_31 : decode cX11_init 31 = .ok (.getfield 15, 3) := dk_180 0 15 (dk_at dksX11_init_1 9 rfl rfl)
theorem dX11_init_34 : decode cX11_init 34 = .ok (.arraylength, 1) := dk_190 (dk_at dksX11_init_1 12 rfl rfl)
theorem dX11_init_35 : decode cX11_init 35 = .ok (.if_icmp .ge 54, 3) := dk_162 0 54 (dk_at dksX11_init_1 13 rfl rfl)
theorem dX11_init_38 : decode cX11_init 38 = .ok (.aload_n 0, 1) := dk_42 (dk_at dksX11_init_1 16 rfl rfl)
theorem dX11_init_39 : decode cX11_init 39 = .ok (.getfield 15, 3) := dk_180 0 15 (dk_at dksX11_init_1 17 rfl rfl)
theorem dX11_init_42 : decode cX11_init 42 = .ok (.iload_n 3, 1) := dk_29 (dk_at dksX11_init_1 20 rfl rfl)
theorem dX11_init_43 : decode cX11_init 43 = .ok (.aload_n 1, 1) := dk_43 (dk_at dksX11_init_1 21 rfl rfl)
theorem dX11_init_44 : decode cX11_init 44 = .ok (.iload_n 3, 1) := dk_29 (dk_at dksX11_init_1 22 rfl rfl)
theorem dX11_init_45 : decode cX11_init 45 = .ok (.invokevirtual 25, 3) := dk_182 0 25 (dk_at dksX11_init_2 0 rfl rfl)
theorem dX11_init_48 : decode cX11_init 48 = .ok (.checkcast 13, 3) := dk_192 0 13 (dk_at dksX11_init_2 3 rfl rfl)
theorem dX11_init_51 : decode cX11_init 51 = .ok (.aastore, 1) := dk_83 (dk_at dksX11_init_2 6 rfl rfl)
theorem dX11_init_52 : decode cX11_init 52 = .ok (.aload_n 0, 1) := dk_42 (dk_at dksX11_init_2 7 rfl rfl)
theorem dX11_init_53 : decode cX11_init 53 = .ok (.getfield 21, 3) := dk_180 0 21 (dk_at dksX11_init_2 8 rfl rfl)
theorem dX11_init_56 : decode cX11_init 56 = .ok (.iload_n 3, 1) := dk_29 (dk_at dksX11_init_2 11 rfl rfl)
theorem dX11_init_57 : decode cX11_init 57 = .ok (.iload_n 2, 1) := dk_28 (dk_at dksX11_init_2 12 rfl rfl)
theorem dX11_init_58 : decode cX11_init 58 = .ok (.iastore, 1) := dk_79 (dk_at dksX11_init_2 13 rfl rfl)
theorem dX11_init_59 : decode cX11_init 59 = .ok (.iload_n 2, 1) := dk_28 (dk_at dksX11_init_2 14 rfl rfl)
theorem dX11_init_60 : decode cX11_init 60 = .ok (.aload_n 0, 1) := dk_42 (dk_at dksX11_init_2 15 rfl rfl)
theorem dX11_init_61 : decode cX11_init 61 = .ok (.getfield 15, 3) := dk_180 0 15 (dk_at dksX11_init_2 16 rfl rfl)
theorem dX11_init_64 : decode cX11_init 64 = .ok (.iload_n 3, 1) := dk_29 (dk_at dksX11_init_2 19 rfl rfl)
theorem dX11_init_65 : decode cX11_init 65 = .ok (.aaload, 1) := dk_50 (dk_at dksX11_init_2 20 rfl rfl)
theorem dX11_init_66 : decode cX11_init 66 = .ok (.getfield 29, 3) := dk_180 0 29 (dk_at dksX11_init_2 21 rfl rfl)
theorem dX11_init_69 : decode cX11_init 69 = .ok (.ior, 1) := dk_128 (dk_at dksX11_init_3 0 rfl rfl)
theorem dX11_init_70 : decode cX11_init 70 = .ok (.aload_n 0, 1) := dk_42 (dk_at dksX11_init_3 1 rfl rfl)
theorem dX11_init_71 : decode cX11_init 71 = .ok (.getfield 15, 3) := dk_180 0 15 (dk_at dksX11_init_3 2 rfl rfl)
theorem dX11_init_74 : decode cX11_init 74 = .ok (.iload_n 3, 1) := dk_29 (dk_at dksX11_init_3 5 rfl rfl)
theorem dX11_init_75 : decode cX11_init 75 = .ok (.aaload, 1) := dk_50 (dk_at dksX11_init_3 6 rfl rfl)
theorem dX11_init_76 : decode cX11_init 76 = .ok (.getfield 33, 3) := dk_180 0 33 (dk_at dksX11_init_3 7 rfl rfl)
theorem dX11_init_79 : decode cX11_init 79 = .ok (.iconst (-1), 1) := dk_2 (dk_at dksX11_init_3 10 rfl rfl)
theorem dX11_init_80 : decode cX11_init 80 = .ok (.ixor, 1) := dk_130 (dk_at dksX11_init_3 11 rfl rfl)
theorem dX11_init_81 : decode cX11_init 81 = .ok (.iand, 1) := dk_126 (dk_at dksX11_init_3 12 rfl rfl)
theorem dX11_init_82 : decode cX11_init 82 = .ok (.istore_n 2, 1) := dk_61 (dk_at dksX11_init_3 13 rfl rfl)
theorem dX11_init_83 : decode cX11_init 83 = .ok (.iinc 3 1, 3) := dk_132 3 1 (dk_at dksX11_init_3 14 rfl rfl)
theorem dX11_init_86 : decode cX11_init 86 = .ok (.goto (-57), 3) := dk_167 255 199 (dk_at dksX11_init_3 17 rfl rfl)
theorem dX11_init_89 : decode cX11_init 89 = .ok (.aload_n 0, 1) := dk_42 (dk_at dksX11_init_3 20 rfl rfl)
theorem dX11_init_90 : decode cX11_init 90 = .ok (.aload_n 0, 1) := dk_42 (dk_at dksX11_init_3 21 rfl rfl)
theorem dX11_init_91 : decode cX11_init 91 = .ok (.invokevirtual 36, 3) := dk_182 0 36 (dk_at dksX11_init_4 0 rfl rfl)
theorem dX11_init_94 : decode cX11_init 94 = .ok (.putfield 40, 3) := dk_181 0 40 (dk_at dksX11_init_4 3 rfl rfl)
theorem dX11_init_97 : decode cX11_init 97 = .ok (.return_, 1) := dk_177 (dk_at dksX11_init_4 6 rfl rfl)
abbrev cX11_fewestCuts : ByteArray := prog_12_method_8_code
def yX11_fewestCuts : MethodName := ⟨RX11, "fewestCuts", "()[I"⟩
def dkwX11_fewestCuts_2 : List UInt8 := [162, 0, 13, 43, 28, 28, 79, 132, 2, 1, 167, 255, 243, 43, 176]
abbrev dktX11_fewestCuts_2 : List UInt8 := dkwX11_fewestCuts_2 ++ []
def dkwX11_fewestCuts_1 : List UInt8 := [153, 0, 5, 44, 176, 132, 1, 1, 167, 255, 228, 42, 180, 0, 15, 190, 188, 10, 76, 3, 61, 28, 43, 190]
abbrev dktX11_fewestCuts_1 : List UInt8 := dkwX11_fewestCuts_1 ++ dktX11_fewestCuts_2
def dkwX11_fewestCuts_0 : List UInt8 := [5, 60, 27, 42, 180, 0, 15, 190, 162, 0, 25, 27, 188, 10, 77, 42, 44, 3, 3, 182, 0, 60]
abbrev dktX11_fewestCuts_0 : List UInt8 := dkwX11_fewestCuts_0 ++ dktX11_fewestCuts_1
theorem dksX11_fewestCuts_0 : cX11_fewestCuts.data.toList.drop 0 = dktX11_fewestCuts_0 := by decide +kernel
theorem dksX11_fewestCuts_1 : cX11_fewestCuts.data.toList.drop 22 = dktX11_fewestCuts_1 := dk_seg dksX11_fewestCuts_0 22 rfl rfl
theorem dksX11_fewestCuts_2 : cX11_fewestCuts.data.toList.drop 46 = dktX11_fewestCuts_2 := dk_seg dksX11_fewestCuts_1 24 rfl rfl
theorem dX11_fewestCuts_0 : decode cX11_fewestCuts 0 = .ok (.iconst 2, 1) := dk_5 (dk_at dksX11_fewestCuts_0 0 rfl rfl)
theorem dX11_fewestCuts_1 : decode cX11_fewestCuts 1 = .ok (.istore_n 1, 1) := dk_60 (dk_at dksX11_fewestCuts_0 1 rfl rfl)
theorem dX11_fewestCuts_2 : decode cX11_fewestCuts 2 = .ok (.iload_n 1, 1) := dk_27 (dk_at dksX11_fewestCuts_0 2 rfl rfl)
theorem dX11_fewestCuts_3 : decode cX11_fewestCuts 3 = .ok (.aload_n 0, 1) := dk_42 (dk_at dksX11_fewestCuts_0 3 rfl rfl)
theorem dX11_fewestCuts_4 : decode cX11_fewestCuts 4 = .ok (.getfield 15, 3) := dk_180 0 15 (dk_at dksX11_fewestCuts_0 4 rfl rfl)
theorem dX11_fewestCuts_7 : decode cX11_fewestCuts 7 = .ok (.arraylength, 1) := dk_190 (dk_at dksX11_fewestCuts_0 7 rfl rfl)
theorem dX11_fewestCuts_8 : decode cX11_fewestCuts 8 = .ok (.if_icmp .ge 25, 3) := dk_162 0 25 (dk_at dksX11_fewestCuts_0 8 rfl rfl)
theorem dX11_fewestCuts_11 : decode cX11_fewestCuts 11 = .ok (.iload_n 1, 1) := dk_27 (dk_at dksX11_fewestCuts_0 11 rfl rfl)
theorem dX11_fewestCuts_12 : decode cX11_fewestCuts 12 = .ok (.newarray .int, 2) := dk_188_10 (dk_at dksX11_fewestCuts_0 12 rfl rfl)
theorem dX11_fewestCuts_14 : decode cX11_fewestCuts 14 = .ok (.astore_n 2, 1) := dk_77 (dk_at dksX11_fewestCuts_0 14 rfl rfl)
theorem dX11_fewestCuts_15 : decode cX11_fewestCuts 15 = .ok (.aload_n 0, 1) := dk_42 (dk_at dksX11_fewestCuts_0 15 rfl rfl)
theorem dX11_fewestCuts_16 : decode cX11_fewestCuts 16 = .ok (.aload_n 2, 1) := dk_44 (dk_at dksX11_fewestCuts_0 16 rfl rfl)
theorem dX11_fewestCuts_17 : decode cX11_fewestCuts 17 = .ok (.iconst 0, 1) := dk_3 (dk_at dksX11_fewestCuts_0 17 rfl rfl)
theorem dX11_fewestCuts_18 : decode cX11_fewestCuts 18 = .ok (.iconst 0, 1) := dk_3 (dk_at dksX11_fewestCuts_0 18 rfl rfl)
theorem dX11_fewestCuts_19 : decode cX11_fewestCuts 19 = .ok (.invokevirtual 60, 3) := dk_182 0 60 (dk_at dksX11_fewestCuts_0 19 rfl rfl)
theorem dX11_fewestCuts_22 : decode cX11_fewestCuts 22 = .ok (.ifCond .eq 5, 3) := dk_153 0 5 (dk_at dksX11_fewestCuts_1 0 rfl rfl)
theorem dX11_fewestCuts_25 : decode cX11_fewestCuts 25 = .ok (.aload_n 2, 1) := dk_44 (dk_at dksX11_fewestCuts_1 3 rfl rfl)
theorem dX11_fewestCuts_26 : decode cX11_fewestCuts 26 = .ok (.areturn, 1) := dk_176 (dk_at dksX11_fewestCuts_1 4 rfl rfl)
theorem dX11_fewestCuts_27 : decode cX11_fewestCuts 27 = .ok (.iinc 1 1, 3) := dk_132 1 1 (dk_at dksX11_fewestCuts_1 5 rfl rfl)
theorem dX11_fewestCuts_30 : decode cX11_fewestCuts 30 = .ok (.goto (-28), 3) := dk_167 255 228 (dk_at dksX11_fewestCuts_1 8 rfl rfl)
theorem dX11_fewestCuts_33 : decode cX11_fewestCuts 33 = .ok (.aload_n 0, 1) := dk_42 (dk_at dksX11_fewestCuts_1 11 rfl rfl)
theorem dX11_fewestCuts_34 : decode cX11_fewestCuts 34 = .ok (.getfield 15, 3) := dk_180 0 15 (dk_at dksX11_fewestCuts_1 12 rfl rfl)
theorem dX11_fewestCuts_37 : decode cX11_fewestCuts 37 = .ok (.arraylength, 1) := dk_190 (dk_at dksX11_fewestCuts_1 15 rfl rfl)
theorem dX11_fewestCuts_38 : decode cX11_fewestCuts 38 = .ok (.newarray .int, 2) := dk_188_10 (dk_at dksX11_fewestCuts_1 16 rfl rfl)
theorem dX11_fewestCuts_40 : decode cX11_fewestCuts 40 = .ok (.astore_n 1, 1) := dk_76 (dk_at dksX11_fewestCuts_1 18 rfl rfl)
theorem dX11_fewestCuts_41 : decode cX11_fewestCuts 41 = .ok (.iconst 0, 1) := dk_3 (dk_at dksX11_fewestCuts_1 19 rfl rfl)
theorem dX11_fewestCuts_42 : decode cX11_fewestCuts 42 = .ok (.istore_n 2, 1) := dk_61 (dk_at dksX11_fewestCuts_1 20 rfl rfl)
theorem dX11_fewestCuts_43 : decode cX11_fewestCuts 43 = .ok (.iload_n 2, 1) := dk_28 (dk_at dksX11_fewestCuts_1 21 rfl rfl)
theorem dX11_fewestCuts_44 : decode cX11_fewestCuts 44 = .ok (.aload_n 1, 1) := dk_43 (dk_at dksX11_fewestCuts_1 22 rfl rfl)
theorem dX11_fewestCuts_45 : decode cX11_fewestCuts 45 = .ok (.arraylength, 1) := dk_190 (dk_at dksX11_fewestCuts_1 23 rfl rfl)
theorem dX11_fewestCuts_46 : decode cX11_fewestCuts 46 = .ok (.if_icmp .ge 13, 3) := dk_162 0 13 (dk_at dksX11_fewestCuts_2 0 rfl rfl)
theorem dX11_fewestCuts_49 : decode cX11_fewestCuts 49 = .ok (.aload_n 1, 1) := dk_43 (dk_at dksX11_fewestCuts_2 3 rfl rfl)
theorem dX11_fewestCuts_50 : decode cX11_fewestCuts 50 = .ok (.iload_n 2, 1) := dk_28 (dk_at dksX11_fewestCuts_2 4 rfl rfl)
theorem dX11_fewestCuts_51 : decode cX11_fewestCuts 51 = .ok (.iload_n 2, 1) := dk_28 (dk_at dksX11_fewestCuts_2 5 rfl rfl)
theorem dX11_fewestCuts_52 : decode cX11_fewestCuts 52 = .ok (.iastore, 1) := dk_79 (dk_at dksX11_fewestCuts_2 6 rfl rfl)
theorem dX11_fewestCuts_53 : decode cX11_fewestCuts 53 = .ok (.iinc 2 1, 3) := dk_132 2 1 (dk_at dksX11_fewestCuts_2 7 rfl rfl)
theorem dX11_fewestCuts_56 : decode cX11_fewestCuts 56 = .ok (.goto (-13), 3) := dk_167 255 243 (dk_at dksX11_fewestCuts_2 10 rfl rfl)
theorem dX11_fewestCuts_59 : decode cX11_fewestCuts 59 = .ok (.aload_n 1, 1) := dk_43 (dk_at dksX11_fewestCuts_2 13 rfl rfl)
theorem dX11_fewestCuts_60 : decode cX11_fewestCuts 60 = .ok (.areturn, 1) := dk_176 (dk_at dksX11_fewestCuts_2 14 rfl rfl)
abbrev cX11_cuts : ByteArray := prog_12_method_9_code
def yX11_cuts : MethodName := ⟨RX11, "cuts", "([III)Z"⟩
def dkwX11_cuts_3 : List UInt8 := [172, 132, 4, 1, 167, 255, 203, 3, 172]
abbrev dktX11_cuts_3 : List UInt8 := dkwX11_cuts_3 ++ []
def dkwX11_cuts_2 : List UInt8 := [21, 4, 182, 0, 63, 153, 0, 20, 42, 43, 28, 4, 96, 21, 4, 4, 96, 182, 0, 60, 153, 0, 5, 4]
abbrev dktX11_cuts_2 : List UInt8 := dkwX11_cuts_2 ++ dktX11_cuts_3
def dkwX11_cuts_1 : List UInt8 := [42, 180, 0, 15, 190, 162, 0, 49, 43, 28, 21, 4, 79, 28, 153, 0, 17, 42, 43, 28, 4, 100, 46]
abbrev dktX11_cuts_1 : List UInt8 := dkwX11_cuts_1 ++ dktX11_cuts_2
def dkwX11_cuts_0 : List UInt8 := [28, 43, 190, 160, 0, 16, 42, 43, 28, 4, 100, 46, 43, 3, 46, 182, 0, 63, 172, 29, 54, 4, 21, 4]
abbrev dktX11_cuts_0 : List UInt8 := dkwX11_cuts_0 ++ dktX11_cuts_1
theorem dksX11_cuts_0 : cX11_cuts.data.toList.drop 0 = dktX11_cuts_0 := by decide +kernel
theorem dksX11_cuts_1 : cX11_cuts.data.toList.drop 24 = dktX11_cuts_1 := dk_seg dksX11_cuts_0 24 rfl rfl
theorem dksX11_cuts_2 : cX11_cuts.data.toList.drop 47 = dktX11_cuts_2 := dk_seg dksX11_cuts_1 23 rfl rfl
theorem dksX11_cuts_3 : cX11_cuts.data.toList.drop 71 = dktX11_cuts_3 := dk_seg dksX11_cuts_2 24 rfl rfl
theorem dX11_cuts_0 : decode cX11_cuts 0 = .ok (.iload_n 2, 1) := dk_28 (dk_at dksX11_cuts_0 0 rfl rfl)
theorem dX11_cuts_1 : decode cX11_cuts 1 = .ok (.aload_n 1, 1) := dk_43 (dk_at dksX11_cuts_0 1 rfl rfl)
theorem dX11_cuts_2 : decode cX11_cuts 2 = .ok (.arraylength, 1) := dk_190 (dk_at dksX11_cuts_0 2 rfl rfl)
theorem dX11_cuts_3 : decode cX11_cuts 3 = .ok (.if_icmp .ne 16, 3) := dk_160 0 16 (dk_at dksX11_cuts_0 3 rfl rfl)
theorem dX11_cuts_6 : decode cX11_cuts 6 = .ok (.aload_n 0, 1) := dk_42 (dk_at dksX11_cuts_0 6 rfl rfl)
theorem dX11_cuts_7 : decode cX11_cuts 7 = .ok (.aload_n 1, 1) := dk_43 (dk_at dksX11_cuts_0 7 rfl rfl)
theorem dX11_cuts_8 : decode cX11_cuts 8 = .ok (.iload_n 2, 1) := dk_28 (dk_at dksX11_cuts_0 8 rfl rfl)
theorem dX11_cuts_9 : decode cX11_cuts 9 = .ok (.iconst 1, 1) := dk_4 (dk_at dksX11_cuts_0 9 rfl rfl)
theorem dX11_cuts_10 : decode cX11_cuts 10 = .ok (.isub, 1) := dk_100 (dk_at dksX11_cuts_0 10 rfl rfl)
theorem dX11_cuts_11 : decode cX11_cuts 11 = .ok (.iaload, 1) := dk_46 (dk_at dksX11_cuts_0 11 rfl rfl)
theorem dX11_cuts_12 : decode cX11_cuts 12 = .ok (.aload_n 1, 1) := dk_43 (dk_at dksX11_cuts_0 12 rfl rfl)
theorem dX11_cuts_13 : decode cX11_cuts 13 = .ok (.iconst 0, 1) := dk_3 (dk_at dksX11_cuts_0 13 rfl rfl)
theorem dX11_cuts_14 : decode cX11_cuts 14 = .ok (.iaload, 1) := dk_46 (dk_at dksX11_cuts_0 14 rfl rfl)
theorem dX11_cuts_15 : decode cX11_cuts 15 = .ok (.invokevirtual 63, 3) := dk_182 0 63 (dk_at dksX11_cuts_0 15 rfl rfl)
theorem dX11_cuts_18 : decode cX11_cuts 18 = .ok (.ireturn, 1) := dk_172 (dk_at dksX11_cuts_0 18 rfl rfl)
theorem dX11_cuts_19 : decode cX11_cuts 19 = .ok (.iload_n 3, 1) := dk_29 (dk_at dksX11_cuts_0 19 rfl rfl)
theorem dX11_cuts_20 : decode cX11_cuts 20 = .ok (.istore 4, 2) := dk_54 4 (dk_at dksX11_cuts_0 20 rfl rfl)
theorem dX11_cuts_22 : decode cX11_cuts 22 = .ok (.iload 4, 2) := dk_21 4 (dk_at dksX11_cuts_0 22 rfl rfl)
theorem dX11_cuts_24 : decode cX11_cuts 24 = .ok (.aload_n 0, 1) := dk_42 (dk_at dksX11_cuts_1 0 rfl rfl)
theorem dX11_cuts_25 : decode cX11_cuts 25 = .ok (.getfield 15, 3) := dk_180 0 15 (dk_at dksX11_cuts_1 1 rfl rfl)
theorem dX11_cuts_28 : decode cX11_cuts 28 = .ok (.arraylength, 1) := dk_190 (dk_at dksX11_cuts_1 4 rfl rfl)
theorem dX11_cuts_29 : decode cX11_cuts 29 = .ok (.if_icmp .ge 49, 3) := dk_162 0 49 (dk_at dksX11_cuts_1 5 rfl rfl)
theorem dX11_cuts_32 : decode cX11_cuts 32 = .ok (.aload_n 1, 1) := dk_43 (dk_at dksX11_cuts_1 8 rfl rfl)
theorem dX11_cuts_33 : decode cX11_cuts 33 = .ok (.iload_n 2, 1) := dk_28 (dk_at dksX11_cuts_1 9 rfl rfl)
theorem dX11_cuts_34 : decode cX11_cuts 34 = .ok (.iload 4, 2) := dk_21 4 (dk_at dksX11_cuts_1 10 rfl rfl)
theorem dX11_cuts_36 : decode cX11_cuts 36 = .ok (.iastore, 1) := dk_79 (dk_at dksX11_cuts_1 12 rfl rfl)
theorem dX11_cuts_37 : decode cX11_cuts 37 = .ok (.iload_n 2, 1) := dk_28 (dk_at dksX11_cuts_1 13 rfl rfl)
theorem dX11_cuts_38 : decode cX11_cuts 38 = .ok (.ifCond .eq 17, 3) := dk_153 0 17 (dk_at dksX11_cuts_1 14 rfl rfl)
theorem dX11_cuts_41 : decode cX11_cuts 41 = .ok (.aload_n 0, 1) := dk_42 (dk_at dksX11_cuts_1 17 rfl rfl)
theorem dX11_cuts_42 : decode cX11_cuts 42 = .ok (.aload_n 1, 1) := dk_43 (dk_at dksX11_cuts_1 18 rfl rfl)
theorem dX11_cuts_43 : decode cX11_cuts 43 = .ok (.iload_n 2, 1) := dk_28 (dk_at dksX11_cuts_1 19 rfl rfl)
theorem dX11_cuts_44 : decode cX11_cuts 44 = .ok (.iconst 1, 1) := dk_4 (dk_at dksX11_cuts_1 20 rfl rfl)
theorem dX11_cuts_45 : decode cX11_cuts 45 = .ok (.isub, 1) := dk_100 (dk_at dksX11_cuts_1 21 rfl rfl)
theorem dX11_cuts_46 : decode cX11_cuts 46 = .ok (.iaload, 1) := dk_46 (dk_at dksX11_cuts_1 22 rfl rfl)
theorem dX11_cuts_47 : decode cX11_cuts 47 = .ok (.iload 4, 2) := dk_21 4 (dk_at dksX11_cuts_2 0 rfl rfl)
theorem dX11_cuts_49 : decode cX11_cuts 49 = .ok (.invokevirtual 63, 3) := dk_182 0 63 (dk_at dksX11_cuts_2 2 rfl rfl)
theorem dX11_cuts_52 : decode cX11_cuts 52 = .ok (.ifCond .eq 20, 3) := dk_153 0 20 (dk_at dksX11_cuts_2 5 rfl rfl)
theorem dX11_cuts_55 : decode cX11_cuts 55 = .ok (.aload_n 0, 1) := dk_42 (dk_at dksX11_cuts_2 8 rfl rfl)
theorem dX11_cuts_56 : decode cX11_cuts 56 = .ok (.aload_n 1, 1) := dk_43 (dk_at dksX11_cuts_2 9 rfl rfl)
theorem dX11_cuts_57 : decode cX11_cuts 57 = .ok (.iload_n 2, 1) := dk_28 (dk_at dksX11_cuts_2 10 rfl rfl)
theorem dX11_cuts_58 : decode cX11_cuts 58 = .ok (.iconst 1, 1) := dk_4 (dk_at dksX11_cuts_2 11 rfl rfl)
theorem dX11_cuts_59 : decode cX11_cuts 59 = .ok (.iadd, 1) := dk_96 (dk_at dksX11_cuts_2 12 rfl rfl)
theorem dX11_cuts_60 : decode cX11_cuts 60 = .ok (.iload 4, 2) := dk_21 4 (dk_at dksX11_cuts_2 13 rfl rfl)
theorem dX11_cuts_62 : decode cX11_cuts 62 = .ok (.iconst 1, 1) := dk_4 (dk_at dksX11_cuts_2 15 rfl rfl)
theorem dX11_cuts_63 : decode cX11_cuts 63 = .ok (.iadd, 1) := dk_96 (dk_at dksX11_cuts_2 16 rfl rfl)
theorem dX11_cuts_64 : decode cX11_cuts 64 = .ok (.invokevirtual 60, 3) := dk_182 0 60 (dk_at dksX11_cuts_2 17 rfl rfl)
theorem dX11_cuts_67 : decode cX11_cuts 67 = .ok (.ifCond .eq 5, 3) := dk_153 0 5 (dk_at dksX11_cuts_2 20 rfl rfl)
theorem dX11_cuts_70 : decode cX11_cuts 70 = .ok (.iconst 1, 1) := dk_4 (dk_at dksX11_cuts_2 23 rfl rfl)
theorem dX11_cuts_71 : decode cX11_cuts 71 = .ok (.ireturn, 1) := dk_172 (dk_at dksX11_cuts_3 0 rfl rfl)
theorem dX11_cuts_72 : decode cX11_cuts 72 = .ok (.iinc 4 1, 3) := dk_132 4 1 (dk_at dksX11_cuts_3 1 rfl rfl)
theorem dX11_cuts_75 : decode cX11_cuts 75 = .ok (.goto (-53), 3) := dk_167 255 203 (dk_at dksX11_cuts_3 4 rfl rfl)
theorem dX11_cuts_78 : decode cX11_cuts 78 = .ok (.iconst 0, 1) := dk_3 (dk_at dksX11_cuts_3 7 rfl rfl)
theorem dX11_cuts_79 : decode cX11_cuts 79 = .ok (.ireturn, 1) := dk_172 (dk_at dksX11_cuts_3 8 rfl rfl)
abbrev cX11_isGroup : ByteArray := prog_12_method_7_code
def yX11_isGroup : MethodName := ⟨RX11, "isGroup", "(II)Z"⟩
def dkwX11_isGroup_2 : List UInt8 := [160, 255, 215, 4, 172]
abbrev dktX11_isGroup_2 : List UInt8 := dkwX11_isGroup_2 ++ []
def dkwX11_isGroup_1 : List UInt8 := [180, 0, 15, 21, 4, 50, 182, 0, 43, 128, 62, 42, 21, 4, 182, 0, 57, 54, 4, 21, 4, 28]
abbrev dktX11_isGroup_1 : List UInt8 := dkwX11_isGroup_1 ++ dktX11_isGroup_2
def dkwX11_isGroup_0 : List UInt8 := [3, 62, 27, 54, 4, 29, 42, 180, 0, 15, 21, 4, 50, 182, 0, 43, 126, 153, 0, 5, 3, 172, 29, 42]
abbrev dktX11_isGroup_0 : List UInt8 := dkwX11_isGroup_0 ++ dktX11_isGroup_1
theorem dksX11_isGroup_0 : cX11_isGroup.data.toList.drop 0 = dktX11_isGroup_0 := by decide +kernel
theorem dksX11_isGroup_1 : cX11_isGroup.data.toList.drop 24 = dktX11_isGroup_1 := dk_seg dksX11_isGroup_0 24 rfl rfl
theorem dksX11_isGroup_2 : cX11_isGroup.data.toList.drop 46 = dktX11_isGroup_2 := dk_seg dksX11_isGroup_1 22 rfl rfl
theorem dX11_isGroup_0 : decode cX11_isGroup 0 = .ok (.iconst 0, 1) := dk_3 (dk_at dksX11_isGroup_0 0 rfl rfl)
theorem dX11_isGroup_1 : decode cX11_isGroup 1 = .ok (.istore_n 3, 1) := dk_62 (dk_at dksX11_isGroup_0 1 rfl rfl)
theorem dX11_isGroup_2 : decode cX11_isGroup 2 = .ok (.iload_n 1, 1) := dk_27 (dk_at dksX11_isGroup_0 2 rfl rfl)
theorem dX11_isGroup_3 : decode cX11_isGroup 3 = .ok (.istore 4, 2) := dk_54 4 (dk_at dksX11_isGroup_0 3 rfl rfl)
theorem dX11_isGroup_5 : decode cX11_isGroup 5 = .ok (.iload_n 3, 1) := dk_29 (dk_at dksX11_isGroup_0 5 rfl rfl)
theorem dX11_isGroup_6 : decode cX11_isGroup 6 = .ok (.aload_n 0, 1) := dk_42 (dk_at dksX11_isGroup_0 6 rfl rfl)
theorem dX11_isGroup_7 : decode cX11_isGroup 7 = .ok (.getfield 15, 3) := dk_180 0 15 (dk_at dksX11_isGroup_0 7 rfl rfl)
theorem dX11_isGroup_10 : decode cX11_isGroup 10 = .ok (.iload 4, 2) := dk_21 4 (dk_at dksX11_isGroup_0 10 rfl rfl)
theorem dX11_isGroup_12 : decode cX11_isGroup 12 = .ok (.aaload, 1) := dk_50 (dk_at dksX11_isGroup_0 12 rfl rfl)
theorem dX11_isGroup_13 : decode cX11_isGroup 13 = .ok (.invokevirtual 43, 3) := dk_182 0 43 (dk_at dksX11_isGroup_0 13 rfl rfl)
theorem dX11_isGroup_16 : decode cX11_isGroup 16 = .ok (.iand, 1) := dk_126 (dk_at dksX11_isGroup_0 16 rfl rfl)
theorem dX11_isGroup_17 : decode cX11_isGroup 17 = .ok (.ifCond .eq 5, 3) := dk_153 0 5 (dk_at dksX11_isGroup_0 17 rfl rfl)
theorem dX11_isGroup_20 : decode cX11_isGroup 20 = .ok (.iconst 0, 1) := dk_3 (dk_at dksX11_isGroup_0 20 rfl rfl)
theorem dX11_isGroup_21 : decode cX11_isGroup 21 = .ok (.ireturn, 1) := dk_172 (dk_at dksX11_isGroup_0 21 rfl rfl)
theorem dX11_isGroup_22 : decode cX11_isGroup 22 = .ok (.iload_n 3, 1) := dk_29 (dk_at dksX11_isGroup_0 22 rfl rfl)
theorem dX11_isGroup_23 : decode cX11_isGroup 23 = .ok (.aload_n 0, 1) := dk_42 (dk_at dksX11_isGroup_0 23 rfl rfl)
theorem dX11_isGroup_24 : decode cX11_isGroup 24 = .ok (.getfield 15, 3) := dk_180 0 15 (dk_at dksX11_isGroup_1 0 rfl rfl)
theorem dX11_isGroup_27 : decode cX11_isGroup 27 = .ok (.iload 4, 2) := dk_21 4 (dk_at dksX11_isGroup_1 3 rfl rfl)
theorem dX11_isGroup_29 : decode cX11_isGroup 29 = .ok (.aaload, 1) := dk_50 (dk_at dksX11_isGroup_1 5 rfl rfl)
theorem dX11_isGroup_30 : decode cX11_isGroup 30 = .ok (.invokevirtual 43, 3) := dk_182 0 43 (dk_at dksX11_isGroup_1 6 rfl rfl)
theorem dX11_isGroup_33 : decode cX11_isGroup 33 = .ok (.ior, 1) := dk_128 (dk_at dksX11_isGroup_1 9 rfl rfl)
theorem dX11_isGroup_34 : decode cX11_isGroup 34 = .ok (.istore_n 3, 1) := dk_62 (dk_at dksX11_isGroup_1 10 rfl rfl)
theorem dX11_isGroup_35 : decode cX11_isGroup 35 = .ok (.aload_n 0, 1) := dk_42 (dk_at dksX11_isGroup_1 11 rfl rfl)
theorem dX11_isGroup_36 : decode cX11_isGroup 36 = .ok (.iload 4, 2) := dk_21 4 (dk_at dksX11_isGroup_1 12 rfl rfl)
theorem dX11_isGroup_38 : decode cX11_isGroup 38 = .ok (.invokevirtual 57, 3) := dk_182 0 57 (dk_at dksX11_isGroup_1 14 rfl rfl)
theorem dX11_isGroup_41 : decode cX11_isGroup 41 = .ok (.istore 4, 2) := dk_54 4 (dk_at dksX11_isGroup_1 17 rfl rfl)
theorem dX11_isGroup_43 : decode cX11_isGroup 43 = .ok (.iload 4, 2) := dk_21 4 (dk_at dksX11_isGroup_1 19 rfl rfl)
theorem dX11_isGroup_45 : decode cX11_isGroup 45 = .ok (.iload_n 2, 1) := dk_28 (dk_at dksX11_isGroup_1 21 rfl rfl)
theorem dX11_isGroup_46 : decode cX11_isGroup 46 = .ok (.if_icmp .ne (-41), 3) := dk_160 255 215 (dk_at dksX11_isGroup_2 0 rfl rfl)
theorem dX11_isGroup_49 : decode cX11_isGroup 49 = .ok (.iconst 1, 1) := dk_4 (dk_at dksX11_isGroup_2 3 rfl rfl)
theorem dX11_isGroup_50 : decode cX11_isGroup 50 = .ok (.ireturn, 1) := dk_172 (dk_at dksX11_isGroup_2 4 rfl rfl)
abbrev cX11_after : ByteArray := prog_12_method_3_code
def yX11_after : MethodName := ⟨RX11, "after", "(I)I"⟩
def dkwX11_after_0 : List UInt8 := [27, 42, 180, 0, 15, 190, 4, 100, 160, 0, 7, 3, 167, 0, 6, 27, 4, 96, 172]
abbrev dktX11_after_0 : List UInt8 := dkwX11_after_0 ++ []
theorem dksX11_after_0 : cX11_after.data.toList.drop 0 = dktX11_after_0 := by decide +kernel
theorem dX11_after_0 : decode cX11_after 0 = .ok (.iload_n 1, 1) := dk_27 (dk_at dksX11_after_0 0 rfl rfl)
theorem dX11_after_1 : decode cX11_after 1 = .ok (.aload_n 0, 1) := dk_42 (dk_at dksX11_after_0 1 rfl rfl)
theorem dX11_after_2 : decode cX11_after 2 = .ok (.getfield 15, 3) := dk_180 0 15 (dk_at dksX11_after_0 2 rfl rfl)
theorem dX11_after_5 : decode cX11_after 5 = .ok (.arraylength, 1) := dk_190 (dk_at dksX11_after_0 5 rfl rfl)
theorem dX11_after_6 : decode cX11_after 6 = .ok (.iconst 1, 1) := dk_4 (dk_at dksX11_after_0 6 rfl rfl)
theorem dX11_after_7 : decode cX11_after 7 = .ok (.isub, 1) := dk_100 (dk_at dksX11_after_0 7 rfl rfl)
theorem dX11_after_8 : decode cX11_after 8 = .ok (.if_icmp .ne 7, 3) := dk_160 0 7 (dk_at dksX11_after_0 8 rfl rfl)
theorem dX11_after_11 : decode cX11_after 11 = .ok (.iconst 0, 1) := dk_3 (dk_at dksX11_after_0 11 rfl rfl)
theorem dX11_after_12 : decode cX11_after 12 = .ok (.goto 6, 3) := dk_167 0 6 (dk_at dksX11_after_0 12 rfl rfl)
theorem dX11_after_15 : decode cX11_after 15 = .ok (.iload_n 1, 1) := dk_27 (dk_at dksX11_after_0 15 rfl rfl)
theorem dX11_after_16 : decode cX11_after 16 = .ok (.iconst 1, 1) := dk_4 (dk_at dksX11_after_0 16 rfl rfl)
theorem dX11_after_17 : decode cX11_after 17 = .ok (.iadd, 1) := dk_96 (dk_at dksX11_after_0 17 rfl rfl)
theorem dX11_after_18 : decode cX11_after 18 = .ok (.ireturn, 1) := dk_172 (dk_at dksX11_after_0 18 rfl rfl)
abbrev cX11_clash : ByteArray := prog_12_method_6_code
def yX11_clash : MethodName := ⟨RX11, "clash", "(II)I"⟩
def dkwX11_clash_3 : List UInt8 := [132, 4, 1, 167, 255, 197, 2, 172]
abbrev dktX11_clash_3 : List UInt8 := dkwX11_clash_3 ++ []
def dkwX11_clash_2 : List UInt8 := [42, 21, 4, 182, 0, 50, 50, 42, 180, 0, 21, 27, 46, 182, 0, 53, 153, 0, 6, 21, 4, 172]
abbrev dktX11_clash_2 : List UInt8 := dkwX11_clash_2 ++ dktX11_clash_3
def dkwX11_clash_1 : List UInt8 := [29, 153, 0, 51, 42, 180, 0, 15, 21, 4, 50, 28, 182, 0, 46, 29, 116, 160, 0, 29, 42, 180, 0, 15]
abbrev dktX11_clash_1 : List UInt8 := dkwX11_clash_1 ++ dktX11_clash_2
def dkwX11_clash_0 : List UInt8 := [42, 180, 0, 15, 27, 50, 28, 182, 0, 46, 62, 3, 54, 4, 21, 4, 42, 180, 0, 15, 190, 162, 0, 55]
abbrev dktX11_clash_0 : List UInt8 := dkwX11_clash_0 ++ dktX11_clash_1
theorem dksX11_clash_0 : cX11_clash.data.toList.drop 0 = dktX11_clash_0 := by decide +kernel
theorem dksX11_clash_1 : cX11_clash.data.toList.drop 24 = dktX11_clash_1 := dk_seg dksX11_clash_0 24 rfl rfl
theorem dksX11_clash_2 : cX11_clash.data.toList.drop 48 = dktX11_clash_2 := dk_seg dksX11_clash_1 24 rfl rfl
theorem dksX11_clash_3 : cX11_clash.data.toList.drop 70 = dktX11_clash_3 := dk_seg dksX11_clash_2 22 rfl rfl
theorem dX11_clash_0 : decode cX11_clash 0 = .ok (.aload_n 0, 1) := dk_42 (dk_at dksX11_clash_0 0 rfl rfl)
theorem dX11_clash_1 : decode cX11_clash 1 = .ok (.getfield 15, 3) := dk_180 0 15 (dk_at dksX11_clash_0 1 rfl rfl)
theorem dX11_clash_4 : decode cX11_clash 4 = .ok (.iload_n 1, 1) := dk_27 (dk_at dksX11_clash_0 4 rfl rfl)
theorem dX11_clash_5 : decode cX11_clash 5 = .ok (.aaload, 1) := dk_50 (dk_at dksX11_clash_0 5 rfl rfl)
theorem dX11_clash_6 : decode cX11_clash 6 = .ok (.iload_n 2, 1) := dk_28 (dk_at dksX11_clash_0 6 rfl rfl)
theorem dX11_clash_7 : decode cX11_clash 7 = .ok (.invokevirtual 46, 3) := dk_182 0 46 (dk_at dksX11_clash_0 7 rfl rfl)
theorem dX11_clash_10 : decode cX11_clash 10 = .ok (.istore_n 3, 1) := dk_62 (dk_at dksX11_clash_0 10 rfl rfl)
theorem dX11_clash_11 : decode cX11_clash 11 = .ok (.iconst 0, 1) := dk_3 (dk_at dksX11_clash_0 11 rfl rfl)
theorem dX11_clash_12 : decode cX11_clash 12 = .ok (.istore 4, 2) := dk_54 4 (dk_at dksX11_clash_0 12 rfl rfl)
theorem dX11_clash_14 : decode cX11_clash 14 = .ok (.iload 4, 2) := dk_21 4 (dk_at dksX11_clash_0 14 rfl rfl)
theorem dX11_clash_16 : decode cX11_clash 16 = .ok (.aload_n 0, 1) := dk_42 (dk_at dksX11_clash_0 16 rfl rfl)
theorem dX11_clash_17 : decode cX11_clash 17 = .ok (.getfield 15, 3) := dk_180 0 15 (dk_at dksX11_clash_0 17 rfl rfl)
theorem dX11_clash_20 : decode cX11_clash 20 = .ok (.arraylength, 1) := dk_190 (dk_at dksX11_clash_0 20 rfl rfl)
theorem dX11_clash_21 : decode cX11_clash 21 = .ok (.if_icmp .ge 55, 3) := dk_162 0 55 (dk_at dksX11_clash_0 21 rfl rfl)
theorem dX11_clash_24 : decode cX11_clash 24 = .ok (.iload_n 3, 1) := dk_29 (dk_at dksX11_clash_1 0 rfl rfl)
theorem dX11_clash_25 : decode cX11_clash 25 = .ok (.ifCond .eq 51, 3) := dk_153 0 51 (dk_at dksX11_clash_1 1 rfl rfl)
theorem dX11_clash_28 : decode cX11_clash 28 = .ok (.aload_n 0, 1) := dk_42 (dk_at dksX11_clash_1 4 rfl rfl)
theorem dX11_clash_29 : decode cX11_clash 29 = .ok (.getfield 15, 3) := dk_180 0 15 (dk_at dksX11_clash_1 5 rfl rfl)
theorem dX11_clash_32 : decode cX11_clash 32 = .ok (.iload 4, 2) := dk_21 4 (dk_at dksX11_clash_1 8 rfl rfl)
theorem dX11_clash_34 : decode cX11_clash 34 = .ok (.aaload, 1) := dk_50 (dk_at dksX11_clash_1 10 rfl rfl)
theorem dX11_clash_35 : decode cX11_clash 35 = .ok (.iload_n 2, 1) := dk_28 (dk_at dksX11_clash_1 11 rfl rfl)
theorem dX11_clash_36 : decode cX11_clash 36 = .ok (.invokevirtual 46, 3) := dk_182 0 46 (dk_at dksX11_clash_1 12 rfl rfl)
theorem dX11_clash_39 : decode cX11_clash 39 = .ok (.iload_n 3, 1) := dk_29 (dk_at dksX11_clash_1 15 rfl rfl)
theorem dX11_clash_40 : decode cX11_clash 40 = .ok (.ineg, 1) := dk_116 (dk_at dksX11_clash_1 16 rfl rfl)
theorem dX11_clash_41 : decode cX11_clash 41 = .ok (.if_icmp .ne 29, 3) := dk_160 0 29 (dk_at dksX11_clash_1 17 rfl rfl)
theorem dX11_clash_44 : decode cX11_clash 44 = .ok (.aload_n 0, 1) := dk_42 (dk_at dksX11_clash_1 20 rfl rfl)
theorem dX11_clash_45 : decode cX11_clash 45 = .ok (.getfield 15, 3) := dk_180 0 15 (dk_at dksX11_clash_1 21 rfl rfl)
theorem dX11_clash_48 : decode cX11_clash 48 = .ok (.aload_n 0, 1) := dk_42 (dk_at dksX11_clash_2 0 rfl rfl)
theorem dX11_clash_49 : decode cX11_clash 49 = .ok (.iload 4, 2) := dk_21 4 (dk_at dksX11_clash_2 1 rfl rfl)
theorem dX11_clash_51 : decode cX11_clash 51 = .ok (.invokevirtual 50, 3) := dk_182 0 50 (dk_at dksX11_clash_2 3 rfl rfl)
theorem dX11_clash_54 : decode cX11_clash 54 = .ok (.aaload, 1) := dk_50 (dk_at dksX11_clash_2 6 rfl rfl)
theorem dX11_clash_55 : decode cX11_clash 55 = .ok (.aload_n 0, 1) := dk_42 (dk_at dksX11_clash_2 7 rfl rfl)
theorem dX11_clash_56 : decode cX11_clash 56 = .ok (.getfield 21, 3) := dk_180 0 21 (dk_at dksX11_clash_2 8 rfl rfl)
theorem dX11_clash_59 : decode cX11_clash 59 = .ok (.iload_n 1, 1) := dk_27 (dk_at dksX11_clash_2 11 rfl rfl)
theorem dX11_clash_60 : decode cX11_clash 60 = .ok (.iaload, 1) := dk_46 (dk_at dksX11_clash_2 12 rfl rfl)
theorem dX11_clash_61 : decode cX11_clash 61 = .ok (.invokevirtual 53, 3) := dk_182 0 53 (dk_at dksX11_clash_2 13 rfl rfl)
theorem dX11_clash_64 : decode cX11_clash 64 = .ok (.ifCond .eq 6, 3) := dk_153 0 6 (dk_at dksX11_clash_2 16 rfl rfl)
theorem dX11_clash_67 : decode cX11_clash 67 = .ok (.iload 4, 2) := dk_21 4 (dk_at dksX11_clash_2 19 rfl rfl)
theorem dX11_clash_69 : decode cX11_clash 69 = .ok (.ireturn, 1) := dk_172 (dk_at dksX11_clash_2 21 rfl rfl)
theorem dX11_clash_70 : decode cX11_clash 70 = .ok (.iinc 4 1, 3) := dk_132 4 1 (dk_at dksX11_clash_3 0 rfl rfl)
theorem dX11_clash_73 : decode cX11_clash 73 = .ok (.goto (-59), 3) := dk_167 255 197 (dk_at dksX11_clash_3 3 rfl rfl)
theorem dX11_clash_76 : decode cX11_clash 76 = .ok (.iconst (-1), 1) := dk_2 (dk_at dksX11_clash_3 6 rfl rfl)
theorem dX11_clash_77 : decode cX11_clash 77 = .ok (.ireturn, 1) := dk_172 (dk_at dksX11_clash_3 7 rfl rfl)
abbrev cX11_cylinders : ByteArray := prog_12_method_4_code
def yX11_cylinders : MethodName := ⟨RX11, "cylinders", "()I"⟩
def dkwX11_cylinders_1 : List UInt8 := [58, 5, 27, 25, 5, 182, 0, 43, 128, 60, 132, 4, 1, 167, 255, 233, 27, 172]
abbrev dktX11_cylinders_1 : List UInt8 := dkwX11_cylinders_1 ++ []
def dkwX11_cylinders_0 : List UInt8 := [3, 60, 42, 180, 0, 15, 77, 44, 190, 62, 3, 54, 4, 21, 4, 29, 162, 0, 23, 44, 21, 4, 50]
abbrev dktX11_cylinders_0 : List UInt8 := dkwX11_cylinders_0 ++ dktX11_cylinders_1
theorem dksX11_cylinders_0 : cX11_cylinders.data.toList.drop 0 = dktX11_cylinders_0 := by decide +kernel
theorem dksX11_cylinders_1 : cX11_cylinders.data.toList.drop 23 = dktX11_cylinders_1 := dk_seg dksX11_cylinders_0 23 rfl rfl
theorem dX11_cylinders_0 : decode cX11_cylinders 0 = .ok (.iconst 0, 1) := dk_3 (dk_at dksX11_cylinders_0 0 rfl rfl)
theorem dX11_cylinders_1 : decode cX11_cylinders 1 = .ok (.istore_n 1, 1) := dk_60 (dk_at dksX11_cylinders_0 1 rfl rfl)
theorem dX11_cylinders_2 : decode cX11_cylinders 2 = .ok (.aload_n 0, 1) := dk_42 (dk_at dksX11_cylinders_0 2 rfl rfl)
theorem dX11_cylinders_3 : decode cX11_cylinders 3 = .ok (.getfield 15, 3) := dk_180 0 15 (dk_at dksX11_cylinders_0 3 rfl rfl)
theorem dX11_cylinders_6 : decode cX11_cylinders 6 = .ok (.astore_n 2, 1) := dk_77 (dk_at dksX11_cylinders_0 6 rfl rfl)
theorem dX11_cylinders_7 : decode cX11_cylinders 7 = .ok (.aload_n 2, 1) := dk_44 (dk_at dksX11_cylinders_0 7 rfl rfl)
theorem dX11_cylinders_8 : decode cX11_cylinders 8 = .ok (.arraylength, 1) := dk_190 (dk_at dksX11_cylinders_0 8 rfl rfl)
theorem dX11_cylinders_9 : decode cX11_cylinders 9 = .ok (.istore_n 3, 1) := dk_62 (dk_at dksX11_cylinders_0 9 rfl rfl)
theorem dX11_cylinders_10 : decode cX11_cylinders 10 = .ok (.iconst 0, 1) := dk_3 (dk_at dksX11_cylinders_0 10 rfl rfl)
theorem dX11_cylinders_11 : decode cX11_cylinders 11 = .ok (.istore 4, 2) := dk_54 4 (dk_at dksX11_cylinders_0 11 rfl rfl)
theorem dX11_cylinders_13 : decode cX11_cylinders 13 = .ok (.iload 4, 2) := dk_21 4 (dk_at dksX11_cylinders_0 13 rfl rfl)
theorem dX11_cylinders_15 : decode cX11_cylinders 15 = .ok (.iload_n 3, 1) := dk_29 (dk_at dksX11_cylinders_0 15 rfl rfl)
theorem dX11_cylinders_16 : decode cX11_cylinders 16 = .ok (.if_icmp .ge 23, 3) := dk_162 0 23 (dk_at dksX11_cylinders_0 16 rfl rfl)
theorem dX11_cylinders_19 : decode cX11_cylinders 19 = .ok (.aload_n 2, 1) := dk_44 (dk_at dksX11_cylinders_0 19 rfl rfl)
theorem dX11_cylinders_20 : decode cX11_cylinders 20 = .ok (.iload 4, 2) := dk_21 4 (dk_at dksX11_cylinders_0 20 rfl rfl)
theorem dX11_cylinders_22 : decode cX11_cylinders 22 = .ok (.aaload, 1) := dk_50 (dk_at dksX11_cylinders_0 22 rfl rfl)
theorem dX11_cylinders_23 : decode cX11_cylinders 23 = .ok (.astore 5, 2) := dk_58 5 (dk_at dksX11_cylinders_1 0 rfl rfl)
theorem dX11_cylinders_25 : decode cX11_cylinders 25 = .ok (.iload_n 1, 1) := dk_27 (dk_at dksX11_cylinders_1 2 rfl rfl)
theorem dX11_cylinders_26 : decode cX11_cylinders 26 = .ok (.aload 5, 2) := dk_25 5 (dk_at dksX11_cylinders_1 3 rfl rfl)
theorem dX11_cylinders_28 : decode cX11_cylinders 28 = .ok (.invokevirtual 43, 3) := dk_182 0 43 (dk_at dksX11_cylinders_1 5 rfl rfl)
theorem dX11_cylinders_31 : decode cX11_cylinders 31 = .ok (.ior, 1) := dk_128 (dk_at dksX11_cylinders_1 8 rfl rfl)
theorem dX11_cylinders_32 : decode cX11_cylinders 32 = .ok (.istore_n 1, 1) := dk_60 (dk_at dksX11_cylinders_1 9 rfl rfl)
theorem dX11_cylinders_33 : decode cX11_cylinders 33 = .ok (.iinc 4 1, 3) := dk_132 4 1 (dk_at dksX11_cylinders_1 10 rfl rfl)
theorem dX11_cylinders_36 : decode cX11_cylinders 36 = .ok (.goto (-23), 3) := dk_167 255 233 (dk_at dksX11_cylinders_1 13 rfl rfl)
theorem dX11_cylinders_39 : decode cX11_cylinders 39 = .ok (.iload_n 1, 1) := dk_27 (dk_at dksX11_cylinders_1 16 rfl rfl)
theorem dX11_cylinders_40 : decode cX11_cylinders 40 = .ok (.ireturn, 1) := dk_172 (dk_at dksX11_cylinders_1 17 rfl rfl)
abbrev cX11_lastOf : ByteArray := prog_12_method_12_code
def yX11_lastOf : MethodName := ⟨RX11, "lastOf", "(I)I"⟩
def dkwX11_lastOf_1 : List UInt8 := [182, 0, 50, 172]
abbrev dktX11_lastOf_1 : List UInt8 := dkwX11_lastOf_1 ++ []
def dkwX11_lastOf_0 : List UInt8 := [42, 42, 180, 0, 40, 27, 42, 180, 0, 40, 190, 4, 100, 160, 0, 7, 3, 167, 0, 6, 27, 4, 96, 46]
abbrev dktX11_lastOf_0 : List UInt8 := dkwX11_lastOf_0 ++ dktX11_lastOf_1
theorem dksX11_lastOf_0 : cX11_lastOf.data.toList.drop 0 = dktX11_lastOf_0 := by decide +kernel
theorem dksX11_lastOf_1 : cX11_lastOf.data.toList.drop 24 = dktX11_lastOf_1 := dk_seg dksX11_lastOf_0 24 rfl rfl
theorem dX11_lastOf_0 : decode cX11_lastOf 0 = .ok (.aload_n 0, 1) := dk_42 (dk_at dksX11_lastOf_0 0 rfl rfl)
theorem dX11_lastOf_1 : decode cX11_lastOf 1 = .ok (.aload_n 0, 1) := dk_42 (dk_at dksX11_lastOf_0 1 rfl rfl)
theorem dX11_lastOf_2 : decode cX11_lastOf 2 = .ok (.getfield 40, 3) := dk_180 0 40 (dk_at dksX11_lastOf_0 2 rfl rfl)
theorem dX11_lastOf_5 : decode cX11_lastOf 5 = .ok (.iload_n 1, 1) := dk_27 (dk_at dksX11_lastOf_0 5 rfl rfl)
theorem dX11_lastOf_6 : decode cX11_lastOf 6 = .ok (.aload_n 0, 1) := dk_42 (dk_at dksX11_lastOf_0 6 rfl rfl)
theorem dX11_lastOf_7 : decode cX11_lastOf 7 = .ok (.getfield 40, 3) := dk_180 0 40 (dk_at dksX11_lastOf_0 7 rfl rfl)
theorem dX11_lastOf_10 : decode cX11_lastOf 10 = .ok (.arraylength, 1) := dk_190 (dk_at dksX11_lastOf_0 10 rfl rfl)
theorem dX11_lastOf_11 : decode cX11_lastOf 11 = .ok (.iconst 1, 1) := dk_4 (dk_at dksX11_lastOf_0 11 rfl rfl)
theorem dX11_lastOf_12 : decode cX11_lastOf 12 = .ok (.isub, 1) := dk_100 (dk_at dksX11_lastOf_0 12 rfl rfl)
theorem dX11_lastOf_13 : decode cX11_lastOf 13 = .ok (.if_icmp .ne 7, 3) := dk_160 0 7 (dk_at dksX11_lastOf_0 13 rfl rfl)
theorem dX11_lastOf_16 : decode cX11_lastOf 16 = .ok (.iconst 0, 1) := dk_3 (dk_at dksX11_lastOf_0 16 rfl rfl)
theorem dX11_lastOf_17 : decode cX11_lastOf 17 = .ok (.goto 6, 3) := dk_167 0 6 (dk_at dksX11_lastOf_0 17 rfl rfl)
theorem dX11_lastOf_20 : decode cX11_lastOf 20 = .ok (.iload_n 1, 1) := dk_27 (dk_at dksX11_lastOf_0 20 rfl rfl)
theorem dX11_lastOf_21 : decode cX11_lastOf 21 = .ok (.iconst 1, 1) := dk_4 (dk_at dksX11_lastOf_0 21 rfl rfl)
theorem dX11_lastOf_22 : decode cX11_lastOf 22 = .ok (.iadd, 1) := dk_96 (dk_at dksX11_lastOf_0 22 rfl rfl)
theorem dX11_lastOf_23 : decode cX11_lastOf 23 = .ok (.iaload, 1) := dk_46 (dk_at dksX11_lastOf_0 23 rfl rfl)
theorem dX11_lastOf_24 : decode cX11_lastOf 24 = .ok (.invokevirtual 50, 3) := dk_182 0 50 (dk_at dksX11_lastOf_1 0 rfl rfl)
theorem dX11_lastOf_27 : decode cX11_lastOf 27 = .ok (.ireturn, 1) := dk_172 (dk_at dksX11_lastOf_1 3 rfl rfl)
theorem q94 : (Jvm.Cond.initialized "SequenceBench$Sequence") ∈ lw_all := lw_g (lw_at lw_m1 33 rfl) rfl
theorem q135 : (Jvm.Cond.instanceMethod ({ cls := "SequenceBench$Sequence", name := "before", desc := "(I)I" } : Jvm.MethodName)) ∈ lw_all := lw_g (lw_at lw_m1 74 rfl) rfl
theorem q136 : (Jvm.Cond.selects "SequenceBench$Sequence" ({ cls := "SequenceBench$Sequence", name := "before", desc := "(I)I" } : Jvm.MethodName) ({ cls := "SequenceBench$Sequence", name := "before", desc := "(I)I" } : Jvm.MethodName)) ∈ lw_all := lw_g (lw_at lw_m1 75 rfl) rfl
theorem q137 : (Jvm.Cond.code ({ cls := "SequenceBench$Sequence", name := "before", desc := "(I)I" } : Jvm.MethodName) prog_12_method_2_code (2 : Nat) (Option.some Jvm.ClassFile.FieldType.int)) ∈ lw_all := lw_g (lw_at lw_m1 76 rfl) rfl
theorem q166 : (Jvm.Cond.instanceMethod ({ cls := "SequenceBench$Sequence", name := "groupOf", desc := "(I)I" } : Jvm.MethodName)) ∈ lw_all := lw_g (lw_at lw_m1 105 rfl) rfl
theorem q167 : (Jvm.Cond.selects "SequenceBench$Sequence" ({ cls := "SequenceBench$Sequence", name := "groupOf", desc := "(I)I" } : Jvm.MethodName) ({ cls := "SequenceBench$Sequence", name := "groupOf", desc := "(I)I" } : Jvm.MethodName)) ∈ lw_all := lw_g (lw_at lw_m1 106 rfl) rfl
theorem q168 : (Jvm.Cond.code ({ cls := "SequenceBench$Sequence", name := "groupOf", desc := "(I)I" } : Jvm.MethodName) prog_12_method_10_code (4 : Nat) (Option.some Jvm.ClassFile.FieldType.int)) ∈ lw_all := lw_g (lw_at lw_m1 107 rfl) rfl
theorem q171 : (Jvm.Cond.instanceMethod ({ cls := "SequenceBench$Sequence", name := "firstOf", desc := "(I)I" } : Jvm.MethodName)) ∈ lw_all := lw_g (lw_at lw_m1 110 rfl) rfl
theorem q172 : (Jvm.Cond.selects "SequenceBench$Sequence" ({ cls := "SequenceBench$Sequence", name := "firstOf", desc := "(I)I" } : Jvm.MethodName) ({ cls := "SequenceBench$Sequence", name := "firstOf", desc := "(I)I" } : Jvm.MethodName)) ∈ lw_all := lw_g (lw_at lw_m1 111 rfl) rfl
theorem q173 : (Jvm.Cond.code ({ cls := "SequenceBench$Sequence", name := "firstOf", desc := "(I)I" } : Jvm.MethodName) prog_12_method_11_code (2 : Nat) (Option.some Jvm.ClassFile.FieldType.int)) ∈ lw_all := lw_g (lw_at lw_m1 112 rfl) rfl
theorem q208 : (Jvm.Cond.instanceMethod ({ cls := "SequenceBench$Sequence", name := "firstWithMoves", desc := "()I" } : Jvm.MethodName)) ∈ lw_all := lw_g (lw_at lw_m1 147 rfl) rfl
theorem q209 : (Jvm.Cond.selects "SequenceBench$Sequence" ({ cls := "SequenceBench$Sequence", name := "firstWithMoves", desc := "()I" } : Jvm.MethodName) ({ cls := "SequenceBench$Sequence", name := "firstWithMoves", desc := "()I" } : Jvm.MethodName)) ∈ lw_all := lw_g (lw_at lw_m1 148 rfl) rfl
theorem q210 : (Jvm.Cond.code ({ cls := "SequenceBench$Sequence", name := "firstWithMoves", desc := "()I" } : Jvm.MethodName) prog_12_method_5_code (2 : Nat) (Option.some Jvm.ClassFile.FieldType.int)) ∈ lw_all := lw_g (lw_at lw_m1 149 rfl) rfl
theorem q211 : (Jvm.Cond.methodLink "SequenceBench$Sequence" (43 : Nat) ({ cls := "SequenceBench$Step", name := "moves", desc := "()I" } : Jvm.MethodName)) ∈ lw_all := lw_g (lw_at lw_m1 150 rfl) rfl
theorem q807 : (Jvm.Cond.fieldLinkNest "SequenceBench$Sequence" (29 : Nat) "SequenceBench$Step" "plus" "I" "SequenceBench") ∈ lw_tbl := lw_at lw_m4 26 rfl
theorem q810 : (Jvm.Cond.fieldLinkNest "SequenceBench$Sequence" (33 : Nat) "SequenceBench$Step" "minus" "I" "SequenceBench") ∈ lw_tbl := lw_at lw_m4 29 rfl
theorem q855 : (Jvm.Cond.selects "SequenceBench$Sequence" ({ cls := "java/lang/Object", name := "getClass", desc := "()Ljava/lang/Class;" } : Jvm.MethodName) ({ cls := "java/lang/Object", name := "getClass", desc := "()Ljava/lang/Class;" } : Jvm.MethodName)) ∈ lw_all := lw_g (lw_at lw_m4 74 rfl) rfl
theorem q890 : (Jvm.Cond.instantiable "SequenceBench$Sequence" (3 : Nat)) ∈ lw_all := lw_g (lw_at lw_m4 109 rfl) rfl
theorem q892 : (Jvm.Cond.instanceMethod ({ cls := "SequenceBench$Sequence", name := "<init>", desc := "(Ljava/util/ArrayList;)V" } : Jvm.MethodName)) ∈ lw_all := lw_g (lw_at lw_m4 111 rfl) rfl
theorem q893 : (Jvm.Cond.code ({ cls := "SequenceBench$Sequence", name := "<init>", desc := "(Ljava/util/ArrayList;)V" } : Jvm.MethodName) prog_12_method_1_code (4 : Nat) (Option.none : Option Jvm.ClassFile.FieldType)) ∈ lw_all := lw_g (lw_at lw_m4 112 rfl) rfl
theorem q894 : (Jvm.Cond.methodLink "SequenceBench$Sequence" (1 : Nat) ({ cls := "java/lang/Object", name := "<init>", desc := "()V" } : Jvm.MethodName)) ∈ lw_all := lw_g (lw_at lw_m4 113 rfl) rfl
theorem q895 : (Jvm.Cond.methodLink "SequenceBench$Sequence" (7 : Nat) ({ cls := "java/util/ArrayList", name := "size", desc := "()I" } : Jvm.MethodName)) ∈ lw_all := lw_g (lw_at lw_m4 114 rfl) rfl
theorem q896 : (Jvm.Cond.classLink "SequenceBench$Sequence" (13 : Nat) "SequenceBench$Step") ∈ lw_all := lw_g (lw_at lw_m4 115 rfl) rfl
theorem q898 : (Jvm.Cond.methodLink "SequenceBench$Sequence" (25 : Nat) ({ cls := "java/util/ArrayList", name := "get", desc := "(I)Ljava/lang/Object;" } : Jvm.MethodName)) ∈ lw_all := lw_g (lw_at lw_m4 117 rfl) rfl
theorem q899 : (Jvm.Cond.methodLink "SequenceBench$Sequence" (36 : Nat) ({ cls := "SequenceBench$Sequence", name := "fewestCuts", desc := "()[I" } : Jvm.MethodName)) ∈ lw_all := lw_g (lw_at lw_m4 118 rfl) rfl
theorem q900 : (Jvm.Cond.privateMethod ({ cls := "SequenceBench$Sequence", name := "fewestCuts", desc := "()[I" } : Jvm.MethodName)) ∈ lw_tbl := lw_at lw_m4 119 rfl
theorem q901 : (Jvm.Cond.instanceMethod ({ cls := "SequenceBench$Sequence", name := "fewestCuts", desc := "()[I" } : Jvm.MethodName)) ∈ lw_all := lw_g (lw_at lw_m4 120 rfl) rfl
theorem q902 : (Jvm.Cond.code ({ cls := "SequenceBench$Sequence", name := "fewestCuts", desc := "()[I" } : Jvm.MethodName) prog_12_method_8_code (3 : Nat) (Option.some (Jvm.ClassFile.FieldType.array Jvm.ClassFile.FieldType.int))) ∈ lw_all := lw_g (lw_at lw_m4 121 rfl) rfl
theorem q903 : (Jvm.Cond.methodLink "SequenceBench$Sequence" (60 : Nat) ({ cls := "SequenceBench$Sequence", name := "cuts", desc := "([III)Z" } : Jvm.MethodName)) ∈ lw_all := lw_g (lw_at lw_m4 122 rfl) rfl
theorem q904 : (Jvm.Cond.privateMethod ({ cls := "SequenceBench$Sequence", name := "cuts", desc := "([III)Z" } : Jvm.MethodName)) ∈ lw_tbl := lw_at lw_m4 123 rfl
theorem q905 : (Jvm.Cond.instanceMethod ({ cls := "SequenceBench$Sequence", name := "cuts", desc := "([III)Z" } : Jvm.MethodName)) ∈ lw_all := lw_g (lw_at lw_m4 124 rfl) rfl
theorem q906 : (Jvm.Cond.code ({ cls := "SequenceBench$Sequence", name := "cuts", desc := "([III)Z" } : Jvm.MethodName) prog_12_method_9_code (5 : Nat) (Option.some Jvm.ClassFile.FieldType.boolean)) ∈ lw_all := lw_g (lw_at lw_m4 125 rfl) rfl
theorem q907 : (Jvm.Cond.methodLink "SequenceBench$Sequence" (63 : Nat) ({ cls := "SequenceBench$Sequence", name := "isGroup", desc := "(II)Z" } : Jvm.MethodName)) ∈ lw_all := lw_g (lw_at lw_m4 126 rfl) rfl
theorem q908 : (Jvm.Cond.privateMethod ({ cls := "SequenceBench$Sequence", name := "isGroup", desc := "(II)Z" } : Jvm.MethodName)) ∈ lw_tbl := lw_at lw_m4 127 rfl
theorem q909 : (Jvm.Cond.instanceMethod ({ cls := "SequenceBench$Sequence", name := "isGroup", desc := "(II)Z" } : Jvm.MethodName)) ∈ lw_all := lw_g (lw_at lw_m4 128 rfl) rfl
theorem q910 : (Jvm.Cond.code ({ cls := "SequenceBench$Sequence", name := "isGroup", desc := "(II)Z" } : Jvm.MethodName) prog_12_method_7_code (5 : Nat) (Option.some Jvm.ClassFile.FieldType.boolean)) ∈ lw_all := lw_g (lw_at lw_m4 129 rfl) rfl
theorem q911 : (Jvm.Cond.methodLink "SequenceBench$Sequence" (57 : Nat) ({ cls := "SequenceBench$Sequence", name := "after", desc := "(I)I" } : Jvm.MethodName)) ∈ lw_all := lw_g (lw_at lw_m4 130 rfl) rfl
theorem q912 : (Jvm.Cond.instanceMethod ({ cls := "SequenceBench$Sequence", name := "after", desc := "(I)I" } : Jvm.MethodName)) ∈ lw_all := lw_g (lw_at lw_m4 131 rfl) rfl
theorem q913 : (Jvm.Cond.selects "SequenceBench$Sequence" ({ cls := "SequenceBench$Sequence", name := "after", desc := "(I)I" } : Jvm.MethodName) ({ cls := "SequenceBench$Sequence", name := "after", desc := "(I)I" } : Jvm.MethodName)) ∈ lw_all := lw_g (lw_at lw_m4 132 rfl) rfl
theorem q914 : (Jvm.Cond.code ({ cls := "SequenceBench$Sequence", name := "after", desc := "(I)I" } : Jvm.MethodName) prog_12_method_3_code (2 : Nat) (Option.some Jvm.ClassFile.FieldType.int)) ∈ lw_all := lw_g (lw_at lw_m4 133 rfl) rfl
theorem q915 : (Jvm.Cond.fieldLink "SequenceBench$Sequence" (15 : Nat) "SequenceBench$Sequence" "steps" "[LSequenceBench$Step;") ∈ lw_all := lw_g (lw_at lw_m4 134 rfl) rfl
theorem q922 : (Jvm.Cond.fieldLink "SequenceBench$Sequence" (21 : Nat) "SequenceBench$Sequence" "outs" "[I") ∈ lw_all := lw_g (lw_at lw_m4 141 rfl) rfl
theorem q924 : (Jvm.Cond.fieldLink "SequenceBench$Sequence" (40 : Nat) "SequenceBench$Sequence" "cuts" "[I") ∈ lw_all := lw_g (lw_at lw_m4 143 rfl) rfl
theorem q927 : (Jvm.Cond.laysFinal "SequenceBench$Sequence" "SequenceBench$Sequence" "steps" "[LSequenceBench$Step;") ∈ lw_all := lw_g (lw_at lw_m4 146 rfl) rfl
theorem q928 : (Jvm.Cond.soleField "SequenceBench$Sequence" "steps") ∈ lw_all := lw_g (lw_at lw_m4 147 rfl) rfl
theorem q929 : (Jvm.Cond.laysFinal "SequenceBench$Sequence" "SequenceBench$Sequence" "outs" "[I") ∈ lw_all := lw_g (lw_at lw_m4 148 rfl) rfl
theorem q930 : (Jvm.Cond.soleField "SequenceBench$Sequence" "outs") ∈ lw_all := lw_g (lw_at lw_m4 149 rfl) rfl
theorem q931 : (Jvm.Cond.laysFinal "SequenceBench$Sequence" "SequenceBench$Sequence" "cuts" "[I") ∈ lw_all := lw_g (lw_at lw_m4 150 rfl) rfl
theorem q932 : (Jvm.Cond.soleField "SequenceBench$Sequence" "cuts") ∈ lw_all := lw_g (lw_at lw_m4 151 rfl) rfl
theorem q933 : (Jvm.Cond.superclass "SequenceBench$Sequence" "java/lang/Object") ∈ lw_all := lw_g (lw_at lw_m4 152 rfl) rfl
theorem q1131 : (Jvm.Cond.instanceMethod ({ cls := "SequenceBench$Sequence", name := "clash", desc := "(II)I" } : Jvm.MethodName)) ∈ lw_all := lw_g (lw_at lw_m5 110 rfl) rfl
theorem q1132 : (Jvm.Cond.selects "SequenceBench$Sequence" ({ cls := "SequenceBench$Sequence", name := "clash", desc := "(II)I" } : Jvm.MethodName) ({ cls := "SequenceBench$Sequence", name := "clash", desc := "(II)I" } : Jvm.MethodName)) ∈ lw_all := lw_g (lw_at lw_m5 111 rfl) rfl
theorem q1133 : (Jvm.Cond.code ({ cls := "SequenceBench$Sequence", name := "clash", desc := "(II)I" } : Jvm.MethodName) prog_12_method_6_code (5 : Nat) (Option.some Jvm.ClassFile.FieldType.int)) ∈ lw_all := lw_g (lw_at lw_m5 112 rfl) rfl
theorem q1134 : (Jvm.Cond.methodLink "SequenceBench$Sequence" (46 : Nat) ({ cls := "SequenceBench$Step", name := "direction", desc := "(I)I" } : Jvm.MethodName)) ∈ lw_all := lw_g (lw_at lw_m5 113 rfl) rfl
theorem q1135 : (Jvm.Cond.methodLink "SequenceBench$Sequence" (50 : Nat) ({ cls := "SequenceBench$Sequence", name := "before", desc := "(I)I" } : Jvm.MethodName)) ∈ lw_all := lw_g (lw_at lw_m5 114 rfl) rfl
theorem q1136 : (Jvm.Cond.methodLink "SequenceBench$Sequence" (53 : Nat) ({ cls := "SequenceBench$Step", name := "isMade", desc := "(I)Z" } : Jvm.MethodName)) ∈ lw_all := lw_g (lw_at lw_m5 115 rfl) rfl
theorem q1190 : (Jvm.Cond.instanceMethod ({ cls := "SequenceBench$Sequence", name := "cylinders", desc := "()I" } : Jvm.MethodName)) ∈ lw_all := lw_g (lw_at lw_m5 169 rfl) rfl
theorem q1191 : (Jvm.Cond.selects "SequenceBench$Sequence" ({ cls := "SequenceBench$Sequence", name := "cylinders", desc := "()I" } : Jvm.MethodName) ({ cls := "SequenceBench$Sequence", name := "cylinders", desc := "()I" } : Jvm.MethodName)) ∈ lw_all := lw_g (lw_at lw_m5 170 rfl) rfl
theorem q1192 : (Jvm.Cond.code ({ cls := "SequenceBench$Sequence", name := "cylinders", desc := "()I" } : Jvm.MethodName) prog_12_method_4_code (6 : Nat) (Option.some Jvm.ClassFile.FieldType.int)) ∈ lw_all := lw_g (lw_at lw_m5 171 rfl) rfl
theorem q1276 : (Jvm.Cond.instanceMethod ({ cls := "SequenceBench$Sequence", name := "lastOf", desc := "(I)I" } : Jvm.MethodName)) ∈ lw_all := lw_g (lw_at lw_m6 15 rfl) rfl
theorem q1277 : (Jvm.Cond.selects "SequenceBench$Sequence" ({ cls := "SequenceBench$Sequence", name := "lastOf", desc := "(I)I" } : Jvm.MethodName) ({ cls := "SequenceBench$Sequence", name := "lastOf", desc := "(I)I" } : Jvm.MethodName)) ∈ lw_all := lw_g (lw_at lw_m6 16 rfl) rfl
theorem q1278 : (Jvm.Cond.code ({ cls := "SequenceBench$Sequence", name := "lastOf", desc := "(I)I" } : Jvm.MethodName) prog_12_method_12_code (2 : Nat) (Option.some Jvm.ClassFile.FieldType.int)) ∈ lw_all := lw_g (lw_at lw_m6 17 rfl) rfl
theorem q1818 : (Jvm.Cond.castable "SequenceBench$Sequence" "java/lang/Object") ∈ lw_tbl := lw_at lw_m8 77 rfl
theorem in_X11 : ∀ w ∈ wsX110, w ∈ lw_all := lw_in wsX110 [927, 929, 931] (by decide +kernel) (by decide +kernel)

/-! SequenceBench$Method$1 -/
set_option maxRecDepth 100000
def RX12 : String := "SequenceBench$Method$1"
abbrev cX12_circuit : ByteArray := prog_7_method_2_code
def yX12_circuit : MethodName := ⟨RX12, "circuit", "(LSequenceBench$Rig;)LSequenceBench$Circuit;"⟩
def dkwX12_circuit_0 : List UInt8 := [187, 0, 7, 89, 43, 183, 0, 9, 176]
abbrev dktX12_circuit_0 : List UInt8 := dkwX12_circuit_0 ++ []
theorem dksX12_circuit_0 : cX12_circuit.data.toList.drop 0 = dktX12_circuit_0 := by decide +kernel
theorem dX12_circuit_0 : decode cX12_circuit 0 = .ok (.new 7, 3) := dk_187 0 7 (dk_at dksX12_circuit_0 0 rfl rfl)
theorem dX12_circuit_3 : decode cX12_circuit 3 = .ok (.dup, 1) := dk_89 (dk_at dksX12_circuit_0 3 rfl rfl)
theorem dX12_circuit_4 : decode cX12_circuit 4 = .ok (.aload_n 1, 1) := dk_43 (dk_at dksX12_circuit_0 4 rfl rfl)
theorem dX12_circuit_5 : decode cX12_circuit 5 = .ok (.invokespecial 9, 3) := dk_183 0 9 (dk_at dksX12_circuit_0 5 rfl rfl)
theorem dX12_circuit_8 : decode cX12_circuit 8 = .ok (.areturn, 1) := dk_176 (dk_at dksX12_circuit_0 8 rfl rfl)
abbrev cX12_extraValves : ByteArray := prog_7_method_3_code
def yX12_extraValves : MethodName := ⟨RX12, "extraValves", "(LSequenceBench$Sequence;)I"⟩
theorem dX12_extraValves_0 : decode cX12_extraValves 0 = .ok (.iconst 0, 1) := by decide +kernel
theorem dX12_extraValves_1 : decode cX12_extraValves 1 = .ok (.ireturn, 1) := by decide +kernel
theorem q123 : (Jvm.Cond.selects "SequenceBench$Method$1" ({ cls := "SequenceBench$Method", name := "circuit", desc := "(LSequenceBench$Rig;)LSequenceBench$Circuit;" } : Jvm.MethodName) ({ cls := "SequenceBench$Method$1", name := "circuit", desc := "(LSequenceBench$Rig;)LSequenceBench$Circuit;" } : Jvm.MethodName)) ∈ lw_all := lw_g (lw_at lw_m1 62 rfl) rfl
theorem q124 : (Jvm.Cond.instanceMethod ({ cls := "SequenceBench$Method$1", name := "circuit", desc := "(LSequenceBench$Rig;)LSequenceBench$Circuit;" } : Jvm.MethodName)) ∈ lw_all := lw_g (lw_at lw_m1 63 rfl) rfl
theorem q125 : (Jvm.Cond.code ({ cls := "SequenceBench$Method$1", name := "circuit", desc := "(LSequenceBench$Rig;)LSequenceBench$Circuit;" } : Jvm.MethodName) prog_7_method_2_code (2 : Nat) (Option.some (Jvm.ClassFile.FieldType.object "SequenceBench$Circuit"))) ∈ lw_all := lw_g (lw_at lw_m1 64 rfl) rfl
theorem q126 : (Jvm.Cond.classLink "SequenceBench$Method$1" (7 : Nat) "SequenceBench$Direct") ∈ lw_all := lw_g (lw_at lw_m1 65 rfl) rfl
theorem q128 : (Jvm.Cond.methodLink "SequenceBench$Method$1" (9 : Nat) ({ cls := "SequenceBench$Direct", name := "<init>", desc := "(LSequenceBench$Rig;)V" } : Jvm.MethodName)) ∈ lw_all := lw_g (lw_at lw_m1 67 rfl) rfl
theorem q850 : (Jvm.Cond.selects "SequenceBench$Method$1" ({ cls := "java/lang/Object", name := "getClass", desc := "()Ljava/lang/Class;" } : Jvm.MethodName) ({ cls := "java/lang/Object", name := "getClass", desc := "()Ljava/lang/Class;" } : Jvm.MethodName)) ∈ lw_all := lw_g (lw_at lw_m4 69 rfl) rfl
theorem q1202 : (Jvm.Cond.selects "SequenceBench$Method$1" ({ cls := "SequenceBench$Method", name := "extraValves", desc := "(LSequenceBench$Sequence;)I" } : Jvm.MethodName) ({ cls := "SequenceBench$Method$1", name := "extraValves", desc := "(LSequenceBench$Sequence;)I" } : Jvm.MethodName)) ∈ lw_all := lw_g (lw_at lw_m5 181 rfl) rfl
theorem q1203 : (Jvm.Cond.instanceMethod ({ cls := "SequenceBench$Method$1", name := "extraValves", desc := "(LSequenceBench$Sequence;)I" } : Jvm.MethodName)) ∈ lw_all := lw_g (lw_at lw_m5 182 rfl) rfl
theorem q1204 : (Jvm.Cond.code ({ cls := "SequenceBench$Method$1", name := "extraValves", desc := "(LSequenceBench$Sequence;)I" } : Jvm.MethodName) prog_7_method_3_code (2 : Nat) (Option.some Jvm.ClassFile.FieldType.int)) ∈ lw_all := lw_g (lw_at lw_m5 183 rfl) rfl
theorem q1221 : (Jvm.Cond.selects "SequenceBench$Method$1" ({ cls := "SequenceBench$Method", name := "number", desc := "()I" } : Jvm.MethodName) ({ cls := "SequenceBench$Method", name := "number", desc := "()I" } : Jvm.MethodName)) ∈ lw_all := lw_g (lw_at lw_m5 200 rfl) rfl
theorem q1821 : (Jvm.Cond.castable "SequenceBench$Method$1" "java/lang/Object") ∈ lw_tbl := lw_at lw_m8 80 rfl

/-! SequenceBench$Method$2 -/
set_option maxRecDepth 100000
def RX13 : String := "SequenceBench$Method$2"
abbrev cX13_circuit : ByteArray := prog_8_method_2_code
def yX13_circuit : MethodName := ⟨RX13, "circuit", "(LSequenceBench$Rig;)LSequenceBench$Circuit;"⟩
def dkwX13_circuit_0 : List UInt8 := [187, 0, 7, 89, 43, 183, 0, 9, 176]
abbrev dktX13_circuit_0 : List UInt8 := dkwX13_circuit_0 ++ []
theorem dksX13_circuit_0 : cX13_circuit.data.toList.drop 0 = dktX13_circuit_0 := by decide +kernel
theorem dX13_circuit_0 : decode cX13_circuit 0 = .ok (.new 7, 3) := dk_187 0 7 (dk_at dksX13_circuit_0 0 rfl rfl)
theorem dX13_circuit_3 : decode cX13_circuit 3 = .ok (.dup, 1) := dk_89 (dk_at dksX13_circuit_0 3 rfl rfl)
theorem dX13_circuit_4 : decode cX13_circuit 4 = .ok (.aload_n 1, 1) := dk_43 (dk_at dksX13_circuit_0 4 rfl rfl)
theorem dX13_circuit_5 : decode cX13_circuit 5 = .ok (.invokespecial 9, 3) := dk_183 0 9 (dk_at dksX13_circuit_0 5 rfl rfl)
theorem dX13_circuit_8 : decode cX13_circuit 8 = .ok (.areturn, 1) := dk_176 (dk_at dksX13_circuit_0 8 rfl rfl)
abbrev cX13_extraValves : ByteArray := prog_8_method_3_code
def yX13_extraValves : MethodName := ⟨RX13, "extraValves", "(LSequenceBench$Sequence;)I"⟩
def dkwX13_extraValves_0 : List UInt8 := [43, 180, 0, 12, 190, 4, 100, 172]
abbrev dktX13_extraValves_0 : List UInt8 := dkwX13_extraValves_0 ++ []
theorem dksX13_extraValves_0 : cX13_extraValves.data.toList.drop 0 = dktX13_extraValves_0 := by decide +kernel
theorem dX13_extraValves_0 : decode cX13_extraValves 0 = .ok (.aload_n 1, 1) := dk_43 (dk_at dksX13_extraValves_0 0 rfl rfl)
theorem dX13_extraValves_1 : decode cX13_extraValves 1 = .ok (.getfield 12, 3) := dk_180 0 12 (dk_at dksX13_extraValves_0 1 rfl rfl)
theorem dX13_extraValves_4 : decode cX13_extraValves 4 = .ok (.arraylength, 1) := dk_190 (dk_at dksX13_extraValves_0 4 rfl rfl)
theorem dX13_extraValves_5 : decode cX13_extraValves 5 = .ok (.iconst 1, 1) := dk_4 (dk_at dksX13_extraValves_0 5 rfl rfl)
theorem dX13_extraValves_6 : decode cX13_extraValves 6 = .ok (.isub, 1) := dk_100 (dk_at dksX13_extraValves_0 6 rfl rfl)
theorem dX13_extraValves_7 : decode cX13_extraValves 7 = .ok (.ireturn, 1) := dk_172 (dk_at dksX13_extraValves_0 7 rfl rfl)
theorem q155 : (Jvm.Cond.selects "SequenceBench$Method$2" ({ cls := "SequenceBench$Method", name := "circuit", desc := "(LSequenceBench$Rig;)LSequenceBench$Circuit;" } : Jvm.MethodName) ({ cls := "SequenceBench$Method$2", name := "circuit", desc := "(LSequenceBench$Rig;)LSequenceBench$Circuit;" } : Jvm.MethodName)) ∈ lw_all := lw_g (lw_at lw_m1 94 rfl) rfl
theorem q156 : (Jvm.Cond.instanceMethod ({ cls := "SequenceBench$Method$2", name := "circuit", desc := "(LSequenceBench$Rig;)LSequenceBench$Circuit;" } : Jvm.MethodName)) ∈ lw_all := lw_g (lw_at lw_m1 95 rfl) rfl
theorem q157 : (Jvm.Cond.code ({ cls := "SequenceBench$Method$2", name := "circuit", desc := "(LSequenceBench$Rig;)LSequenceBench$Circuit;" } : Jvm.MethodName) prog_8_method_2_code (2 : Nat) (Option.some (Jvm.ClassFile.FieldType.object "SequenceBench$Circuit"))) ∈ lw_all := lw_g (lw_at lw_m1 96 rfl) rfl
theorem q158 : (Jvm.Cond.classLink "SequenceBench$Method$2" (7 : Nat) "SequenceBench$Cascade") ∈ lw_all := lw_g (lw_at lw_m1 97 rfl) rfl
theorem q160 : (Jvm.Cond.methodLink "SequenceBench$Method$2" (9 : Nat) ({ cls := "SequenceBench$Cascade", name := "<init>", desc := "(LSequenceBench$Rig;)V" } : Jvm.MethodName)) ∈ lw_all := lw_g (lw_at lw_m1 99 rfl) rfl
theorem q851 : (Jvm.Cond.selects "SequenceBench$Method$2" ({ cls := "java/lang/Object", name := "getClass", desc := "()Ljava/lang/Class;" } : Jvm.MethodName) ({ cls := "java/lang/Object", name := "getClass", desc := "()Ljava/lang/Class;" } : Jvm.MethodName)) ∈ lw_all := lw_g (lw_at lw_m4 70 rfl) rfl
theorem q925 : (Jvm.Cond.fieldLinkNest "SequenceBench$Method$2" (12 : Nat) "SequenceBench$Sequence" "cuts" "[I" "SequenceBench") ∈ lw_tbl := lw_at lw_m4 144 rfl
theorem q1205 : (Jvm.Cond.selects "SequenceBench$Method$2" ({ cls := "SequenceBench$Method", name := "extraValves", desc := "(LSequenceBench$Sequence;)I" } : Jvm.MethodName) ({ cls := "SequenceBench$Method$2", name := "extraValves", desc := "(LSequenceBench$Sequence;)I" } : Jvm.MethodName)) ∈ lw_all := lw_g (lw_at lw_m5 184 rfl) rfl
theorem q1206 : (Jvm.Cond.instanceMethod ({ cls := "SequenceBench$Method$2", name := "extraValves", desc := "(LSequenceBench$Sequence;)I" } : Jvm.MethodName)) ∈ lw_all := lw_g (lw_at lw_m5 185 rfl) rfl
theorem q1207 : (Jvm.Cond.code ({ cls := "SequenceBench$Method$2", name := "extraValves", desc := "(LSequenceBench$Sequence;)I" } : Jvm.MethodName) prog_8_method_3_code (2 : Nat) (Option.some Jvm.ClassFile.FieldType.int)) ∈ lw_all := lw_g (lw_at lw_m5 186 rfl) rfl
theorem q1222 : (Jvm.Cond.selects "SequenceBench$Method$2" ({ cls := "SequenceBench$Method", name := "number", desc := "()I" } : Jvm.MethodName) ({ cls := "SequenceBench$Method", name := "number", desc := "()I" } : Jvm.MethodName)) ∈ lw_all := lw_g (lw_at lw_m5 201 rfl) rfl
theorem q1807 : (Jvm.Cond.castable "SequenceBench$Method$2" "java/lang/Object") ∈ lw_tbl := lw_at lw_m8 66 rfl

/-! SequenceBench$Method$3 -/
set_option maxRecDepth 100000
def RX14 : String := "SequenceBench$Method$3"
abbrev cX14_circuit : ByteArray := prog_9_method_2_code
def yX14_circuit : MethodName := ⟨RX14, "circuit", "(LSequenceBench$Rig;)LSequenceBench$Circuit;"⟩
def dkwX14_circuit_0 : List UInt8 := [187, 0, 7, 89, 43, 183, 0, 9, 176]
abbrev dktX14_circuit_0 : List UInt8 := dkwX14_circuit_0 ++ []
theorem dksX14_circuit_0 : cX14_circuit.data.toList.drop 0 = dktX14_circuit_0 := by decide +kernel
theorem dX14_circuit_0 : decode cX14_circuit 0 = .ok (.new 7, 3) := dk_187 0 7 (dk_at dksX14_circuit_0 0 rfl rfl)
theorem dX14_circuit_3 : decode cX14_circuit 3 = .ok (.dup, 1) := dk_89 (dk_at dksX14_circuit_0 3 rfl rfl)
theorem dX14_circuit_4 : decode cX14_circuit 4 = .ok (.aload_n 1, 1) := dk_43 (dk_at dksX14_circuit_0 4 rfl rfl)
theorem dX14_circuit_5 : decode cX14_circuit 5 = .ok (.invokespecial 9, 3) := dk_183 0 9 (dk_at dksX14_circuit_0 5 rfl rfl)
theorem dX14_circuit_8 : decode cX14_circuit 8 = .ok (.areturn, 1) := dk_176 (dk_at dksX14_circuit_0 8 rfl rfl)
abbrev cX14_extraValves : ByteArray := prog_9_method_3_code
def yX14_extraValves : MethodName := ⟨RX14, "extraValves", "(LSequenceBench$Sequence;)I"⟩
def dkwX14_extraValves_0 : List UInt8 := [43, 180, 0, 12, 190, 172]
abbrev dktX14_extraValves_0 : List UInt8 := dkwX14_extraValves_0 ++ []
theorem dksX14_extraValves_0 : cX14_extraValves.data.toList.drop 0 = dktX14_extraValves_0 := by decide +kernel
theorem dX14_extraValves_0 : decode cX14_extraValves 0 = .ok (.aload_n 1, 1) := dk_43 (dk_at dksX14_extraValves_0 0 rfl rfl)
theorem dX14_extraValves_1 : decode cX14_extraValves 1 = .ok (.getfield 12, 3) := dk_180 0 12 (dk_at dksX14_extraValves_0 1 rfl rfl)
theorem dX14_extraValves_4 : decode cX14_extraValves 4 = .ok (.arraylength, 1) := dk_190 (dk_at dksX14_extraValves_0 4 rfl rfl)
theorem dX14_extraValves_5 : decode cX14_extraValves 5 = .ok (.ireturn, 1) := dk_172 (dk_at dksX14_extraValves_0 5 rfl rfl)
theorem q191 : (Jvm.Cond.selects "SequenceBench$Method$3" ({ cls := "SequenceBench$Method", name := "circuit", desc := "(LSequenceBench$Rig;)LSequenceBench$Circuit;" } : Jvm.MethodName) ({ cls := "SequenceBench$Method$3", name := "circuit", desc := "(LSequenceBench$Rig;)LSequenceBench$Circuit;" } : Jvm.MethodName)) ∈ lw_all := lw_g (lw_at lw_m1 130 rfl) rfl
theorem q192 : (Jvm.Cond.instanceMethod ({ cls := "SequenceBench$Method$3", name := "circuit", desc := "(LSequenceBench$Rig;)LSequenceBench$Circuit;" } : Jvm.MethodName)) ∈ lw_all := lw_g (lw_at lw_m1 131 rfl) rfl
theorem q193 : (Jvm.Cond.code ({ cls := "SequenceBench$Method$3", name := "circuit", desc := "(LSequenceBench$Rig;)LSequenceBench$Circuit;" } : Jvm.MethodName) prog_9_method_2_code (2 : Nat) (Option.some (Jvm.ClassFile.FieldType.object "SequenceBench$Circuit"))) ∈ lw_all := lw_g (lw_at lw_m1 132 rfl) rfl
theorem q194 : (Jvm.Cond.classLink "SequenceBench$Method$3" (7 : Nat) "SequenceBench$Stepper") ∈ lw_all := lw_g (lw_at lw_m1 133 rfl) rfl
theorem q196 : (Jvm.Cond.methodLink "SequenceBench$Method$3" (9 : Nat) ({ cls := "SequenceBench$Stepper", name := "<init>", desc := "(LSequenceBench$Rig;)V" } : Jvm.MethodName)) ∈ lw_all := lw_g (lw_at lw_m1 135 rfl) rfl
theorem q852 : (Jvm.Cond.selects "SequenceBench$Method$3" ({ cls := "java/lang/Object", name := "getClass", desc := "()Ljava/lang/Class;" } : Jvm.MethodName) ({ cls := "java/lang/Object", name := "getClass", desc := "()Ljava/lang/Class;" } : Jvm.MethodName)) ∈ lw_all := lw_g (lw_at lw_m4 71 rfl) rfl
theorem q920 : (Jvm.Cond.fieldLinkNest "SequenceBench$Method$3" (12 : Nat) "SequenceBench$Sequence" "steps" "[LSequenceBench$Step;" "SequenceBench") ∈ lw_tbl := lw_at lw_m4 139 rfl
theorem q1208 : (Jvm.Cond.selects "SequenceBench$Method$3" ({ cls := "SequenceBench$Method", name := "extraValves", desc := "(LSequenceBench$Sequence;)I" } : Jvm.MethodName) ({ cls := "SequenceBench$Method$3", name := "extraValves", desc := "(LSequenceBench$Sequence;)I" } : Jvm.MethodName)) ∈ lw_all := lw_g (lw_at lw_m5 187 rfl) rfl
theorem q1209 : (Jvm.Cond.instanceMethod ({ cls := "SequenceBench$Method$3", name := "extraValves", desc := "(LSequenceBench$Sequence;)I" } : Jvm.MethodName)) ∈ lw_all := lw_g (lw_at lw_m5 188 rfl) rfl
theorem q1210 : (Jvm.Cond.code ({ cls := "SequenceBench$Method$3", name := "extraValves", desc := "(LSequenceBench$Sequence;)I" } : Jvm.MethodName) prog_9_method_3_code (2 : Nat) (Option.some Jvm.ClassFile.FieldType.int)) ∈ lw_all := lw_g (lw_at lw_m5 189 rfl) rfl
theorem q1223 : (Jvm.Cond.selects "SequenceBench$Method$3" ({ cls := "SequenceBench$Method", name := "number", desc := "()I" } : Jvm.MethodName) ({ cls := "SequenceBench$Method", name := "number", desc := "()I" } : Jvm.MethodName)) ∈ lw_all := lw_g (lw_at lw_m5 202 rfl) rfl
theorem q1822 : (Jvm.Cond.castable "SequenceBench$Method$3" "java/lang/Object") ∈ lw_tbl := lw_at lw_m8 81 rfl

