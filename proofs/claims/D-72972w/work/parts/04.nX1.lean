/-! SequenceBench -/
set_option maxRecDepth 100000
def RX1 : String := "SequenceBench"
def TX1 : u_T := fun k => match k with
  | 0 => ("SequenceBench", "text", "[C", true)
  | 1 => ("SequenceBench", "textLength", "I", false)
  | 2 => ("SequenceBench", "errorKind", "I", false)
  | 3 => ("SequenceBench", "sequence", "LSequenceBench$Sequence;", false)
  | 4 => ("SequenceBench", "strokes", "[I", true)
  | 5 => ("SequenceBench", "faults", "[I", true)
  | 6 => ("SequenceBench", "isStarted", "Z", false)
  | 7 => ("SequenceBench", "method", "LSequenceBench$Method;", false)
  | _ => ("SequenceBench", "rig", "LSequenceBench$Rig;", false)
def tyX1 : Nat → FieldType := fun k => match k with
  | 0 => .array .char
  | 1 => .int
  | 2 => .int
  | 3 => .object "SequenceBench$Sequence"
  | 4 => .array .int
  | 5 => .array .int
  | 6 => .boolean
  | 7 => .object "SequenceBench$Method"
  | _ => .object "SequenceBench$Rig"
abbrev wsX10 : List Cond := u_ws RX1 TX1 9
theorem nmX1 : ∀ a, a < 9 → ∀ b, b < 9 → a ≠ b → (TX1 a).2.1 ≠ (TX1 b).2.1 := by decide +kernel
theorem tyX1_ok : ∀ k, k < 9 → parseFieldDescriptor (TX1 k).2.2.1 = some (tyX1 k) := by decide +kernel
abbrev cX1_init : ByteArray := prog_1_method_1_code
def yX1_init : MethodName := ⟨RX1, "<init>", "()V"⟩
def dkwX1_init_3 : List UInt8 := [180, 0, 30, 42, 180, 0, 13, 183, 0, 35, 181, 0, 38, 177]
abbrev dktX1_init_3 : List UInt8 := dkwX1_init_3 ++ []
def dkwX1_init_2 : List UInt8 := [162, 0, 16, 42, 180, 0, 13, 27, 6, 79, 132, 1, 1, 167, 255, 240, 42, 187, 0, 33, 89, 1, 42]
abbrev dktX1_init_2 : List UInt8 := dkwX1_init_2 ++ dktX1_init_3
def dkwX1_init_1 : List UInt8 := [188, 10, 181, 0, 17, 42, 4, 181, 0, 20, 42, 178, 0, 24, 181, 0, 30, 3, 60, 27, 16, 6]
abbrev dktX1_init_1 : List UInt8 := dkwX1_init_1 ++ dktX1_init_2
def dkwX1_init_0 : List UInt8 := [42, 183, 0, 1, 42, 16, 80, 188, 5, 181, 0, 9, 42, 16, 6, 188, 10, 181, 0, 13, 42, 16, 6]
abbrev dktX1_init_0 : List UInt8 := dkwX1_init_0 ++ dktX1_init_1
theorem dksX1_init_0 : cX1_init.data.toList.drop 0 = dktX1_init_0 := by decide +kernel
theorem dksX1_init_1 : cX1_init.data.toList.drop 23 = dktX1_init_1 := dk_seg dksX1_init_0 23 rfl rfl
theorem dksX1_init_2 : cX1_init.data.toList.drop 45 = dktX1_init_2 := dk_seg dksX1_init_1 22 rfl rfl
theorem dksX1_init_3 : cX1_init.data.toList.drop 68 = dktX1_init_3 := dk_seg dksX1_init_2 23 rfl rfl
theorem dX1_init_0 : decode cX1_init 0 = .ok (.aload_n 0, 1) := dk_42 (dk_at dksX1_init_0 0 rfl rfl)
theorem dX1_init_1 : decode cX1_init 1 = .ok (.invokespecial 1, 3) := dk_183 0 1 (dk_at dksX1_init_0 1 rfl rfl)
theorem dX1_init_4 : decode cX1_init 4 = .ok (.aload_n 0, 1) := dk_42 (dk_at dksX1_init_0 4 rfl rfl)
theorem dX1_init_5 : decode cX1_init 5 = .ok (.bipush 80, 2) := dk_16 80 (dk_at dksX1_init_0 5 rfl rfl)
theorem dX1_init_7 : decode cX1_init 7 = .ok (.newarray .char, 2) := dk_188_5 (dk_at dksX1_init_0 7 rfl rfl)
theorem dX1_init_9 : decode cX1_init 9 = .ok (.putfield 9, 3) := dk_181 0 9 (dk_at dksX1_init_0 9 rfl rfl)
theorem dX1_init_12 : decode cX1_init 12 = .ok (.aload_n 0, 1) := dk_42 (dk_at dksX1_init_0 12 rfl rfl)
theorem dX1_init_13 : decode cX1_init 13 = .ok (.bipush 6, 2) := dk_16 6 (dk_at dksX1_init_0 13 rfl rfl)
theorem dX1_init_15 : decode cX1_init 15 = .ok (.newarray .int, 2) := dk_188_10 (dk_at dksX1_init_0 15 rfl rfl)
theorem dX1_init_17 : decode cX1_init 17 = .ok (.putfield 13, 3) := dk_181 0 13 (dk_at dksX1_init_0 17 rfl rfl)
theorem dX1_init_20 : decode cX1_init 20 = .ok (.aload_n 0, 1) := dk_42 (dk_at dksX1_init_0 20 rfl rfl)
theorem dX1_init_21 : decode cX1_init 21 = .ok (.bipush 6, 2) := dk_16 6 (dk_at dksX1_init_0 21 rfl rfl)
theorem dX1_init_23 : decode cX1_init 23 = .ok (.newarray .int, 2) := dk_188_10 (dk_at dksX1_init_1 0 rfl rfl)
theorem dX1_init_25 : decode cX1_init 25 = .ok (.putfield 17, 3) := dk_181 0 17 (dk_at dksX1_init_1 2 rfl rfl)
theorem dX1_init_28 : decode cX1_init 28 = .ok (.aload_n 0, 1) := dk_42 (dk_at dksX1_init_1 5 rfl rfl)
theorem dX1_init_29 : decode cX1_init 29 = .ok (.iconst 1, 1) := dk_4 (dk_at dksX1_init_1 6 rfl rfl)
theorem dX1_init_30 : decode cX1_init 30 = .ok (.putfield 20, 3) := dk_181 0 20 (dk_at dksX1_init_1 7 rfl rfl)
theorem dX1_init_33 : decode cX1_init 33 = .ok (.aload_n 0, 1) := dk_42 (dk_at dksX1_init_1 10 rfl rfl)
theorem dX1_init_34 : decode cX1_init 34 = .ok (.getstatic 24, 3) := dk_178 0 24 (dk_at dksX1_init_1 11 rfl rfl)
theorem dX1_init_37 : decode cX1_init 37 = .ok (.putfield 30, 3) := dk_181 0 30 (dk_at dksX1_init_1 14 rfl rfl)
theorem dX1_init_40 : decode cX1_init 40 = .ok (.iconst 0, 1) := dk_3 (dk_at dksX1_init_1 17 rfl rfl)
theorem dX1_init_41 : decode cX1_init 41 = .ok (.istore_n 1, 1) := dk_60 (dk_at dksX1_init_1 18 rfl rfl)
theorem dX1_init_42 : decode cX1_init 42 = .ok (.iload_n 1, 1) := dk_27 (dk_at dksX1_init_1 19 rfl rfl)
theorem dX1_init_43 : decode cX1_init 43 = .ok (.bipush 6, 2) := dk_16 6 (dk_at dksX1_init_1 20 rfl rfl)
theorem dX1_init_45 : decode cX1_init 45 = .ok (.if_icmp .ge 16, 3) := dk_162 0 16 (dk_at dksX1_init_2 0 rfl rfl)
theorem dX1_init_48 : decode cX1_init 48 = .ok (.aload_n 0, 1) := dk_42 (dk_at dksX1_init_2 3 rfl rfl)
theorem dX1_init_49 : decode cX1_init 49 = .ok (.getfield 13, 3) := dk_180 0 13 (dk_at dksX1_init_2 4 rfl rfl)
theorem dX1_init_52 : decode cX1_init 52 = .ok (.iload_n 1, 1) := dk_27 (dk_at dksX1_init_2 7 rfl rfl)
theorem dX1_init_53 : decode cX1_init 53 = .ok (.iconst 3, 1) := dk_6 (dk_at dksX1_init_2 8 rfl rfl)
theorem dX1_init_54 : decode cX1_init 54 = .ok (.iastore, 1) := dk_79 (dk_at dksX1_init_2 9 rfl rfl)
theorem dX1_init_55 : decode cX1_init 55 = .ok (.iinc 1 1, 3) := dk_132 1 1 (dk_at dksX1_init_2 10 rfl rfl)
theorem dX1_init_58 : decode cX1_init 58 = .ok (.goto (-16), 3) := dk_167 255 240 (dk_at dksX1_init_2 13 rfl rfl)
theorem dX1_init_61 : decode cX1_init 61 = .ok (.aload_n 0, 1) := dk_42 (dk_at dksX1_init_2 16 rfl rfl)
theorem dX1_init_62 : decode cX1_init 62 = .ok (.new 33, 3) := dk_187 0 33 (dk_at dksX1_init_2 17 rfl rfl)
theorem dX1_init_65 : decode cX1_init 65 = .ok (.dup, 1) := dk_89 (dk_at dksX1_init_2 20 rfl rfl)
theorem dX1_init_66 : decode cX1_init 66 = .ok (.aconst_null, 1) := dk_1 (dk_at dksX1_init_2 21 rfl rfl)
theorem dX1_init_67 : decode cX1_init 67 = .ok (.aload_n 0, 1) := dk_42 (dk_at dksX1_init_2 22 rfl rfl)
theorem dX1_init_68 : decode cX1_init 68 = .ok (.getfield 30, 3) := dk_180 0 30 (dk_at dksX1_init_3 0 rfl rfl)
theorem dX1_init_71 : decode cX1_init 71 = .ok (.aload_n 0, 1) := dk_42 (dk_at dksX1_init_3 3 rfl rfl)
theorem dX1_init_72 : decode cX1_init 72 = .ok (.getfield 13, 3) := dk_180 0 13 (dk_at dksX1_init_3 4 rfl rfl)
theorem dX1_init_75 : decode cX1_init 75 = .ok (.invokespecial 35, 3) := dk_183 0 35 (dk_at dksX1_init_3 7 rfl rfl)
theorem dX1_init_78 : decode cX1_init 78 = .ok (.putfield 38, 3) := dk_181 0 38 (dk_at dksX1_init_3 10 rfl rfl)
theorem dX1_init_81 : decode cX1_init 81 = .ok (.return_, 1) := dk_177 (dk_at dksX1_init_3 13 rfl rfl)
abbrev cX1_clearText : ByteArray := prog_1_method_8_code
def yX1_clearText : MethodName := ⟨RX1, "clearText", "()I"⟩
def dkwX1_clearText_0 : List UInt8 := [42, 180, 0, 67, 60, 42, 3, 181, 0, 67, 27, 172]
abbrev dktX1_clearText_0 : List UInt8 := dkwX1_clearText_0 ++ []
theorem dksX1_clearText_0 : cX1_clearText.data.toList.drop 0 = dktX1_clearText_0 := by decide +kernel
theorem dX1_clearText_0 : decode cX1_clearText 0 = .ok (.aload_n 0, 1) := dk_42 (dk_at dksX1_clearText_0 0 rfl rfl)
theorem dX1_clearText_1 : decode cX1_clearText 1 = .ok (.getfield 67, 3) := dk_180 0 67 (dk_at dksX1_clearText_0 1 rfl rfl)
theorem dX1_clearText_4 : decode cX1_clearText 4 = .ok (.istore_n 1, 1) := dk_60 (dk_at dksX1_clearText_0 4 rfl rfl)
theorem dX1_clearText_5 : decode cX1_clearText 5 = .ok (.aload_n 0, 1) := dk_42 (dk_at dksX1_clearText_0 5 rfl rfl)
theorem dX1_clearText_6 : decode cX1_clearText 6 = .ok (.iconst 0, 1) := dk_3 (dk_at dksX1_clearText_0 6 rfl rfl)
theorem dX1_clearText_7 : decode cX1_clearText 7 = .ok (.putfield 67, 3) := dk_181 0 67 (dk_at dksX1_clearText_0 7 rfl rfl)
theorem dX1_clearText_10 : decode cX1_clearText 10 = .ok (.iload_n 1, 1) := dk_27 (dk_at dksX1_clearText_0 10 rfl rfl)
theorem dX1_clearText_11 : decode cX1_clearText 11 = .ok (.ireturn, 1) := dk_172 (dk_at dksX1_clearText_0 11 rfl rfl)
abbrev cX1_readSequence : ByteArray := prog_1_method_10_code
def yX1_readSequence : MethodName := ⟨RX1, "readSequence", "()I"⟩
def dkwX1_readSequence_2 : List UInt8 := [42, 180, 0, 52, 180, 0, 102, 190, 172]
abbrev dktX1_readSequence_2 : List UInt8 := dkwX1_readSequence_2 ++ []
def dkwX1_readSequence_1 : List UInt8 := [181, 0, 93, 2, 43, 180, 0, 96, 100, 172, 42, 3, 181, 0, 93, 42, 3, 181, 0, 67, 42, 182, 0, 99]
abbrev dktX1_readSequence_1 : List UInt8 := dkwX1_readSequence_1 ++ dktX1_readSequence_2
def dkwX1_readSequence_0 : List UInt8 := [42, 187, 0, 79, 89, 42, 183, 0, 81, 182, 0, 84, 181, 0, 52, 167, 0, 19, 76, 42, 43, 180, 0, 90]
abbrev dktX1_readSequence_0 : List UInt8 := dkwX1_readSequence_0 ++ dktX1_readSequence_1
theorem dksX1_readSequence_0 : cX1_readSequence.data.toList.drop 0 = dktX1_readSequence_0 := by decide +kernel
theorem dksX1_readSequence_1 : cX1_readSequence.data.toList.drop 24 = dktX1_readSequence_1 := dk_seg dksX1_readSequence_0 24 rfl rfl
theorem dksX1_readSequence_2 : cX1_readSequence.data.toList.drop 48 = dktX1_readSequence_2 := dk_seg dksX1_readSequence_1 24 rfl rfl
theorem dX1_readSequence_0 : decode cX1_readSequence 0 = .ok (.aload_n 0, 1) := dk_42 (dk_at dksX1_readSequence_0 0 rfl rfl)
theorem dX1_readSequence_1 : decode cX1_readSequence 1 = .ok (.new 79, 3) := dk_187 0 79 (dk_at dksX1_readSequence_0 1 rfl rfl)
theorem dX1_readSequence_4 : decode cX1_readSequence 4 = .ok (.dup, 1) := dk_89 (dk_at dksX1_readSequence_0 4 rfl rfl)
theorem dX1_readSequence_5 : decode cX1_readSequence 5 = .ok (.aload_n 0, 1) := dk_42 (dk_at dksX1_readSequence_0 5 rfl rfl)
theorem dX1_readSequence_6 : decode cX1_readSequence 6 = .ok (.invokespecial 81, 3) := dk_183 0 81 (dk_at dksX1_readSequence_0 6 rfl rfl)
theorem dX1_readSequence_9 : decode cX1_readSequence 9 = .ok (.invokevirtual 84, 3) := dk_182 0 84 (dk_at dksX1_readSequence_0 9 rfl rfl)
theorem dX1_readSequence_12 : decode cX1_readSequence 12 = .ok (.putfield 52, 3) := dk_181 0 52 (dk_at dksX1_readSequence_0 12 rfl rfl)
theorem dX1_readSequence_15 : decode cX1_readSequence 15 = .ok (.goto 19, 3) := dk_167 0 19 (dk_at dksX1_readSequence_0 15 rfl rfl)
theorem dX1_readSequence_18 : decode cX1_readSequence 18 = .ok (.astore_n 1, 1) := dk_76 (dk_at dksX1_readSequence_0 18 rfl rfl)
theorem dX1_readSequence_19 : decode cX1_readSequence 19 = .ok (.aload_n 0, 1) := dk_42 (dk_at dksX1_readSequence_0 19 rfl rfl)
theorem dX1_readSequence_20 : decode cX1_readSequence 20 = .ok (.aload_n 1, 1) := dk_43 (dk_at dksX1_readSequence_0 20 rfl rfl)
theorem dX1_readSequence_21 : decode cX1_readSequence 21 = .ok (.getfield 90, 3) := dk_180 0 90 (dk_at dksX1_readSequence_0 21 rfl rfl)
theorem dX1_readSequence_24 : decode cX1_readSequence 24 = .ok (.putfield 93, 3) := dk_181 0 93 (dk_at dksX1_readSequence_1 0 rfl rfl)
theorem dX1_readSequence_27 : decode cX1_readSequence 27 = .ok (.iconst (-1), 1) := dk_2 (dk_at dksX1_readSequence_1 3 rfl rfl)
theorem dX1_readSequence_28 : decode cX1_readSequence 28 = .ok (.aload_n 1, 1) := dk_43 (dk_at dksX1_readSequence_1 4 rfl rfl)
theorem dX1_readSequence_29 : decode cX1_readSequence 29 = .ok (.getfield 96, 3) := dk_180 0 96 (dk_at dksX1_readSequence_1 5 rfl rfl)
theorem dX1_readSequence_32 : decode cX1_readSequence 32 = .ok (.isub, 1) := dk_100 (dk_at dksX1_readSequence_1 8 rfl rfl)
theorem dX1_readSequence_33 : decode cX1_readSequence 33 = .ok (.ireturn, 1) := dk_172 (dk_at dksX1_readSequence_1 9 rfl rfl)
theorem dX1_readSequence_34 : decode cX1_readSequence 34 = .ok (.aload_n 0, 1) := dk_42 (dk_at dksX1_readSequence_1 10 rfl rfl)
theorem dX1_readSequence_35 : decode cX1_readSequence 35 = .ok (.iconst 0, 1) := dk_3 (dk_at dksX1_readSequence_1 11 rfl rfl)
theorem dX1_readSequence_36 : decode cX1_readSequence 36 = .ok (.putfield 93, 3) := dk_181 0 93 (dk_at dksX1_readSequence_1 12 rfl rfl)
theorem dX1_readSequence_39 : decode cX1_readSequence 39 = .ok (.aload_n 0, 1) := dk_42 (dk_at dksX1_readSequence_1 15 rfl rfl)
theorem dX1_readSequence_40 : decode cX1_readSequence 40 = .ok (.iconst 0, 1) := dk_3 (dk_at dksX1_readSequence_1 16 rfl rfl)
theorem dX1_readSequence_41 : decode cX1_readSequence 41 = .ok (.putfield 67, 3) := dk_181 0 67 (dk_at dksX1_readSequence_1 17 rfl rfl)
theorem dX1_readSequence_44 : decode cX1_readSequence 44 = .ok (.aload_n 0, 1) := dk_42 (dk_at dksX1_readSequence_1 20 rfl rfl)
theorem dX1_readSequence_45 : decode cX1_readSequence 45 = .ok (.invokevirtual 99, 3) := dk_182 0 99 (dk_at dksX1_readSequence_1 21 rfl rfl)
theorem dX1_readSequence_48 : decode cX1_readSequence 48 = .ok (.aload_n 0, 1) := dk_42 (dk_at dksX1_readSequence_2 0 rfl rfl)
theorem dX1_readSequence_49 : decode cX1_readSequence 49 = .ok (.getfield 52, 3) := dk_180 0 52 (dk_at dksX1_readSequence_2 1 rfl rfl)
theorem dX1_readSequence_52 : decode cX1_readSequence 52 = .ok (.getfield 102, 3) := dk_180 0 102 (dk_at dksX1_readSequence_2 4 rfl rfl)
theorem dX1_readSequence_55 : decode cX1_readSequence 55 = .ok (.arraylength, 1) := dk_190 (dk_at dksX1_readSequence_2 7 rfl rfl)
theorem dX1_readSequence_56 : decode cX1_readSequence 56 = .ok (.ireturn, 1) := dk_172 (dk_at dksX1_readSequence_2 8 rfl rfl)
abbrev cX1_isIn : ByteArray := prog_1_method_2_code
def yX1_isIn : MethodName := ⟨RX1, "isIn", "(JJJ)Z"⟩
def dkwX1_isIn_0 : List UInt8 := [30, 32, 148, 155, 0, 14, 30, 22, 4, 148, 157, 0, 7, 4, 167, 0, 4, 3, 172]
abbrev dktX1_isIn_0 : List UInt8 := dkwX1_isIn_0 ++ []
theorem dksX1_isIn_0 : cX1_isIn.data.toList.drop 0 = dktX1_isIn_0 := by decide +kernel
theorem dX1_isIn_0 : decode cX1_isIn 0 = .ok (.lload_n 0, 1) := dk_30 (dk_at dksX1_isIn_0 0 rfl rfl)
theorem dX1_isIn_1 : decode cX1_isIn 1 = .ok (.lload_n 2, 1) := dk_32 (dk_at dksX1_isIn_0 1 rfl rfl)
theorem dX1_isIn_2 : decode cX1_isIn 2 = .ok (.lcmp, 1) := dk_148 (dk_at dksX1_isIn_0 2 rfl rfl)
theorem dX1_isIn_3 : decode cX1_isIn 3 = .ok (.ifCond .lt 14, 3) := dk_155 0 14 (dk_at dksX1_isIn_0 3 rfl rfl)
theorem dX1_isIn_6 : decode cX1_isIn 6 = .ok (.lload_n 0, 1) := dk_30 (dk_at dksX1_isIn_0 6 rfl rfl)
theorem dX1_isIn_7 : decode cX1_isIn 7 = .ok (.lload 4, 2) := dk_22 4 (dk_at dksX1_isIn_0 7 rfl rfl)
theorem dX1_isIn_9 : decode cX1_isIn 9 = .ok (.lcmp, 1) := dk_148 (dk_at dksX1_isIn_0 9 rfl rfl)
theorem dX1_isIn_10 : decode cX1_isIn 10 = .ok (.ifCond .gt 7, 3) := dk_157 0 7 (dk_at dksX1_isIn_0 10 rfl rfl)
theorem dX1_isIn_13 : decode cX1_isIn 13 = .ok (.iconst 1, 1) := dk_4 (dk_at dksX1_isIn_0 13 rfl rfl)
theorem dX1_isIn_14 : decode cX1_isIn 14 = .ok (.goto 4, 3) := dk_167 0 4 (dk_at dksX1_isIn_0 14 rfl rfl)
theorem dX1_isIn_17 : decode cX1_isIn 17 = .ok (.iconst 0, 1) := dk_3 (dk_at dksX1_isIn_0 17 rfl rfl)
theorem dX1_isIn_18 : decode cX1_isIn 18 = .ok (.ireturn, 1) := dk_172 (dk_at dksX1_isIn_0 18 rfl rfl)
abbrev cX1_has : ByteArray := prog_1_method_6_code
def yX1_has : MethodName := ⟨RX1, "has", "(II)Z"⟩
def dkwX1_has_0 : List UInt8 := [26, 27, 122, 4, 126, 4, 160, 0, 7, 4, 167, 0, 4, 3, 172]
abbrev dktX1_has_0 : List UInt8 := dkwX1_has_0 ++ []
theorem dksX1_has_0 : cX1_has.data.toList.drop 0 = dktX1_has_0 := by decide +kernel
theorem dX1_has_0 : decode cX1_has 0 = .ok (.iload_n 0, 1) := dk_26 (dk_at dksX1_has_0 0 rfl rfl)
theorem dX1_has_1 : decode cX1_has 1 = .ok (.iload_n 1, 1) := dk_27 (dk_at dksX1_has_0 1 rfl rfl)
theorem dX1_has_2 : decode cX1_has 2 = .ok (.ishr, 1) := dk_122 (dk_at dksX1_has_0 2 rfl rfl)
theorem dX1_has_3 : decode cX1_has 3 = .ok (.iconst 1, 1) := dk_4 (dk_at dksX1_has_0 3 rfl rfl)
theorem dX1_has_4 : decode cX1_has 4 = .ok (.iand, 1) := dk_126 (dk_at dksX1_has_0 4 rfl rfl)
theorem dX1_has_5 : decode cX1_has 5 = .ok (.iconst 1, 1) := dk_4 (dk_at dksX1_has_0 5 rfl rfl)
theorem dX1_has_6 : decode cX1_has 6 = .ok (.if_icmp .ne 7, 3) := dk_160 0 7 (dk_at dksX1_has_0 6 rfl rfl)
theorem dX1_has_9 : decode cX1_has 9 = .ok (.iconst 1, 1) := dk_4 (dk_at dksX1_has_0 9 rfl rfl)
theorem dX1_has_10 : decode cX1_has 10 = .ok (.goto 4, 3) := dk_167 0 4 (dk_at dksX1_has_0 10 rfl rfl)
theorem dX1_has_13 : decode cX1_has 13 = .ok (.iconst 0, 1) := dk_3 (dk_at dksX1_has_0 13 rfl rfl)
theorem dX1_has_14 : decode cX1_has 14 = .ok (.ireturn, 1) := dk_172 (dk_at dksX1_has_0 14 rfl rfl)
abbrev cX1_settle : ByteArray := prog_1_method_9_code
def yX1_settle : MethodName := ⟨RX1, "settle", "()V"⟩
def dkwX1_settle_2 : List UInt8 := [16, 6, 184, 0, 73, 177]
abbrev dktX1_settle_2 : List UInt8 := dkwX1_settle_2 ++ []
def dkwX1_settle_1 : List UInt8 := [180, 0, 38, 42, 180, 0, 20, 181, 0, 71, 42, 180, 0, 17, 3, 42, 180, 0, 38, 180, 0, 72, 3]
abbrev dktX1_settle_1 : List UInt8 := dkwX1_settle_1 ++ dktX1_settle_2
def dkwX1_settle_0 : List UInt8 := [42, 187, 0, 33, 89, 42, 180, 0, 52, 42, 180, 0, 30, 42, 180, 0, 13, 183, 0, 35, 181, 0, 38, 42]
abbrev dktX1_settle_0 : List UInt8 := dkwX1_settle_0 ++ dktX1_settle_1
theorem dksX1_settle_0 : cX1_settle.data.toList.drop 0 = dktX1_settle_0 := by decide +kernel
theorem dksX1_settle_1 : cX1_settle.data.toList.drop 24 = dktX1_settle_1 := dk_seg dksX1_settle_0 24 rfl rfl
theorem dksX1_settle_2 : cX1_settle.data.toList.drop 47 = dktX1_settle_2 := dk_seg dksX1_settle_1 23 rfl rfl
theorem dX1_settle_0 : decode cX1_settle 0 = .ok (.aload_n 0, 1) := dk_42 (dk_at dksX1_settle_0 0 rfl rfl)
theorem dX1_settle_1 : decode cX1_settle 1 = .ok (.new 33, 3) := dk_187 0 33 (dk_at dksX1_settle_0 1 rfl rfl)
theorem dX1_settle_4 : decode cX1_settle 4 = .ok (.dup, 1) := dk_89 (dk_at dksX1_settle_0 4 rfl rfl)
theorem dX1_settle_5 : decode cX1_settle 5 = .ok (.aload_n 0, 1) := dk_42 (dk_at dksX1_settle_0 5 rfl rfl)
theorem dX1_settle_6 : decode cX1_settle 6 = .ok (.getfield 52, 3) := dk_180 0 52 (dk_at dksX1_settle_0 6 rfl rfl)
theorem dX1_settle_9 : decode cX1_settle 9 = .ok (.aload_n 0, 1) := dk_42 (dk_at dksX1_settle_0 9 rfl rfl)
theorem dX1_settle_10 : decode cX1_settle 10 = .ok (.getfield 30, 3) := dk_180 0 30 (dk_at dksX1_settle_0 10 rfl rfl)
theorem dX1_settle_13 : decode cX1_settle 13 = .ok (.aload_n 0, 1) := dk_42 (dk_at dksX1_settle_0 13 rfl rfl)
theorem dX1_settle_14 : decode cX1_settle 14 = .ok (.getfield 13, 3) := dk_180 0 13 (dk_at dksX1_settle_0 14 rfl rfl)
theorem dX1_settle_17 : decode cX1_settle 17 = .ok (.invokespecial 35, 3) := dk_183 0 35 (dk_at dksX1_settle_0 17 rfl rfl)
theorem dX1_settle_20 : decode cX1_settle 20 = .ok (.putfield 38, 3) := dk_181 0 38 (dk_at dksX1_settle_0 20 rfl rfl)
theorem dX1_settle_23 : decode cX1_settle 23 = .ok (.aload_n 0, 1) := dk_42 (dk_at dksX1_settle_0 23 rfl rfl)
theorem dX1_settle_24 : decode cX1_settle 24 = .ok (.getfield 38, 3) := dk_180 0 38 (dk_at dksX1_settle_1 0 rfl rfl)
theorem dX1_settle_27 : decode cX1_settle 27 = .ok (.aload_n 0, 1) := dk_42 (dk_at dksX1_settle_1 3 rfl rfl)
theorem dX1_settle_28 : decode cX1_settle 28 = .ok (.getfield 20, 3) := dk_180 0 20 (dk_at dksX1_settle_1 4 rfl rfl)
theorem dX1_settle_31 : decode cX1_settle 31 = .ok (.putfield 71, 3) := dk_181 0 71 (dk_at dksX1_settle_1 7 rfl rfl)
theorem dX1_settle_34 : decode cX1_settle 34 = .ok (.aload_n 0, 1) := dk_42 (dk_at dksX1_settle_1 10 rfl rfl)
theorem dX1_settle_35 : decode cX1_settle 35 = .ok (.getfield 17, 3) := dk_180 0 17 (dk_at dksX1_settle_1 11 rfl rfl)
theorem dX1_settle_38 : decode cX1_settle 38 = .ok (.iconst 0, 1) := dk_3 (dk_at dksX1_settle_1 14 rfl rfl)
theorem dX1_settle_39 : decode cX1_settle 39 = .ok (.aload_n 0, 1) := dk_42 (dk_at dksX1_settle_1 15 rfl rfl)
theorem dX1_settle_40 : decode cX1_settle 40 = .ok (.getfield 38, 3) := dk_180 0 38 (dk_at dksX1_settle_1 16 rfl rfl)
theorem dX1_settle_43 : decode cX1_settle 43 = .ok (.getfield 72, 3) := dk_180 0 72 (dk_at dksX1_settle_1 19 rfl rfl)
theorem dX1_settle_46 : decode cX1_settle 46 = .ok (.iconst 0, 1) := dk_3 (dk_at dksX1_settle_1 22 rfl rfl)
theorem dX1_settle_47 : decode cX1_settle 47 = .ok (.bipush 6, 2) := dk_16 6 (dk_at dksX1_settle_2 0 rfl rfl)
theorem dX1_settle_49 : decode cX1_settle 49 = .ok (.invokestatic 73, 3) := dk_184 0 73 (dk_at dksX1_settle_2 2 rfl rfl)
theorem dX1_settle_52 : decode cX1_settle 52 = .ok (.return_, 1) := dk_177 (dk_at dksX1_settle_2 5 rfl rfl)
abbrev cX1_errorKind : ByteArray := prog_1_method_11_code
def yX1_errorKind : MethodName := ⟨RX1, "errorKind", "()I"⟩
theorem dX1_errorKind_0 : decode cX1_errorKind 0 = .ok (.aload_n 0, 1) := by decide +kernel
theorem dX1_errorKind_1 : decode cX1_errorKind 1 = .ok (.getfield 93, 3) := by decide +kernel
theorem dX1_errorKind_4 : decode cX1_errorKind 4 = .ok (.ireturn, 1) := by decide +kernel
abbrev cX1_steps : ByteArray := prog_1_method_12_code
def yX1_steps : MethodName := ⟨RX1, "steps", "()I"⟩
def dkwX1_steps_0 : List UInt8 := [42, 180, 0, 52, 199, 0, 7, 3, 167, 0, 11, 42, 180, 0, 52, 180, 0, 102, 190, 172]
abbrev dktX1_steps_0 : List UInt8 := dkwX1_steps_0 ++ []
theorem dksX1_steps_0 : cX1_steps.data.toList.drop 0 = dktX1_steps_0 := by decide +kernel
theorem dX1_steps_0 : decode cX1_steps 0 = .ok (.aload_n 0, 1) := dk_42 (dk_at dksX1_steps_0 0 rfl rfl)
theorem dX1_steps_1 : decode cX1_steps 1 = .ok (.getfield 52, 3) := dk_180 0 52 (dk_at dksX1_steps_0 1 rfl rfl)
theorem dX1_steps_4 : decode cX1_steps 4 = .ok (.ifnonnull 7, 3) := dk_199 0 7 (dk_at dksX1_steps_0 4 rfl rfl)
theorem dX1_steps_7 : decode cX1_steps 7 = .ok (.iconst 0, 1) := dk_3 (dk_at dksX1_steps_0 7 rfl rfl)
theorem dX1_steps_8 : decode cX1_steps 8 = .ok (.goto 11, 3) := dk_167 0 11 (dk_at dksX1_steps_0 8 rfl rfl)
theorem dX1_steps_11 : decode cX1_steps 11 = .ok (.aload_n 0, 1) := dk_42 (dk_at dksX1_steps_0 11 rfl rfl)
theorem dX1_steps_12 : decode cX1_steps 12 = .ok (.getfield 52, 3) := dk_180 0 52 (dk_at dksX1_steps_0 12 rfl rfl)
theorem dX1_steps_15 : decode cX1_steps 15 = .ok (.getfield 102, 3) := dk_180 0 102 (dk_at dksX1_steps_0 15 rfl rfl)
theorem dX1_steps_18 : decode cX1_steps 18 = .ok (.arraylength, 1) := dk_190 (dk_at dksX1_steps_0 18 rfl rfl)
theorem dX1_steps_19 : decode cX1_steps 19 = .ok (.ireturn, 1) := dk_172 (dk_at dksX1_steps_0 19 rfl rfl)
abbrev cX1_setStart : ByteArray := prog_1_method_26_code
def yX1_setStart : MethodName := ⟨RX1, "setStart", "(Z)Z"⟩
def dkwX1_setStart_0 : List UInt8 := [42, 180, 0, 20, 61, 42, 27, 181, 0, 20, 42, 180, 0, 38, 27, 181, 0, 71, 28, 172]
abbrev dktX1_setStart_0 : List UInt8 := dkwX1_setStart_0 ++ []
theorem dksX1_setStart_0 : cX1_setStart.data.toList.drop 0 = dktX1_setStart_0 := by decide +kernel
theorem dX1_setStart_0 : decode cX1_setStart 0 = .ok (.aload_n 0, 1) := dk_42 (dk_at dksX1_setStart_0 0 rfl rfl)
theorem dX1_setStart_1 : decode cX1_setStart 1 = .ok (.getfield 20, 3) := dk_180 0 20 (dk_at dksX1_setStart_0 1 rfl rfl)
theorem dX1_setStart_4 : decode cX1_setStart 4 = .ok (.istore_n 2, 1) := dk_61 (dk_at dksX1_setStart_0 4 rfl rfl)
theorem dX1_setStart_5 : decode cX1_setStart 5 = .ok (.aload_n 0, 1) := dk_42 (dk_at dksX1_setStart_0 5 rfl rfl)
theorem dX1_setStart_6 : decode cX1_setStart 6 = .ok (.iload_n 1, 1) := dk_27 (dk_at dksX1_setStart_0 6 rfl rfl)
theorem dX1_setStart_7 : decode cX1_setStart 7 = .ok (.putfield 20, 3) := dk_181 0 20 (dk_at dksX1_setStart_0 7 rfl rfl)
theorem dX1_setStart_10 : decode cX1_setStart 10 = .ok (.aload_n 0, 1) := dk_42 (dk_at dksX1_setStart_0 10 rfl rfl)
theorem dX1_setStart_11 : decode cX1_setStart 11 = .ok (.getfield 38, 3) := dk_180 0 38 (dk_at dksX1_setStart_0 11 rfl rfl)
theorem dX1_setStart_14 : decode cX1_setStart 14 = .ok (.iload_n 1, 1) := dk_27 (dk_at dksX1_setStart_0 14 rfl rfl)
theorem dX1_setStart_15 : decode cX1_setStart 15 = .ok (.putfield 71, 3) := dk_181 0 71 (dk_at dksX1_setStart_0 15 rfl rfl)
theorem dX1_setStart_18 : decode cX1_setStart 18 = .ok (.iload_n 2, 1) := dk_28 (dk_at dksX1_setStart_0 18 rfl rfl)
theorem dX1_setStart_19 : decode cX1_setStart 19 = .ok (.ireturn, 1) := dk_172 (dk_at dksX1_setStart_0 19 rfl rfl)
abbrev cX1_rest : ByteArray := prog_1_method_28_code
def yX1_rest : MethodName := ⟨RX1, "rest", "()I"⟩
def dkwX1_rest_0 : List UInt8 := [42, 180, 0, 38, 180, 0, 177, 60, 42, 182, 0, 99, 27, 172]
abbrev dktX1_rest_0 : List UInt8 := dkwX1_rest_0 ++ []
theorem dksX1_rest_0 : cX1_rest.data.toList.drop 0 = dktX1_rest_0 := by decide +kernel
theorem dX1_rest_0 : decode cX1_rest 0 = .ok (.aload_n 0, 1) := dk_42 (dk_at dksX1_rest_0 0 rfl rfl)
theorem dX1_rest_1 : decode cX1_rest 1 = .ok (.getfield 38, 3) := dk_180 0 38 (dk_at dksX1_rest_0 1 rfl rfl)
theorem dX1_rest_4 : decode cX1_rest 4 = .ok (.getfield 177, 3) := dk_180 0 177 (dk_at dksX1_rest_0 4 rfl rfl)
theorem dX1_rest_7 : decode cX1_rest 7 = .ok (.istore_n 1, 1) := dk_60 (dk_at dksX1_rest_0 7 rfl rfl)
theorem dX1_rest_8 : decode cX1_rest 8 = .ok (.aload_n 0, 1) := dk_42 (dk_at dksX1_rest_0 8 rfl rfl)
theorem dX1_rest_9 : decode cX1_rest 9 = .ok (.invokevirtual 99, 3) := dk_182 0 99 (dk_at dksX1_rest_0 9 rfl rfl)
theorem dX1_rest_12 : decode cX1_rest 12 = .ok (.iload_n 1, 1) := dk_27 (dk_at dksX1_rest_0 12 rfl rfl)
theorem dX1_rest_13 : decode cX1_rest 13 = .ok (.ireturn, 1) := dk_172 (dk_at dksX1_rest_0 13 rfl rfl)
abbrev cX1_time : ByteArray := prog_1_method_30_code
def yX1_time : MethodName := ⟨RX1, "time", "()I"⟩
def dkwX1_time_0 : List UInt8 := [42, 180, 0, 38, 180, 0, 177, 172]
abbrev dktX1_time_0 : List UInt8 := dkwX1_time_0 ++ []
theorem dksX1_time_0 : cX1_time.data.toList.drop 0 = dktX1_time_0 := by decide +kernel
theorem dX1_time_0 : decode cX1_time 0 = .ok (.aload_n 0, 1) := dk_42 (dk_at dksX1_time_0 0 rfl rfl)
theorem dX1_time_1 : decode cX1_time 1 = .ok (.getfield 38, 3) := dk_180 0 38 (dk_at dksX1_time_0 1 rfl rfl)
theorem dX1_time_4 : decode cX1_time 4 = .ok (.getfield 177, 3) := dk_180 0 177 (dk_at dksX1_time_0 4 rfl rfl)
theorem dX1_time_7 : decode cX1_time 7 = .ok (.ireturn, 1) := dk_172 (dk_at dksX1_time_0 7 rfl rfl)
abbrev cX1_active : ByteArray := prog_1_method_35_code
def yX1_active : MethodName := ⟨RX1, "active", "()I"⟩
def dkwX1_active_1 : List UInt8 := [185, 0, 201, 1, 0, 172]
abbrev dktX1_active_1 : List UInt8 := dkwX1_active_1 ++ []
def dkwX1_active_0 : List UInt8 := [42, 180, 0, 38, 180, 0, 197, 199, 0, 7, 2, 167, 0, 15, 42, 180, 0, 38, 180, 0, 197]
abbrev dktX1_active_0 : List UInt8 := dkwX1_active_0 ++ dktX1_active_1
theorem dksX1_active_0 : cX1_active.data.toList.drop 0 = dktX1_active_0 := by decide +kernel
theorem dksX1_active_1 : cX1_active.data.toList.drop 21 = dktX1_active_1 := dk_seg dksX1_active_0 21 rfl rfl
theorem dX1_active_0 : decode cX1_active 0 = .ok (.aload_n 0, 1) := dk_42 (dk_at dksX1_active_0 0 rfl rfl)
theorem dX1_active_1 : decode cX1_active 1 = .ok (.getfield 38, 3) := dk_180 0 38 (dk_at dksX1_active_0 1 rfl rfl)
theorem dX1_active_4 : decode cX1_active 4 = .ok (.getfield 197, 3) := dk_180 0 197 (dk_at dksX1_active_0 4 rfl rfl)
theorem dX1_active_7 : decode cX1_active 7 = .ok (.ifnonnull 7, 3) := dk_199 0 7 (dk_at dksX1_active_0 7 rfl rfl)
theorem dX1_active_10 : decode cX1_active 10 = .ok (.iconst (-1), 1) := dk_2 (dk_at dksX1_active_0 10 rfl rfl)
theorem dX1_active_11 : decode cX1_active 11 = .ok (.goto 15, 3) := dk_167 0 15 (dk_at dksX1_active_0 11 rfl rfl)
theorem dX1_active_14 : decode cX1_active 14 = .ok (.aload_n 0, 1) := dk_42 (dk_at dksX1_active_0 14 rfl rfl)
theorem dX1_active_15 : decode cX1_active 15 = .ok (.getfield 38, 3) := dk_180 0 38 (dk_at dksX1_active_0 15 rfl rfl)
theorem dX1_active_18 : decode cX1_active 18 = .ok (.getfield 197, 3) := dk_180 0 197 (dk_at dksX1_active_0 18 rfl rfl)
theorem dX1_active_21 : decode cX1_active 21 = .ok (.invokeinterface 201 1, 5) := by decide +kernel
theorem dX1_active_26 : decode cX1_active 26 = .ok (.ireturn, 1) := dk_172 (dk_at dksX1_active_1 5 rfl rfl)
abbrev cX1_events : ByteArray := prog_1_method_37_code
def yX1_events : MethodName := ⟨RX1, "events", "()I"⟩
def dkwX1_events_0 : List UInt8 := [42, 180, 0, 38, 180, 0, 212, 172]
abbrev dktX1_events_0 : List UInt8 := dkwX1_events_0 ++ []
theorem dksX1_events_0 : cX1_events.data.toList.drop 0 = dktX1_events_0 := by decide +kernel
theorem dX1_events_0 : decode cX1_events 0 = .ok (.aload_n 0, 1) := dk_42 (dk_at dksX1_events_0 0 rfl rfl)
theorem dX1_events_1 : decode cX1_events 1 = .ok (.getfield 38, 3) := dk_180 0 38 (dk_at dksX1_events_0 1 rfl rfl)
theorem dX1_events_4 : decode cX1_events 4 = .ok (.getfield 212, 3) := dk_180 0 212 (dk_at dksX1_events_0 4 rfl rfl)
theorem dX1_events_7 : decode cX1_events 7 = .ok (.ireturn, 1) := dk_172 (dk_at dksX1_events_0 7 rfl rfl)
abbrev cX1_rightEvents : ByteArray := prog_1_method_41_code
def yX1_rightEvents : MethodName := ⟨RX1, "rightEvents", "()I"⟩
def dkwX1_rightEvents_0 : List UInt8 := [42, 180, 0, 38, 180, 0, 224, 172]
abbrev dktX1_rightEvents_0 : List UInt8 := dkwX1_rightEvents_0 ++ []
theorem dksX1_rightEvents_0 : cX1_rightEvents.data.toList.drop 0 = dktX1_rightEvents_0 := by decide +kernel
theorem dX1_rightEvents_0 : decode cX1_rightEvents 0 = .ok (.aload_n 0, 1) := dk_42 (dk_at dksX1_rightEvents_0 0 rfl rfl)
theorem dX1_rightEvents_1 : decode cX1_rightEvents 1 = .ok (.getfield 38, 3) := dk_180 0 38 (dk_at dksX1_rightEvents_0 1 rfl rfl)
theorem dX1_rightEvents_4 : decode cX1_rightEvents 4 = .ok (.getfield 224, 3) := dk_180 0 224 (dk_at dksX1_rightEvents_0 4 rfl rfl)
theorem dX1_rightEvents_7 : decode cX1_rightEvents 7 = .ok (.ireturn, 1) := dk_172 (dk_at dksX1_rightEvents_0 7 rfl rfl)
abbrev cX1_cycles : ByteArray := prog_1_method_42_code
def yX1_cycles : MethodName := ⟨RX1, "cycles", "()I"⟩
def dkwX1_cycles_0 : List UInt8 := [42, 180, 0, 38, 180, 0, 227, 172]
abbrev dktX1_cycles_0 : List UInt8 := dkwX1_cycles_0 ++ []
theorem dksX1_cycles_0 : cX1_cycles.data.toList.drop 0 = dktX1_cycles_0 := by decide +kernel
theorem dX1_cycles_0 : decode cX1_cycles 0 = .ok (.aload_n 0, 1) := dk_42 (dk_at dksX1_cycles_0 0 rfl rfl)
theorem dX1_cycles_1 : decode cX1_cycles 1 = .ok (.getfield 38, 3) := dk_180 0 38 (dk_at dksX1_cycles_0 1 rfl rfl)
theorem dX1_cycles_4 : decode cX1_cycles 4 = .ok (.getfield 227, 3) := dk_180 0 227 (dk_at dksX1_cycles_0 4 rfl rfl)
theorem dX1_cycles_7 : decode cX1_cycles 7 = .ok (.ireturn, 1) := dk_172 (dk_at dksX1_cycles_0 7 rfl rfl)
abbrev cX1_quiet : ByteArray := prog_1_method_43_code
def yX1_quiet : MethodName := ⟨RX1, "quiet", "()I"⟩
def dkwX1_quiet_0 : List UInt8 := [42, 180, 0, 38, 180, 0, 230, 172]
abbrev dktX1_quiet_0 : List UInt8 := dkwX1_quiet_0 ++ []
theorem dksX1_quiet_0 : cX1_quiet.data.toList.drop 0 = dktX1_quiet_0 := by decide +kernel
theorem dX1_quiet_0 : decode cX1_quiet 0 = .ok (.aload_n 0, 1) := dk_42 (dk_at dksX1_quiet_0 0 rfl rfl)
theorem dX1_quiet_1 : decode cX1_quiet 1 = .ok (.getfield 38, 3) := dk_180 0 38 (dk_at dksX1_quiet_0 1 rfl rfl)
theorem dX1_quiet_4 : decode cX1_quiet 4 = .ok (.getfield 230, 3) := dk_180 0 230 (dk_at dksX1_quiet_0 4 rfl rfl)
theorem dX1_quiet_7 : decode cX1_quiet 7 = .ok (.ireturn, 1) := dk_172 (dk_at dksX1_quiet_0 7 rfl rfl)
abbrev cX1_fingerprint : ByteArray := prog_1_method_51_code
def yX1_fingerprint : MethodName := ⟨RX1, "fingerprint", "()J"⟩
def dkwX1_fingerprint_9 : List UInt8 := [180, 0, 194, 29, 46, 133, 97, 64, 132, 3, 1, 167, 255, 228, 31, 173]
abbrev dktX1_fingerprint_9 : List UInt8 := dkwX1_fingerprint_9 ++ []
def dkwX1_fingerprint_8 : List UInt8 := [167, 255, 155, 3, 62, 29, 42, 182, 0, 108, 162, 0, 26, 20, 1, 8, 31, 105, 42, 180, 0, 38]
abbrev dktX1_fingerprint_8 : List UInt8 := dkwX1_fingerprint_8 ++ dktX1_fingerprint_9
def dkwX1_fingerprint_7 : List UInt8 := [180, 0, 38, 180, 0, 209, 29, 184, 0, 173, 153, 0, 7, 5, 167, 0, 4, 3, 133, 97, 64, 132, 3, 1]
abbrev dktX1_fingerprint_7 : List UInt8 := dkwX1_fingerprint_7 ++ dktX1_fingerprint_8
def dkwX1_fingerprint_6 : List UInt8 := [31, 105, 42, 180, 0, 38, 180, 0, 206, 29, 184, 0, 173, 153, 0, 7, 4, 167, 0, 4, 3, 133, 97, 42]
abbrev dktX1_fingerprint_6 : List UInt8 := dkwX1_fingerprint_6 ++ dktX1_fingerprint_7
def dkwX1_fingerprint_5 : List UInt8 := [180, 0, 38, 180, 0, 188, 29, 184, 0, 173, 153, 0, 7, 4, 167, 0, 4, 3, 133, 97, 64, 20, 1, 8]
abbrev dktX1_fingerprint_5 : List UInt8 := dkwX1_fingerprint_5 ++ dktX1_fingerprint_6
def dkwX1_fingerprint_4 : List UInt8 := [20, 1, 8, 31, 105, 42, 180, 0, 38, 180, 0, 185, 29, 46, 133, 97, 64, 20, 1, 8, 31, 105, 42]
abbrev dktX1_fingerprint_4 : List UInt8 := dkwX1_fingerprint_4 ++ dktX1_fingerprint_5
def dkwX1_fingerprint_3 : List UInt8 := [20, 1, 8, 31, 105, 42, 180, 0, 38, 180, 0, 230, 133, 97, 64, 3, 62, 29, 16, 6, 162, 0, 101]
abbrev dktX1_fingerprint_3 : List UInt8 := dkwX1_fingerprint_3 ++ dktX1_fingerprint_4
def dkwX1_fingerprint_2 : List UInt8 := [180, 0, 38, 180, 0, 224, 133, 97, 64, 20, 1, 8, 31, 105, 42, 180, 0, 38, 180, 0, 227, 133, 97, 64]
abbrev dktX1_fingerprint_2 : List UInt8 := dkwX1_fingerprint_2 ++ dktX1_fingerprint_3
def dkwX1_fingerprint_1 : List UInt8 := [64, 20, 1, 8, 31, 105, 42, 180, 0, 38, 180, 0, 212, 133, 97, 64, 20, 1, 8, 31, 105, 42]
abbrev dktX1_fingerprint_1 : List UInt8 := dkwX1_fingerprint_1 ++ dktX1_fingerprint_2
def dkwX1_fingerprint_0 : List UInt8 := [20, 1, 6, 42, 180, 0, 38, 180, 0, 177, 133, 97, 64, 20, 1, 8, 31, 105, 42, 182, 1, 10, 133, 97]
abbrev dktX1_fingerprint_0 : List UInt8 := dkwX1_fingerprint_0 ++ dktX1_fingerprint_1
theorem dksX1_fingerprint_0 : cX1_fingerprint.data.toList.drop 0 = dktX1_fingerprint_0 := by decide +kernel
theorem dksX1_fingerprint_1 : cX1_fingerprint.data.toList.drop 24 = dktX1_fingerprint_1 := dk_seg dksX1_fingerprint_0 24 rfl rfl
theorem dksX1_fingerprint_2 : cX1_fingerprint.data.toList.drop 46 = dktX1_fingerprint_2 := dk_seg dksX1_fingerprint_1 22 rfl rfl
theorem dksX1_fingerprint_3 : cX1_fingerprint.data.toList.drop 70 = dktX1_fingerprint_3 := dk_seg dksX1_fingerprint_2 24 rfl rfl
theorem dksX1_fingerprint_4 : cX1_fingerprint.data.toList.drop 93 = dktX1_fingerprint_4 := dk_seg dksX1_fingerprint_3 23 rfl rfl
theorem dksX1_fingerprint_5 : cX1_fingerprint.data.toList.drop 116 = dktX1_fingerprint_5 := dk_seg dksX1_fingerprint_4 23 rfl rfl
theorem dksX1_fingerprint_6 : cX1_fingerprint.data.toList.drop 140 = dktX1_fingerprint_6 := dk_seg dksX1_fingerprint_5 24 rfl rfl
theorem dksX1_fingerprint_7 : cX1_fingerprint.data.toList.drop 164 = dktX1_fingerprint_7 := dk_seg dksX1_fingerprint_6 24 rfl rfl
theorem dksX1_fingerprint_8 : cX1_fingerprint.data.toList.drop 188 = dktX1_fingerprint_8 := dk_seg dksX1_fingerprint_7 24 rfl rfl
theorem dksX1_fingerprint_9 : cX1_fingerprint.data.toList.drop 210 = dktX1_fingerprint_9 := dk_seg dksX1_fingerprint_8 22 rfl rfl
theorem dX1_fingerprint_0 : decode cX1_fingerprint 0 = .ok (.ldc2_w 262, 3) := dk_20 1 6 (dk_at dksX1_fingerprint_0 0 rfl rfl)
theorem dX1_fingerprint_3 : decode cX1_fingerprint 3 = .ok (.aload_n 0, 1) := dk_42 (dk_at dksX1_fingerprint_0 3 rfl rfl)
theorem dX1_fingerprint_4 : decode cX1_fingerprint 4 = .ok (.getfield 38, 3) := dk_180 0 38 (dk_at dksX1_fingerprint_0 4 rfl rfl)
theorem dX1_fingerprint_7 : decode cX1_fingerprint 7 = .ok (.getfield 177, 3) := dk_180 0 177 (dk_at dksX1_fingerprint_0 7 rfl rfl)
theorem dX1_fingerprint_10 : decode cX1_fingerprint 10 = .ok (.i2l, 1) := dk_133 (dk_at dksX1_fingerprint_0 10 rfl rfl)
theorem dX1_fingerprint_11 : decode cX1_fingerprint 11 = .ok (.ladd, 1) := dk_97 (dk_at dksX1_fingerprint_0 11 rfl rfl)
theorem dX1_fingerprint_12 : decode cX1_fingerprint 12 = .ok (.lstore_n 1, 1) := dk_64 (dk_at dksX1_fingerprint_0 12 rfl rfl)
theorem dX1_fingerprint_13 : decode cX1_fingerprint 13 = .ok (.ldc2_w 264, 3) := dk_20 1 8 (dk_at dksX1_fingerprint_0 13 rfl rfl)
theorem dX1_fingerprint_16 : decode cX1_fingerprint 16 = .ok (.lload_n 1, 1) := dk_31 (dk_at dksX1_fingerprint_0 16 rfl rfl)
theorem dX1_fingerprint_17 : decode cX1_fingerprint 17 = .ok (.lmul, 1) := dk_105 (dk_at dksX1_fingerprint_0 17 rfl rfl)
theorem dX1_fingerprint_18 : decode cX1_fingerprint 18 = .ok (.aload_n 0, 1) := dk_42 (dk_at dksX1_fingerprint_0 18 rfl rfl)
theorem dX1_fingerprint_19 : decode cX1_fingerprint 19 = .ok (.invokevirtual 266, 3) := dk_182 1 10 (dk_at dksX1_fingerprint_0 19 rfl rfl)
theorem dX1_fingerprint_22 : decode cX1_fingerprint 22 = .ok (.i2l, 1) := dk_133 (dk_at dksX1_fingerprint_0 22 rfl rfl)
theorem dX1_fingerprint_23 : decode cX1_fingerprint 23 = .ok (.ladd, 1) := dk_97 (dk_at dksX1_fingerprint_0 23 rfl rfl)
theorem dX1_fingerprint_24 : decode cX1_fingerprint 24 = .ok (.lstore_n 1, 1) := dk_64 (dk_at dksX1_fingerprint_1 0 rfl rfl)
theorem dX1_fingerprint_25 : decode cX1_fingerprint 25 = .ok (.ldc2_w 264, 3) := dk_20 1 8 (dk_at dksX1_fingerprint_1 1 rfl rfl)
theorem dX1_fingerprint_28 : decode cX1_fingerprint 28 = .ok (.lload_n 1, 1) := dk_31 (dk_at dksX1_fingerprint_1 4 rfl rfl)
theorem dX1_fingerprint_29 : decode cX1_fingerprint 29 = .ok (.lmul, 1) := dk_105 (dk_at dksX1_fingerprint_1 5 rfl rfl)
theorem dX1_fingerprint_30 : decode cX1_fingerprint 30 = .ok (.aload_n 0, 1) := dk_42 (dk_at dksX1_fingerprint_1 6 rfl rfl)
theorem dX1_fingerprint_31 : decode cX1_fingerprint 31 = .ok (.getfield 38, 3) := dk_180 0 38 (dk_at dksX1_fingerprint_1 7 rfl rfl)
theorem dX1_fingerprint_34 : decode cX1_fingerprint 34 = .ok (.getfield 212, 3) := dk_180 0 212 (dk_at dksX1_fingerprint_1 10 rfl rfl)
theorem dX1_fingerprint_37 : decode cX1_fingerprint 37 = .ok (.i2l, 1) := dk_133 (dk_at dksX1_fingerprint_1 13 rfl rfl)
theorem dX1_fingerprint_38 : decode cX1_fingerprint 38 = .ok (.ladd, 1) := dk_97 (dk_at dksX1_fingerprint_1 14 rfl rfl)
theorem dX1_fingerprint_39 : decode cX1_fingerprint 39 = .ok (.lstore_n 1, 1) := dk_64 (dk_at dksX1_fingerprint_1 15 rfl rfl)
theorem dX1_fingerprint_40 : decode cX1_fingerprint 40 = .ok (.ldc2_w 264, 3) := dk_20 1 8 (dk_at dksX1_fingerprint_1 16 rfl rfl)
theorem dX1_fingerprint_43 : decode cX1_fingerprint 43 = .ok (.lload_n 1, 1) := dk_31 (dk_at dksX1_fingerprint_1 19 rfl rfl)
theorem dX1_fingerprint_44 : decode cX1_fingerprint 44 = .ok (.lmul, 1) := dk_105 (dk_at dksX1_fingerprint_1 20 rfl rfl)
theorem dX1_fingerprint_45 : decode cX1_fingerprint 45 = .ok (.aload_n 0, 1) := dk_42 (dk_at dksX1_fingerprint_1 21 rfl rfl)
theorem dX1_fingerprint_46 : decode cX1_fingerprint 46 = .ok (.getfield 38, 3) := dk_180 0 38 (dk_at dksX1_fingerprint_2 0 rfl rfl)
theorem dX1_fingerprint_49 : decode cX1_fingerprint 49 = .ok (.getfield 224, 3) := dk_180 0 224 (dk_at dksX1_fingerprint_2 3 rfl rfl)
theorem dX1_fingerprint_52 : decode cX1_fingerprint 52 = .ok (.i2l, 1) := dk_133 (dk_at dksX1_fingerprint_2 6 rfl rfl)
theorem dX1_fingerprint_53 : decode cX1_fingerprint 53 = .ok (.ladd, 1) := dk_97 (dk_at dksX1_fingerprint_2 7 rfl rfl)
theorem dX1_fingerprint_54 : decode cX1_fingerprint 54 = .ok (.lstore_n 1, 1) := dk_64 (dk_at dksX1_fingerprint_2 8 rfl rfl)
theorem dX1_fingerprint_55 : decode cX1_fingerprint 55 = .ok (.ldc2_w 264, 3) := dk_20 1 8 (dk_at dksX1_fingerprint_2 9 rfl rfl)
theorem dX1_fingerprint_58 : decode cX1_fingerprint 58 = .ok (.lload_n 1, 1) := dk_31 (dk_at dksX1_fingerprint_2 12 rfl rfl)
theorem dX1_fingerprint_59 : decode cX1_fingerprint 59 = .ok (.lmul, 1) := dk_105 (dk_at dksX1_fingerprint_2 13 rfl rfl)
theorem dX1_fingerprint_60 : decode cX1_fingerprint 60 = .ok (.aload_n 0, 1) := dk_42 (dk_at dksX1_fingerprint_2 14 rfl rfl)
theorem dX1_fingerprint_61 : decode cX1_fingerprint 61 = .ok (.getfield 38, 3) := dk_180 0 38 (dk_at dksX1_fingerprint_2 15 rfl rfl)
theorem dX1_fingerprint_64 : decode cX1_fingerprint 64 = .ok (.getfield 227, 3) := dk_180 0 227 (dk_at dksX1_fingerprint_2 18 rfl rfl)
theorem dX1_fingerprint_67 : decode cX1_fingerprint 67 = .ok (.i2l, 1) := dk_133 (dk_at dksX1_fingerprint_2 21 rfl rfl)
theorem dX1_fingerprint_68 : decode cX1_fingerprint 68 = .ok (.ladd, 1) := dk_97 (dk_at dksX1_fingerprint_2 22 rfl rfl)
theorem dX1_fingerprint_69 : decode cX1_fingerprint 69 = .ok (.lstore_n 1, 1) := dk_64 (dk_at dksX1_fingerprint_2 23 rfl rfl)
theorem dX1_fingerprint_70 : decode cX1_fingerprint 70 = .ok (.ldc2_w 264, 3) := dk_20 1 8 (dk_at dksX1_fingerprint_3 0 rfl rfl)
theorem dX1_fingerprint_73 : decode cX1_fingerprint 73 = .ok (.lload_n 1, 1) := dk_31 (dk_at dksX1_fingerprint_3 3 rfl rfl)
theorem dX1_fingerprint_74 : decode cX1_fingerprint 74 = .ok (.lmul, 1) := dk_105 (dk_at dksX1_fingerprint_3 4 rfl rfl)
theorem dX1_fingerprint_75 : decode cX1_fingerprint 75 = .ok (.aload_n 0, 1) := dk_42 (dk_at dksX1_fingerprint_3 5 rfl rfl)
theorem dX1_fingerprint_76 : decode cX1_fingerprint 76 = .ok (.getfield 38, 3) := dk_180 0 38 (dk_at dksX1_fingerprint_3 6 rfl rfl)
theorem dX1_fingerprint_79 : decode cX1_fingerprint 79 = .ok (.getfield 230, 3) := dk_180 0 230 (dk_at dksX1_fingerprint_3 9 rfl rfl)
theorem dX1_fingerprint_82 : decode cX1_fingerprint 82 = .ok (.i2l, 1) := dk_133 (dk_at dksX1_fingerprint_3 12 rfl rfl)
theorem dX1_fingerprint_83 : decode cX1_fingerprint 83 = .ok (.ladd, 1) := dk_97 (dk_at dksX1_fingerprint_3 13 rfl rfl)
theorem dX1_fingerprint_84 : decode cX1_fingerprint 84 = .ok (.lstore_n 1, 1) := dk_64 (dk_at dksX1_fingerprint_3 14 rfl rfl)
theorem dX1_fingerprint_85 : decode cX1_fingerprint 85 = .ok (.iconst 0, 1) := dk_3 (dk_at dksX1_fingerprint_3 15 rfl rfl)
theorem dX1_fingerprint_86 : decode cX1_fingerprint 86 = .ok (.istore_n 3, 1) := dk_62 (dk_at dksX1_fingerprint_3 16 rfl rfl)
theorem dX1_fingerprint_87 : decode cX1_fingerprint 87 = .ok (.iload_n 3, 1) := dk_29 (dk_at dksX1_fingerprint_3 17 rfl rfl)
theorem dX1_fingerprint_88 : decode cX1_fingerprint 88 = .ok (.bipush 6, 2) := dk_16 6 (dk_at dksX1_fingerprint_3 18 rfl rfl)
theorem dX1_fingerprint_90 : decode cX1_fingerprint 90 = .ok (.if_icmp .ge 101, 3) := dk_162 0 101 (dk_at dksX1_fingerprint_3 20 rfl rfl)
theorem dX1_fingerprint_93 : decode cX1_fingerprint 93 = .ok (.ldc2_w 264, 3) := dk_20 1 8 (dk_at dksX1_fingerprint_4 0 rfl rfl)
theorem dX1_fingerprint_96 : decode cX1_fingerprint 96 = .ok (.lload_n 1, 1) := dk_31 (dk_at dksX1_fingerprint_4 3 rfl rfl)
theorem dX1_fingerprint_97 : decode cX1_fingerprint 97 = .ok (.lmul, 1) := dk_105 (dk_at dksX1_fingerprint_4 4 rfl rfl)
theorem dX1_fingerprint_98 : decode cX1_fingerprint 98 = .ok (.aload_n 0, 1) := dk_42 (dk_at dksX1_fingerprint_4 5 rfl rfl)
theorem dX1_fingerprint_99 : decode cX1_fingerprint 99 = .ok (.getfield 38, 3) := dk_180 0 38 (dk_at dksX1_fingerprint_4 6 rfl rfl)
theorem dX1_fingerprint_102 : decode cX1_fingerprint 102 = .ok (.getfield 185, 3) := dk_180 0 185 (dk_at dksX1_fingerprint_4 9 rfl rfl)
theorem dX1_fingerprint_105 : decode cX1_fingerprint 105 = .ok (.iload_n 3, 1) := dk_29 (dk_at dksX1_fingerprint_4 12 rfl rfl)
theorem dX1_fingerprint_106 : decode cX1_fingerprint 106 = .ok (.iaload, 1) := dk_46 (dk_at dksX1_fingerprint_4 13 rfl rfl)
theorem dX1_fingerprint_107 : decode cX1_fingerprint 107 = .ok (.i2l, 1) := dk_133 (dk_at dksX1_fingerprint_4 14 rfl rfl)
theorem dX1_fingerprint_108 : decode cX1_fingerprint 108 = .ok (.ladd, 1) := dk_97 (dk_at dksX1_fingerprint_4 15 rfl rfl)
theorem dX1_fingerprint_109 : decode cX1_fingerprint 109 = .ok (.lstore_n 1, 1) := dk_64 (dk_at dksX1_fingerprint_4 16 rfl rfl)
theorem dX1_fingerprint_110 : decode cX1_fingerprint 110 = .ok (.ldc2_w 264, 3) := dk_20 1 8 (dk_at dksX1_fingerprint_4 17 rfl rfl)
theorem dX1_fingerprint_113 : decode cX1_fingerprint 113 = .ok (.lload_n 1, 1) := dk_31 (dk_at dksX1_fingerprint_4 20 rfl rfl)
theorem dX1_fingerprint_114 : decode cX1_fingerprint 114 = .ok (.lmul, 1) := dk_105 (dk_at dksX1_fingerprint_4 21 rfl rfl)
theorem dX1_fingerprint_115 : decode cX1_fingerprint 115 = .ok (.aload_n 0, 1) := dk_42 (dk_at dksX1_fingerprint_4 22 rfl rfl)
theorem dX1_fingerprint_116 : decode cX1_fingerprint 116 = .ok (.getfield 38, 3) := dk_180 0 38 (dk_at dksX1_fingerprint_5 0 rfl rfl)
theorem dX1_fingerprint_119 : decode cX1_fingerprint 119 = .ok (.getfield 188, 3) := dk_180 0 188 (dk_at dksX1_fingerprint_5 3 rfl rfl)
theorem dX1_fingerprint_122 : decode cX1_fingerprint 122 = .ok (.iload_n 3, 1) := dk_29 (dk_at dksX1_fingerprint_5 6 rfl rfl)
theorem dX1_fingerprint_123 : decode cX1_fingerprint 123 = .ok (.invokestatic 173, 3) := dk_184 0 173 (dk_at dksX1_fingerprint_5 7 rfl rfl)
theorem dX1_fingerprint_126 : decode cX1_fingerprint 126 = .ok (.ifCond .eq 7, 3) := dk_153 0 7 (dk_at dksX1_fingerprint_5 10 rfl rfl)
theorem dX1_fingerprint_129 : decode cX1_fingerprint 129 = .ok (.iconst 1, 1) := dk_4 (dk_at dksX1_fingerprint_5 13 rfl rfl)
theorem dX1_fingerprint_130 : decode cX1_fingerprint 130 = .ok (.goto 4, 3) := dk_167 0 4 (dk_at dksX1_fingerprint_5 14 rfl rfl)
theorem dX1_fingerprint_133 : decode cX1_fingerprint 133 = .ok (.iconst 0, 1) := dk_3 (dk_at dksX1_fingerprint_5 17 rfl rfl)
theorem dX1_fingerprint_134 : decode cX1_fingerprint 134 = .ok (.i2l, 1) := dk_133 (dk_at dksX1_fingerprint_5 18 rfl rfl)
theorem dX1_fingerprint_135 : decode cX1_fingerprint 135 = .ok (.ladd, 1) := dk_97 (dk_at dksX1_fingerprint_5 19 rfl rfl)
theorem dX1_fingerprint_136 : decode cX1_fingerprint 136 = .ok (.lstore_n 1, 1) := dk_64 (dk_at dksX1_fingerprint_5 20 rfl rfl)
theorem dX1_fingerprint_137 : decode cX1_fingerprint 137 = .ok (.ldc2_w 264, 3) := dk_20 1 8 (dk_at dksX1_fingerprint_5 21 rfl rfl)
theorem dX1_fingerprint_140 : decode cX1_fingerprint 140 = .ok (.lload_n 1, 1) := dk_31 (dk_at dksX1_fingerprint_6 0 rfl rfl)
theorem dX1_fingerprint_141 : decode cX1_fingerprint 141 = .ok (.lmul, 1) := dk_105 (dk_at dksX1_fingerprint_6 1 rfl rfl)
theorem dX1_fingerprint_142 : decode cX1_fingerprint 142 = .ok (.aload_n 0, 1) := dk_42 (dk_at dksX1_fingerprint_6 2 rfl rfl)
theorem dX1_fingerprint_143 : decode cX1_fingerprint 143 = .ok (.getfield 38, 3) := dk_180 0 38 (dk_at dksX1_fingerprint_6 3 rfl rfl)
theorem dX1_fingerprint_146 : decode cX1_fingerprint 146 = .ok (.getfield 206, 3) := dk_180 0 206 (dk_at dksX1_fingerprint_6 6 rfl rfl)
theorem dX1_fingerprint_149 : decode cX1_fingerprint 149 = .ok (.iload_n 3, 1) := dk_29 (dk_at dksX1_fingerprint_6 9 rfl rfl)
theorem dX1_fingerprint_150 : decode cX1_fingerprint 150 = .ok (.invokestatic 173, 3) := dk_184 0 173 (dk_at dksX1_fingerprint_6 10 rfl rfl)
theorem dX1_fingerprint_153 : decode cX1_fingerprint 153 = .ok (.ifCond .eq 7, 3) := dk_153 0 7 (dk_at dksX1_fingerprint_6 13 rfl rfl)
theorem dX1_fingerprint_156 : decode cX1_fingerprint 156 = .ok (.iconst 1, 1) := dk_4 (dk_at dksX1_fingerprint_6 16 rfl rfl)
theorem dX1_fingerprint_157 : decode cX1_fingerprint 157 = .ok (.goto 4, 3) := dk_167 0 4 (dk_at dksX1_fingerprint_6 17 rfl rfl)
theorem dX1_fingerprint_160 : decode cX1_fingerprint 160 = .ok (.iconst 0, 1) := dk_3 (dk_at dksX1_fingerprint_6 20 rfl rfl)
theorem dX1_fingerprint_161 : decode cX1_fingerprint 161 = .ok (.i2l, 1) := dk_133 (dk_at dksX1_fingerprint_6 21 rfl rfl)
theorem dX1_fingerprint_162 : decode cX1_fingerprint 162 = .ok (.ladd, 1) := dk_97 (dk_at dksX1_fingerprint_6 22 rfl rfl)
theorem dX1_fingerprint_163 : decode cX1_fingerprint 163 = .ok (.aload_n 0, 1) := dk_42 (dk_at dksX1_fingerprint_6 23 rfl rfl)
theorem dX1_fingerprint_164 : decode cX1_fingerprint 164 = .ok (.getfield 38, 3) := dk_180 0 38 (dk_at dksX1_fingerprint_7 0 rfl rfl)
theorem dX1_fingerprint_167 : decode cX1_fingerprint 167 = .ok (.getfield 209, 3) := dk_180 0 209 (dk_at dksX1_fingerprint_7 3 rfl rfl)
theorem dX1_fingerprint_170 : decode cX1_fingerprint 170 = .ok (.iload_n 3, 1) := dk_29 (dk_at dksX1_fingerprint_7 6 rfl rfl)
theorem dX1_fingerprint_171 : decode cX1_fingerprint 171 = .ok (.invokestatic 173, 3) := dk_184 0 173 (dk_at dksX1_fingerprint_7 7 rfl rfl)
theorem dX1_fingerprint_174 : decode cX1_fingerprint 174 = .ok (.ifCond .eq 7, 3) := dk_153 0 7 (dk_at dksX1_fingerprint_7 10 rfl rfl)
theorem dX1_fingerprint_177 : decode cX1_fingerprint 177 = .ok (.iconst 2, 1) := dk_5 (dk_at dksX1_fingerprint_7 13 rfl rfl)
theorem dX1_fingerprint_178 : decode cX1_fingerprint 178 = .ok (.goto 4, 3) := dk_167 0 4 (dk_at dksX1_fingerprint_7 14 rfl rfl)
theorem dX1_fingerprint_181 : decode cX1_fingerprint 181 = .ok (.iconst 0, 1) := dk_3 (dk_at dksX1_fingerprint_7 17 rfl rfl)
theorem dX1_fingerprint_182 : decode cX1_fingerprint 182 = .ok (.i2l, 1) := dk_133 (dk_at dksX1_fingerprint_7 18 rfl rfl)
theorem dX1_fingerprint_183 : decode cX1_fingerprint 183 = .ok (.ladd, 1) := dk_97 (dk_at dksX1_fingerprint_7 19 rfl rfl)
theorem dX1_fingerprint_184 : decode cX1_fingerprint 184 = .ok (.lstore_n 1, 1) := dk_64 (dk_at dksX1_fingerprint_7 20 rfl rfl)
theorem dX1_fingerprint_185 : decode cX1_fingerprint 185 = .ok (.iinc 3 1, 3) := dk_132 3 1 (dk_at dksX1_fingerprint_7 21 rfl rfl)
theorem dX1_fingerprint_188 : decode cX1_fingerprint 188 = .ok (.goto (-101), 3) := dk_167 255 155 (dk_at dksX1_fingerprint_8 0 rfl rfl)
theorem dX1_fingerprint_191 : decode cX1_fingerprint 191 = .ok (.iconst 0, 1) := dk_3 (dk_at dksX1_fingerprint_8 3 rfl rfl)
theorem dX1_fingerprint_192 : decode cX1_fingerprint 192 = .ok (.istore_n 3, 1) := dk_62 (dk_at dksX1_fingerprint_8 4 rfl rfl)
theorem dX1_fingerprint_193 : decode cX1_fingerprint 193 = .ok (.iload_n 3, 1) := dk_29 (dk_at dksX1_fingerprint_8 5 rfl rfl)
theorem dX1_fingerprint_194 : decode cX1_fingerprint 194 = .ok (.aload_n 0, 1) := dk_42 (dk_at dksX1_fingerprint_8 6 rfl rfl)
theorem dX1_fingerprint_195 : decode cX1_fingerprint 195 = .ok (.invokevirtual 108, 3) := dk_182 0 108 (dk_at dksX1_fingerprint_8 7 rfl rfl)
theorem dX1_fingerprint_198 : decode cX1_fingerprint 198 = .ok (.if_icmp .ge 26, 3) := dk_162 0 26 (dk_at dksX1_fingerprint_8 10 rfl rfl)
theorem dX1_fingerprint_201 : decode cX1_fingerprint 201 = .ok (.ldc2_w 264, 3) := dk_20 1 8 (dk_at dksX1_fingerprint_8 13 rfl rfl)
theorem dX1_fingerprint_204 : decode cX1_fingerprint 204 = .ok (.lload_n 1, 1) := dk_31 (dk_at dksX1_fingerprint_8 16 rfl rfl)
theorem dX1_fingerprint_205 : decode cX1_fingerprint 205 = .ok (.lmul, 1) := dk_105 (dk_at dksX1_fingerprint_8 17 rfl rfl)
theorem dX1_fingerprint_206 : decode cX1_fingerprint 206 = .ok (.aload_n 0, 1) := dk_42 (dk_at dksX1_fingerprint_8 18 rfl rfl)
theorem dX1_fingerprint_207 : decode cX1_fingerprint 207 = .ok (.getfield 38, 3) := dk_180 0 38 (dk_at dksX1_fingerprint_8 19 rfl rfl)
theorem dX1_fingerprint_210 : decode cX1_fingerprint 210 = .ok (.getfield 194, 3) := dk_180 0 194 (dk_at dksX1_fingerprint_9 0 rfl rfl)
theorem dX1_fingerprint_213 : decode cX1_fingerprint 213 = .ok (.iload_n 3, 1) := dk_29 (dk_at dksX1_fingerprint_9 3 rfl rfl)
theorem dX1_fingerprint_214 : decode cX1_fingerprint 214 = .ok (.iaload, 1) := dk_46 (dk_at dksX1_fingerprint_9 4 rfl rfl)
theorem dX1_fingerprint_215 : decode cX1_fingerprint 215 = .ok (.i2l, 1) := dk_133 (dk_at dksX1_fingerprint_9 5 rfl rfl)
theorem dX1_fingerprint_216 : decode cX1_fingerprint 216 = .ok (.ladd, 1) := dk_97 (dk_at dksX1_fingerprint_9 6 rfl rfl)
theorem dX1_fingerprint_217 : decode cX1_fingerprint 217 = .ok (.lstore_n 1, 1) := dk_64 (dk_at dksX1_fingerprint_9 7 rfl rfl)
theorem dX1_fingerprint_218 : decode cX1_fingerprint 218 = .ok (.iinc 3 1, 3) := dk_132 3 1 (dk_at dksX1_fingerprint_9 8 rfl rfl)
theorem dX1_fingerprint_221 : decode cX1_fingerprint 221 = .ok (.goto (-28), 3) := dk_167 255 228 (dk_at dksX1_fingerprint_9 11 rfl rfl)
theorem dX1_fingerprint_224 : decode cX1_fingerprint 224 = .ok (.lload_n 1, 1) := dk_31 (dk_at dksX1_fingerprint_9 14 rfl rfl)
theorem dX1_fingerprint_225 : decode cX1_fingerprint 225 = .ok (.lreturn, 1) := dk_173 (dk_at dksX1_fingerprint_9 15 rfl rfl)
abbrev cX1_type : ByteArray := prog_1_method_7_code
def yX1_type : MethodName := ⟨RX1, "type", "(I)I"⟩
def dkwX1_type_2 : List UInt8 := [4, 96, 181, 0, 67, 42, 180, 0, 67, 172]
abbrev dktX1_type_2 : List UInt8 := dkwX1_type_2 ++ []
def dkwX1_type_1 : List UInt8 := [187, 0, 56, 89, 183, 0, 58, 191, 42, 180, 0, 9, 42, 180, 0, 67, 27, 146, 85, 42, 89, 180, 0, 67]
abbrev dktX1_type_1 : List UInt8 := dkwX1_type_1 ++ dktX1_type_2
def dkwX1_type_0 : List UInt8 := [27, 133, 20, 0, 59, 20, 0, 61, 184, 0, 42, 184, 0, 63, 42, 180, 0, 67, 16, 80, 160, 0, 11]
abbrev dktX1_type_0 : List UInt8 := dkwX1_type_0 ++ dktX1_type_1
theorem dksX1_type_0 : cX1_type.data.toList.drop 0 = dktX1_type_0 := by decide +kernel
theorem dksX1_type_1 : cX1_type.data.toList.drop 23 = dktX1_type_1 := dk_seg dksX1_type_0 23 rfl rfl
theorem dksX1_type_2 : cX1_type.data.toList.drop 47 = dktX1_type_2 := dk_seg dksX1_type_1 24 rfl rfl
theorem dX1_type_0 : decode cX1_type 0 = .ok (.iload_n 1, 1) := dk_27 (dk_at dksX1_type_0 0 rfl rfl)
theorem dX1_type_1 : decode cX1_type 1 = .ok (.i2l, 1) := dk_133 (dk_at dksX1_type_0 1 rfl rfl)
theorem dX1_type_2 : decode cX1_type 2 = .ok (.ldc2_w 59, 3) := dk_20 0 59 (dk_at dksX1_type_0 2 rfl rfl)
theorem dX1_type_5 : decode cX1_type 5 = .ok (.ldc2_w 61, 3) := dk_20 0 61 (dk_at dksX1_type_0 5 rfl rfl)
theorem dX1_type_8 : decode cX1_type 8 = .ok (.invokestatic 42, 3) := dk_184 0 42 (dk_at dksX1_type_0 8 rfl rfl)
theorem dX1_type_11 : decode cX1_type 11 = .ok (.invokestatic 63, 3) := dk_184 0 63 (dk_at dksX1_type_0 11 rfl rfl)
theorem dX1_type_14 : decode cX1_type 14 = .ok (.aload_n 0, 1) := dk_42 (dk_at dksX1_type_0 14 rfl rfl)
theorem dX1_type_15 : decode cX1_type 15 = .ok (.getfield 67, 3) := dk_180 0 67 (dk_at dksX1_type_0 15 rfl rfl)
theorem dX1_type_18 : decode cX1_type 18 = .ok (.bipush 80, 2) := dk_16 80 (dk_at dksX1_type_0 18 rfl rfl)
theorem dX1_type_20 : decode cX1_type 20 = .ok (.if_icmp .ne 11, 3) := dk_160 0 11 (dk_at dksX1_type_0 20 rfl rfl)
theorem dX1_type_23 : decode cX1_type 23 = .ok (.new 56, 3) := dk_187 0 56 (dk_at dksX1_type_1 0 rfl rfl)
theorem dX1_type_26 : decode cX1_type 26 = .ok (.dup, 1) := dk_89 (dk_at dksX1_type_1 3 rfl rfl)
theorem dX1_type_27 : decode cX1_type 27 = .ok (.invokespecial 58, 3) := dk_183 0 58 (dk_at dksX1_type_1 4 rfl rfl)
theorem dX1_type_30 : decode cX1_type 30 = .ok (.athrow, 1) := dk_191 (dk_at dksX1_type_1 7 rfl rfl)
theorem dX1_type_31 : decode cX1_type 31 = .ok (.aload_n 0, 1) := dk_42 (dk_at dksX1_type_1 8 rfl rfl)
theorem dX1_type_32 : decode cX1_type 32 = .ok (.getfield 9, 3) := dk_180 0 9 (dk_at dksX1_type_1 9 rfl rfl)
theorem dX1_type_35 : decode cX1_type 35 = .ok (.aload_n 0, 1) := dk_42 (dk_at dksX1_type_1 12 rfl rfl)
theorem dX1_type_36 : decode cX1_type 36 = .ok (.getfield 67, 3) := dk_180 0 67 (dk_at dksX1_type_1 13 rfl rfl)
theorem dX1_type_39 : decode cX1_type 39 = .ok (.iload_n 1, 1) := dk_27 (dk_at dksX1_type_1 16 rfl rfl)
theorem dX1_type_40 : decode cX1_type 40 = .ok (.i2c, 1) := dk_146 (dk_at dksX1_type_1 17 rfl rfl)
theorem dX1_type_41 : decode cX1_type 41 = .ok (.castore, 1) := dk_85 (dk_at dksX1_type_1 18 rfl rfl)
theorem dX1_type_42 : decode cX1_type 42 = .ok (.aload_n 0, 1) := dk_42 (dk_at dksX1_type_1 19 rfl rfl)
theorem dX1_type_43 : decode cX1_type 43 = .ok (.dup, 1) := dk_89 (dk_at dksX1_type_1 20 rfl rfl)
theorem dX1_type_44 : decode cX1_type 44 = .ok (.getfield 67, 3) := dk_180 0 67 (dk_at dksX1_type_1 21 rfl rfl)
theorem dX1_type_47 : decode cX1_type 47 = .ok (.iconst 1, 1) := dk_4 (dk_at dksX1_type_2 0 rfl rfl)
theorem dX1_type_48 : decode cX1_type 48 = .ok (.iadd, 1) := dk_96 (dk_at dksX1_type_2 1 rfl rfl)
theorem dX1_type_49 : decode cX1_type 49 = .ok (.putfield 67, 3) := dk_181 0 67 (dk_at dksX1_type_2 2 rfl rfl)
theorem dX1_type_52 : decode cX1_type 52 = .ok (.aload_n 0, 1) := dk_42 (dk_at dksX1_type_2 5 rfl rfl)
theorem dX1_type_53 : decode cX1_type 53 = .ok (.getfield 67, 3) := dk_180 0 67 (dk_at dksX1_type_2 6 rfl rfl)
theorem dX1_type_56 : decode cX1_type 56 = .ok (.ireturn, 1) := dk_172 (dk_at dksX1_type_2 9 rfl rfl)
abbrev cX1_checkArgument : ByteArray := prog_1_method_4_code
def yX1_checkArgument : MethodName := ⟨RX1, "checkArgument", "(Z)V"⟩
def dkwX1_checkArgument_0 : List UInt8 := [26, 154, 0, 11, 187, 0, 49, 89, 183, 0, 51, 191, 177]
abbrev dktX1_checkArgument_0 : List UInt8 := dkwX1_checkArgument_0 ++ []
theorem dksX1_checkArgument_0 : cX1_checkArgument.data.toList.drop 0 = dktX1_checkArgument_0 := by decide +kernel
theorem dX1_checkArgument_0 : decode cX1_checkArgument 0 = .ok (.iload_n 0, 1) := dk_26 (dk_at dksX1_checkArgument_0 0 rfl rfl)
theorem dX1_checkArgument_1 : decode cX1_checkArgument 1 = .ok (.ifCond .ne 11, 3) := dk_154 0 11 (dk_at dksX1_checkArgument_0 1 rfl rfl)
theorem dX1_checkArgument_4 : decode cX1_checkArgument 4 = .ok (.new 49, 3) := dk_187 0 49 (dk_at dksX1_checkArgument_0 4 rfl rfl)
theorem dX1_checkArgument_7 : decode cX1_checkArgument 7 = .ok (.dup, 1) := dk_89 (dk_at dksX1_checkArgument_0 7 rfl rfl)
theorem dX1_checkArgument_8 : decode cX1_checkArgument 8 = .ok (.invokespecial 51, 3) := dk_183 0 51 (dk_at dksX1_checkArgument_0 8 rfl rfl)
theorem dX1_checkArgument_11 : decode cX1_checkArgument 11 = .ok (.athrow, 1) := dk_191 (dk_at dksX1_checkArgument_0 11 rfl rfl)
theorem dX1_checkArgument_12 : decode cX1_checkArgument 12 = .ok (.return_, 1) := dk_177 (dk_at dksX1_checkArgument_0 12 rfl rfl)
abbrev cX1_moves : ByteArray := prog_1_method_14_code
def yX1_moves : MethodName := ⟨RX1, "moves", "(I)I"⟩
def dkwX1_moves_0 : List UInt8 := [42, 27, 182, 0, 115, 182, 0, 119, 172]
abbrev dktX1_moves_0 : List UInt8 := dkwX1_moves_0 ++ []
theorem dksX1_moves_0 : cX1_moves.data.toList.drop 0 = dktX1_moves_0 := by decide +kernel
theorem dX1_moves_0 : decode cX1_moves 0 = .ok (.aload_n 0, 1) := dk_42 (dk_at dksX1_moves_0 0 rfl rfl)
theorem dX1_moves_1 : decode cX1_moves 1 = .ok (.iload_n 1, 1) := dk_27 (dk_at dksX1_moves_0 1 rfl rfl)
theorem dX1_moves_2 : decode cX1_moves 2 = .ok (.invokevirtual 115, 3) := dk_182 0 115 (dk_at dksX1_moves_0 2 rfl rfl)
theorem dX1_moves_5 : decode cX1_moves 5 = .ok (.invokevirtual 119, 3) := dk_182 0 119 (dk_at dksX1_moves_0 5 rfl rfl)
theorem dX1_moves_8 : decode cX1_moves 8 = .ok (.ireturn, 1) := dk_172 (dk_at dksX1_moves_0 8 rfl rfl)
abbrev cX1_step : ByteArray := prog_1_method_13_code
def yX1_step : MethodName := ⟨RX1, "step", "(I)LSequenceBench$Step;"⟩
def dkwX1_step_0 : List UInt8 := [27, 42, 182, 0, 108, 184, 0, 111, 42, 180, 0, 52, 180, 0, 102, 27, 50, 176]
abbrev dktX1_step_0 : List UInt8 := dkwX1_step_0 ++ []
theorem dksX1_step_0 : cX1_step.data.toList.drop 0 = dktX1_step_0 := by decide +kernel
theorem dX1_step_0 : decode cX1_step 0 = .ok (.iload_n 1, 1) := dk_27 (dk_at dksX1_step_0 0 rfl rfl)
theorem dX1_step_1 : decode cX1_step 1 = .ok (.aload_n 0, 1) := dk_42 (dk_at dksX1_step_0 1 rfl rfl)
theorem dX1_step_2 : decode cX1_step 2 = .ok (.invokevirtual 108, 3) := dk_182 0 108 (dk_at dksX1_step_0 2 rfl rfl)
theorem dX1_step_5 : decode cX1_step 5 = .ok (.invokestatic 111, 3) := dk_184 0 111 (dk_at dksX1_step_0 5 rfl rfl)
theorem dX1_step_8 : decode cX1_step 8 = .ok (.aload_n 0, 1) := dk_42 (dk_at dksX1_step_0 8 rfl rfl)
theorem dX1_step_9 : decode cX1_step 9 = .ok (.getfield 52, 3) := dk_180 0 52 (dk_at dksX1_step_0 9 rfl rfl)
theorem dX1_step_12 : decode cX1_step 12 = .ok (.getfield 102, 3) := dk_180 0 102 (dk_at dksX1_step_0 12 rfl rfl)
theorem dX1_step_15 : decode cX1_step 15 = .ok (.iload_n 1, 1) := dk_27 (dk_at dksX1_step_0 15 rfl rfl)
theorem dX1_step_16 : decode cX1_step 16 = .ok (.aaload, 1) := dk_50 (dk_at dksX1_step_0 16 rfl rfl)
theorem dX1_step_17 : decode cX1_step 17 = .ok (.areturn, 1) := dk_176 (dk_at dksX1_step_0 17 rfl rfl)
abbrev cX1_checkIndex : ByteArray := prog_1_method_3_code
def yX1_checkIndex : MethodName := ⟨RX1, "checkIndex", "(II)V"⟩
def dkwX1_checkIndex_0 : List UInt8 := [26, 133, 9, 27, 133, 10, 101, 184, 0, 42, 154, 0, 11, 187, 0, 46, 89, 183, 0, 48, 191, 177]
abbrev dktX1_checkIndex_0 : List UInt8 := dkwX1_checkIndex_0 ++ []
theorem dksX1_checkIndex_0 : cX1_checkIndex.data.toList.drop 0 = dktX1_checkIndex_0 := by decide +kernel
theorem dX1_checkIndex_0 : decode cX1_checkIndex 0 = .ok (.iload_n 0, 1) := dk_26 (dk_at dksX1_checkIndex_0 0 rfl rfl)
theorem dX1_checkIndex_1 : decode cX1_checkIndex 1 = .ok (.i2l, 1) := dk_133 (dk_at dksX1_checkIndex_0 1 rfl rfl)
theorem dX1_checkIndex_2 : decode cX1_checkIndex 2 = .ok (.lconst 0, 1) := dk_9 (dk_at dksX1_checkIndex_0 2 rfl rfl)
theorem dX1_checkIndex_3 : decode cX1_checkIndex 3 = .ok (.iload_n 1, 1) := dk_27 (dk_at dksX1_checkIndex_0 3 rfl rfl)
theorem dX1_checkIndex_4 : decode cX1_checkIndex 4 = .ok (.i2l, 1) := dk_133 (dk_at dksX1_checkIndex_0 4 rfl rfl)
theorem dX1_checkIndex_5 : decode cX1_checkIndex 5 = .ok (.lconst 1, 1) := dk_10 (dk_at dksX1_checkIndex_0 5 rfl rfl)
theorem dX1_checkIndex_6 : decode cX1_checkIndex 6 = .ok (.lsub, 1) := dk_101 (dk_at dksX1_checkIndex_0 6 rfl rfl)
theorem dX1_checkIndex_7 : decode cX1_checkIndex 7 = .ok (.invokestatic 42, 3) := dk_184 0 42 (dk_at dksX1_checkIndex_0 7 rfl rfl)
theorem dX1_checkIndex_10 : decode cX1_checkIndex 10 = .ok (.ifCond .ne 11, 3) := dk_154 0 11 (dk_at dksX1_checkIndex_0 10 rfl rfl)
theorem dX1_checkIndex_13 : decode cX1_checkIndex 13 = .ok (.new 46, 3) := dk_187 0 46 (dk_at dksX1_checkIndex_0 13 rfl rfl)
theorem dX1_checkIndex_16 : decode cX1_checkIndex 16 = .ok (.dup, 1) := dk_89 (dk_at dksX1_checkIndex_0 16 rfl rfl)
theorem dX1_checkIndex_17 : decode cX1_checkIndex 17 = .ok (.invokespecial 48, 3) := dk_183 0 48 (dk_at dksX1_checkIndex_0 17 rfl rfl)
theorem dX1_checkIndex_20 : decode cX1_checkIndex 20 = .ok (.athrow, 1) := dk_191 (dk_at dksX1_checkIndex_0 20 rfl rfl)
theorem dX1_checkIndex_21 : decode cX1_checkIndex 21 = .ok (.return_, 1) := dk_177 (dk_at dksX1_checkIndex_0 21 rfl rfl)
abbrev cX1_direction : ByteArray := prog_1_method_15_code
def yX1_direction : MethodName := ⟨RX1, "direction", "(II)I"⟩
def dkwX1_direction_0 : List UInt8 := [42, 27, 182, 0, 115, 78, 28, 16, 6, 184, 0, 111, 45, 28, 182, 0, 124, 172]
abbrev dktX1_direction_0 : List UInt8 := dkwX1_direction_0 ++ []
theorem dksX1_direction_0 : cX1_direction.data.toList.drop 0 = dktX1_direction_0 := by decide +kernel
theorem dX1_direction_0 : decode cX1_direction 0 = .ok (.aload_n 0, 1) := dk_42 (dk_at dksX1_direction_0 0 rfl rfl)
theorem dX1_direction_1 : decode cX1_direction 1 = .ok (.iload_n 1, 1) := dk_27 (dk_at dksX1_direction_0 1 rfl rfl)
theorem dX1_direction_2 : decode cX1_direction 2 = .ok (.invokevirtual 115, 3) := dk_182 0 115 (dk_at dksX1_direction_0 2 rfl rfl)
theorem dX1_direction_5 : decode cX1_direction 5 = .ok (.astore_n 3, 1) := dk_78 (dk_at dksX1_direction_0 5 rfl rfl)
theorem dX1_direction_6 : decode cX1_direction 6 = .ok (.iload_n 2, 1) := dk_28 (dk_at dksX1_direction_0 6 rfl rfl)
theorem dX1_direction_7 : decode cX1_direction 7 = .ok (.bipush 6, 2) := dk_16 6 (dk_at dksX1_direction_0 7 rfl rfl)
theorem dX1_direction_9 : decode cX1_direction 9 = .ok (.invokestatic 111, 3) := dk_184 0 111 (dk_at dksX1_direction_0 9 rfl rfl)
theorem dX1_direction_12 : decode cX1_direction 12 = .ok (.aload_n 3, 1) := dk_45 (dk_at dksX1_direction_0 12 rfl rfl)
theorem dX1_direction_13 : decode cX1_direction 13 = .ok (.iload_n 2, 1) := dk_28 (dk_at dksX1_direction_0 13 rfl rfl)
theorem dX1_direction_14 : decode cX1_direction 14 = .ok (.invokevirtual 124, 3) := dk_182 0 124 (dk_at dksX1_direction_0 14 rfl rfl)
theorem dX1_direction_17 : decode cX1_direction 17 = .ok (.ireturn, 1) := dk_172 (dk_at dksX1_direction_0 17 rfl rfl)
abbrev cX1_pause : ByteArray := prog_1_method_16_code
def yX1_pause : MethodName := ⟨RX1, "pause", "(I)I"⟩
def dkwX1_pause_0 : List UInt8 := [42, 27, 182, 0, 115, 180, 0, 128, 172]
abbrev dktX1_pause_0 : List UInt8 := dkwX1_pause_0 ++ []
theorem dksX1_pause_0 : cX1_pause.data.toList.drop 0 = dktX1_pause_0 := by decide +kernel
theorem dX1_pause_0 : decode cX1_pause 0 = .ok (.aload_n 0, 1) := dk_42 (dk_at dksX1_pause_0 0 rfl rfl)
theorem dX1_pause_1 : decode cX1_pause 1 = .ok (.iload_n 1, 1) := dk_27 (dk_at dksX1_pause_0 1 rfl rfl)
theorem dX1_pause_2 : decode cX1_pause 2 = .ok (.invokevirtual 115, 3) := dk_182 0 115 (dk_at dksX1_pause_0 2 rfl rfl)
theorem dX1_pause_5 : decode cX1_pause 5 = .ok (.getfield 128, 3) := dk_180 0 128 (dk_at dksX1_pause_0 5 rfl rfl)
theorem dX1_pause_8 : decode cX1_pause 8 = .ok (.ireturn, 1) := dk_172 (dk_at dksX1_pause_0 8 rfl rfl)
abbrev cX1_clashes : ByteArray := prog_1_method_17_code
def yX1_clashes : MethodName := ⟨RX1, "clashes", "()I"⟩
def dkwX1_clashes_2 : List UInt8 := [60, 132, 3, 1, 167, 255, 227, 132, 2, 1, 167, 255, 207, 27, 172]
abbrev dktX1_clashes_2 : List UInt8 := dkwX1_clashes_2 ++ []
def dkwX1_clashes_1 : List UInt8 := [16, 6, 162, 0, 29, 27, 42, 180, 0, 52, 28, 29, 182, 0, 134, 156, 0, 7, 3, 167, 0, 4, 4, 96]
abbrev dktX1_clashes_1 : List UInt8 := dkwX1_clashes_1 ++ dktX1_clashes_2
def dkwX1_clashes_0 : List UInt8 := [42, 182, 0, 131, 3, 60, 3, 61, 28, 42, 180, 0, 52, 180, 0, 102, 190, 162, 0, 43, 3, 62, 29]
abbrev dktX1_clashes_0 : List UInt8 := dkwX1_clashes_0 ++ dktX1_clashes_1
theorem dksX1_clashes_0 : cX1_clashes.data.toList.drop 0 = dktX1_clashes_0 := by decide +kernel
theorem dksX1_clashes_1 : cX1_clashes.data.toList.drop 23 = dktX1_clashes_1 := dk_seg dksX1_clashes_0 23 rfl rfl
theorem dksX1_clashes_2 : cX1_clashes.data.toList.drop 47 = dktX1_clashes_2 := dk_seg dksX1_clashes_1 24 rfl rfl
theorem dX1_clashes_0 : decode cX1_clashes 0 = .ok (.aload_n 0, 1) := dk_42 (dk_at dksX1_clashes_0 0 rfl rfl)
theorem dX1_clashes_1 : decode cX1_clashes 1 = .ok (.invokevirtual 131, 3) := dk_182 0 131 (dk_at dksX1_clashes_0 1 rfl rfl)
theorem dX1_clashes_4 : decode cX1_clashes 4 = .ok (.iconst 0, 1) := dk_3 (dk_at dksX1_clashes_0 4 rfl rfl)
theorem dX1_clashes_5 : decode cX1_clashes 5 = .ok (.istore_n 1, 1) := dk_60 (dk_at dksX1_clashes_0 5 rfl rfl)
theorem dX1_clashes_6 : decode cX1_clashes 6 = .ok (.iconst 0, 1) := dk_3 (dk_at dksX1_clashes_0 6 rfl rfl)
theorem dX1_clashes_7 : decode cX1_clashes 7 = .ok (.istore_n 2, 1) := dk_61 (dk_at dksX1_clashes_0 7 rfl rfl)
theorem dX1_clashes_8 : decode cX1_clashes 8 = .ok (.iload_n 2, 1) := dk_28 (dk_at dksX1_clashes_0 8 rfl rfl)
theorem dX1_clashes_9 : decode cX1_clashes 9 = .ok (.aload_n 0, 1) := dk_42 (dk_at dksX1_clashes_0 9 rfl rfl)
theorem dX1_clashes_10 : decode cX1_clashes 10 = .ok (.getfield 52, 3) := dk_180 0 52 (dk_at dksX1_clashes_0 10 rfl rfl)
theorem dX1_clashes_13 : decode cX1_clashes 13 = .ok (.getfield 102, 3) := dk_180 0 102 (dk_at dksX1_clashes_0 13 rfl rfl)
theorem dX1_clashes_16 : decode cX1_clashes 16 = .ok (.arraylength, 1) := dk_190 (dk_at dksX1_clashes_0 16 rfl rfl)
theorem dX1_clashes_17 : decode cX1_clashes 17 = .ok (.if_icmp .ge 43, 3) := dk_162 0 43 (dk_at dksX1_clashes_0 17 rfl rfl)
theorem dX1_clashes_20 : decode cX1_clashes 20 = .ok (.iconst 0, 1) := dk_3 (dk_at dksX1_clashes_0 20 rfl rfl)
theorem dX1_clashes_21 : decode cX1_clashes 21 = .ok (.istore_n 3, 1) := dk_62 (dk_at dksX1_clashes_0 21 rfl rfl)
theorem dX1_clashes_22 : decode cX1_clashes 22 = .ok (.iload_n 3, 1) := dk_29 (dk_at dksX1_clashes_0 22 rfl rfl)
theorem dX1_clashes_23 : decode cX1_clashes 23 = .ok (.bipush 6, 2) := dk_16 6 (dk_at dksX1_clashes_1 0 rfl rfl)
theorem dX1_clashes_25 : decode cX1_clashes 25 = .ok (.if_icmp .ge 29, 3) := dk_162 0 29 (dk_at dksX1_clashes_1 2 rfl rfl)
theorem dX1_clashes_28 : decode cX1_clashes 28 = .ok (.iload_n 1, 1) := dk_27 (dk_at dksX1_clashes_1 5 rfl rfl)
theorem dX1_clashes_29 : decode cX1_clashes 29 = .ok (.aload_n 0, 1) := dk_42 (dk_at dksX1_clashes_1 6 rfl rfl)
theorem dX1_clashes_30 : decode cX1_clashes 30 = .ok (.getfield 52, 3) := dk_180 0 52 (dk_at dksX1_clashes_1 7 rfl rfl)
theorem dX1_clashes_33 : decode cX1_clashes 33 = .ok (.iload_n 2, 1) := dk_28 (dk_at dksX1_clashes_1 10 rfl rfl)
theorem dX1_clashes_34 : decode cX1_clashes 34 = .ok (.iload_n 3, 1) := dk_29 (dk_at dksX1_clashes_1 11 rfl rfl)
theorem dX1_clashes_35 : decode cX1_clashes 35 = .ok (.invokevirtual 134, 3) := dk_182 0 134 (dk_at dksX1_clashes_1 12 rfl rfl)
theorem dX1_clashes_38 : decode cX1_clashes 38 = .ok (.ifCond .ge 7, 3) := dk_156 0 7 (dk_at dksX1_clashes_1 15 rfl rfl)
theorem dX1_clashes_41 : decode cX1_clashes 41 = .ok (.iconst 0, 1) := dk_3 (dk_at dksX1_clashes_1 18 rfl rfl)
theorem dX1_clashes_42 : decode cX1_clashes 42 = .ok (.goto 4, 3) := dk_167 0 4 (dk_at dksX1_clashes_1 19 rfl rfl)
theorem dX1_clashes_45 : decode cX1_clashes 45 = .ok (.iconst 1, 1) := dk_4 (dk_at dksX1_clashes_1 22 rfl rfl)
theorem dX1_clashes_46 : decode cX1_clashes 46 = .ok (.iadd, 1) := dk_96 (dk_at dksX1_clashes_1 23 rfl rfl)
theorem dX1_clashes_47 : decode cX1_clashes 47 = .ok (.istore_n 1, 1) := dk_60 (dk_at dksX1_clashes_2 0 rfl rfl)
theorem dX1_clashes_48 : decode cX1_clashes 48 = .ok (.iinc 3 1, 3) := dk_132 3 1 (dk_at dksX1_clashes_2 1 rfl rfl)
theorem dX1_clashes_51 : decode cX1_clashes 51 = .ok (.goto (-29), 3) := dk_167 255 227 (dk_at dksX1_clashes_2 4 rfl rfl)
theorem dX1_clashes_54 : decode cX1_clashes 54 = .ok (.iinc 2 1, 3) := dk_132 2 1 (dk_at dksX1_clashes_2 7 rfl rfl)
theorem dX1_clashes_57 : decode cX1_clashes 57 = .ok (.goto (-49), 3) := dk_167 255 207 (dk_at dksX1_clashes_2 10 rfl rfl)
theorem dX1_clashes_60 : decode cX1_clashes 60 = .ok (.iload_n 1, 1) := dk_27 (dk_at dksX1_clashes_2 13 rfl rfl)
theorem dX1_clashes_61 : decode cX1_clashes 61 = .ok (.ireturn, 1) := dk_172 (dk_at dksX1_clashes_2 14 rfl rfl)
abbrev cX1_checkSequence : ByteArray := prog_1_method_5_code
def yX1_checkSequence : MethodName := ⟨RX1, "checkSequence", "()V"⟩
def dkwX1_checkSequence_0 : List UInt8 := [42, 180, 0, 52, 199, 0, 11, 187, 0, 56, 89, 183, 0, 58, 191, 177]
abbrev dktX1_checkSequence_0 : List UInt8 := dkwX1_checkSequence_0 ++ []
theorem dksX1_checkSequence_0 : cX1_checkSequence.data.toList.drop 0 = dktX1_checkSequence_0 := by decide +kernel
theorem dX1_checkSequence_0 : decode cX1_checkSequence 0 = .ok (.aload_n 0, 1) := dk_42 (dk_at dksX1_checkSequence_0 0 rfl rfl)
theorem dX1_checkSequence_1 : decode cX1_checkSequence 1 = .ok (.getfield 52, 3) := dk_180 0 52 (dk_at dksX1_checkSequence_0 1 rfl rfl)
theorem dX1_checkSequence_4 : decode cX1_checkSequence 4 = .ok (.ifnonnull 11, 3) := dk_199 0 11 (dk_at dksX1_checkSequence_0 4 rfl rfl)
theorem dX1_checkSequence_7 : decode cX1_checkSequence 7 = .ok (.new 56, 3) := dk_187 0 56 (dk_at dksX1_checkSequence_0 7 rfl rfl)
theorem dX1_checkSequence_10 : decode cX1_checkSequence 10 = .ok (.dup, 1) := dk_89 (dk_at dksX1_checkSequence_0 10 rfl rfl)
theorem dX1_checkSequence_11 : decode cX1_checkSequence 11 = .ok (.invokespecial 58, 3) := dk_183 0 58 (dk_at dksX1_checkSequence_0 11 rfl rfl)
theorem dX1_checkSequence_14 : decode cX1_checkSequence 14 = .ok (.athrow, 1) := dk_191 (dk_at dksX1_checkSequence_0 14 rfl rfl)
theorem dX1_checkSequence_15 : decode cX1_checkSequence 15 = .ok (.return_, 1) := dk_177 (dk_at dksX1_checkSequence_0 15 rfl rfl)
abbrev cX1_clash : ByteArray := prog_1_method_18_code
def yX1_clash : MethodName := ⟨RX1, "clash", "(II)I"⟩
def dkwX1_clash_0 : List UInt8 := [27, 42, 182, 0, 108, 184, 0, 111, 28, 16, 6, 184, 0, 111, 42, 180, 0, 52, 27, 28, 182, 0, 134, 172]
abbrev dktX1_clash_0 : List UInt8 := dkwX1_clash_0 ++ []
theorem dksX1_clash_0 : cX1_clash.data.toList.drop 0 = dktX1_clash_0 := by decide +kernel
theorem dX1_clash_0 : decode cX1_clash 0 = .ok (.iload_n 1, 1) := dk_27 (dk_at dksX1_clash_0 0 rfl rfl)
theorem dX1_clash_1 : decode cX1_clash 1 = .ok (.aload_n 0, 1) := dk_42 (dk_at dksX1_clash_0 1 rfl rfl)
theorem dX1_clash_2 : decode cX1_clash 2 = .ok (.invokevirtual 108, 3) := dk_182 0 108 (dk_at dksX1_clash_0 2 rfl rfl)
theorem dX1_clash_5 : decode cX1_clash 5 = .ok (.invokestatic 111, 3) := dk_184 0 111 (dk_at dksX1_clash_0 5 rfl rfl)
theorem dX1_clash_8 : decode cX1_clash 8 = .ok (.iload_n 2, 1) := dk_28 (dk_at dksX1_clash_0 8 rfl rfl)
theorem dX1_clash_9 : decode cX1_clash 9 = .ok (.bipush 6, 2) := dk_16 6 (dk_at dksX1_clash_0 9 rfl rfl)
theorem dX1_clash_11 : decode cX1_clash 11 = .ok (.invokestatic 111, 3) := dk_184 0 111 (dk_at dksX1_clash_0 11 rfl rfl)
theorem dX1_clash_14 : decode cX1_clash 14 = .ok (.aload_n 0, 1) := dk_42 (dk_at dksX1_clash_0 14 rfl rfl)
theorem dX1_clash_15 : decode cX1_clash 15 = .ok (.getfield 52, 3) := dk_180 0 52 (dk_at dksX1_clash_0 15 rfl rfl)
theorem dX1_clash_18 : decode cX1_clash 18 = .ok (.iload_n 1, 1) := dk_27 (dk_at dksX1_clash_0 18 rfl rfl)
theorem dX1_clash_19 : decode cX1_clash 19 = .ok (.iload_n 2, 1) := dk_28 (dk_at dksX1_clash_0 19 rfl rfl)
theorem dX1_clash_20 : decode cX1_clash 20 = .ok (.invokevirtual 134, 3) := dk_182 0 134 (dk_at dksX1_clash_0 20 rfl rfl)
theorem dX1_clash_23 : decode cX1_clash 23 = .ok (.ireturn, 1) := dk_172 (dk_at dksX1_clash_0 23 rfl rfl)
abbrev cX1_groups : ByteArray := prog_1_method_19_code
def yX1_groups : MethodName := ⟨RX1, "groups", "()I"⟩
def dkwX1_groups_0 : List UInt8 := [42, 182, 0, 131, 42, 180, 0, 52, 180, 0, 138, 190, 172]
abbrev dktX1_groups_0 : List UInt8 := dkwX1_groups_0 ++ []
theorem dksX1_groups_0 : cX1_groups.data.toList.drop 0 = dktX1_groups_0 := by decide +kernel
theorem dX1_groups_0 : decode cX1_groups 0 = .ok (.aload_n 0, 1) := dk_42 (dk_at dksX1_groups_0 0 rfl rfl)
theorem dX1_groups_1 : decode cX1_groups 1 = .ok (.invokevirtual 131, 3) := dk_182 0 131 (dk_at dksX1_groups_0 1 rfl rfl)
theorem dX1_groups_4 : decode cX1_groups 4 = .ok (.aload_n 0, 1) := dk_42 (dk_at dksX1_groups_0 4 rfl rfl)
theorem dX1_groups_5 : decode cX1_groups 5 = .ok (.getfield 52, 3) := dk_180 0 52 (dk_at dksX1_groups_0 5 rfl rfl)
theorem dX1_groups_8 : decode cX1_groups 8 = .ok (.getfield 138, 3) := dk_180 0 138 (dk_at dksX1_groups_0 8 rfl rfl)
theorem dX1_groups_11 : decode cX1_groups 11 = .ok (.arraylength, 1) := dk_190 (dk_at dksX1_groups_0 11 rfl rfl)
theorem dX1_groups_12 : decode cX1_groups 12 = .ok (.ireturn, 1) := dk_172 (dk_at dksX1_groups_0 12 rfl rfl)
abbrev cX1_cut : ByteArray := prog_1_method_20_code
def yX1_cut : MethodName := ⟨RX1, "cut", "(I)I"⟩
def dkwX1_cut_1 : List UInt8 := [180, 0, 52, 180, 0, 138, 27, 46, 172]
abbrev dktX1_cut_1 : List UInt8 := dkwX1_cut_1 ++ []
def dkwX1_cut_0 : List UInt8 := [27, 42, 180, 0, 52, 199, 0, 7, 3, 167, 0, 11, 42, 180, 0, 52, 180, 0, 138, 190, 184, 0, 111, 42]
abbrev dktX1_cut_0 : List UInt8 := dkwX1_cut_0 ++ dktX1_cut_1
theorem dksX1_cut_0 : cX1_cut.data.toList.drop 0 = dktX1_cut_0 := by decide +kernel
theorem dksX1_cut_1 : cX1_cut.data.toList.drop 24 = dktX1_cut_1 := dk_seg dksX1_cut_0 24 rfl rfl
theorem dX1_cut_0 : decode cX1_cut 0 = .ok (.iload_n 1, 1) := dk_27 (dk_at dksX1_cut_0 0 rfl rfl)
theorem dX1_cut_1 : decode cX1_cut 1 = .ok (.aload_n 0, 1) := dk_42 (dk_at dksX1_cut_0 1 rfl rfl)
theorem dX1_cut_2 : decode cX1_cut 2 = .ok (.getfield 52, 3) := dk_180 0 52 (dk_at dksX1_cut_0 2 rfl rfl)
theorem dX1_cut_5 : decode cX1_cut 5 = .ok (.ifnonnull 7, 3) := dk_199 0 7 (dk_at dksX1_cut_0 5 rfl rfl)
theorem dX1_cut_8 : decode cX1_cut 8 = .ok (.iconst 0, 1) := dk_3 (dk_at dksX1_cut_0 8 rfl rfl)
theorem dX1_cut_9 : decode cX1_cut 9 = .ok (.goto 11, 3) := dk_167 0 11 (dk_at dksX1_cut_0 9 rfl rfl)
theorem dX1_cut_12 : decode cX1_cut 12 = .ok (.aload_n 0, 1) := dk_42 (dk_at dksX1_cut_0 12 rfl rfl)
theorem dX1_cut_13 : decode cX1_cut 13 = .ok (.getfield 52, 3) := dk_180 0 52 (dk_at dksX1_cut_0 13 rfl rfl)
theorem dX1_cut_16 : decode cX1_cut 16 = .ok (.getfield 138, 3) := dk_180 0 138 (dk_at dksX1_cut_0 16 rfl rfl)
theorem dX1_cut_19 : decode cX1_cut 19 = .ok (.arraylength, 1) := dk_190 (dk_at dksX1_cut_0 19 rfl rfl)
theorem dX1_cut_20 : decode cX1_cut 20 = .ok (.invokestatic 111, 3) := dk_184 0 111 (dk_at dksX1_cut_0 20 rfl rfl)
theorem dX1_cut_23 : decode cX1_cut 23 = .ok (.aload_n 0, 1) := dk_42 (dk_at dksX1_cut_0 23 rfl rfl)
theorem dX1_cut_24 : decode cX1_cut 24 = .ok (.getfield 52, 3) := dk_180 0 52 (dk_at dksX1_cut_1 0 rfl rfl)
theorem dX1_cut_27 : decode cX1_cut 27 = .ok (.getfield 138, 3) := dk_180 0 138 (dk_at dksX1_cut_1 3 rfl rfl)
theorem dX1_cut_30 : decode cX1_cut 30 = .ok (.iload_n 1, 1) := dk_27 (dk_at dksX1_cut_1 6 rfl rfl)
theorem dX1_cut_31 : decode cX1_cut 31 = .ok (.iaload, 1) := dk_46 (dk_at dksX1_cut_1 7 rfl rfl)
theorem dX1_cut_32 : decode cX1_cut 32 = .ok (.ireturn, 1) := dk_172 (dk_at dksX1_cut_1 8 rfl rfl)
abbrev cX1_groupOf : ByteArray := prog_1_method_21_code
def yX1_groupOf : MethodName := ⟨RX1, "groupOf", "(I)I"⟩
def dkwX1_groupOf_0 : List UInt8 := [27, 42, 182, 0, 108, 184, 0, 111, 42, 180, 0, 52, 27, 182, 0, 141, 172]
abbrev dktX1_groupOf_0 : List UInt8 := dkwX1_groupOf_0 ++ []
theorem dksX1_groupOf_0 : cX1_groupOf.data.toList.drop 0 = dktX1_groupOf_0 := by decide +kernel
theorem dX1_groupOf_0 : decode cX1_groupOf 0 = .ok (.iload_n 1, 1) := dk_27 (dk_at dksX1_groupOf_0 0 rfl rfl)
theorem dX1_groupOf_1 : decode cX1_groupOf 1 = .ok (.aload_n 0, 1) := dk_42 (dk_at dksX1_groupOf_0 1 rfl rfl)
theorem dX1_groupOf_2 : decode cX1_groupOf 2 = .ok (.invokevirtual 108, 3) := dk_182 0 108 (dk_at dksX1_groupOf_0 2 rfl rfl)
theorem dX1_groupOf_5 : decode cX1_groupOf 5 = .ok (.invokestatic 111, 3) := dk_184 0 111 (dk_at dksX1_groupOf_0 5 rfl rfl)
theorem dX1_groupOf_8 : decode cX1_groupOf 8 = .ok (.aload_n 0, 1) := dk_42 (dk_at dksX1_groupOf_0 8 rfl rfl)
theorem dX1_groupOf_9 : decode cX1_groupOf 9 = .ok (.getfield 52, 3) := dk_180 0 52 (dk_at dksX1_groupOf_0 9 rfl rfl)
theorem dX1_groupOf_12 : decode cX1_groupOf 12 = .ok (.iload_n 1, 1) := dk_27 (dk_at dksX1_groupOf_0 12 rfl rfl)
theorem dX1_groupOf_13 : decode cX1_groupOf 13 = .ok (.invokevirtual 141, 3) := dk_182 0 141 (dk_at dksX1_groupOf_0 13 rfl rfl)
theorem dX1_groupOf_16 : decode cX1_groupOf 16 = .ok (.ireturn, 1) := dk_172 (dk_at dksX1_groupOf_0 16 rfl rfl)
abbrev cX1_valves : ByteArray := prog_1_method_23_code
def yX1_valves : MethodName := ⟨RX1, "valves", "(I)I"⟩
def dkwX1_valves_1 : List UInt8 := [172]
abbrev dktX1_valves_1 : List UInt8 := dkwX1_valves_1 ++ []
def dkwX1_valves_0 : List UInt8 := [27, 133, 9, 20, 0, 156, 184, 0, 42, 184, 0, 63, 42, 182, 0, 131, 42, 27, 184, 0, 158, 182, 0, 162]
abbrev dktX1_valves_0 : List UInt8 := dkwX1_valves_0 ++ dktX1_valves_1
theorem dksX1_valves_0 : cX1_valves.data.toList.drop 0 = dktX1_valves_0 := by decide +kernel
theorem dksX1_valves_1 : cX1_valves.data.toList.drop 24 = dktX1_valves_1 := dk_seg dksX1_valves_0 24 rfl rfl
theorem dX1_valves_0 : decode cX1_valves 0 = .ok (.iload_n 1, 1) := dk_27 (dk_at dksX1_valves_0 0 rfl rfl)
theorem dX1_valves_1 : decode cX1_valves 1 = .ok (.i2l, 1) := dk_133 (dk_at dksX1_valves_0 1 rfl rfl)
theorem dX1_valves_2 : decode cX1_valves 2 = .ok (.lconst 0, 1) := dk_9 (dk_at dksX1_valves_0 2 rfl rfl)
theorem dX1_valves_3 : decode cX1_valves 3 = .ok (.ldc2_w 156, 3) := dk_20 0 156 (dk_at dksX1_valves_0 3 rfl rfl)
theorem dX1_valves_6 : decode cX1_valves 6 = .ok (.invokestatic 42, 3) := dk_184 0 42 (dk_at dksX1_valves_0 6 rfl rfl)
theorem dX1_valves_9 : decode cX1_valves 9 = .ok (.invokestatic 63, 3) := dk_184 0 63 (dk_at dksX1_valves_0 9 rfl rfl)
theorem dX1_valves_12 : decode cX1_valves 12 = .ok (.aload_n 0, 1) := dk_42 (dk_at dksX1_valves_0 12 rfl rfl)
theorem dX1_valves_13 : decode cX1_valves 13 = .ok (.invokevirtual 131, 3) := dk_182 0 131 (dk_at dksX1_valves_0 13 rfl rfl)
theorem dX1_valves_16 : decode cX1_valves 16 = .ok (.aload_n 0, 1) := dk_42 (dk_at dksX1_valves_0 16 rfl rfl)
theorem dX1_valves_17 : decode cX1_valves 17 = .ok (.iload_n 1, 1) := dk_27 (dk_at dksX1_valves_0 17 rfl rfl)
theorem dX1_valves_18 : decode cX1_valves 18 = .ok (.invokestatic 158, 3) := dk_184 0 158 (dk_at dksX1_valves_0 18 rfl rfl)
theorem dX1_valves_21 : decode cX1_valves 21 = .ok (.invokevirtual 162, 3) := dk_182 0 162 (dk_at dksX1_valves_0 21 rfl rfl)
theorem dX1_valves_24 : decode cX1_valves 24 = .ok (.ireturn, 1) := dk_172 (dk_at dksX1_valves_1 0 rfl rfl)
abbrev cX1_valvesOf : ByteArray := prog_1_method_22_code
def yX1_valvesOf : MethodName := ⟨RX1, "valvesOf", "(LSequenceBench$Method;)I"⟩
def dkwX1_valvesOf_0 : List UInt8 := [42, 180, 0, 52, 182, 0, 144, 184, 0, 147, 43, 42, 180, 0, 52, 182, 0, 152, 96, 172]
abbrev dktX1_valvesOf_0 : List UInt8 := dkwX1_valvesOf_0 ++ []
theorem dksX1_valvesOf_0 : cX1_valvesOf.data.toList.drop 0 = dktX1_valvesOf_0 := by decide +kernel
theorem dX1_valvesOf_0 : decode cX1_valvesOf 0 = .ok (.aload_n 0, 1) := dk_42 (dk_at dksX1_valvesOf_0 0 rfl rfl)
theorem dX1_valvesOf_1 : decode cX1_valvesOf 1 = .ok (.getfield 52, 3) := dk_180 0 52 (dk_at dksX1_valvesOf_0 1 rfl rfl)
theorem dX1_valvesOf_4 : decode cX1_valvesOf 4 = .ok (.invokevirtual 144, 3) := dk_182 0 144 (dk_at dksX1_valvesOf_0 4 rfl rfl)
theorem dX1_valvesOf_7 : decode cX1_valvesOf 7 = .ok (.invokestatic 147, 3) := dk_184 0 147 (dk_at dksX1_valvesOf_0 7 rfl rfl)
theorem dX1_valvesOf_10 : decode cX1_valvesOf 10 = .ok (.aload_n 1, 1) := dk_43 (dk_at dksX1_valvesOf_0 10 rfl rfl)
theorem dX1_valvesOf_11 : decode cX1_valvesOf 11 = .ok (.aload_n 0, 1) := dk_42 (dk_at dksX1_valvesOf_0 11 rfl rfl)
theorem dX1_valvesOf_12 : decode cX1_valvesOf 12 = .ok (.getfield 52, 3) := dk_180 0 52 (dk_at dksX1_valvesOf_0 12 rfl rfl)
theorem dX1_valvesOf_15 : decode cX1_valvesOf 15 = .ok (.invokevirtual 152, 3) := dk_182 0 152 (dk_at dksX1_valvesOf_0 15 rfl rfl)
theorem dX1_valvesOf_18 : decode cX1_valvesOf 18 = .ok (.iadd, 1) := dk_96 (dk_at dksX1_valvesOf_0 18 rfl rfl)
theorem dX1_valvesOf_19 : decode cX1_valvesOf 19 = .ok (.ireturn, 1) := dk_172 (dk_at dksX1_valvesOf_0 19 rfl rfl)
abbrev cX1_setMethod : ByteArray := prog_1_method_24_code
def yX1_setMethod : MethodName := ⟨RX1, "setMethod", "(I)I"⟩
def dkwX1_setMethod_1 : List UInt8 := [184, 0, 158, 181, 0, 30, 42, 182, 0, 99, 28, 172]
abbrev dktX1_setMethod_1 : List UInt8 := dkwX1_setMethod_1 ++ []
def dkwX1_setMethod_0 : List UInt8 := [27, 133, 9, 20, 0, 156, 184, 0, 42, 184, 0, 63, 42, 180, 0, 30, 182, 0, 166, 61, 42, 27]
abbrev dktX1_setMethod_0 : List UInt8 := dkwX1_setMethod_0 ++ dktX1_setMethod_1
theorem dksX1_setMethod_0 : cX1_setMethod.data.toList.drop 0 = dktX1_setMethod_0 := by decide +kernel
theorem dksX1_setMethod_1 : cX1_setMethod.data.toList.drop 22 = dktX1_setMethod_1 := dk_seg dksX1_setMethod_0 22 rfl rfl
theorem dX1_setMethod_0 : decode cX1_setMethod 0 = .ok (.iload_n 1, 1) := dk_27 (dk_at dksX1_setMethod_0 0 rfl rfl)
theorem dX1_setMethod_1 : decode cX1_setMethod 1 = .ok (.i2l, 1) := dk_133 (dk_at dksX1_setMethod_0 1 rfl rfl)
theorem dX1_setMethod_2 : decode cX1_setMethod 2 = .ok (.lconst 0, 1) := dk_9 (dk_at dksX1_setMethod_0 2 rfl rfl)
theorem dX1_setMethod_3 : decode cX1_setMethod 3 = .ok (.ldc2_w 156, 3) := dk_20 0 156 (dk_at dksX1_setMethod_0 3 rfl rfl)
theorem dX1_setMethod_6 : decode cX1_setMethod 6 = .ok (.invokestatic 42, 3) := dk_184 0 42 (dk_at dksX1_setMethod_0 6 rfl rfl)
theorem dX1_setMethod_9 : decode cX1_setMethod 9 = .ok (.invokestatic 63, 3) := dk_184 0 63 (dk_at dksX1_setMethod_0 9 rfl rfl)
theorem dX1_setMethod_12 : decode cX1_setMethod 12 = .ok (.aload_n 0, 1) := dk_42 (dk_at dksX1_setMethod_0 12 rfl rfl)
theorem dX1_setMethod_13 : decode cX1_setMethod 13 = .ok (.getfield 30, 3) := dk_180 0 30 (dk_at dksX1_setMethod_0 13 rfl rfl)
theorem dX1_setMethod_16 : decode cX1_setMethod 16 = .ok (.invokevirtual 166, 3) := dk_182 0 166 (dk_at dksX1_setMethod_0 16 rfl rfl)
theorem dX1_setMethod_19 : decode cX1_setMethod 19 = .ok (.istore_n 2, 1) := dk_61 (dk_at dksX1_setMethod_0 19 rfl rfl)
theorem dX1_setMethod_20 : decode cX1_setMethod 20 = .ok (.aload_n 0, 1) := dk_42 (dk_at dksX1_setMethod_0 20 rfl rfl)
theorem dX1_setMethod_21 : decode cX1_setMethod 21 = .ok (.iload_n 1, 1) := dk_27 (dk_at dksX1_setMethod_0 21 rfl rfl)
theorem dX1_setMethod_22 : decode cX1_setMethod 22 = .ok (.invokestatic 158, 3) := dk_184 0 158 (dk_at dksX1_setMethod_1 0 rfl rfl)
theorem dX1_setMethod_25 : decode cX1_setMethod 25 = .ok (.putfield 30, 3) := dk_181 0 30 (dk_at dksX1_setMethod_1 3 rfl rfl)
theorem dX1_setMethod_28 : decode cX1_setMethod 28 = .ok (.aload_n 0, 1) := dk_42 (dk_at dksX1_setMethod_1 6 rfl rfl)
theorem dX1_setMethod_29 : decode cX1_setMethod 29 = .ok (.invokevirtual 99, 3) := dk_182 0 99 (dk_at dksX1_setMethod_1 7 rfl rfl)
theorem dX1_setMethod_32 : decode cX1_setMethod 32 = .ok (.iload_n 2, 1) := dk_28 (dk_at dksX1_setMethod_1 10 rfl rfl)
theorem dX1_setMethod_33 : decode cX1_setMethod 33 = .ok (.ireturn, 1) := dk_172 (dk_at dksX1_setMethod_1 11 rfl rfl)
abbrev cX1_setStroke : ByteArray := prog_1_method_25_code
def yX1_setStroke : MethodName := ⟨RX1, "setStroke", "(II)I"⟩
def dkwX1_setStroke_1 : List UInt8 := [62, 42, 180, 0, 13, 27, 28, 79, 42, 182, 0, 99, 29, 172]
abbrev dktX1_setStroke_1 : List UInt8 := dkwX1_setStroke_1 ++ []
def dkwX1_setStroke_0 : List UInt8 := [27, 16, 6, 184, 0, 111, 28, 133, 10, 20, 0, 169, 184, 0, 42, 184, 0, 63, 42, 180, 0, 13, 27, 46]
abbrev dktX1_setStroke_0 : List UInt8 := dkwX1_setStroke_0 ++ dktX1_setStroke_1
theorem dksX1_setStroke_0 : cX1_setStroke.data.toList.drop 0 = dktX1_setStroke_0 := by decide +kernel
theorem dksX1_setStroke_1 : cX1_setStroke.data.toList.drop 24 = dktX1_setStroke_1 := dk_seg dksX1_setStroke_0 24 rfl rfl
theorem dX1_setStroke_0 : decode cX1_setStroke 0 = .ok (.iload_n 1, 1) := dk_27 (dk_at dksX1_setStroke_0 0 rfl rfl)
theorem dX1_setStroke_1 : decode cX1_setStroke 1 = .ok (.bipush 6, 2) := dk_16 6 (dk_at dksX1_setStroke_0 1 rfl rfl)
theorem dX1_setStroke_3 : decode cX1_setStroke 3 = .ok (.invokestatic 111, 3) := dk_184 0 111 (dk_at dksX1_setStroke_0 3 rfl rfl)
theorem dX1_setStroke_6 : decode cX1_setStroke 6 = .ok (.iload_n 2, 1) := dk_28 (dk_at dksX1_setStroke_0 6 rfl rfl)
theorem dX1_setStroke_7 : decode cX1_setStroke 7 = .ok (.i2l, 1) := dk_133 (dk_at dksX1_setStroke_0 7 rfl rfl)
theorem dX1_setStroke_8 : decode cX1_setStroke 8 = .ok (.lconst 1, 1) := dk_10 (dk_at dksX1_setStroke_0 8 rfl rfl)
theorem dX1_setStroke_9 : decode cX1_setStroke 9 = .ok (.ldc2_w 169, 3) := dk_20 0 169 (dk_at dksX1_setStroke_0 9 rfl rfl)
theorem dX1_setStroke_12 : decode cX1_setStroke 12 = .ok (.invokestatic 42, 3) := dk_184 0 42 (dk_at dksX1_setStroke_0 12 rfl rfl)
theorem dX1_setStroke_15 : decode cX1_setStroke 15 = .ok (.invokestatic 63, 3) := dk_184 0 63 (dk_at dksX1_setStroke_0 15 rfl rfl)
theorem dX1_setStroke_18 : decode cX1_setStroke 18 = .ok (.aload_n 0, 1) := dk_42 (dk_at dksX1_setStroke_0 18 rfl rfl)
theorem dX1_setStroke_19 : decode cX1_setStroke 19 = .ok (.getfield 13, 3) := dk_180 0 13 (dk_at dksX1_setStroke_0 19 rfl rfl)
theorem dX1_setStroke_22 : decode cX1_setStroke 22 = .ok (.iload_n 1, 1) := dk_27 (dk_at dksX1_setStroke_0 22 rfl rfl)
theorem dX1_setStroke_23 : decode cX1_setStroke 23 = .ok (.iaload, 1) := dk_46 (dk_at dksX1_setStroke_0 23 rfl rfl)
theorem dX1_setStroke_24 : decode cX1_setStroke 24 = .ok (.istore_n 3, 1) := dk_62 (dk_at dksX1_setStroke_1 0 rfl rfl)
theorem dX1_setStroke_25 : decode cX1_setStroke 25 = .ok (.aload_n 0, 1) := dk_42 (dk_at dksX1_setStroke_1 1 rfl rfl)
theorem dX1_setStroke_26 : decode cX1_setStroke 26 = .ok (.getfield 13, 3) := dk_180 0 13 (dk_at dksX1_setStroke_1 2 rfl rfl)
theorem dX1_setStroke_29 : decode cX1_setStroke 29 = .ok (.iload_n 1, 1) := dk_27 (dk_at dksX1_setStroke_1 5 rfl rfl)
theorem dX1_setStroke_30 : decode cX1_setStroke 30 = .ok (.iload_n 2, 1) := dk_28 (dk_at dksX1_setStroke_1 6 rfl rfl)
theorem dX1_setStroke_31 : decode cX1_setStroke 31 = .ok (.iastore, 1) := dk_79 (dk_at dksX1_setStroke_1 7 rfl rfl)
theorem dX1_setStroke_32 : decode cX1_setStroke 32 = .ok (.aload_n 0, 1) := dk_42 (dk_at dksX1_setStroke_1 8 rfl rfl)
theorem dX1_setStroke_33 : decode cX1_setStroke 33 = .ok (.invokevirtual 99, 3) := dk_182 0 99 (dk_at dksX1_setStroke_1 9 rfl rfl)
theorem dX1_setStroke_36 : decode cX1_setStroke 36 = .ok (.iload_n 3, 1) := dk_29 (dk_at dksX1_setStroke_1 12 rfl rfl)
theorem dX1_setStroke_37 : decode cX1_setStroke 37 = .ok (.ireturn, 1) := dk_172 (dk_at dksX1_setStroke_1 13 rfl rfl)
abbrev cX1_setFault : ByteArray := prog_1_method_27_code
def yX1_setFault : MethodName := ⟨RX1, "setFault", "(IIZ)Z"⟩
def dkwX1_setFault_3 : List UInt8 := [27, 42, 180, 0, 17, 27, 46, 79, 21, 4, 172]
abbrev dktX1_setFault_3 : List UInt8 := dkwX1_setFault_3 ++ []
def dkwX1_setFault_2 : List UInt8 := [128, 167, 0, 15, 42, 180, 0, 17, 27, 46, 4, 28, 120, 2, 130, 126, 79, 42, 180, 0, 38, 180, 0, 72]
abbrev dktX1_setFault_2 : List UInt8 := dkwX1_setFault_2 ++ dktX1_setFault_3
def dkwX1_setFault_1 : List UInt8 := [28, 184, 0, 173, 54, 4, 42, 180, 0, 17, 27, 29, 153, 0, 16, 42, 180, 0, 17, 27, 46, 4, 28, 120]
abbrev dktX1_setFault_1 : List UInt8 := dkwX1_setFault_1 ++ dktX1_setFault_2
def dkwX1_setFault_0 : List UInt8 := [27, 16, 6, 184, 0, 111, 28, 133, 9, 20, 0, 171, 184, 0, 42, 184, 0, 63, 42, 180, 0, 17, 27, 46]
abbrev dktX1_setFault_0 : List UInt8 := dkwX1_setFault_0 ++ dktX1_setFault_1
theorem dksX1_setFault_0 : cX1_setFault.data.toList.drop 0 = dktX1_setFault_0 := by decide +kernel
theorem dksX1_setFault_1 : cX1_setFault.data.toList.drop 24 = dktX1_setFault_1 := dk_seg dksX1_setFault_0 24 rfl rfl
theorem dksX1_setFault_2 : cX1_setFault.data.toList.drop 48 = dktX1_setFault_2 := dk_seg dksX1_setFault_1 24 rfl rfl
theorem dksX1_setFault_3 : cX1_setFault.data.toList.drop 72 = dktX1_setFault_3 := dk_seg dksX1_setFault_2 24 rfl rfl
theorem dX1_setFault_0 : decode cX1_setFault 0 = .ok (.iload_n 1, 1) := dk_27 (dk_at dksX1_setFault_0 0 rfl rfl)
theorem dX1_setFault_1 : decode cX1_setFault 1 = .ok (.bipush 6, 2) := dk_16 6 (dk_at dksX1_setFault_0 1 rfl rfl)
theorem dX1_setFault_3 : decode cX1_setFault 3 = .ok (.invokestatic 111, 3) := dk_184 0 111 (dk_at dksX1_setFault_0 3 rfl rfl)
theorem dX1_setFault_6 : decode cX1_setFault 6 = .ok (.iload_n 2, 1) := dk_28 (dk_at dksX1_setFault_0 6 rfl rfl)
theorem dX1_setFault_7 : decode cX1_setFault 7 = .ok (.i2l, 1) := dk_133 (dk_at dksX1_setFault_0 7 rfl rfl)
theorem dX1_setFault_8 : decode cX1_setFault 8 = .ok (.lconst 0, 1) := dk_9 (dk_at dksX1_setFault_0 8 rfl rfl)
theorem dX1_setFault_9 : decode cX1_setFault 9 = .ok (.ldc2_w 171, 3) := dk_20 0 171 (dk_at dksX1_setFault_0 9 rfl rfl)
theorem dX1_setFault_12 : decode cX1_setFault 12 = .ok (.invokestatic 42, 3) := dk_184 0 42 (dk_at dksX1_setFault_0 12 rfl rfl)
theorem dX1_setFault_15 : decode cX1_setFault 15 = .ok (.invokestatic 63, 3) := dk_184 0 63 (dk_at dksX1_setFault_0 15 rfl rfl)
theorem dX1_setFault_18 : decode cX1_setFault 18 = .ok (.aload_n 0, 1) := dk_42 (dk_at dksX1_setFault_0 18 rfl rfl)
theorem dX1_setFault_19 : decode cX1_setFault 19 = .ok (.getfield 17, 3) := dk_180 0 17 (dk_at dksX1_setFault_0 19 rfl rfl)
theorem dX1_setFault_22 : decode cX1_setFault 22 = .ok (.iload_n 1, 1) := dk_27 (dk_at dksX1_setFault_0 22 rfl rfl)
theorem dX1_setFault_23 : decode cX1_setFault 23 = .ok (.iaload, 1) := dk_46 (dk_at dksX1_setFault_0 23 rfl rfl)
theorem dX1_setFault_24 : decode cX1_setFault 24 = .ok (.iload_n 2, 1) := dk_28 (dk_at dksX1_setFault_1 0 rfl rfl)
theorem dX1_setFault_25 : decode cX1_setFault 25 = .ok (.invokestatic 173, 3) := dk_184 0 173 (dk_at dksX1_setFault_1 1 rfl rfl)
theorem dX1_setFault_28 : decode cX1_setFault 28 = .ok (.istore 4, 2) := dk_54 4 (dk_at dksX1_setFault_1 4 rfl rfl)
theorem dX1_setFault_30 : decode cX1_setFault 30 = .ok (.aload_n 0, 1) := dk_42 (dk_at dksX1_setFault_1 6 rfl rfl)
theorem dX1_setFault_31 : decode cX1_setFault 31 = .ok (.getfield 17, 3) := dk_180 0 17 (dk_at dksX1_setFault_1 7 rfl rfl)
theorem dX1_setFault_34 : decode cX1_setFault 34 = .ok (.iload_n 1, 1) := dk_27 (dk_at dksX1_setFault_1 10 rfl rfl)
theorem dX1_setFault_35 : decode cX1_setFault 35 = .ok (.iload_n 3, 1) := dk_29 (dk_at dksX1_setFault_1 11 rfl rfl)
theorem dX1_setFault_36 : decode cX1_setFault 36 = .ok (.ifCond .eq 16, 3) := dk_153 0 16 (dk_at dksX1_setFault_1 12 rfl rfl)
theorem dX1_setFault_39 : decode cX1_setFault 39 = .ok (.aload_n 0, 1) := dk_42 (dk_at dksX1_setFault_1 15 rfl rfl)
theorem dX1_setFault_40 : decode cX1_setFault 40 = .ok (.getfield 17, 3) := dk_180 0 17 (dk_at dksX1_setFault_1 16 rfl rfl)
theorem dX1_setFault_43 : decode cX1_setFault 43 = .ok (.iload_n 1, 1) := dk_27 (dk_at dksX1_setFault_1 19 rfl rfl)
theorem dX1_setFault_44 : decode cX1_setFault 44 = .ok (.iaload, 1) := dk_46 (dk_at dksX1_setFault_1 20 rfl rfl)
theorem dX1_setFault_45 : decode cX1_setFault 45 = .ok (.iconst 1, 1) := dk_4 (dk_at dksX1_setFault_1 21 rfl rfl)
theorem dX1_setFault_46 : decode cX1_setFault 46 = .ok (.iload_n 2, 1) := dk_28 (dk_at dksX1_setFault_1 22 rfl rfl)
theorem dX1_setFault_47 : decode cX1_setFault 47 = .ok (.ishl, 1) := dk_120 (dk_at dksX1_setFault_1 23 rfl rfl)
theorem dX1_setFault_48 : decode cX1_setFault 48 = .ok (.ior, 1) := dk_128 (dk_at dksX1_setFault_2 0 rfl rfl)
theorem dX1_setFault_49 : decode cX1_setFault 49 = .ok (.goto 15, 3) := dk_167 0 15 (dk_at dksX1_setFault_2 1 rfl rfl)
theorem dX1_setFault_52 : decode cX1_setFault 52 = .ok (.aload_n 0, 1) := dk_42 (dk_at dksX1_setFault_2 4 rfl rfl)
theorem dX1_setFault_53 : decode cX1_setFault 53 = .ok (.getfield 17, 3) := dk_180 0 17 (dk_at dksX1_setFault_2 5 rfl rfl)
theorem dX1_setFault_56 : decode cX1_setFault 56 = .ok (.iload_n 1, 1) := dk_27 (dk_at dksX1_setFault_2 8 rfl rfl)
theorem dX1_setFault_57 : decode cX1_setFault 57 = .ok (.iaload, 1) := dk_46 (dk_at dksX1_setFault_2 9 rfl rfl)
theorem dX1_setFault_58 : decode cX1_setFault 58 = .ok (.iconst 1, 1) := dk_4 (dk_at dksX1_setFault_2 10 rfl rfl)
theorem dX1_setFault_59 : decode cX1_setFault 59 = .ok (.iload_n 2, 1) := dk_28 (dk_at dksX1_setFault_2 11 rfl rfl)
theorem dX1_setFault_60 : decode cX1_setFault 60 = .ok (.ishl, 1) := dk_120 (dk_at dksX1_setFault_2 12 rfl rfl)
theorem dX1_setFault_61 : decode cX1_setFault 61 = .ok (.iconst (-1), 1) := dk_2 (dk_at dksX1_setFault_2 13 rfl rfl)
theorem dX1_setFault_62 : decode cX1_setFault 62 = .ok (.ixor, 1) := dk_130 (dk_at dksX1_setFault_2 14 rfl rfl)
theorem dX1_setFault_63 : decode cX1_setFault 63 = .ok (.iand, 1) := dk_126 (dk_at dksX1_setFault_2 15 rfl rfl)
theorem dX1_setFault_64 : decode cX1_setFault 64 = .ok (.iastore, 1) := dk_79 (dk_at dksX1_setFault_2 16 rfl rfl)
theorem dX1_setFault_65 : decode cX1_setFault 65 = .ok (.aload_n 0, 1) := dk_42 (dk_at dksX1_setFault_2 17 rfl rfl)
theorem dX1_setFault_66 : decode cX1_setFault 66 = .ok (.getfield 38, 3) := dk_180 0 38 (dk_at dksX1_setFault_2 18 rfl rfl)
theorem dX1_setFault_69 : decode cX1_setFault 69 = .ok (.getfield 72, 3) := dk_180 0 72 (dk_at dksX1_setFault_2 21 rfl rfl)
theorem dX1_setFault_72 : decode cX1_setFault 72 = .ok (.iload_n 1, 1) := dk_27 (dk_at dksX1_setFault_3 0 rfl rfl)
theorem dX1_setFault_73 : decode cX1_setFault 73 = .ok (.aload_n 0, 1) := dk_42 (dk_at dksX1_setFault_3 1 rfl rfl)
theorem dX1_setFault_74 : decode cX1_setFault 74 = .ok (.getfield 17, 3) := dk_180 0 17 (dk_at dksX1_setFault_3 2 rfl rfl)
theorem dX1_setFault_77 : decode cX1_setFault 77 = .ok (.iload_n 1, 1) := dk_27 (dk_at dksX1_setFault_3 5 rfl rfl)
theorem dX1_setFault_78 : decode cX1_setFault 78 = .ok (.iaload, 1) := dk_46 (dk_at dksX1_setFault_3 6 rfl rfl)
theorem dX1_setFault_79 : decode cX1_setFault 79 = .ok (.iastore, 1) := dk_79 (dk_at dksX1_setFault_3 7 rfl rfl)
theorem dX1_setFault_80 : decode cX1_setFault 80 = .ok (.iload 4, 2) := dk_21 4 (dk_at dksX1_setFault_3 8 rfl rfl)
theorem dX1_setFault_82 : decode cX1_setFault 82 = .ok (.ireturn, 1) := dk_172 (dk_at dksX1_setFault_3 10 rfl rfl)
abbrev cX1_ticks : ByteArray := prog_1_method_29_code
def yX1_ticks : MethodName := ⟨RX1, "ticks", "(I)I"⟩
def dkwX1_ticks_1 : List UInt8 := [172]
abbrev dktX1_ticks_1 : List UInt8 := dkwX1_ticks_1 ++ []
def dkwX1_ticks_0 : List UInt8 := [27, 133, 9, 20, 0, 180, 184, 0, 42, 184, 0, 63, 42, 182, 0, 131, 42, 180, 0, 38, 27, 182, 0, 182]
abbrev dktX1_ticks_0 : List UInt8 := dkwX1_ticks_0 ++ dktX1_ticks_1
theorem dksX1_ticks_0 : cX1_ticks.data.toList.drop 0 = dktX1_ticks_0 := by decide +kernel
theorem dksX1_ticks_1 : cX1_ticks.data.toList.drop 24 = dktX1_ticks_1 := dk_seg dksX1_ticks_0 24 rfl rfl
theorem dX1_ticks_0 : decode cX1_ticks 0 = .ok (.iload_n 1, 1) := dk_27 (dk_at dksX1_ticks_0 0 rfl rfl)
theorem dX1_ticks_1 : decode cX1_ticks 1 = .ok (.i2l, 1) := dk_133 (dk_at dksX1_ticks_0 1 rfl rfl)
theorem dX1_ticks_2 : decode cX1_ticks 2 = .ok (.lconst 0, 1) := dk_9 (dk_at dksX1_ticks_0 2 rfl rfl)
theorem dX1_ticks_3 : decode cX1_ticks 3 = .ok (.ldc2_w 180, 3) := dk_20 0 180 (dk_at dksX1_ticks_0 3 rfl rfl)
theorem dX1_ticks_6 : decode cX1_ticks 6 = .ok (.invokestatic 42, 3) := dk_184 0 42 (dk_at dksX1_ticks_0 6 rfl rfl)
theorem dX1_ticks_9 : decode cX1_ticks 9 = .ok (.invokestatic 63, 3) := dk_184 0 63 (dk_at dksX1_ticks_0 9 rfl rfl)
theorem dX1_ticks_12 : decode cX1_ticks 12 = .ok (.aload_n 0, 1) := dk_42 (dk_at dksX1_ticks_0 12 rfl rfl)
theorem dX1_ticks_13 : decode cX1_ticks 13 = .ok (.invokevirtual 131, 3) := dk_182 0 131 (dk_at dksX1_ticks_0 13 rfl rfl)
theorem dX1_ticks_16 : decode cX1_ticks 16 = .ok (.aload_n 0, 1) := dk_42 (dk_at dksX1_ticks_0 16 rfl rfl)
theorem dX1_ticks_17 : decode cX1_ticks 17 = .ok (.getfield 38, 3) := dk_180 0 38 (dk_at dksX1_ticks_0 17 rfl rfl)
theorem dX1_ticks_20 : decode cX1_ticks 20 = .ok (.iload_n 1, 1) := dk_27 (dk_at dksX1_ticks_0 20 rfl rfl)
theorem dX1_ticks_21 : decode cX1_ticks 21 = .ok (.invokevirtual 182, 3) := dk_182 0 182 (dk_at dksX1_ticks_0 21 rfl rfl)
theorem dX1_ticks_24 : decode cX1_ticks 24 = .ok (.ireturn, 1) := dk_172 (dk_at dksX1_ticks_1 0 rfl rfl)
abbrev cX1_position : ByteArray := prog_1_method_31_code
def yX1_position : MethodName := ⟨RX1, "position", "(I)I"⟩
def dkwX1_position_0 : List UInt8 := [27, 16, 6, 184, 0, 111, 42, 180, 0, 38, 180, 0, 185, 27, 46, 172]
abbrev dktX1_position_0 : List UInt8 := dkwX1_position_0 ++ []
theorem dksX1_position_0 : cX1_position.data.toList.drop 0 = dktX1_position_0 := by decide +kernel
theorem dX1_position_0 : decode cX1_position 0 = .ok (.iload_n 1, 1) := dk_27 (dk_at dksX1_position_0 0 rfl rfl)
theorem dX1_position_1 : decode cX1_position 1 = .ok (.bipush 6, 2) := dk_16 6 (dk_at dksX1_position_0 1 rfl rfl)
theorem dX1_position_3 : decode cX1_position 3 = .ok (.invokestatic 111, 3) := dk_184 0 111 (dk_at dksX1_position_0 3 rfl rfl)
theorem dX1_position_6 : decode cX1_position 6 = .ok (.aload_n 0, 1) := dk_42 (dk_at dksX1_position_0 6 rfl rfl)
theorem dX1_position_7 : decode cX1_position 7 = .ok (.getfield 38, 3) := dk_180 0 38 (dk_at dksX1_position_0 7 rfl rfl)
theorem dX1_position_10 : decode cX1_position 10 = .ok (.getfield 185, 3) := dk_180 0 185 (dk_at dksX1_position_0 10 rfl rfl)
theorem dX1_position_13 : decode cX1_position 13 = .ok (.iload_n 1, 1) := dk_27 (dk_at dksX1_position_0 13 rfl rfl)
theorem dX1_position_14 : decode cX1_position 14 = .ok (.iaload, 1) := dk_46 (dk_at dksX1_position_0 14 rfl rfl)
theorem dX1_position_15 : decode cX1_position 15 = .ok (.ireturn, 1) := dk_172 (dk_at dksX1_position_0 15 rfl rfl)
abbrev cX1_isOut : ByteArray := prog_1_method_32_code
def yX1_isOut : MethodName := ⟨RX1, "isOut", "(I)Z"⟩
def dkwX1_isOut_0 : List UInt8 := [27, 16, 6, 184, 0, 111, 42, 180, 0, 38, 180, 0, 188, 27, 184, 0, 173, 172]
abbrev dktX1_isOut_0 : List UInt8 := dkwX1_isOut_0 ++ []
theorem dksX1_isOut_0 : cX1_isOut.data.toList.drop 0 = dktX1_isOut_0 := by decide +kernel
theorem dX1_isOut_0 : decode cX1_isOut 0 = .ok (.iload_n 1, 1) := dk_27 (dk_at dksX1_isOut_0 0 rfl rfl)
theorem dX1_isOut_1 : decode cX1_isOut 1 = .ok (.bipush 6, 2) := dk_16 6 (dk_at dksX1_isOut_0 1 rfl rfl)
theorem dX1_isOut_3 : decode cX1_isOut 3 = .ok (.invokestatic 111, 3) := dk_184 0 111 (dk_at dksX1_isOut_0 3 rfl rfl)
theorem dX1_isOut_6 : decode cX1_isOut 6 = .ok (.aload_n 0, 1) := dk_42 (dk_at dksX1_isOut_0 6 rfl rfl)
theorem dX1_isOut_7 : decode cX1_isOut 7 = .ok (.getfield 38, 3) := dk_180 0 38 (dk_at dksX1_isOut_0 7 rfl rfl)
theorem dX1_isOut_10 : decode cX1_isOut 10 = .ok (.getfield 188, 3) := dk_180 0 188 (dk_at dksX1_isOut_0 10 rfl rfl)
theorem dX1_isOut_13 : decode cX1_isOut 13 = .ok (.iload_n 1, 1) := dk_27 (dk_at dksX1_isOut_0 13 rfl rfl)
theorem dX1_isOut_14 : decode cX1_isOut 14 = .ok (.invokestatic 173, 3) := dk_184 0 173 (dk_at dksX1_isOut_0 14 rfl rfl)
theorem dX1_isOut_17 : decode cX1_isOut 17 = .ok (.ireturn, 1) := dk_172 (dk_at dksX1_isOut_0 17 rfl rfl)
abbrev cX1_sensor : ByteArray := prog_1_method_33_code
def yX1_sensor : MethodName := ⟨RX1, "sensor", "(II)Z"⟩
def dkwX1_sensor_0 : List UInt8 := [27, 16, 6, 184, 0, 111, 28, 5, 184, 0, 111, 42, 180, 0, 38, 27, 28, 182, 0, 191, 172]
abbrev dktX1_sensor_0 : List UInt8 := dkwX1_sensor_0 ++ []
theorem dksX1_sensor_0 : cX1_sensor.data.toList.drop 0 = dktX1_sensor_0 := by decide +kernel
theorem dX1_sensor_0 : decode cX1_sensor 0 = .ok (.iload_n 1, 1) := dk_27 (dk_at dksX1_sensor_0 0 rfl rfl)
theorem dX1_sensor_1 : decode cX1_sensor 1 = .ok (.bipush 6, 2) := dk_16 6 (dk_at dksX1_sensor_0 1 rfl rfl)
theorem dX1_sensor_3 : decode cX1_sensor 3 = .ok (.invokestatic 111, 3) := dk_184 0 111 (dk_at dksX1_sensor_0 3 rfl rfl)
theorem dX1_sensor_6 : decode cX1_sensor 6 = .ok (.iload_n 2, 1) := dk_28 (dk_at dksX1_sensor_0 6 rfl rfl)
theorem dX1_sensor_7 : decode cX1_sensor 7 = .ok (.iconst 2, 1) := dk_5 (dk_at dksX1_sensor_0 7 rfl rfl)
theorem dX1_sensor_8 : decode cX1_sensor 8 = .ok (.invokestatic 111, 3) := dk_184 0 111 (dk_at dksX1_sensor_0 8 rfl rfl)
theorem dX1_sensor_11 : decode cX1_sensor 11 = .ok (.aload_n 0, 1) := dk_42 (dk_at dksX1_sensor_0 11 rfl rfl)
theorem dX1_sensor_12 : decode cX1_sensor 12 = .ok (.getfield 38, 3) := dk_180 0 38 (dk_at dksX1_sensor_0 12 rfl rfl)
theorem dX1_sensor_15 : decode cX1_sensor 15 = .ok (.iload_n 1, 1) := dk_27 (dk_at dksX1_sensor_0 15 rfl rfl)
theorem dX1_sensor_16 : decode cX1_sensor 16 = .ok (.iload_n 2, 1) := dk_28 (dk_at dksX1_sensor_0 16 rfl rfl)
theorem dX1_sensor_17 : decode cX1_sensor 17 = .ok (.invokevirtual 191, 3) := dk_182 0 191 (dk_at dksX1_sensor_0 17 rfl rfl)
theorem dX1_sensor_20 : decode cX1_sensor 20 = .ok (.ireturn, 1) := dk_172 (dk_at dksX1_sensor_0 20 rfl rfl)
abbrev cX1_timer : ByteArray := prog_1_method_34_code
def yX1_timer : MethodName := ⟨RX1, "timer", "(I)I"⟩
def dkwX1_timer_0 : List UInt8 := [27, 42, 182, 0, 108, 184, 0, 111, 42, 180, 0, 38, 180, 0, 194, 27, 46, 172]
abbrev dktX1_timer_0 : List UInt8 := dkwX1_timer_0 ++ []
theorem dksX1_timer_0 : cX1_timer.data.toList.drop 0 = dktX1_timer_0 := by decide +kernel
theorem dX1_timer_0 : decode cX1_timer 0 = .ok (.iload_n 1, 1) := dk_27 (dk_at dksX1_timer_0 0 rfl rfl)
theorem dX1_timer_1 : decode cX1_timer 1 = .ok (.aload_n 0, 1) := dk_42 (dk_at dksX1_timer_0 1 rfl rfl)
theorem dX1_timer_2 : decode cX1_timer 2 = .ok (.invokevirtual 108, 3) := dk_182 0 108 (dk_at dksX1_timer_0 2 rfl rfl)
theorem dX1_timer_5 : decode cX1_timer 5 = .ok (.invokestatic 111, 3) := dk_184 0 111 (dk_at dksX1_timer_0 5 rfl rfl)
theorem dX1_timer_8 : decode cX1_timer 8 = .ok (.aload_n 0, 1) := dk_42 (dk_at dksX1_timer_0 8 rfl rfl)
theorem dX1_timer_9 : decode cX1_timer 9 = .ok (.getfield 38, 3) := dk_180 0 38 (dk_at dksX1_timer_0 9 rfl rfl)
theorem dX1_timer_12 : decode cX1_timer 12 = .ok (.getfield 194, 3) := dk_180 0 194 (dk_at dksX1_timer_0 12 rfl rfl)
theorem dX1_timer_15 : decode cX1_timer 15 = .ok (.iload_n 1, 1) := dk_27 (dk_at dksX1_timer_0 15 rfl rfl)
theorem dX1_timer_16 : decode cX1_timer 16 = .ok (.iaload, 1) := dk_46 (dk_at dksX1_timer_0 16 rfl rfl)
theorem dX1_timer_17 : decode cX1_timer 17 = .ok (.ireturn, 1) := dk_172 (dk_at dksX1_timer_0 17 rfl rfl)
abbrev cX1_commands : ByteArray := prog_1_method_36_code
def yX1_commands : MethodName := ⟨RX1, "commands", "(I)I"⟩
def dkwX1_commands_1 : List UInt8 := [3, 42, 180, 0, 38, 180, 0, 209, 27, 184, 0, 173, 153, 0, 7, 5, 167, 0, 4, 3, 96, 172]
abbrev dktX1_commands_1 : List UInt8 := dkwX1_commands_1 ++ []
def dkwX1_commands_0 : List UInt8 := [27, 16, 6, 184, 0, 111, 42, 180, 0, 38, 180, 0, 206, 27, 184, 0, 173, 153, 0, 7, 4, 167, 0, 4]
abbrev dktX1_commands_0 : List UInt8 := dkwX1_commands_0 ++ dktX1_commands_1
theorem dksX1_commands_0 : cX1_commands.data.toList.drop 0 = dktX1_commands_0 := by decide +kernel
theorem dksX1_commands_1 : cX1_commands.data.toList.drop 24 = dktX1_commands_1 := dk_seg dksX1_commands_0 24 rfl rfl
theorem dX1_commands_0 : decode cX1_commands 0 = .ok (.iload_n 1, 1) := dk_27 (dk_at dksX1_commands_0 0 rfl rfl)
theorem dX1_commands_1 : decode cX1_commands 1 = .ok (.bipush 6, 2) := dk_16 6 (dk_at dksX1_commands_0 1 rfl rfl)
theorem dX1_commands_3 : decode cX1_commands 3 = .ok (.invokestatic 111, 3) := dk_184 0 111 (dk_at dksX1_commands_0 3 rfl rfl)
theorem dX1_commands_6 : decode cX1_commands 6 = .ok (.aload_n 0, 1) := dk_42 (dk_at dksX1_commands_0 6 rfl rfl)
theorem dX1_commands_7 : decode cX1_commands 7 = .ok (.getfield 38, 3) := dk_180 0 38 (dk_at dksX1_commands_0 7 rfl rfl)
theorem dX1_commands_10 : decode cX1_commands 10 = .ok (.getfield 206, 3) := dk_180 0 206 (dk_at dksX1_commands_0 10 rfl rfl)
theorem dX1_commands_13 : decode cX1_commands 13 = .ok (.iload_n 1, 1) := dk_27 (dk_at dksX1_commands_0 13 rfl rfl)
theorem dX1_commands_14 : decode cX1_commands 14 = .ok (.invokestatic 173, 3) := dk_184 0 173 (dk_at dksX1_commands_0 14 rfl rfl)
theorem dX1_commands_17 : decode cX1_commands 17 = .ok (.ifCond .eq 7, 3) := dk_153 0 7 (dk_at dksX1_commands_0 17 rfl rfl)
theorem dX1_commands_20 : decode cX1_commands 20 = .ok (.iconst 1, 1) := dk_4 (dk_at dksX1_commands_0 20 rfl rfl)
theorem dX1_commands_21 : decode cX1_commands 21 = .ok (.goto 4, 3) := dk_167 0 4 (dk_at dksX1_commands_0 21 rfl rfl)
theorem dX1_commands_24 : decode cX1_commands 24 = .ok (.iconst 0, 1) := dk_3 (dk_at dksX1_commands_1 0 rfl rfl)
theorem dX1_commands_25 : decode cX1_commands 25 = .ok (.aload_n 0, 1) := dk_42 (dk_at dksX1_commands_1 1 rfl rfl)
theorem dX1_commands_26 : decode cX1_commands 26 = .ok (.getfield 38, 3) := dk_180 0 38 (dk_at dksX1_commands_1 2 rfl rfl)
theorem dX1_commands_29 : decode cX1_commands 29 = .ok (.getfield 209, 3) := dk_180 0 209 (dk_at dksX1_commands_1 5 rfl rfl)
theorem dX1_commands_32 : decode cX1_commands 32 = .ok (.iload_n 1, 1) := dk_27 (dk_at dksX1_commands_1 8 rfl rfl)
theorem dX1_commands_33 : decode cX1_commands 33 = .ok (.invokestatic 173, 3) := dk_184 0 173 (dk_at dksX1_commands_1 9 rfl rfl)
theorem dX1_commands_36 : decode cX1_commands 36 = .ok (.ifCond .eq 7, 3) := dk_153 0 7 (dk_at dksX1_commands_1 12 rfl rfl)
theorem dX1_commands_39 : decode cX1_commands 39 = .ok (.iconst 2, 1) := dk_5 (dk_at dksX1_commands_1 15 rfl rfl)
theorem dX1_commands_40 : decode cX1_commands 40 = .ok (.goto 4, 3) := dk_167 0 4 (dk_at dksX1_commands_1 16 rfl rfl)
theorem dX1_commands_43 : decode cX1_commands 43 = .ok (.iconst 0, 1) := dk_3 (dk_at dksX1_commands_1 19 rfl rfl)
theorem dX1_commands_44 : decode cX1_commands 44 = .ok (.iadd, 1) := dk_96 (dk_at dksX1_commands_1 20 rfl rfl)
theorem dX1_commands_45 : decode cX1_commands 45 = .ok (.ireturn, 1) := dk_172 (dk_at dksX1_commands_1 21 rfl rfl)
abbrev cX1_eventTime : ByteArray := prog_1_method_39_code
def yX1_eventTime : MethodName := ⟨RX1, "eventTime", "(I)I"⟩
def dkwX1_eventTime_0 : List UInt8 := [42, 27, 182, 0, 215, 61, 28, 156, 0, 7, 2, 167, 0, 12, 42, 180, 0, 38, 180, 0, 218, 28, 46, 172]
abbrev dktX1_eventTime_0 : List UInt8 := dkwX1_eventTime_0 ++ []
theorem dksX1_eventTime_0 : cX1_eventTime.data.toList.drop 0 = dktX1_eventTime_0 := by decide +kernel
theorem dX1_eventTime_0 : decode cX1_eventTime 0 = .ok (.aload_n 0, 1) := dk_42 (dk_at dksX1_eventTime_0 0 rfl rfl)
theorem dX1_eventTime_1 : decode cX1_eventTime 1 = .ok (.iload_n 1, 1) := dk_27 (dk_at dksX1_eventTime_0 1 rfl rfl)
theorem dX1_eventTime_2 : decode cX1_eventTime 2 = .ok (.invokevirtual 215, 3) := dk_182 0 215 (dk_at dksX1_eventTime_0 2 rfl rfl)
theorem dX1_eventTime_5 : decode cX1_eventTime 5 = .ok (.istore_n 2, 1) := dk_61 (dk_at dksX1_eventTime_0 5 rfl rfl)
theorem dX1_eventTime_6 : decode cX1_eventTime 6 = .ok (.iload_n 2, 1) := dk_28 (dk_at dksX1_eventTime_0 6 rfl rfl)
theorem dX1_eventTime_7 : decode cX1_eventTime 7 = .ok (.ifCond .ge 7, 3) := dk_156 0 7 (dk_at dksX1_eventTime_0 7 rfl rfl)
theorem dX1_eventTime_10 : decode cX1_eventTime 10 = .ok (.iconst (-1), 1) := dk_2 (dk_at dksX1_eventTime_0 10 rfl rfl)
theorem dX1_eventTime_11 : decode cX1_eventTime 11 = .ok (.goto 12, 3) := dk_167 0 12 (dk_at dksX1_eventTime_0 11 rfl rfl)
theorem dX1_eventTime_14 : decode cX1_eventTime 14 = .ok (.aload_n 0, 1) := dk_42 (dk_at dksX1_eventTime_0 14 rfl rfl)
theorem dX1_eventTime_15 : decode cX1_eventTime 15 = .ok (.getfield 38, 3) := dk_180 0 38 (dk_at dksX1_eventTime_0 15 rfl rfl)
theorem dX1_eventTime_18 : decode cX1_eventTime 18 = .ok (.getfield 218, 3) := dk_180 0 218 (dk_at dksX1_eventTime_0 18 rfl rfl)
theorem dX1_eventTime_21 : decode cX1_eventTime 21 = .ok (.iload_n 2, 1) := dk_28 (dk_at dksX1_eventTime_0 21 rfl rfl)
theorem dX1_eventTime_22 : decode cX1_eventTime 22 = .ok (.iaload, 1) := dk_46 (dk_at dksX1_eventTime_0 22 rfl rfl)
theorem dX1_eventTime_23 : decode cX1_eventTime 23 = .ok (.ireturn, 1) := dk_172 (dk_at dksX1_eventTime_0 23 rfl rfl)
abbrev cX1_placeOf : ByteArray := prog_1_method_38_code
def yX1_placeOf : MethodName := ⟨RX1, "placeOf", "(I)I"⟩
def dkwX1_placeOf_2 : List UInt8 := [172]
abbrev dktX1_placeOf_2 : List UInt8 := dkwX1_placeOf_2 ++ []
def dkwX1_placeOf_1 : List UInt8 := [180, 0, 212, 162, 0, 20, 42, 180, 0, 38, 180, 0, 212, 4, 100, 27, 100, 16, 40, 112, 167, 0, 4, 2]
abbrev dktX1_placeOf_1 : List UInt8 := dkwX1_placeOf_1 ++ dktX1_placeOf_2
def dkwX1_placeOf_0 : List UInt8 := [27, 156, 0, 11, 187, 0, 46, 89, 183, 0, 48, 191, 27, 16, 40, 162, 0, 31, 27, 42, 180, 0, 38]
abbrev dktX1_placeOf_0 : List UInt8 := dkwX1_placeOf_0 ++ dktX1_placeOf_1
theorem dksX1_placeOf_0 : cX1_placeOf.data.toList.drop 0 = dktX1_placeOf_0 := by decide +kernel
theorem dksX1_placeOf_1 : cX1_placeOf.data.toList.drop 23 = dktX1_placeOf_1 := dk_seg dksX1_placeOf_0 23 rfl rfl
theorem dksX1_placeOf_2 : cX1_placeOf.data.toList.drop 47 = dktX1_placeOf_2 := dk_seg dksX1_placeOf_1 24 rfl rfl
theorem dX1_placeOf_0 : decode cX1_placeOf 0 = .ok (.iload_n 1, 1) := dk_27 (dk_at dksX1_placeOf_0 0 rfl rfl)
theorem dX1_placeOf_1 : decode cX1_placeOf 1 = .ok (.ifCond .ge 11, 3) := dk_156 0 11 (dk_at dksX1_placeOf_0 1 rfl rfl)
theorem dX1_placeOf_4 : decode cX1_placeOf 4 = .ok (.new 46, 3) := dk_187 0 46 (dk_at dksX1_placeOf_0 4 rfl rfl)
theorem dX1_placeOf_7 : decode cX1_placeOf 7 = .ok (.dup, 1) := dk_89 (dk_at dksX1_placeOf_0 7 rfl rfl)
theorem dX1_placeOf_8 : decode cX1_placeOf 8 = .ok (.invokespecial 48, 3) := dk_183 0 48 (dk_at dksX1_placeOf_0 8 rfl rfl)
theorem dX1_placeOf_11 : decode cX1_placeOf 11 = .ok (.athrow, 1) := dk_191 (dk_at dksX1_placeOf_0 11 rfl rfl)
theorem dX1_placeOf_12 : decode cX1_placeOf 12 = .ok (.iload_n 1, 1) := dk_27 (dk_at dksX1_placeOf_0 12 rfl rfl)
theorem dX1_placeOf_13 : decode cX1_placeOf 13 = .ok (.bipush 40, 2) := dk_16 40 (dk_at dksX1_placeOf_0 13 rfl rfl)
theorem dX1_placeOf_15 : decode cX1_placeOf 15 = .ok (.if_icmp .ge 31, 3) := dk_162 0 31 (dk_at dksX1_placeOf_0 15 rfl rfl)
theorem dX1_placeOf_18 : decode cX1_placeOf 18 = .ok (.iload_n 1, 1) := dk_27 (dk_at dksX1_placeOf_0 18 rfl rfl)
theorem dX1_placeOf_19 : decode cX1_placeOf 19 = .ok (.aload_n 0, 1) := dk_42 (dk_at dksX1_placeOf_0 19 rfl rfl)
theorem dX1_placeOf_20 : decode cX1_placeOf 20 = .ok (.getfield 38, 3) := dk_180 0 38 (dk_at dksX1_placeOf_0 20 rfl rfl)
theorem dX1_placeOf_23 : decode cX1_placeOf 23 = .ok (.getfield 212, 3) := dk_180 0 212 (dk_at dksX1_placeOf_1 0 rfl rfl)
theorem dX1_placeOf_26 : decode cX1_placeOf 26 = .ok (.if_icmp .ge 20, 3) := dk_162 0 20 (dk_at dksX1_placeOf_1 3 rfl rfl)
theorem dX1_placeOf_29 : decode cX1_placeOf 29 = .ok (.aload_n 0, 1) := dk_42 (dk_at dksX1_placeOf_1 6 rfl rfl)
theorem dX1_placeOf_30 : decode cX1_placeOf 30 = .ok (.getfield 38, 3) := dk_180 0 38 (dk_at dksX1_placeOf_1 7 rfl rfl)
theorem dX1_placeOf_33 : decode cX1_placeOf 33 = .ok (.getfield 212, 3) := dk_180 0 212 (dk_at dksX1_placeOf_1 10 rfl rfl)
theorem dX1_placeOf_36 : decode cX1_placeOf 36 = .ok (.iconst 1, 1) := dk_4 (dk_at dksX1_placeOf_1 13 rfl rfl)
theorem dX1_placeOf_37 : decode cX1_placeOf 37 = .ok (.isub, 1) := dk_100 (dk_at dksX1_placeOf_1 14 rfl rfl)
theorem dX1_placeOf_38 : decode cX1_placeOf 38 = .ok (.iload_n 1, 1) := dk_27 (dk_at dksX1_placeOf_1 15 rfl rfl)
theorem dX1_placeOf_39 : decode cX1_placeOf 39 = .ok (.isub, 1) := dk_100 (dk_at dksX1_placeOf_1 16 rfl rfl)
theorem dX1_placeOf_40 : decode cX1_placeOf 40 = .ok (.bipush 40, 2) := dk_16 40 (dk_at dksX1_placeOf_1 17 rfl rfl)
theorem dX1_placeOf_42 : decode cX1_placeOf 42 = .ok (.irem, 1) := dk_112 (dk_at dksX1_placeOf_1 19 rfl rfl)
theorem dX1_placeOf_43 : decode cX1_placeOf 43 = .ok (.goto 4, 3) := dk_167 0 4 (dk_at dksX1_placeOf_1 20 rfl rfl)
theorem dX1_placeOf_46 : decode cX1_placeOf 46 = .ok (.iconst (-1), 1) := dk_2 (dk_at dksX1_placeOf_1 23 rfl rfl)
theorem dX1_placeOf_47 : decode cX1_placeOf 47 = .ok (.ireturn, 1) := dk_172 (dk_at dksX1_placeOf_2 0 rfl rfl)
abbrev cX1_eventMove : ByteArray := prog_1_method_40_code
def yX1_eventMove : MethodName := ⟨RX1, "eventMove", "(I)I"⟩
def dkwX1_eventMove_0 : List UInt8 := [42, 27, 182, 0, 215, 61, 28, 156, 0, 7, 2, 167, 0, 12, 42, 180, 0, 38, 180, 0, 221, 28, 46, 172]
abbrev dktX1_eventMove_0 : List UInt8 := dkwX1_eventMove_0 ++ []
theorem dksX1_eventMove_0 : cX1_eventMove.data.toList.drop 0 = dktX1_eventMove_0 := by decide +kernel
theorem dX1_eventMove_0 : decode cX1_eventMove 0 = .ok (.aload_n 0, 1) := dk_42 (dk_at dksX1_eventMove_0 0 rfl rfl)
theorem dX1_eventMove_1 : decode cX1_eventMove 1 = .ok (.iload_n 1, 1) := dk_27 (dk_at dksX1_eventMove_0 1 rfl rfl)
theorem dX1_eventMove_2 : decode cX1_eventMove 2 = .ok (.invokevirtual 215, 3) := dk_182 0 215 (dk_at dksX1_eventMove_0 2 rfl rfl)
theorem dX1_eventMove_5 : decode cX1_eventMove 5 = .ok (.istore_n 2, 1) := dk_61 (dk_at dksX1_eventMove_0 5 rfl rfl)
theorem dX1_eventMove_6 : decode cX1_eventMove 6 = .ok (.iload_n 2, 1) := dk_28 (dk_at dksX1_eventMove_0 6 rfl rfl)
theorem dX1_eventMove_7 : decode cX1_eventMove 7 = .ok (.ifCond .ge 7, 3) := dk_156 0 7 (dk_at dksX1_eventMove_0 7 rfl rfl)
theorem dX1_eventMove_10 : decode cX1_eventMove 10 = .ok (.iconst (-1), 1) := dk_2 (dk_at dksX1_eventMove_0 10 rfl rfl)
theorem dX1_eventMove_11 : decode cX1_eventMove 11 = .ok (.goto 12, 3) := dk_167 0 12 (dk_at dksX1_eventMove_0 11 rfl rfl)
theorem dX1_eventMove_14 : decode cX1_eventMove 14 = .ok (.aload_n 0, 1) := dk_42 (dk_at dksX1_eventMove_0 14 rfl rfl)
theorem dX1_eventMove_15 : decode cX1_eventMove 15 = .ok (.getfield 38, 3) := dk_180 0 38 (dk_at dksX1_eventMove_0 15 rfl rfl)
theorem dX1_eventMove_18 : decode cX1_eventMove 18 = .ok (.getfield 221, 3) := dk_180 0 221 (dk_at dksX1_eventMove_0 18 rfl rfl)
theorem dX1_eventMove_21 : decode cX1_eventMove 21 = .ok (.iload_n 2, 1) := dk_28 (dk_at dksX1_eventMove_0 21 rfl rfl)
theorem dX1_eventMove_22 : decode cX1_eventMove 22 = .ok (.iaload, 1) := dk_46 (dk_at dksX1_eventMove_0 22 rfl rfl)
theorem dX1_eventMove_23 : decode cX1_eventMove 23 = .ok (.ireturn, 1) := dk_172 (dk_at dksX1_eventMove_0 23 rfl rfl)
abbrev cX1_works : ByteArray := prog_1_method_45_code
def yX1_works : MethodName := ⟨RX1, "works", "(I)Z"⟩
def dkwX1_works_1 : List UInt8 := [182, 0, 237, 172]
abbrev dktX1_works_1 : List UInt8 := dkwX1_works_1 ++ []
def dkwX1_works_0 : List UInt8 := [27, 133, 9, 20, 0, 156, 184, 0, 42, 184, 0, 63, 42, 182, 0, 131, 42, 27, 184, 0, 158, 182, 0, 233]
abbrev dktX1_works_0 : List UInt8 := dkwX1_works_0 ++ dktX1_works_1
theorem dksX1_works_0 : cX1_works.data.toList.drop 0 = dktX1_works_0 := by decide +kernel
theorem dksX1_works_1 : cX1_works.data.toList.drop 24 = dktX1_works_1 := dk_seg dksX1_works_0 24 rfl rfl
theorem dX1_works_0 : decode cX1_works 0 = .ok (.iload_n 1, 1) := dk_27 (dk_at dksX1_works_0 0 rfl rfl)
theorem dX1_works_1 : decode cX1_works 1 = .ok (.i2l, 1) := dk_133 (dk_at dksX1_works_0 1 rfl rfl)
theorem dX1_works_2 : decode cX1_works 2 = .ok (.lconst 0, 1) := dk_9 (dk_at dksX1_works_0 2 rfl rfl)
theorem dX1_works_3 : decode cX1_works 3 = .ok (.ldc2_w 156, 3) := dk_20 0 156 (dk_at dksX1_works_0 3 rfl rfl)
theorem dX1_works_6 : decode cX1_works 6 = .ok (.invokestatic 42, 3) := dk_184 0 42 (dk_at dksX1_works_0 6 rfl rfl)
theorem dX1_works_9 : decode cX1_works 9 = .ok (.invokestatic 63, 3) := dk_184 0 63 (dk_at dksX1_works_0 9 rfl rfl)
theorem dX1_works_12 : decode cX1_works 12 = .ok (.aload_n 0, 1) := dk_42 (dk_at dksX1_works_0 12 rfl rfl)
theorem dX1_works_13 : decode cX1_works 13 = .ok (.invokevirtual 131, 3) := dk_182 0 131 (dk_at dksX1_works_0 13 rfl rfl)
theorem dX1_works_16 : decode cX1_works 16 = .ok (.aload_n 0, 1) := dk_42 (dk_at dksX1_works_0 16 rfl rfl)
theorem dX1_works_17 : decode cX1_works 17 = .ok (.iload_n 1, 1) := dk_27 (dk_at dksX1_works_0 17 rfl rfl)
theorem dX1_works_18 : decode cX1_works 18 = .ok (.invokestatic 158, 3) := dk_184 0 158 (dk_at dksX1_works_0 18 rfl rfl)
theorem dX1_works_21 : decode cX1_works 21 = .ok (.invokevirtual 233, 3) := dk_182 0 233 (dk_at dksX1_works_0 21 rfl rfl)
theorem dX1_works_24 : decode cX1_works 24 = .ok (.invokevirtual 237, 3) := dk_182 0 237 (dk_at dksX1_works_1 0 rfl rfl)
theorem dX1_works_27 : decode cX1_works 27 = .ok (.ireturn, 1) := dk_172 (dk_at dksX1_works_1 3 rfl rfl)
abbrev cX1_trial : ByteArray := prog_1_method_44_code
def yX1_trial : MethodName := ⟨RX1, "trial", "(LSequenceBench$Method;)LSequenceBench$Rig;"⟩
def dkwX1_trial_0 : List UInt8 := [187, 0, 33, 89, 42, 180, 0, 52, 43, 42, 180, 0, 13, 183, 0, 35, 176]
abbrev dktX1_trial_0 : List UInt8 := dkwX1_trial_0 ++ []
theorem dksX1_trial_0 : cX1_trial.data.toList.drop 0 = dktX1_trial_0 := by decide +kernel
theorem dX1_trial_0 : decode cX1_trial 0 = .ok (.new 33, 3) := dk_187 0 33 (dk_at dksX1_trial_0 0 rfl rfl)
theorem dX1_trial_3 : decode cX1_trial 3 = .ok (.dup, 1) := dk_89 (dk_at dksX1_trial_0 3 rfl rfl)
theorem dX1_trial_4 : decode cX1_trial 4 = .ok (.aload_n 0, 1) := dk_42 (dk_at dksX1_trial_0 4 rfl rfl)
theorem dX1_trial_5 : decode cX1_trial 5 = .ok (.getfield 52, 3) := dk_180 0 52 (dk_at dksX1_trial_0 5 rfl rfl)
theorem dX1_trial_8 : decode cX1_trial 8 = .ok (.aload_n 1, 1) := dk_43 (dk_at dksX1_trial_0 8 rfl rfl)
theorem dX1_trial_9 : decode cX1_trial 9 = .ok (.aload_n 0, 1) := dk_42 (dk_at dksX1_trial_0 9 rfl rfl)
theorem dX1_trial_10 : decode cX1_trial 10 = .ok (.getfield 13, 3) := dk_180 0 13 (dk_at dksX1_trial_0 10 rfl rfl)
theorem dX1_trial_13 : decode cX1_trial 13 = .ok (.invokespecial 35, 3) := dk_183 0 35 (dk_at dksX1_trial_0 13 rfl rfl)
theorem dX1_trial_16 : decode cX1_trial 16 = .ok (.areturn, 1) := dk_176 (dk_at dksX1_trial_0 16 rfl rfl)
abbrev cX1_cycleTime : ByteArray := prog_1_method_46_code
def yX1_cycleTime : MethodName := ⟨RX1, "cycleTime", "(I)I"⟩
def dkwX1_cycleTime_1 : List UInt8 := [77, 44, 182, 0, 237, 153, 0, 15, 44, 180, 0, 241, 44, 180, 0, 244, 100, 167, 0, 4, 2, 172]
abbrev dktX1_cycleTime_1 : List UInt8 := dkwX1_cycleTime_1 ++ []
def dkwX1_cycleTime_0 : List UInt8 := [27, 133, 9, 20, 0, 156, 184, 0, 42, 184, 0, 63, 42, 182, 0, 131, 42, 27, 184, 0, 158, 182, 0, 233]
abbrev dktX1_cycleTime_0 : List UInt8 := dkwX1_cycleTime_0 ++ dktX1_cycleTime_1
theorem dksX1_cycleTime_0 : cX1_cycleTime.data.toList.drop 0 = dktX1_cycleTime_0 := by decide +kernel
theorem dksX1_cycleTime_1 : cX1_cycleTime.data.toList.drop 24 = dktX1_cycleTime_1 := dk_seg dksX1_cycleTime_0 24 rfl rfl
theorem dX1_cycleTime_0 : decode cX1_cycleTime 0 = .ok (.iload_n 1, 1) := dk_27 (dk_at dksX1_cycleTime_0 0 rfl rfl)
theorem dX1_cycleTime_1 : decode cX1_cycleTime 1 = .ok (.i2l, 1) := dk_133 (dk_at dksX1_cycleTime_0 1 rfl rfl)
theorem dX1_cycleTime_2 : decode cX1_cycleTime 2 = .ok (.lconst 0, 1) := dk_9 (dk_at dksX1_cycleTime_0 2 rfl rfl)
theorem dX1_cycleTime_3 : decode cX1_cycleTime 3 = .ok (.ldc2_w 156, 3) := dk_20 0 156 (dk_at dksX1_cycleTime_0 3 rfl rfl)
theorem dX1_cycleTime_6 : decode cX1_cycleTime 6 = .ok (.invokestatic 42, 3) := dk_184 0 42 (dk_at dksX1_cycleTime_0 6 rfl rfl)
theorem dX1_cycleTime_9 : decode cX1_cycleTime 9 = .ok (.invokestatic 63, 3) := dk_184 0 63 (dk_at dksX1_cycleTime_0 9 rfl rfl)
theorem dX1_cycleTime_12 : decode cX1_cycleTime 12 = .ok (.aload_n 0, 1) := dk_42 (dk_at dksX1_cycleTime_0 12 rfl rfl)
theorem dX1_cycleTime_13 : decode cX1_cycleTime 13 = .ok (.invokevirtual 131, 3) := dk_182 0 131 (dk_at dksX1_cycleTime_0 13 rfl rfl)
theorem dX1_cycleTime_16 : decode cX1_cycleTime 16 = .ok (.aload_n 0, 1) := dk_42 (dk_at dksX1_cycleTime_0 16 rfl rfl)
theorem dX1_cycleTime_17 : decode cX1_cycleTime 17 = .ok (.iload_n 1, 1) := dk_27 (dk_at dksX1_cycleTime_0 17 rfl rfl)
theorem dX1_cycleTime_18 : decode cX1_cycleTime 18 = .ok (.invokestatic 158, 3) := dk_184 0 158 (dk_at dksX1_cycleTime_0 18 rfl rfl)
theorem dX1_cycleTime_21 : decode cX1_cycleTime 21 = .ok (.invokevirtual 233, 3) := dk_182 0 233 (dk_at dksX1_cycleTime_0 21 rfl rfl)
theorem dX1_cycleTime_24 : decode cX1_cycleTime 24 = .ok (.astore_n 2, 1) := dk_77 (dk_at dksX1_cycleTime_1 0 rfl rfl)
theorem dX1_cycleTime_25 : decode cX1_cycleTime 25 = .ok (.aload_n 2, 1) := dk_44 (dk_at dksX1_cycleTime_1 1 rfl rfl)
theorem dX1_cycleTime_26 : decode cX1_cycleTime 26 = .ok (.invokevirtual 237, 3) := dk_182 0 237 (dk_at dksX1_cycleTime_1 2 rfl rfl)
theorem dX1_cycleTime_29 : decode cX1_cycleTime 29 = .ok (.ifCond .eq 15, 3) := dk_153 0 15 (dk_at dksX1_cycleTime_1 5 rfl rfl)
theorem dX1_cycleTime_32 : decode cX1_cycleTime 32 = .ok (.aload_n 2, 1) := dk_44 (dk_at dksX1_cycleTime_1 8 rfl rfl)
theorem dX1_cycleTime_33 : decode cX1_cycleTime 33 = .ok (.getfield 241, 3) := dk_180 0 241 (dk_at dksX1_cycleTime_1 9 rfl rfl)
theorem dX1_cycleTime_36 : decode cX1_cycleTime 36 = .ok (.aload_n 2, 1) := dk_44 (dk_at dksX1_cycleTime_1 12 rfl rfl)
theorem dX1_cycleTime_37 : decode cX1_cycleTime 37 = .ok (.getfield 244, 3) := dk_180 0 244 (dk_at dksX1_cycleTime_1 13 rfl rfl)
theorem dX1_cycleTime_40 : decode cX1_cycleTime 40 = .ok (.isub, 1) := dk_100 (dk_at dksX1_cycleTime_1 16 rfl rfl)
theorem dX1_cycleTime_41 : decode cX1_cycleTime 41 = .ok (.goto 4, 3) := dk_167 0 4 (dk_at dksX1_cycleTime_1 17 rfl rfl)
theorem dX1_cycleTime_44 : decode cX1_cycleTime 44 = .ok (.iconst (-1), 1) := dk_2 (dk_at dksX1_cycleTime_1 20 rfl rfl)
theorem dX1_cycleTime_45 : decode cX1_cycleTime 45 = .ok (.ireturn, 1) := dk_172 (dk_at dksX1_cycleTime_1 21 rfl rfl)
abbrev cX1_cheapest : ByteArray := prog_1_method_47_code
def yX1_cheapest : MethodName := ⟨RX1, "cheapest", "()I"⟩
def dkwX1_cheapest_3 : List UInt8 := [167, 255, 195, 27, 172]
abbrev dktX1_cheapest_3 : List UInt8 := dkwX1_cheapest_3 ++ []
def dkwX1_cheapest_2 : List UInt8 := [42, 28, 184, 0, 158, 182, 0, 233, 182, 0, 237, 153, 0, 7, 28, 167, 0, 4, 27, 60, 132, 2, 1]
abbrev dktX1_cheapest_2 : List UInt8 := dkwX1_cheapest_2 ++ dktX1_cheapest_3
def dkwX1_cheapest_1 : List UInt8 := [182, 0, 162, 42, 27, 184, 0, 158, 182, 0, 162, 162, 0, 7, 4, 167, 0, 4, 3, 62, 29, 153, 0, 21]
abbrev dktX1_cheapest_1 : List UInt8 := dkwX1_cheapest_1 ++ dktX1_cheapest_2
def dkwX1_cheapest_0 : List UInt8 := [42, 182, 0, 131, 2, 60, 3, 61, 28, 6, 162, 0, 62, 27, 155, 0, 22, 42, 28, 184, 0, 158]
abbrev dktX1_cheapest_0 : List UInt8 := dkwX1_cheapest_0 ++ dktX1_cheapest_1
theorem dksX1_cheapest_0 : cX1_cheapest.data.toList.drop 0 = dktX1_cheapest_0 := by decide +kernel
theorem dksX1_cheapest_1 : cX1_cheapest.data.toList.drop 22 = dktX1_cheapest_1 := dk_seg dksX1_cheapest_0 22 rfl rfl
theorem dksX1_cheapest_2 : cX1_cheapest.data.toList.drop 46 = dktX1_cheapest_2 := dk_seg dksX1_cheapest_1 24 rfl rfl
theorem dksX1_cheapest_3 : cX1_cheapest.data.toList.drop 69 = dktX1_cheapest_3 := dk_seg dksX1_cheapest_2 23 rfl rfl
theorem dX1_cheapest_0 : decode cX1_cheapest 0 = .ok (.aload_n 0, 1) := dk_42 (dk_at dksX1_cheapest_0 0 rfl rfl)
theorem dX1_cheapest_1 : decode cX1_cheapest 1 = .ok (.invokevirtual 131, 3) := dk_182 0 131 (dk_at dksX1_cheapest_0 1 rfl rfl)
theorem dX1_cheapest_4 : decode cX1_cheapest 4 = .ok (.iconst (-1), 1) := dk_2 (dk_at dksX1_cheapest_0 4 rfl rfl)
theorem dX1_cheapest_5 : decode cX1_cheapest 5 = .ok (.istore_n 1, 1) := dk_60 (dk_at dksX1_cheapest_0 5 rfl rfl)
theorem dX1_cheapest_6 : decode cX1_cheapest 6 = .ok (.iconst 0, 1) := dk_3 (dk_at dksX1_cheapest_0 6 rfl rfl)
theorem dX1_cheapest_7 : decode cX1_cheapest 7 = .ok (.istore_n 2, 1) := dk_61 (dk_at dksX1_cheapest_0 7 rfl rfl)
theorem dX1_cheapest_8 : decode cX1_cheapest 8 = .ok (.iload_n 2, 1) := dk_28 (dk_at dksX1_cheapest_0 8 rfl rfl)
theorem dX1_cheapest_9 : decode cX1_cheapest 9 = .ok (.iconst 3, 1) := dk_6 (dk_at dksX1_cheapest_0 9 rfl rfl)
theorem dX1_cheapest_10 : decode cX1_cheapest 10 = .ok (.if_icmp .ge 62, 3) := dk_162 0 62 (dk_at dksX1_cheapest_0 10 rfl rfl)
theorem dX1_cheapest_13 : decode cX1_cheapest 13 = .ok (.iload_n 1, 1) := dk_27 (dk_at dksX1_cheapest_0 13 rfl rfl)
theorem dX1_cheapest_14 : decode cX1_cheapest 14 = .ok (.ifCond .lt 22, 3) := dk_155 0 22 (dk_at dksX1_cheapest_0 14 rfl rfl)
theorem dX1_cheapest_17 : decode cX1_cheapest 17 = .ok (.aload_n 0, 1) := dk_42 (dk_at dksX1_cheapest_0 17 rfl rfl)
theorem dX1_cheapest_18 : decode cX1_cheapest 18 = .ok (.iload_n 2, 1) := dk_28 (dk_at dksX1_cheapest_0 18 rfl rfl)
theorem dX1_cheapest_19 : decode cX1_cheapest 19 = .ok (.invokestatic 158, 3) := dk_184 0 158 (dk_at dksX1_cheapest_0 19 rfl rfl)
theorem dX1_cheapest_22 : decode cX1_cheapest 22 = .ok (.invokevirtual 162, 3) := dk_182 0 162 (dk_at dksX1_cheapest_1 0 rfl rfl)
theorem dX1_cheapest_25 : decode cX1_cheapest 25 = .ok (.aload_n 0, 1) := dk_42 (dk_at dksX1_cheapest_1 3 rfl rfl)
theorem dX1_cheapest_26 : decode cX1_cheapest 26 = .ok (.iload_n 1, 1) := dk_27 (dk_at dksX1_cheapest_1 4 rfl rfl)
theorem dX1_cheapest_27 : decode cX1_cheapest 27 = .ok (.invokestatic 158, 3) := dk_184 0 158 (dk_at dksX1_cheapest_1 5 rfl rfl)
theorem dX1_cheapest_30 : decode cX1_cheapest 30 = .ok (.invokevirtual 162, 3) := dk_182 0 162 (dk_at dksX1_cheapest_1 8 rfl rfl)
theorem dX1_cheapest_33 : decode cX1_cheapest 33 = .ok (.if_icmp .ge 7, 3) := dk_162 0 7 (dk_at dksX1_cheapest_1 11 rfl rfl)
theorem dX1_cheapest_36 : decode cX1_cheapest 36 = .ok (.iconst 1, 1) := dk_4 (dk_at dksX1_cheapest_1 14 rfl rfl)
theorem dX1_cheapest_37 : decode cX1_cheapest 37 = .ok (.goto 4, 3) := dk_167 0 4 (dk_at dksX1_cheapest_1 15 rfl rfl)
theorem dX1_cheapest_40 : decode cX1_cheapest 40 = .ok (.iconst 0, 1) := dk_3 (dk_at dksX1_cheapest_1 18 rfl rfl)
theorem dX1_cheapest_41 : decode cX1_cheapest 41 = .ok (.istore_n 3, 1) := dk_62 (dk_at dksX1_cheapest_1 19 rfl rfl)
theorem dX1_cheapest_42 : decode cX1_cheapest 42 = .ok (.iload_n 3, 1) := dk_29 (dk_at dksX1_cheapest_1 20 rfl rfl)
theorem dX1_cheapest_43 : decode cX1_cheapest 43 = .ok (.ifCond .eq 21, 3) := dk_153 0 21 (dk_at dksX1_cheapest_1 21 rfl rfl)
theorem dX1_cheapest_46 : decode cX1_cheapest 46 = .ok (.aload_n 0, 1) := dk_42 (dk_at dksX1_cheapest_2 0 rfl rfl)
theorem dX1_cheapest_47 : decode cX1_cheapest 47 = .ok (.iload_n 2, 1) := dk_28 (dk_at dksX1_cheapest_2 1 rfl rfl)
theorem dX1_cheapest_48 : decode cX1_cheapest 48 = .ok (.invokestatic 158, 3) := dk_184 0 158 (dk_at dksX1_cheapest_2 2 rfl rfl)
theorem dX1_cheapest_51 : decode cX1_cheapest 51 = .ok (.invokevirtual 233, 3) := dk_182 0 233 (dk_at dksX1_cheapest_2 5 rfl rfl)
theorem dX1_cheapest_54 : decode cX1_cheapest 54 = .ok (.invokevirtual 237, 3) := dk_182 0 237 (dk_at dksX1_cheapest_2 8 rfl rfl)
theorem dX1_cheapest_57 : decode cX1_cheapest 57 = .ok (.ifCond .eq 7, 3) := dk_153 0 7 (dk_at dksX1_cheapest_2 11 rfl rfl)
theorem dX1_cheapest_60 : decode cX1_cheapest 60 = .ok (.iload_n 2, 1) := dk_28 (dk_at dksX1_cheapest_2 14 rfl rfl)
theorem dX1_cheapest_61 : decode cX1_cheapest 61 = .ok (.goto 4, 3) := dk_167 0 4 (dk_at dksX1_cheapest_2 15 rfl rfl)
theorem dX1_cheapest_64 : decode cX1_cheapest 64 = .ok (.iload_n 1, 1) := dk_27 (dk_at dksX1_cheapest_2 18 rfl rfl)
theorem dX1_cheapest_65 : decode cX1_cheapest 65 = .ok (.istore_n 1, 1) := dk_60 (dk_at dksX1_cheapest_2 19 rfl rfl)
theorem dX1_cheapest_66 : decode cX1_cheapest 66 = .ok (.iinc 2 1, 3) := dk_132 2 1 (dk_at dksX1_cheapest_2 20 rfl rfl)
theorem dX1_cheapest_69 : decode cX1_cheapest 69 = .ok (.goto (-61), 3) := dk_167 255 195 (dk_at dksX1_cheapest_3 0 rfl rfl)
theorem dX1_cheapest_72 : decode cX1_cheapest 72 = .ok (.iload_n 1, 1) := dk_27 (dk_at dksX1_cheapest_3 3 rfl rfl)
theorem dX1_cheapest_73 : decode cX1_cheapest 73 = .ok (.ireturn, 1) := dk_172 (dk_at dksX1_cheapest_3 4 rfl rfl)
abbrev cX1_effect : ByteArray := prog_1_method_49_code
def yX1_effect : MethodName := ⟨RX1, "effect", "(III)I"⟩
def dkwX1_effect_2 : List UInt8 := [182, 0, 249, 180, 0, 224, 172]
abbrev dktX1_effect_2 : List UInt8 := dkwX1_effect_2 ++ []
def dkwX1_effect_1 : List UInt8 := [184, 0, 42, 153, 0, 7, 4, 167, 0, 4, 3, 184, 0, 63, 42, 182, 0, 131, 42, 27, 28, 29]
abbrev dktX1_effect_1 : List UInt8 := dkwX1_effect_1 ++ dktX1_effect_2
def dkwX1_effect_0 : List UInt8 := [27, 16, 6, 184, 0, 111, 28, 133, 9, 20, 0, 171, 184, 0, 42, 153, 0, 19, 29, 133, 9, 20, 0, 247]
abbrev dktX1_effect_0 : List UInt8 := dkwX1_effect_0 ++ dktX1_effect_1
theorem dksX1_effect_0 : cX1_effect.data.toList.drop 0 = dktX1_effect_0 := by decide +kernel
theorem dksX1_effect_1 : cX1_effect.data.toList.drop 24 = dktX1_effect_1 := dk_seg dksX1_effect_0 24 rfl rfl
theorem dksX1_effect_2 : cX1_effect.data.toList.drop 46 = dktX1_effect_2 := dk_seg dksX1_effect_1 22 rfl rfl
theorem dX1_effect_0 : decode cX1_effect 0 = .ok (.iload_n 1, 1) := dk_27 (dk_at dksX1_effect_0 0 rfl rfl)
theorem dX1_effect_1 : decode cX1_effect 1 = .ok (.bipush 6, 2) := dk_16 6 (dk_at dksX1_effect_0 1 rfl rfl)
theorem dX1_effect_3 : decode cX1_effect 3 = .ok (.invokestatic 111, 3) := dk_184 0 111 (dk_at dksX1_effect_0 3 rfl rfl)
theorem dX1_effect_6 : decode cX1_effect 6 = .ok (.iload_n 2, 1) := dk_28 (dk_at dksX1_effect_0 6 rfl rfl)
theorem dX1_effect_7 : decode cX1_effect 7 = .ok (.i2l, 1) := dk_133 (dk_at dksX1_effect_0 7 rfl rfl)
theorem dX1_effect_8 : decode cX1_effect 8 = .ok (.lconst 0, 1) := dk_9 (dk_at dksX1_effect_0 8 rfl rfl)
theorem dX1_effect_9 : decode cX1_effect 9 = .ok (.ldc2_w 171, 3) := dk_20 0 171 (dk_at dksX1_effect_0 9 rfl rfl)
theorem dX1_effect_12 : decode cX1_effect 12 = .ok (.invokestatic 42, 3) := dk_184 0 42 (dk_at dksX1_effect_0 12 rfl rfl)
theorem dX1_effect_15 : decode cX1_effect 15 = .ok (.ifCond .eq 19, 3) := dk_153 0 19 (dk_at dksX1_effect_0 15 rfl rfl)
theorem dX1_effect_18 : decode cX1_effect 18 = .ok (.iload_n 3, 1) := dk_29 (dk_at dksX1_effect_0 18 rfl rfl)
theorem dX1_effect_19 : decode cX1_effect 19 = .ok (.i2l, 1) := dk_133 (dk_at dksX1_effect_0 19 rfl rfl)
theorem dX1_effect_20 : decode cX1_effect 20 = .ok (.lconst 0, 1) := dk_9 (dk_at dksX1_effect_0 20 rfl rfl)
theorem dX1_effect_21 : decode cX1_effect 21 = .ok (.ldc2_w 247, 3) := dk_20 0 247 (dk_at dksX1_effect_0 21 rfl rfl)
theorem dX1_effect_24 : decode cX1_effect 24 = .ok (.invokestatic 42, 3) := dk_184 0 42 (dk_at dksX1_effect_1 0 rfl rfl)
theorem dX1_effect_27 : decode cX1_effect 27 = .ok (.ifCond .eq 7, 3) := dk_153 0 7 (dk_at dksX1_effect_1 3 rfl rfl)
theorem dX1_effect_30 : decode cX1_effect 30 = .ok (.iconst 1, 1) := dk_4 (dk_at dksX1_effect_1 6 rfl rfl)
theorem dX1_effect_31 : decode cX1_effect 31 = .ok (.goto 4, 3) := dk_167 0 4 (dk_at dksX1_effect_1 7 rfl rfl)
theorem dX1_effect_34 : decode cX1_effect 34 = .ok (.iconst 0, 1) := dk_3 (dk_at dksX1_effect_1 10 rfl rfl)
theorem dX1_effect_35 : decode cX1_effect 35 = .ok (.invokestatic 63, 3) := dk_184 0 63 (dk_at dksX1_effect_1 11 rfl rfl)
theorem dX1_effect_38 : decode cX1_effect 38 = .ok (.aload_n 0, 1) := dk_42 (dk_at dksX1_effect_1 14 rfl rfl)
theorem dX1_effect_39 : decode cX1_effect 39 = .ok (.invokevirtual 131, 3) := dk_182 0 131 (dk_at dksX1_effect_1 15 rfl rfl)
theorem dX1_effect_42 : decode cX1_effect 42 = .ok (.aload_n 0, 1) := dk_42 (dk_at dksX1_effect_1 18 rfl rfl)
theorem dX1_effect_43 : decode cX1_effect 43 = .ok (.iload_n 1, 1) := dk_27 (dk_at dksX1_effect_1 19 rfl rfl)
theorem dX1_effect_44 : decode cX1_effect 44 = .ok (.iload_n 2, 1) := dk_28 (dk_at dksX1_effect_1 20 rfl rfl)
theorem dX1_effect_45 : decode cX1_effect 45 = .ok (.iload_n 3, 1) := dk_29 (dk_at dksX1_effect_1 21 rfl rfl)
theorem dX1_effect_46 : decode cX1_effect 46 = .ok (.invokevirtual 249, 3) := dk_182 0 249 (dk_at dksX1_effect_2 0 rfl rfl)
theorem dX1_effect_49 : decode cX1_effect 49 = .ok (.getfield 224, 3) := dk_180 0 224 (dk_at dksX1_effect_2 3 rfl rfl)
theorem dX1_effect_52 : decode cX1_effect 52 = .ok (.ireturn, 1) := dk_172 (dk_at dksX1_effect_2 6 rfl rfl)
abbrev cX1_faulty : ByteArray := prog_1_method_48_code
def yX1_faulty : MethodName := ⟨RX1, "faulty", "(III)LSequenceBench$Rig;"⟩
def dkwX1_faulty_1 : List UInt8 := [182, 0, 182, 54, 5, 25, 4, 176]
abbrev dktX1_faulty_1 : List UInt8 := dkwX1_faulty_1 ++ []
def dkwX1_faulty_0 : List UInt8 := [42, 42, 180, 0, 30, 182, 0, 233, 58, 4, 25, 4, 180, 0, 72, 27, 4, 28, 120, 79, 25, 4, 29]
abbrev dktX1_faulty_0 : List UInt8 := dkwX1_faulty_0 ++ dktX1_faulty_1
theorem dksX1_faulty_0 : cX1_faulty.data.toList.drop 0 = dktX1_faulty_0 := by decide +kernel
theorem dksX1_faulty_1 : cX1_faulty.data.toList.drop 23 = dktX1_faulty_1 := dk_seg dksX1_faulty_0 23 rfl rfl
theorem dX1_faulty_0 : decode cX1_faulty 0 = .ok (.aload_n 0, 1) := dk_42 (dk_at dksX1_faulty_0 0 rfl rfl)
theorem dX1_faulty_1 : decode cX1_faulty 1 = .ok (.aload_n 0, 1) := dk_42 (dk_at dksX1_faulty_0 1 rfl rfl)
theorem dX1_faulty_2 : decode cX1_faulty 2 = .ok (.getfield 30, 3) := dk_180 0 30 (dk_at dksX1_faulty_0 2 rfl rfl)
theorem dX1_faulty_5 : decode cX1_faulty 5 = .ok (.invokevirtual 233, 3) := dk_182 0 233 (dk_at dksX1_faulty_0 5 rfl rfl)
theorem dX1_faulty_8 : decode cX1_faulty 8 = .ok (.astore 4, 2) := dk_58 4 (dk_at dksX1_faulty_0 8 rfl rfl)
theorem dX1_faulty_10 : decode cX1_faulty 10 = .ok (.aload 4, 2) := dk_25 4 (dk_at dksX1_faulty_0 10 rfl rfl)
theorem dX1_faulty_12 : decode cX1_faulty 12 = .ok (.getfield 72, 3) := dk_180 0 72 (dk_at dksX1_faulty_0 12 rfl rfl)
theorem dX1_faulty_15 : decode cX1_faulty 15 = .ok (.iload_n 1, 1) := dk_27 (dk_at dksX1_faulty_0 15 rfl rfl)
theorem dX1_faulty_16 : decode cX1_faulty 16 = .ok (.iconst 1, 1) := dk_4 (dk_at dksX1_faulty_0 16 rfl rfl)
theorem dX1_faulty_17 : decode cX1_faulty 17 = .ok (.iload_n 2, 1) := dk_28 (dk_at dksX1_faulty_0 17 rfl rfl)
theorem dX1_faulty_18 : decode cX1_faulty 18 = .ok (.ishl, 1) := dk_120 (dk_at dksX1_faulty_0 18 rfl rfl)
theorem dX1_faulty_19 : decode cX1_faulty 19 = .ok (.iastore, 1) := dk_79 (dk_at dksX1_faulty_0 19 rfl rfl)
theorem dX1_faulty_20 : decode cX1_faulty 20 = .ok (.aload 4, 2) := dk_25 4 (dk_at dksX1_faulty_0 20 rfl rfl)
theorem dX1_faulty_22 : decode cX1_faulty 22 = .ok (.iload_n 3, 1) := dk_29 (dk_at dksX1_faulty_0 22 rfl rfl)
theorem dX1_faulty_23 : decode cX1_faulty 23 = .ok (.invokevirtual 182, 3) := dk_182 0 182 (dk_at dksX1_faulty_1 0 rfl rfl)
theorem dX1_faulty_26 : decode cX1_faulty 26 = .ok (.istore 5, 2) := dk_54 5 (dk_at dksX1_faulty_1 3 rfl rfl)
theorem dX1_faulty_28 : decode cX1_faulty 28 = .ok (.aload 4, 2) := dk_25 4 (dk_at dksX1_faulty_1 5 rfl rfl)
theorem dX1_faulty_30 : decode cX1_faulty 30 = .ok (.areturn, 1) := dk_176 (dk_at dksX1_faulty_1 7 rfl rfl)
abbrev cX1_suspect : ByteArray := prog_1_method_50_code
def yX1_suspect : MethodName := ⟨RX1, "suspect", "(I)I"⟩
def dkwX1_suspect_3 : List UInt8 := [21, 4, 8, 108, 104, 21, 4, 8, 112, 96, 172, 132, 3, 255, 132, 4, 1, 167, 255, 203, 2, 172]
abbrev dktX1_suspect_3 : List UInt8 := dkwX1_suspect_3 ++ []
def dkwX1_suspect_2 : List UInt8 := [21, 4, 8, 112, 28, 182, 0, 249, 42, 180, 0, 38, 182, 1, 2, 153, 0, 23, 29, 154, 0, 16, 16, 10]
abbrev dktX1_suspect_2 : List UInt8 := dkwX1_suspect_2 ++ dktX1_suspect_3
def dkwX1_suspect_1 : List UInt8 := [17, 19, 136, 184, 0, 253, 61, 27, 62, 3, 54, 4, 21, 4, 16, 30, 162, 0, 52, 42, 21, 4, 8, 108]
abbrev dktX1_suspect_1 : List UInt8 := dkwX1_suspect_1 ++ dktX1_suspect_2
def dkwX1_suspect_0 : List UInt8 := [27, 156, 0, 11, 187, 0, 46, 89, 183, 0, 48, 191, 42, 182, 0, 131, 42, 180, 0, 38, 180, 0, 177]
abbrev dktX1_suspect_0 : List UInt8 := dkwX1_suspect_0 ++ dktX1_suspect_1
theorem dksX1_suspect_0 : cX1_suspect.data.toList.drop 0 = dktX1_suspect_0 := by decide +kernel
theorem dksX1_suspect_1 : cX1_suspect.data.toList.drop 23 = dktX1_suspect_1 := dk_seg dksX1_suspect_0 23 rfl rfl
theorem dksX1_suspect_2 : cX1_suspect.data.toList.drop 47 = dktX1_suspect_2 := dk_seg dksX1_suspect_1 24 rfl rfl
theorem dksX1_suspect_3 : cX1_suspect.data.toList.drop 71 = dktX1_suspect_3 := dk_seg dksX1_suspect_2 24 rfl rfl
theorem dX1_suspect_0 : decode cX1_suspect 0 = .ok (.iload_n 1, 1) := dk_27 (dk_at dksX1_suspect_0 0 rfl rfl)
theorem dX1_suspect_1 : decode cX1_suspect 1 = .ok (.ifCond .ge 11, 3) := dk_156 0 11 (dk_at dksX1_suspect_0 1 rfl rfl)
theorem dX1_suspect_4 : decode cX1_suspect 4 = .ok (.new 46, 3) := dk_187 0 46 (dk_at dksX1_suspect_0 4 rfl rfl)
theorem dX1_suspect_7 : decode cX1_suspect 7 = .ok (.dup, 1) := dk_89 (dk_at dksX1_suspect_0 7 rfl rfl)
theorem dX1_suspect_8 : decode cX1_suspect 8 = .ok (.invokespecial 48, 3) := dk_183 0 48 (dk_at dksX1_suspect_0 8 rfl rfl)
theorem dX1_suspect_11 : decode cX1_suspect 11 = .ok (.athrow, 1) := dk_191 (dk_at dksX1_suspect_0 11 rfl rfl)
theorem dX1_suspect_12 : decode cX1_suspect 12 = .ok (.aload_n 0, 1) := dk_42 (dk_at dksX1_suspect_0 12 rfl rfl)
theorem dX1_suspect_13 : decode cX1_suspect 13 = .ok (.invokevirtual 131, 3) := dk_182 0 131 (dk_at dksX1_suspect_0 13 rfl rfl)
theorem dX1_suspect_16 : decode cX1_suspect 16 = .ok (.aload_n 0, 1) := dk_42 (dk_at dksX1_suspect_0 16 rfl rfl)
theorem dX1_suspect_17 : decode cX1_suspect 17 = .ok (.getfield 38, 3) := dk_180 0 38 (dk_at dksX1_suspect_0 17 rfl rfl)
theorem dX1_suspect_20 : decode cX1_suspect 20 = .ok (.getfield 177, 3) := dk_180 0 177 (dk_at dksX1_suspect_0 20 rfl rfl)
theorem dX1_suspect_23 : decode cX1_suspect 23 = .ok (.sipush 5000, 3) := dk_17 19 136 (dk_at dksX1_suspect_1 0 rfl rfl)
theorem dX1_suspect_26 : decode cX1_suspect 26 = .ok (.invokestatic 253, 3) := dk_184 0 253 (dk_at dksX1_suspect_1 3 rfl rfl)
theorem dX1_suspect_29 : decode cX1_suspect 29 = .ok (.istore_n 2, 1) := dk_61 (dk_at dksX1_suspect_1 6 rfl rfl)
theorem dX1_suspect_30 : decode cX1_suspect 30 = .ok (.iload_n 1, 1) := dk_27 (dk_at dksX1_suspect_1 7 rfl rfl)
theorem dX1_suspect_31 : decode cX1_suspect 31 = .ok (.istore_n 3, 1) := dk_62 (dk_at dksX1_suspect_1 8 rfl rfl)
theorem dX1_suspect_32 : decode cX1_suspect 32 = .ok (.iconst 0, 1) := dk_3 (dk_at dksX1_suspect_1 9 rfl rfl)
theorem dX1_suspect_33 : decode cX1_suspect 33 = .ok (.istore 4, 2) := dk_54 4 (dk_at dksX1_suspect_1 10 rfl rfl)
theorem dX1_suspect_35 : decode cX1_suspect 35 = .ok (.iload 4, 2) := dk_21 4 (dk_at dksX1_suspect_1 12 rfl rfl)
theorem dX1_suspect_37 : decode cX1_suspect 37 = .ok (.bipush 30, 2) := dk_16 30 (dk_at dksX1_suspect_1 14 rfl rfl)
theorem dX1_suspect_39 : decode cX1_suspect 39 = .ok (.if_icmp .ge 52, 3) := dk_162 0 52 (dk_at dksX1_suspect_1 16 rfl rfl)
theorem dX1_suspect_42 : decode cX1_suspect 42 = .ok (.aload_n 0, 1) := dk_42 (dk_at dksX1_suspect_1 19 rfl rfl)
theorem dX1_suspect_43 : decode cX1_suspect 43 = .ok (.iload 4, 2) := dk_21 4 (dk_at dksX1_suspect_1 20 rfl rfl)
theorem dX1_suspect_45 : decode cX1_suspect 45 = .ok (.iconst 5, 1) := dk_8 (dk_at dksX1_suspect_1 22 rfl rfl)
theorem dX1_suspect_46 : decode cX1_suspect 46 = .ok (.idiv, 1) := dk_108 (dk_at dksX1_suspect_1 23 rfl rfl)
theorem dX1_suspect_47 : decode cX1_suspect 47 = .ok (.iload 4, 2) := dk_21 4 (dk_at dksX1_suspect_2 0 rfl rfl)
theorem dX1_suspect_49 : decode cX1_suspect 49 = .ok (.iconst 5, 1) := dk_8 (dk_at dksX1_suspect_2 2 rfl rfl)
theorem dX1_suspect_50 : decode cX1_suspect 50 = .ok (.irem, 1) := dk_112 (dk_at dksX1_suspect_2 3 rfl rfl)
theorem dX1_suspect_51 : decode cX1_suspect 51 = .ok (.iload_n 2, 1) := dk_28 (dk_at dksX1_suspect_2 4 rfl rfl)
theorem dX1_suspect_52 : decode cX1_suspect 52 = .ok (.invokevirtual 249, 3) := dk_182 0 249 (dk_at dksX1_suspect_2 5 rfl rfl)
theorem dX1_suspect_55 : decode cX1_suspect 55 = .ok (.aload_n 0, 1) := dk_42 (dk_at dksX1_suspect_2 8 rfl rfl)
theorem dX1_suspect_56 : decode cX1_suspect 56 = .ok (.getfield 38, 3) := dk_180 0 38 (dk_at dksX1_suspect_2 9 rfl rfl)
theorem dX1_suspect_59 : decode cX1_suspect 59 = .ok (.invokevirtual 258, 3) := dk_182 1 2 (dk_at dksX1_suspect_2 12 rfl rfl)
theorem dX1_suspect_62 : decode cX1_suspect 62 = .ok (.ifCond .eq 23, 3) := dk_153 0 23 (dk_at dksX1_suspect_2 15 rfl rfl)
theorem dX1_suspect_65 : decode cX1_suspect 65 = .ok (.iload_n 3, 1) := dk_29 (dk_at dksX1_suspect_2 18 rfl rfl)
theorem dX1_suspect_66 : decode cX1_suspect 66 = .ok (.ifCond .ne 16, 3) := dk_154 0 16 (dk_at dksX1_suspect_2 19 rfl rfl)
theorem dX1_suspect_69 : decode cX1_suspect 69 = .ok (.bipush 10, 2) := dk_16 10 (dk_at dksX1_suspect_2 22 rfl rfl)
theorem dX1_suspect_71 : decode cX1_suspect 71 = .ok (.iload 4, 2) := dk_21 4 (dk_at dksX1_suspect_3 0 rfl rfl)
theorem dX1_suspect_73 : decode cX1_suspect 73 = .ok (.iconst 5, 1) := dk_8 (dk_at dksX1_suspect_3 2 rfl rfl)
theorem dX1_suspect_74 : decode cX1_suspect 74 = .ok (.idiv, 1) := dk_108 (dk_at dksX1_suspect_3 3 rfl rfl)
theorem dX1_suspect_75 : decode cX1_suspect 75 = .ok (.imul, 1) := dk_104 (dk_at dksX1_suspect_3 4 rfl rfl)
theorem dX1_suspect_76 : decode cX1_suspect 76 = .ok (.iload 4, 2) := dk_21 4 (dk_at dksX1_suspect_3 5 rfl rfl)
theorem dX1_suspect_78 : decode cX1_suspect 78 = .ok (.iconst 5, 1) := dk_8 (dk_at dksX1_suspect_3 7 rfl rfl)
theorem dX1_suspect_79 : decode cX1_suspect 79 = .ok (.irem, 1) := dk_112 (dk_at dksX1_suspect_3 8 rfl rfl)
theorem dX1_suspect_80 : decode cX1_suspect 80 = .ok (.iadd, 1) := dk_96 (dk_at dksX1_suspect_3 9 rfl rfl)
theorem dX1_suspect_81 : decode cX1_suspect 81 = .ok (.ireturn, 1) := dk_172 (dk_at dksX1_suspect_3 10 rfl rfl)
theorem dX1_suspect_82 : decode cX1_suspect 82 = .ok (.iinc 3 (-1), 3) := dk_132 3 255 (dk_at dksX1_suspect_3 11 rfl rfl)
theorem dX1_suspect_85 : decode cX1_suspect 85 = .ok (.iinc 4 1, 3) := dk_132 4 1 (dk_at dksX1_suspect_3 14 rfl rfl)
theorem dX1_suspect_88 : decode cX1_suspect 88 = .ok (.goto (-53), 3) := dk_167 255 203 (dk_at dksX1_suspect_3 17 rfl rfl)
theorem dX1_suspect_91 : decode cX1_suspect 91 = .ok (.iconst (-1), 1) := dk_2 (dk_at dksX1_suspect_3 20 rfl rfl)
theorem dX1_suspect_92 : decode cX1_suspect 92 = .ok (.ireturn, 1) := dk_172 (dk_at dksX1_suspect_3 21 rfl rfl)
theorem q62 : (Jvm.Cond.initialized "SequenceBench") ∈ lw_all := lw_g (lw_at lw_m1 1 rfl) rfl
theorem q98 : (Jvm.Cond.instantiable "SequenceBench" (9 : Nat)) ∈ lw_all := lw_g (lw_at lw_m1 37 rfl) rfl
theorem q100 : (Jvm.Cond.instanceMethod ({ cls := "SequenceBench", name := "<init>", desc := "()V" } : Jvm.MethodName)) ∈ lw_all := lw_g (lw_at lw_m1 39 rfl) rfl
theorem q101 : (Jvm.Cond.code ({ cls := "SequenceBench", name := "<init>", desc := "()V" } : Jvm.MethodName) prog_1_method_1_code (2 : Nat) (Option.none : Option Jvm.ClassFile.FieldType)) ∈ lw_all := lw_g (lw_at lw_m1 40 rfl) rfl
theorem q102 : (Jvm.Cond.methodLink "SequenceBench" (1 : Nat) ({ cls := "java/lang/Object", name := "<init>", desc := "()V" } : Jvm.MethodName)) ∈ lw_all := lw_g (lw_at lw_m1 41 rfl) rfl
theorem q105 : (Jvm.Cond.fieldLink "SequenceBench" (24 : Nat) "SequenceBench$Method" "CASCADE" "LSequenceBench$Method;") ∈ lw_all := lw_g (lw_at lw_m1 44 rfl) rfl
theorem q107 : (Jvm.Cond.classLink "SequenceBench" (33 : Nat) "SequenceBench$Rig") ∈ lw_all := lw_g (lw_at lw_m1 46 rfl) rfl
theorem q109 : (Jvm.Cond.methodLink "SequenceBench" (35 : Nat) ({ cls := "SequenceBench$Rig", name := "<init>", desc := "(LSequenceBench$Sequence;LSequenceBench$Method;[I)V" } : Jvm.MethodName)) ∈ lw_all := lw_g (lw_at lw_m1 48 rfl) rfl
theorem q225 : (Jvm.Cond.fieldLinkNest "SequenceBench" (72 : Nat) "SequenceBench$Rig" "faults" "[I" "SequenceBench") ∈ lw_tbl := lw_at lw_m1 164 rfl
theorem q227 : (Jvm.Cond.fieldLinkNest "SequenceBench" (185 : Nat) "SequenceBench$Rig" "positions" "[I" "SequenceBench") ∈ lw_tbl := lw_at lw_m1 166 rfl
theorem q229 : (Jvm.Cond.fieldLinkNest "SequenceBench" (194 : Nat) "SequenceBench$Rig" "timers" "[I" "SequenceBench") ∈ lw_tbl := lw_at lw_m1 168 rfl
theorem q231 : (Jvm.Cond.fieldLinkNest "SequenceBench" (197 : Nat) "SequenceBench$Rig" "circuit" "LSequenceBench$Circuit;" "SequenceBench") ∈ lw_tbl := lw_at lw_m1 170 rfl
theorem q236 : (Jvm.Cond.fieldLinkNest "SequenceBench" (71 : Nat) "SequenceBench$Rig" "isStarted" "Z" "SequenceBench") ∈ lw_tbl := lw_at lw_m1 175 rfl
theorem q238 : (Jvm.Cond.fieldLinkNest "SequenceBench" (188 : Nat) "SequenceBench$Rig" "out" "I" "SequenceBench") ∈ lw_tbl := lw_at lw_m1 177 rfl
theorem q240 : (Jvm.Cond.fieldLinkNest "SequenceBench" (177 : Nat) "SequenceBench$Rig" "time" "I" "SequenceBench") ∈ lw_tbl := lw_at lw_m1 179 rfl
theorem q242 : (Jvm.Cond.fieldLinkNest "SequenceBench" (230 : Nat) "SequenceBench$Rig" "quiet" "I" "SequenceBench") ∈ lw_tbl := lw_at lw_m1 181 rfl
theorem q246 : (Jvm.Cond.fieldLinkNest "SequenceBench" (206 : Nat) "SequenceBench$Rig" "plus" "I" "SequenceBench") ∈ lw_tbl := lw_at lw_m1 185 rfl
theorem q248 : (Jvm.Cond.fieldLinkNest "SequenceBench" (209 : Nat) "SequenceBench$Rig" "minus" "I" "SequenceBench") ∈ lw_tbl := lw_at lw_m1 187 rfl
theorem q251 : (Jvm.Cond.fieldLinkNest "SequenceBench" (218 : Nat) "SequenceBench$Rig" "eventTimes" "[I" "SequenceBench") ∈ lw_tbl := lw_at lw_m1 190 rfl
theorem q253 : (Jvm.Cond.fieldLinkNest "SequenceBench" (221 : Nat) "SequenceBench$Rig" "eventMoves" "[I" "SequenceBench") ∈ lw_tbl := lw_at lw_m1 192 rfl
theorem q255 : (Jvm.Cond.fieldLinkNest "SequenceBench" (212 : Nat) "SequenceBench$Rig" "events" "I" "SequenceBench") ∈ lw_tbl := lw_at lw_m1 194 rfl
theorem q257 : (Jvm.Cond.fieldLinkNest "SequenceBench" (224 : Nat) "SequenceBench$Rig" "right" "I" "SequenceBench") ∈ lw_tbl := lw_at lw_m1 196 rfl
theorem q262 : (Jvm.Cond.fieldLinkNest "SequenceBench" (227 : Nat) "SequenceBench$Rig" "cycles" "I" "SequenceBench") ∈ lw_tbl := lw_at lw_m1 201 rfl
theorem q264 : (Jvm.Cond.fieldLinkNest "SequenceBench" (241 : Nat) "SequenceBench$Rig" "latestCycle" "I" "SequenceBench") ∈ lw_tbl := lw_at lw_m1 203 rfl
theorem q266 : (Jvm.Cond.fieldLinkNest "SequenceBench" (244 : Nat) "SequenceBench$Rig" "cycleBefore" "I" "SequenceBench") ∈ lw_tbl := lw_at lw_m1 205 rfl
theorem q318 : (Jvm.Cond.fieldLink "SequenceBench" (9 : Nat) "SequenceBench" "text" "[C") ∈ lw_all := lw_g (lw_at lw_m2 17 rfl) rfl
theorem q321 : (Jvm.Cond.fieldLink "SequenceBench" (67 : Nat) "SequenceBench" "textLength" "I") ∈ lw_all := lw_g (lw_at lw_m2 20 rfl) rfl
theorem q322 : (Jvm.Cond.fieldLink "SequenceBench" (93 : Nat) "SequenceBench" "errorKind" "I") ∈ lw_all := lw_g (lw_at lw_m2 21 rfl) rfl
theorem q323 : (Jvm.Cond.fieldLink "SequenceBench" (52 : Nat) "SequenceBench" "sequence" "LSequenceBench$Sequence;") ∈ lw_all := lw_g (lw_at lw_m2 22 rfl) rfl
theorem q324 : (Jvm.Cond.fieldLink "SequenceBench" (13 : Nat) "SequenceBench" "strokes" "[I") ∈ lw_all := lw_g (lw_at lw_m2 23 rfl) rfl
theorem q325 : (Jvm.Cond.fieldLink "SequenceBench" (17 : Nat) "SequenceBench" "faults" "[I") ∈ lw_all := lw_g (lw_at lw_m2 24 rfl) rfl
theorem q326 : (Jvm.Cond.fieldLink "SequenceBench" (20 : Nat) "SequenceBench" "isStarted" "Z") ∈ lw_all := lw_g (lw_at lw_m2 25 rfl) rfl
theorem q327 : (Jvm.Cond.fieldLink "SequenceBench" (30 : Nat) "SequenceBench" "method" "LSequenceBench$Method;") ∈ lw_all := lw_g (lw_at lw_m2 26 rfl) rfl
theorem q328 : (Jvm.Cond.fieldLink "SequenceBench" (38 : Nat) "SequenceBench" "rig" "LSequenceBench$Rig;") ∈ lw_all := lw_g (lw_at lw_m2 27 rfl) rfl
theorem q329 : (Jvm.Cond.laysFinal "SequenceBench" "SequenceBench" "text" "[C") ∈ lw_all := lw_g (lw_at lw_m2 28 rfl) rfl
theorem q330 : (Jvm.Cond.soleField "SequenceBench" "text") ∈ lw_all := lw_g (lw_at lw_m2 29 rfl) rfl
theorem q331 : (Jvm.Cond.lays "SequenceBench" "SequenceBench" "textLength" "I") ∈ lw_all := lw_g (lw_at lw_m2 30 rfl) rfl
theorem q332 : (Jvm.Cond.soleField "SequenceBench" "textLength") ∈ lw_all := lw_g (lw_at lw_m2 31 rfl) rfl
theorem q333 : (Jvm.Cond.lays "SequenceBench" "SequenceBench" "errorKind" "I") ∈ lw_all := lw_g (lw_at lw_m2 32 rfl) rfl
theorem q334 : (Jvm.Cond.soleField "SequenceBench" "errorKind") ∈ lw_all := lw_g (lw_at lw_m2 33 rfl) rfl
theorem q335 : (Jvm.Cond.lays "SequenceBench" "SequenceBench" "sequence" "LSequenceBench$Sequence;") ∈ lw_all := lw_g (lw_at lw_m2 34 rfl) rfl
theorem q336 : (Jvm.Cond.soleField "SequenceBench" "sequence") ∈ lw_all := lw_g (lw_at lw_m2 35 rfl) rfl
theorem q337 : (Jvm.Cond.laysFinal "SequenceBench" "SequenceBench" "strokes" "[I") ∈ lw_all := lw_g (lw_at lw_m2 36 rfl) rfl
theorem q338 : (Jvm.Cond.soleField "SequenceBench" "strokes") ∈ lw_all := lw_g (lw_at lw_m2 37 rfl) rfl
theorem q339 : (Jvm.Cond.laysFinal "SequenceBench" "SequenceBench" "faults" "[I") ∈ lw_all := lw_g (lw_at lw_m2 38 rfl) rfl
theorem q340 : (Jvm.Cond.soleField "SequenceBench" "faults") ∈ lw_all := lw_g (lw_at lw_m2 39 rfl) rfl
theorem q341 : (Jvm.Cond.lays "SequenceBench" "SequenceBench" "isStarted" "Z") ∈ lw_all := lw_g (lw_at lw_m2 40 rfl) rfl
theorem q342 : (Jvm.Cond.soleField "SequenceBench" "isStarted") ∈ lw_all := lw_g (lw_at lw_m2 41 rfl) rfl
theorem q343 : (Jvm.Cond.lays "SequenceBench" "SequenceBench" "method" "LSequenceBench$Method;") ∈ lw_all := lw_g (lw_at lw_m2 42 rfl) rfl
theorem q344 : (Jvm.Cond.soleField "SequenceBench" "method") ∈ lw_all := lw_g (lw_at lw_m2 43 rfl) rfl
theorem q345 : (Jvm.Cond.lays "SequenceBench" "SequenceBench" "rig" "LSequenceBench$Rig;") ∈ lw_all := lw_g (lw_at lw_m2 44 rfl) rfl
theorem q346 : (Jvm.Cond.soleField "SequenceBench" "rig") ∈ lw_all := lw_g (lw_at lw_m2 45 rfl) rfl
theorem q347 : (Jvm.Cond.superclass "SequenceBench" "java/lang/Object") ∈ lw_all := lw_g (lw_at lw_m2 46 rfl) rfl
theorem q349 : (Jvm.Cond.instanceMethod ({ cls := "SequenceBench", name := "clearText", desc := "()I" } : Jvm.MethodName)) ∈ lw_all := lw_g (lw_at lw_m2 48 rfl) rfl
theorem q350 : (Jvm.Cond.selects "SequenceBench" ({ cls := "SequenceBench", name := "clearText", desc := "()I" } : Jvm.MethodName) ({ cls := "SequenceBench", name := "clearText", desc := "()I" } : Jvm.MethodName)) ∈ lw_all := lw_g (lw_at lw_m2 49 rfl) rfl
theorem q351 : (Jvm.Cond.code ({ cls := "SequenceBench", name := "clearText", desc := "()I" } : Jvm.MethodName) prog_1_method_8_code (2 : Nat) (Option.some Jvm.ClassFile.FieldType.int)) ∈ lw_all := lw_g (lw_at lw_m2 50 rfl) rfl
theorem q353 : (Jvm.Cond.instanceMethod ({ cls := "SequenceBench", name := "readSequence", desc := "()I" } : Jvm.MethodName)) ∈ lw_all := lw_g (lw_at lw_m2 52 rfl) rfl
theorem q354 : (Jvm.Cond.selects "SequenceBench" ({ cls := "SequenceBench", name := "readSequence", desc := "()I" } : Jvm.MethodName) ({ cls := "SequenceBench", name := "readSequence", desc := "()I" } : Jvm.MethodName)) ∈ lw_all := lw_g (lw_at lw_m2 53 rfl) rfl
theorem q355 : (Jvm.Cond.codeWith ({ cls := "SequenceBench", name := "readSequence", desc := "()I" } : Jvm.MethodName) prog_1_method_10_code (2 : Nat) (Option.some Jvm.ClassFile.FieldType.int) [((0 : Nat), (15 : Nat), (18 : Nat), (88 : Nat))]) ∈ lw_all := lw_g (lw_at lw_m2 54 rfl) rfl
theorem q356 : (Jvm.Cond.classLink "SequenceBench" (88 : Nat) "SequenceBench$SequenceError") ∈ lw_all := lw_g (lw_at lw_m2 55 rfl) rfl
theorem q357 : (Jvm.Cond.classLink "SequenceBench" (79 : Nat) "SequenceBench$Reader") ∈ lw_all := lw_g (lw_at lw_m2 56 rfl) rfl
theorem q359 : (Jvm.Cond.methodLinkNest "SequenceBench" (81 : Nat) ({ cls := "SequenceBench$Reader", name := "<init>", desc := "(LSequenceBench;)V" } : Jvm.MethodName) "SequenceBench") ∈ lw_tbl := lw_at lw_m2 58 rfl
theorem q725 : (Jvm.Cond.methodLink "SequenceBench" (84 : Nat) ({ cls := "SequenceBench$Reader", name := "read", desc := "()LSequenceBench$Sequence;" } : Jvm.MethodName)) ∈ lw_all := lw_g (lw_at lw_m3 184 rfl) rfl
theorem q760 : (Jvm.Cond.fieldLinkNest "SequenceBench" (90 : Nat) "SequenceBench$SequenceError" "kind" "I" "SequenceBench") ∈ lw_tbl := lw_at lw_m3 219 rfl
theorem q762 : (Jvm.Cond.fieldLinkNest "SequenceBench" (96 : Nat) "SequenceBench$SequenceError" "position" "I" "SequenceBench") ∈ lw_tbl := lw_at lw_m3 221 rfl
theorem q788 : (Jvm.Cond.static ({ cls := "SequenceBench", name := "isIn", desc := "(JJJ)Z" } : Jvm.MethodName)) ∈ lw_all := lw_g (lw_at lw_m4 7 rfl) rfl
theorem q789 : (Jvm.Cond.code ({ cls := "SequenceBench", name := "isIn", desc := "(JJJ)Z" } : Jvm.MethodName) prog_1_method_2_code (6 : Nat) (Option.some Jvm.ClassFile.FieldType.boolean)) ∈ lw_all := lw_g (lw_at lw_m4 8 rfl) rfl
theorem q791 : (Jvm.Cond.static ({ cls := "SequenceBench", name := "has", desc := "(II)Z" } : Jvm.MethodName)) ∈ lw_all := lw_g (lw_at lw_m4 10 rfl) rfl
theorem q792 : (Jvm.Cond.code ({ cls := "SequenceBench", name := "has", desc := "(II)Z" } : Jvm.MethodName) prog_1_method_6_code (2 : Nat) (Option.some Jvm.ClassFile.FieldType.boolean)) ∈ lw_all := lw_g (lw_at lw_m4 11 rfl) rfl
theorem q814 : (Jvm.Cond.fieldLinkNest "SequenceBench" (128 : Nat) "SequenceBench$Step" "pause" "I" "SequenceBench") ∈ lw_tbl := lw_at lw_m4 33 rfl
theorem q847 : (Jvm.Cond.selects "SequenceBench" ({ cls := "java/lang/Object", name := "getClass", desc := "()Ljava/lang/Class;" } : Jvm.MethodName) ({ cls := "java/lang/Object", name := "getClass", desc := "()Ljava/lang/Class;" } : Jvm.MethodName)) ∈ lw_all := lw_g (lw_at lw_m4 66 rfl) rfl
theorem q921 : (Jvm.Cond.fieldLinkNest "SequenceBench" (102 : Nat) "SequenceBench$Sequence" "steps" "[LSequenceBench$Step;" "SequenceBench") ∈ lw_tbl := lw_at lw_m4 140 rfl
theorem q926 : (Jvm.Cond.fieldLinkNest "SequenceBench" (138 : Nat) "SequenceBench$Sequence" "cuts" "[I" "SequenceBench") ∈ lw_tbl := lw_at lw_m4 145 rfl
theorem q934 : (Jvm.Cond.methodLink "SequenceBench" (99 : Nat) ({ cls := "SequenceBench", name := "settle", desc := "()V" } : Jvm.MethodName)) ∈ lw_all := lw_g (lw_at lw_m4 153 rfl) rfl
theorem q935 : (Jvm.Cond.privateMethod ({ cls := "SequenceBench", name := "settle", desc := "()V" } : Jvm.MethodName)) ∈ lw_tbl := lw_at lw_m4 154 rfl
theorem q936 : (Jvm.Cond.instanceMethod ({ cls := "SequenceBench", name := "settle", desc := "()V" } : Jvm.MethodName)) ∈ lw_all := lw_g (lw_at lw_m4 155 rfl) rfl
theorem q937 : (Jvm.Cond.code ({ cls := "SequenceBench", name := "settle", desc := "()V" } : Jvm.MethodName) prog_1_method_9_code (1 : Nat) (Option.none : Option Jvm.ClassFile.FieldType)) ∈ lw_all := lw_g (lw_at lw_m4 156 rfl) rfl
theorem q938 : (Jvm.Cond.methodLink "SequenceBench" (73 : Nat) ({ cls := "java/lang/System", name := "arraycopy", desc := "(Ljava/lang/Object;ILjava/lang/Object;II)V" } : Jvm.MethodName)) ∈ lw_all := lw_g (lw_at lw_m4 157 rfl) rfl
theorem q940 : (Jvm.Cond.instanceMethod ({ cls := "SequenceBench", name := "errorKind", desc := "()I" } : Jvm.MethodName)) ∈ lw_all := lw_g (lw_at lw_m4 159 rfl) rfl
theorem q941 : (Jvm.Cond.selects "SequenceBench" ({ cls := "SequenceBench", name := "errorKind", desc := "()I" } : Jvm.MethodName) ({ cls := "SequenceBench", name := "errorKind", desc := "()I" } : Jvm.MethodName)) ∈ lw_all := lw_g (lw_at lw_m4 160 rfl) rfl
theorem q942 : (Jvm.Cond.code ({ cls := "SequenceBench", name := "errorKind", desc := "()I" } : Jvm.MethodName) prog_1_method_11_code (1 : Nat) (Option.some Jvm.ClassFile.FieldType.int)) ∈ lw_all := lw_g (lw_at lw_m4 161 rfl) rfl
theorem q944 : (Jvm.Cond.instanceMethod ({ cls := "SequenceBench", name := "steps", desc := "()I" } : Jvm.MethodName)) ∈ lw_all := lw_g (lw_at lw_m4 163 rfl) rfl
theorem q945 : (Jvm.Cond.selects "SequenceBench" ({ cls := "SequenceBench", name := "steps", desc := "()I" } : Jvm.MethodName) ({ cls := "SequenceBench", name := "steps", desc := "()I" } : Jvm.MethodName)) ∈ lw_all := lw_g (lw_at lw_m4 164 rfl) rfl
theorem q946 : (Jvm.Cond.code ({ cls := "SequenceBench", name := "steps", desc := "()I" } : Jvm.MethodName) prog_1_method_12_code (1 : Nat) (Option.some Jvm.ClassFile.FieldType.int)) ∈ lw_all := lw_g (lw_at lw_m4 165 rfl) rfl
theorem q948 : (Jvm.Cond.instanceMethod ({ cls := "SequenceBench", name := "setStart", desc := "(Z)Z" } : Jvm.MethodName)) ∈ lw_all := lw_g (lw_at lw_m4 167 rfl) rfl
theorem q949 : (Jvm.Cond.selects "SequenceBench" ({ cls := "SequenceBench", name := "setStart", desc := "(Z)Z" } : Jvm.MethodName) ({ cls := "SequenceBench", name := "setStart", desc := "(Z)Z" } : Jvm.MethodName)) ∈ lw_all := lw_g (lw_at lw_m4 168 rfl) rfl
theorem q950 : (Jvm.Cond.code ({ cls := "SequenceBench", name := "setStart", desc := "(Z)Z" } : Jvm.MethodName) prog_1_method_26_code (3 : Nat) (Option.some Jvm.ClassFile.FieldType.boolean)) ∈ lw_all := lw_g (lw_at lw_m4 169 rfl) rfl
theorem q952 : (Jvm.Cond.instanceMethod ({ cls := "SequenceBench", name := "rest", desc := "()I" } : Jvm.MethodName)) ∈ lw_all := lw_g (lw_at lw_m4 171 rfl) rfl
theorem q953 : (Jvm.Cond.selects "SequenceBench" ({ cls := "SequenceBench", name := "rest", desc := "()I" } : Jvm.MethodName) ({ cls := "SequenceBench", name := "rest", desc := "()I" } : Jvm.MethodName)) ∈ lw_all := lw_g (lw_at lw_m4 172 rfl) rfl
theorem q954 : (Jvm.Cond.code ({ cls := "SequenceBench", name := "rest", desc := "()I" } : Jvm.MethodName) prog_1_method_28_code (2 : Nat) (Option.some Jvm.ClassFile.FieldType.int)) ∈ lw_all := lw_g (lw_at lw_m4 173 rfl) rfl
theorem q956 : (Jvm.Cond.instanceMethod ({ cls := "SequenceBench", name := "time", desc := "()I" } : Jvm.MethodName)) ∈ lw_all := lw_g (lw_at lw_m4 175 rfl) rfl
theorem q957 : (Jvm.Cond.selects "SequenceBench" ({ cls := "SequenceBench", name := "time", desc := "()I" } : Jvm.MethodName) ({ cls := "SequenceBench", name := "time", desc := "()I" } : Jvm.MethodName)) ∈ lw_all := lw_g (lw_at lw_m4 176 rfl) rfl
theorem q958 : (Jvm.Cond.code ({ cls := "SequenceBench", name := "time", desc := "()I" } : Jvm.MethodName) prog_1_method_30_code (1 : Nat) (Option.some Jvm.ClassFile.FieldType.int)) ∈ lw_all := lw_g (lw_at lw_m4 177 rfl) rfl
theorem q960 : (Jvm.Cond.instanceMethod ({ cls := "SequenceBench", name := "active", desc := "()I" } : Jvm.MethodName)) ∈ lw_all := lw_g (lw_at lw_m4 179 rfl) rfl
theorem q961 : (Jvm.Cond.selects "SequenceBench" ({ cls := "SequenceBench", name := "active", desc := "()I" } : Jvm.MethodName) ({ cls := "SequenceBench", name := "active", desc := "()I" } : Jvm.MethodName)) ∈ lw_all := lw_g (lw_at lw_m4 180 rfl) rfl
theorem q962 : (Jvm.Cond.code ({ cls := "SequenceBench", name := "active", desc := "()I" } : Jvm.MethodName) prog_1_method_35_code (1 : Nat) (Option.some Jvm.ClassFile.FieldType.int)) ∈ lw_all := lw_g (lw_at lw_m4 181 rfl) rfl
theorem q963 : (Jvm.Cond.interfaceEntry "SequenceBench" (201 : Nat)) ∈ lw_tbl := lw_at lw_m4 182 rfl
theorem q964 : (Jvm.Cond.methodLink "SequenceBench" (201 : Nat) ({ cls := "SequenceBench$Circuit", name := "active", desc := "()I" } : Jvm.MethodName)) ∈ lw_all := lw_g (lw_at lw_m4 183 rfl) rfl
theorem q986 : (Jvm.Cond.instanceMethod ({ cls := "SequenceBench", name := "events", desc := "()I" } : Jvm.MethodName)) ∈ lw_all := lw_g (lw_at lw_m4 205 rfl) rfl
theorem q987 : (Jvm.Cond.selects "SequenceBench" ({ cls := "SequenceBench", name := "events", desc := "()I" } : Jvm.MethodName) ({ cls := "SequenceBench", name := "events", desc := "()I" } : Jvm.MethodName)) ∈ lw_all := lw_g (lw_at lw_m4 206 rfl) rfl
theorem q988 : (Jvm.Cond.code ({ cls := "SequenceBench", name := "events", desc := "()I" } : Jvm.MethodName) prog_1_method_37_code (1 : Nat) (Option.some Jvm.ClassFile.FieldType.int)) ∈ lw_all := lw_g (lw_at lw_m4 207 rfl) rfl
theorem q990 : (Jvm.Cond.instanceMethod ({ cls := "SequenceBench", name := "rightEvents", desc := "()I" } : Jvm.MethodName)) ∈ lw_all := lw_g (lw_at lw_m4 209 rfl) rfl
theorem q991 : (Jvm.Cond.selects "SequenceBench" ({ cls := "SequenceBench", name := "rightEvents", desc := "()I" } : Jvm.MethodName) ({ cls := "SequenceBench", name := "rightEvents", desc := "()I" } : Jvm.MethodName)) ∈ lw_all := lw_g (lw_at lw_m4 210 rfl) rfl
theorem q992 : (Jvm.Cond.code ({ cls := "SequenceBench", name := "rightEvents", desc := "()I" } : Jvm.MethodName) prog_1_method_41_code (1 : Nat) (Option.some Jvm.ClassFile.FieldType.int)) ∈ lw_all := lw_g (lw_at lw_m4 211 rfl) rfl
theorem q994 : (Jvm.Cond.instanceMethod ({ cls := "SequenceBench", name := "cycles", desc := "()I" } : Jvm.MethodName)) ∈ lw_all := lw_g (lw_at lw_m4 213 rfl) rfl
theorem q995 : (Jvm.Cond.selects "SequenceBench" ({ cls := "SequenceBench", name := "cycles", desc := "()I" } : Jvm.MethodName) ({ cls := "SequenceBench", name := "cycles", desc := "()I" } : Jvm.MethodName)) ∈ lw_all := lw_g (lw_at lw_m4 214 rfl) rfl
theorem q996 : (Jvm.Cond.code ({ cls := "SequenceBench", name := "cycles", desc := "()I" } : Jvm.MethodName) prog_1_method_42_code (1 : Nat) (Option.some Jvm.ClassFile.FieldType.int)) ∈ lw_all := lw_g (lw_at lw_m4 215 rfl) rfl
theorem q998 : (Jvm.Cond.instanceMethod ({ cls := "SequenceBench", name := "quiet", desc := "()I" } : Jvm.MethodName)) ∈ lw_all := lw_g (lw_at lw_m4 217 rfl) rfl
theorem q999 : (Jvm.Cond.selects "SequenceBench" ({ cls := "SequenceBench", name := "quiet", desc := "()I" } : Jvm.MethodName) ({ cls := "SequenceBench", name := "quiet", desc := "()I" } : Jvm.MethodName)) ∈ lw_all := lw_g (lw_at lw_m4 218 rfl) rfl
theorem q1000 : (Jvm.Cond.code ({ cls := "SequenceBench", name := "quiet", desc := "()I" } : Jvm.MethodName) prog_1_method_43_code (1 : Nat) (Option.some Jvm.ClassFile.FieldType.int)) ∈ lw_all := lw_g (lw_at lw_m4 219 rfl) rfl
theorem q1002 : (Jvm.Cond.instanceMethod ({ cls := "SequenceBench", name := "fingerprint", desc := "()J" } : Jvm.MethodName)) ∈ lw_all := lw_g (lw_at lw_m4 221 rfl) rfl
theorem q1003 : (Jvm.Cond.selects "SequenceBench" ({ cls := "SequenceBench", name := "fingerprint", desc := "()J" } : Jvm.MethodName) ({ cls := "SequenceBench", name := "fingerprint", desc := "()J" } : Jvm.MethodName)) ∈ lw_all := lw_g (lw_at lw_m4 222 rfl) rfl
theorem q1004 : (Jvm.Cond.code ({ cls := "SequenceBench", name := "fingerprint", desc := "()J" } : Jvm.MethodName) prog_1_method_51_code (4 : Nat) (Option.some Jvm.ClassFile.FieldType.long)) ∈ lw_all := lw_g (lw_at lw_m4 223 rfl) rfl
theorem q1005 : (Jvm.Cond.constantLong "SequenceBench" (262 : Nat) (589 : Int64)) ∈ lw_all := lw_g (lw_at lw_m4 224 rfl) rfl
theorem q1006 : (Jvm.Cond.constantLong "SequenceBench" (264 : Nat) (31 : Int64)) ∈ lw_all := lw_g (lw_at lw_m4 225 rfl) rfl
theorem q1007 : (Jvm.Cond.methodLink "SequenceBench" (266 : Nat) ({ cls := "SequenceBench", name := "active", desc := "()I" } : Jvm.MethodName)) ∈ lw_all := lw_g (lw_at lw_m4 226 rfl) rfl
theorem q1008 : (Jvm.Cond.methodLink "SequenceBench" (173 : Nat) ({ cls := "SequenceBench", name := "has", desc := "(II)Z" } : Jvm.MethodName)) ∈ lw_all := lw_g (lw_at lw_m4 227 rfl) rfl
theorem q1009 : (Jvm.Cond.methodLink "SequenceBench" (108 : Nat) ({ cls := "SequenceBench", name := "steps", desc := "()I" } : Jvm.MethodName)) ∈ lw_all := lw_g (lw_at lw_m4 228 rfl) rfl
theorem q1016 : (Jvm.Cond.instanceMethod ({ cls := "SequenceBench", name := "type", desc := "(I)I" } : Jvm.MethodName)) ∈ lw_all := lw_g (lw_at lw_m4 235 rfl) rfl
theorem q1017 : (Jvm.Cond.selects "SequenceBench" ({ cls := "SequenceBench", name := "type", desc := "(I)I" } : Jvm.MethodName) ({ cls := "SequenceBench", name := "type", desc := "(I)I" } : Jvm.MethodName)) ∈ lw_all := lw_g (lw_at lw_m4 236 rfl) rfl
theorem q1018 : (Jvm.Cond.code ({ cls := "SequenceBench", name := "type", desc := "(I)I" } : Jvm.MethodName) prog_1_method_7_code (2 : Nat) (Option.some Jvm.ClassFile.FieldType.int)) ∈ lw_all := lw_g (lw_at lw_m4 237 rfl) rfl
theorem q1019 : (Jvm.Cond.constantLong "SequenceBench" (59 : Nat) (32 : Int64)) ∈ lw_all := lw_g (lw_at lw_m4 238 rfl) rfl
theorem q1020 : (Jvm.Cond.constantLong "SequenceBench" (61 : Nat) (126 : Int64)) ∈ lw_all := lw_g (lw_at lw_m4 239 rfl) rfl
theorem q1021 : (Jvm.Cond.methodLink "SequenceBench" (42 : Nat) ({ cls := "SequenceBench", name := "isIn", desc := "(JJJ)Z" } : Jvm.MethodName)) ∈ lw_all := lw_g (lw_at lw_m5 0 rfl) rfl
theorem q1022 : (Jvm.Cond.methodLink "SequenceBench" (63 : Nat) ({ cls := "SequenceBench", name := "checkArgument", desc := "(Z)V" } : Jvm.MethodName)) ∈ lw_all := lw_g (lw_at lw_m5 1 rfl) rfl
theorem q1023 : (Jvm.Cond.static ({ cls := "SequenceBench", name := "checkArgument", desc := "(Z)V" } : Jvm.MethodName)) ∈ lw_all := lw_g (lw_at lw_m5 2 rfl) rfl
theorem q1024 : (Jvm.Cond.code ({ cls := "SequenceBench", name := "checkArgument", desc := "(Z)V" } : Jvm.MethodName) prog_1_method_4_code (1 : Nat) (Option.none : Option Jvm.ClassFile.FieldType)) ∈ lw_all := lw_g (lw_at lw_m5 3 rfl) rfl
theorem q1025 : (Jvm.Cond.classLink "SequenceBench" (49 : Nat) "java/lang/IllegalArgumentException") ∈ lw_all := lw_g (lw_at lw_m5 4 rfl) rfl
theorem q1026 : (Jvm.Cond.methodLink "SequenceBench" (51 : Nat) ({ cls := "java/lang/IllegalArgumentException", name := "<init>", desc := "()V" } : Jvm.MethodName)) ∈ lw_all := lw_g (lw_at lw_m5 5 rfl) rfl
theorem q1036 : (Jvm.Cond.classLink "SequenceBench" (56 : Nat) "java/lang/IllegalStateException") ∈ lw_all := lw_g (lw_at lw_m5 15 rfl) rfl
theorem q1045 : (Jvm.Cond.methodLink "SequenceBench" (58 : Nat) ({ cls := "java/lang/IllegalStateException", name := "<init>", desc := "()V" } : Jvm.MethodName)) ∈ lw_all := lw_g (lw_at lw_m5 24 rfl) rfl
theorem q1074 : (Jvm.Cond.instanceMethod ({ cls := "SequenceBench", name := "moves", desc := "(I)I" } : Jvm.MethodName)) ∈ lw_all := lw_g (lw_at lw_m5 53 rfl) rfl
theorem q1075 : (Jvm.Cond.selects "SequenceBench" ({ cls := "SequenceBench", name := "moves", desc := "(I)I" } : Jvm.MethodName) ({ cls := "SequenceBench", name := "moves", desc := "(I)I" } : Jvm.MethodName)) ∈ lw_all := lw_g (lw_at lw_m5 54 rfl) rfl
theorem q1076 : (Jvm.Cond.code ({ cls := "SequenceBench", name := "moves", desc := "(I)I" } : Jvm.MethodName) prog_1_method_14_code (2 : Nat) (Option.some Jvm.ClassFile.FieldType.int)) ∈ lw_all := lw_g (lw_at lw_m5 55 rfl) rfl
theorem q1077 : (Jvm.Cond.methodLink "SequenceBench" (115 : Nat) ({ cls := "SequenceBench", name := "step", desc := "(I)LSequenceBench$Step;" } : Jvm.MethodName)) ∈ lw_all := lw_g (lw_at lw_m5 56 rfl) rfl
theorem q1078 : (Jvm.Cond.privateMethod ({ cls := "SequenceBench", name := "step", desc := "(I)LSequenceBench$Step;" } : Jvm.MethodName)) ∈ lw_tbl := lw_at lw_m5 57 rfl
theorem q1079 : (Jvm.Cond.instanceMethod ({ cls := "SequenceBench", name := "step", desc := "(I)LSequenceBench$Step;" } : Jvm.MethodName)) ∈ lw_all := lw_g (lw_at lw_m5 58 rfl) rfl
theorem q1080 : (Jvm.Cond.code ({ cls := "SequenceBench", name := "step", desc := "(I)LSequenceBench$Step;" } : Jvm.MethodName) prog_1_method_13_code (2 : Nat) (Option.some (Jvm.ClassFile.FieldType.object "SequenceBench$Step"))) ∈ lw_all := lw_g (lw_at lw_m5 59 rfl) rfl
theorem q1081 : (Jvm.Cond.methodLink "SequenceBench" (111 : Nat) ({ cls := "SequenceBench", name := "checkIndex", desc := "(II)V" } : Jvm.MethodName)) ∈ lw_all := lw_g (lw_at lw_m5 60 rfl) rfl
theorem q1082 : (Jvm.Cond.static ({ cls := "SequenceBench", name := "checkIndex", desc := "(II)V" } : Jvm.MethodName)) ∈ lw_all := lw_g (lw_at lw_m5 61 rfl) rfl
theorem q1083 : (Jvm.Cond.code ({ cls := "SequenceBench", name := "checkIndex", desc := "(II)V" } : Jvm.MethodName) prog_1_method_3_code (2 : Nat) (Option.none : Option Jvm.ClassFile.FieldType)) ∈ lw_all := lw_g (lw_at lw_m5 62 rfl) rfl
theorem q1084 : (Jvm.Cond.classLink "SequenceBench" (46 : Nat) "java/lang/IndexOutOfBoundsException") ∈ lw_all := lw_g (lw_at lw_m5 63 rfl) rfl
theorem q1093 : (Jvm.Cond.methodLink "SequenceBench" (48 : Nat) ({ cls := "java/lang/IndexOutOfBoundsException", name := "<init>", desc := "()V" } : Jvm.MethodName)) ∈ lw_all := lw_g (lw_at lw_m5 72 rfl) rfl
theorem q1099 : (Jvm.Cond.methodLink "SequenceBench" (119 : Nat) ({ cls := "SequenceBench$Step", name := "moves", desc := "()I" } : Jvm.MethodName)) ∈ lw_all := lw_g (lw_at lw_m5 78 rfl) rfl
theorem q1104 : (Jvm.Cond.instanceMethod ({ cls := "SequenceBench", name := "direction", desc := "(II)I" } : Jvm.MethodName)) ∈ lw_all := lw_g (lw_at lw_m5 83 rfl) rfl
theorem q1105 : (Jvm.Cond.selects "SequenceBench" ({ cls := "SequenceBench", name := "direction", desc := "(II)I" } : Jvm.MethodName) ({ cls := "SequenceBench", name := "direction", desc := "(II)I" } : Jvm.MethodName)) ∈ lw_all := lw_g (lw_at lw_m5 84 rfl) rfl
theorem q1106 : (Jvm.Cond.code ({ cls := "SequenceBench", name := "direction", desc := "(II)I" } : Jvm.MethodName) prog_1_method_15_code (4 : Nat) (Option.some Jvm.ClassFile.FieldType.int)) ∈ lw_all := lw_g (lw_at lw_m5 85 rfl) rfl
theorem q1107 : (Jvm.Cond.methodLink "SequenceBench" (124 : Nat) ({ cls := "SequenceBench$Step", name := "direction", desc := "(I)I" } : Jvm.MethodName)) ∈ lw_all := lw_g (lw_at lw_m5 86 rfl) rfl
theorem q1116 : (Jvm.Cond.instanceMethod ({ cls := "SequenceBench", name := "pause", desc := "(I)I" } : Jvm.MethodName)) ∈ lw_all := lw_g (lw_at lw_m5 95 rfl) rfl
theorem q1117 : (Jvm.Cond.selects "SequenceBench" ({ cls := "SequenceBench", name := "pause", desc := "(I)I" } : Jvm.MethodName) ({ cls := "SequenceBench", name := "pause", desc := "(I)I" } : Jvm.MethodName)) ∈ lw_all := lw_g (lw_at lw_m5 96 rfl) rfl
theorem q1118 : (Jvm.Cond.code ({ cls := "SequenceBench", name := "pause", desc := "(I)I" } : Jvm.MethodName) prog_1_method_16_code (2 : Nat) (Option.some Jvm.ClassFile.FieldType.int)) ∈ lw_all := lw_g (lw_at lw_m5 97 rfl) rfl
theorem q1123 : (Jvm.Cond.instanceMethod ({ cls := "SequenceBench", name := "clashes", desc := "()I" } : Jvm.MethodName)) ∈ lw_all := lw_g (lw_at lw_m5 102 rfl) rfl
theorem q1124 : (Jvm.Cond.selects "SequenceBench" ({ cls := "SequenceBench", name := "clashes", desc := "()I" } : Jvm.MethodName) ({ cls := "SequenceBench", name := "clashes", desc := "()I" } : Jvm.MethodName)) ∈ lw_all := lw_g (lw_at lw_m5 103 rfl) rfl
theorem q1125 : (Jvm.Cond.code ({ cls := "SequenceBench", name := "clashes", desc := "()I" } : Jvm.MethodName) prog_1_method_17_code (4 : Nat) (Option.some Jvm.ClassFile.FieldType.int)) ∈ lw_all := lw_g (lw_at lw_m5 104 rfl) rfl
theorem q1126 : (Jvm.Cond.methodLink "SequenceBench" (131 : Nat) ({ cls := "SequenceBench", name := "checkSequence", desc := "()V" } : Jvm.MethodName)) ∈ lw_all := lw_g (lw_at lw_m5 105 rfl) rfl
theorem q1127 : (Jvm.Cond.privateMethod ({ cls := "SequenceBench", name := "checkSequence", desc := "()V" } : Jvm.MethodName)) ∈ lw_tbl := lw_at lw_m5 106 rfl
theorem q1128 : (Jvm.Cond.instanceMethod ({ cls := "SequenceBench", name := "checkSequence", desc := "()V" } : Jvm.MethodName)) ∈ lw_all := lw_g (lw_at lw_m5 107 rfl) rfl
theorem q1129 : (Jvm.Cond.code ({ cls := "SequenceBench", name := "checkSequence", desc := "()V" } : Jvm.MethodName) prog_1_method_5_code (1 : Nat) (Option.none : Option Jvm.ClassFile.FieldType)) ∈ lw_all := lw_g (lw_at lw_m5 108 rfl) rfl
theorem q1130 : (Jvm.Cond.methodLink "SequenceBench" (134 : Nat) ({ cls := "SequenceBench$Sequence", name := "clash", desc := "(II)I" } : Jvm.MethodName)) ∈ lw_all := lw_g (lw_at lw_m5 109 rfl) rfl
theorem q1144 : (Jvm.Cond.instanceMethod ({ cls := "SequenceBench", name := "clash", desc := "(II)I" } : Jvm.MethodName)) ∈ lw_all := lw_g (lw_at lw_m5 123 rfl) rfl
theorem q1145 : (Jvm.Cond.selects "SequenceBench" ({ cls := "SequenceBench", name := "clash", desc := "(II)I" } : Jvm.MethodName) ({ cls := "SequenceBench", name := "clash", desc := "(II)I" } : Jvm.MethodName)) ∈ lw_all := lw_g (lw_at lw_m5 124 rfl) rfl
theorem q1146 : (Jvm.Cond.code ({ cls := "SequenceBench", name := "clash", desc := "(II)I" } : Jvm.MethodName) prog_1_method_18_code (3 : Nat) (Option.some Jvm.ClassFile.FieldType.int)) ∈ lw_all := lw_g (lw_at lw_m5 125 rfl) rfl
theorem q1151 : (Jvm.Cond.instanceMethod ({ cls := "SequenceBench", name := "groups", desc := "()I" } : Jvm.MethodName)) ∈ lw_all := lw_g (lw_at lw_m5 130 rfl) rfl
theorem q1152 : (Jvm.Cond.selects "SequenceBench" ({ cls := "SequenceBench", name := "groups", desc := "()I" } : Jvm.MethodName) ({ cls := "SequenceBench", name := "groups", desc := "()I" } : Jvm.MethodName)) ∈ lw_all := lw_g (lw_at lw_m5 131 rfl) rfl
theorem q1153 : (Jvm.Cond.code ({ cls := "SequenceBench", name := "groups", desc := "()I" } : Jvm.MethodName) prog_1_method_19_code (1 : Nat) (Option.some Jvm.ClassFile.FieldType.int)) ∈ lw_all := lw_g (lw_at lw_m5 132 rfl) rfl
theorem q1158 : (Jvm.Cond.instanceMethod ({ cls := "SequenceBench", name := "cut", desc := "(I)I" } : Jvm.MethodName)) ∈ lw_all := lw_g (lw_at lw_m5 137 rfl) rfl
theorem q1159 : (Jvm.Cond.selects "SequenceBench" ({ cls := "SequenceBench", name := "cut", desc := "(I)I" } : Jvm.MethodName) ({ cls := "SequenceBench", name := "cut", desc := "(I)I" } : Jvm.MethodName)) ∈ lw_all := lw_g (lw_at lw_m5 138 rfl) rfl
theorem q1160 : (Jvm.Cond.code ({ cls := "SequenceBench", name := "cut", desc := "(I)I" } : Jvm.MethodName) prog_1_method_20_code (2 : Nat) (Option.some Jvm.ClassFile.FieldType.int)) ∈ lw_all := lw_g (lw_at lw_m5 139 rfl) rfl
theorem q1165 : (Jvm.Cond.instanceMethod ({ cls := "SequenceBench", name := "groupOf", desc := "(I)I" } : Jvm.MethodName)) ∈ lw_all := lw_g (lw_at lw_m5 144 rfl) rfl
theorem q1166 : (Jvm.Cond.selects "SequenceBench" ({ cls := "SequenceBench", name := "groupOf", desc := "(I)I" } : Jvm.MethodName) ({ cls := "SequenceBench", name := "groupOf", desc := "(I)I" } : Jvm.MethodName)) ∈ lw_all := lw_g (lw_at lw_m5 145 rfl) rfl
theorem q1167 : (Jvm.Cond.code ({ cls := "SequenceBench", name := "groupOf", desc := "(I)I" } : Jvm.MethodName) prog_1_method_21_code (2 : Nat) (Option.some Jvm.ClassFile.FieldType.int)) ∈ lw_all := lw_g (lw_at lw_m5 146 rfl) rfl
theorem q1168 : (Jvm.Cond.methodLink "SequenceBench" (141 : Nat) ({ cls := "SequenceBench$Sequence", name := "groupOf", desc := "(I)I" } : Jvm.MethodName)) ∈ lw_all := lw_g (lw_at lw_m5 147 rfl) rfl
theorem q1173 : (Jvm.Cond.instanceMethod ({ cls := "SequenceBench", name := "valves", desc := "(I)I" } : Jvm.MethodName)) ∈ lw_all := lw_g (lw_at lw_m5 152 rfl) rfl
theorem q1174 : (Jvm.Cond.selects "SequenceBench" ({ cls := "SequenceBench", name := "valves", desc := "(I)I" } : Jvm.MethodName) ({ cls := "SequenceBench", name := "valves", desc := "(I)I" } : Jvm.MethodName)) ∈ lw_all := lw_g (lw_at lw_m5 153 rfl) rfl
theorem q1175 : (Jvm.Cond.code ({ cls := "SequenceBench", name := "valves", desc := "(I)I" } : Jvm.MethodName) prog_1_method_23_code (2 : Nat) (Option.some Jvm.ClassFile.FieldType.int)) ∈ lw_all := lw_g (lw_at lw_m5 154 rfl) rfl
theorem q1176 : (Jvm.Cond.constantLong "SequenceBench" (156 : Nat) (2 : Int64)) ∈ lw_all := lw_g (lw_at lw_m5 155 rfl) rfl
theorem q1177 : (Jvm.Cond.methodLink "SequenceBench" (158 : Nat) ({ cls := "SequenceBench$Method", name := "of", desc := "(I)LSequenceBench$Method;" } : Jvm.MethodName)) ∈ lw_all := lw_g (lw_at lw_m5 156 rfl) rfl
theorem q1185 : (Jvm.Cond.methodLink "SequenceBench" (162 : Nat) ({ cls := "SequenceBench", name := "valvesOf", desc := "(LSequenceBench$Method;)I" } : Jvm.MethodName)) ∈ lw_all := lw_g (lw_at lw_m5 164 rfl) rfl
theorem q1186 : (Jvm.Cond.privateMethod ({ cls := "SequenceBench", name := "valvesOf", desc := "(LSequenceBench$Method;)I" } : Jvm.MethodName)) ∈ lw_tbl := lw_at lw_m5 165 rfl
theorem q1187 : (Jvm.Cond.instanceMethod ({ cls := "SequenceBench", name := "valvesOf", desc := "(LSequenceBench$Method;)I" } : Jvm.MethodName)) ∈ lw_all := lw_g (lw_at lw_m5 166 rfl) rfl
theorem q1188 : (Jvm.Cond.code ({ cls := "SequenceBench", name := "valvesOf", desc := "(LSequenceBench$Method;)I" } : Jvm.MethodName) prog_1_method_22_code (2 : Nat) (Option.some Jvm.ClassFile.FieldType.int)) ∈ lw_all := lw_g (lw_at lw_m5 167 rfl) rfl
theorem q1189 : (Jvm.Cond.methodLink "SequenceBench" (144 : Nat) ({ cls := "SequenceBench$Sequence", name := "cylinders", desc := "()I" } : Jvm.MethodName)) ∈ lw_all := lw_g (lw_at lw_m5 168 rfl) rfl
theorem q1193 : (Jvm.Cond.methodLink "SequenceBench" (147 : Nat) ({ cls := "java/lang/Integer", name := "bitCount", desc := "(I)I" } : Jvm.MethodName)) ∈ lw_all := lw_g (lw_at lw_m5 172 rfl) rfl
theorem q1199 : (Jvm.Cond.methodLink "SequenceBench" (152 : Nat) ({ cls := "SequenceBench$Method", name := "extraValves", desc := "(LSequenceBench$Sequence;)I" } : Jvm.MethodName)) ∈ lw_all := lw_g (lw_at lw_m5 178 rfl) rfl
theorem q1215 : (Jvm.Cond.instanceMethod ({ cls := "SequenceBench", name := "setMethod", desc := "(I)I" } : Jvm.MethodName)) ∈ lw_all := lw_g (lw_at lw_m5 194 rfl) rfl
theorem q1216 : (Jvm.Cond.selects "SequenceBench" ({ cls := "SequenceBench", name := "setMethod", desc := "(I)I" } : Jvm.MethodName) ({ cls := "SequenceBench", name := "setMethod", desc := "(I)I" } : Jvm.MethodName)) ∈ lw_all := lw_g (lw_at lw_m5 195 rfl) rfl
theorem q1217 : (Jvm.Cond.code ({ cls := "SequenceBench", name := "setMethod", desc := "(I)I" } : Jvm.MethodName) prog_1_method_24_code (3 : Nat) (Option.some Jvm.ClassFile.FieldType.int)) ∈ lw_all := lw_g (lw_at lw_m5 196 rfl) rfl
theorem q1218 : (Jvm.Cond.methodLink "SequenceBench" (166 : Nat) ({ cls := "SequenceBench$Method", name := "number", desc := "()I" } : Jvm.MethodName)) ∈ lw_all := lw_g (lw_at lw_m5 197 rfl) rfl
theorem q1229 : (Jvm.Cond.instanceMethod ({ cls := "SequenceBench", name := "setStroke", desc := "(II)I" } : Jvm.MethodName)) ∈ lw_all := lw_g (lw_at lw_m5 208 rfl) rfl
theorem q1230 : (Jvm.Cond.selects "SequenceBench" ({ cls := "SequenceBench", name := "setStroke", desc := "(II)I" } : Jvm.MethodName) ({ cls := "SequenceBench", name := "setStroke", desc := "(II)I" } : Jvm.MethodName)) ∈ lw_all := lw_g (lw_at lw_m5 209 rfl) rfl
theorem q1231 : (Jvm.Cond.code ({ cls := "SequenceBench", name := "setStroke", desc := "(II)I" } : Jvm.MethodName) prog_1_method_25_code (4 : Nat) (Option.some Jvm.ClassFile.FieldType.int)) ∈ lw_all := lw_g (lw_at lw_m5 210 rfl) rfl
theorem q1232 : (Jvm.Cond.constantLong "SequenceBench" (169 : Nat) (20 : Int64)) ∈ lw_all := lw_g (lw_at lw_m5 211 rfl) rfl
theorem q1237 : (Jvm.Cond.instanceMethod ({ cls := "SequenceBench", name := "setFault", desc := "(IIZ)Z" } : Jvm.MethodName)) ∈ lw_all := lw_g (lw_at lw_m5 216 rfl) rfl
theorem q1238 : (Jvm.Cond.selects "SequenceBench" ({ cls := "SequenceBench", name := "setFault", desc := "(IIZ)Z" } : Jvm.MethodName) ({ cls := "SequenceBench", name := "setFault", desc := "(IIZ)Z" } : Jvm.MethodName)) ∈ lw_all := lw_g (lw_at lw_m5 217 rfl) rfl
theorem q1239 : (Jvm.Cond.code ({ cls := "SequenceBench", name := "setFault", desc := "(IIZ)Z" } : Jvm.MethodName) prog_1_method_27_code (5 : Nat) (Option.some Jvm.ClassFile.FieldType.boolean)) ∈ lw_all := lw_g (lw_at lw_m5 218 rfl) rfl
theorem q1240 : (Jvm.Cond.constantLong "SequenceBench" (171 : Nat) (4 : Int64)) ∈ lw_all := lw_g (lw_at lw_m5 219 rfl) rfl
theorem q1245 : (Jvm.Cond.instanceMethod ({ cls := "SequenceBench", name := "ticks", desc := "(I)I" } : Jvm.MethodName)) ∈ lw_all := lw_g (lw_at lw_m5 224 rfl) rfl
theorem q1246 : (Jvm.Cond.selects "SequenceBench" ({ cls := "SequenceBench", name := "ticks", desc := "(I)I" } : Jvm.MethodName) ({ cls := "SequenceBench", name := "ticks", desc := "(I)I" } : Jvm.MethodName)) ∈ lw_all := lw_g (lw_at lw_m5 225 rfl) rfl
theorem q1247 : (Jvm.Cond.code ({ cls := "SequenceBench", name := "ticks", desc := "(I)I" } : Jvm.MethodName) prog_1_method_29_code (2 : Nat) (Option.some Jvm.ClassFile.FieldType.int)) ∈ lw_all := lw_g (lw_at lw_m5 226 rfl) rfl
theorem q1248 : (Jvm.Cond.constantLong "SequenceBench" (180 : Nat) (5000 : Int64)) ∈ lw_all := lw_g (lw_at lw_m5 227 rfl) rfl
theorem q1249 : (Jvm.Cond.methodLink "SequenceBench" (182 : Nat) ({ cls := "SequenceBench$Rig", name := "ticks", desc := "(I)I" } : Jvm.MethodName)) ∈ lw_all := lw_g (lw_at lw_m5 228 rfl) rfl
theorem q1324 : (Jvm.Cond.instanceMethod ({ cls := "SequenceBench", name := "position", desc := "(I)I" } : Jvm.MethodName)) ∈ lw_all := lw_g (lw_at lw_m6 63 rfl) rfl
theorem q1325 : (Jvm.Cond.selects "SequenceBench" ({ cls := "SequenceBench", name := "position", desc := "(I)I" } : Jvm.MethodName) ({ cls := "SequenceBench", name := "position", desc := "(I)I" } : Jvm.MethodName)) ∈ lw_all := lw_g (lw_at lw_m6 64 rfl) rfl
theorem q1326 : (Jvm.Cond.code ({ cls := "SequenceBench", name := "position", desc := "(I)I" } : Jvm.MethodName) prog_1_method_31_code (2 : Nat) (Option.some Jvm.ClassFile.FieldType.int)) ∈ lw_all := lw_g (lw_at lw_m6 65 rfl) rfl
theorem q1331 : (Jvm.Cond.instanceMethod ({ cls := "SequenceBench", name := "isOut", desc := "(I)Z" } : Jvm.MethodName)) ∈ lw_all := lw_g (lw_at lw_m6 70 rfl) rfl
theorem q1332 : (Jvm.Cond.selects "SequenceBench" ({ cls := "SequenceBench", name := "isOut", desc := "(I)Z" } : Jvm.MethodName) ({ cls := "SequenceBench", name := "isOut", desc := "(I)Z" } : Jvm.MethodName)) ∈ lw_all := lw_g (lw_at lw_m6 71 rfl) rfl
theorem q1333 : (Jvm.Cond.code ({ cls := "SequenceBench", name := "isOut", desc := "(I)Z" } : Jvm.MethodName) prog_1_method_32_code (2 : Nat) (Option.some Jvm.ClassFile.FieldType.boolean)) ∈ lw_all := lw_g (lw_at lw_m6 72 rfl) rfl
theorem q1338 : (Jvm.Cond.instanceMethod ({ cls := "SequenceBench", name := "sensor", desc := "(II)Z" } : Jvm.MethodName)) ∈ lw_all := lw_g (lw_at lw_m6 77 rfl) rfl
theorem q1339 : (Jvm.Cond.selects "SequenceBench" ({ cls := "SequenceBench", name := "sensor", desc := "(II)Z" } : Jvm.MethodName) ({ cls := "SequenceBench", name := "sensor", desc := "(II)Z" } : Jvm.MethodName)) ∈ lw_all := lw_g (lw_at lw_m6 78 rfl) rfl
theorem q1340 : (Jvm.Cond.code ({ cls := "SequenceBench", name := "sensor", desc := "(II)Z" } : Jvm.MethodName) prog_1_method_33_code (3 : Nat) (Option.some Jvm.ClassFile.FieldType.boolean)) ∈ lw_all := lw_g (lw_at lw_m6 79 rfl) rfl
theorem q1341 : (Jvm.Cond.methodLink "SequenceBench" (191 : Nat) ({ cls := "SequenceBench$Rig", name := "sensor", desc := "(II)Z" } : Jvm.MethodName)) ∈ lw_all := lw_g (lw_at lw_m6 80 rfl) rfl
theorem q1346 : (Jvm.Cond.instanceMethod ({ cls := "SequenceBench", name := "timer", desc := "(I)I" } : Jvm.MethodName)) ∈ lw_all := lw_g (lw_at lw_m6 85 rfl) rfl
theorem q1347 : (Jvm.Cond.selects "SequenceBench" ({ cls := "SequenceBench", name := "timer", desc := "(I)I" } : Jvm.MethodName) ({ cls := "SequenceBench", name := "timer", desc := "(I)I" } : Jvm.MethodName)) ∈ lw_all := lw_g (lw_at lw_m6 86 rfl) rfl
theorem q1348 : (Jvm.Cond.code ({ cls := "SequenceBench", name := "timer", desc := "(I)I" } : Jvm.MethodName) prog_1_method_34_code (2 : Nat) (Option.some Jvm.ClassFile.FieldType.int)) ∈ lw_all := lw_g (lw_at lw_m6 87 rfl) rfl
theorem q1353 : (Jvm.Cond.instanceMethod ({ cls := "SequenceBench", name := "commands", desc := "(I)I" } : Jvm.MethodName)) ∈ lw_all := lw_g (lw_at lw_m6 92 rfl) rfl
theorem q1354 : (Jvm.Cond.selects "SequenceBench" ({ cls := "SequenceBench", name := "commands", desc := "(I)I" } : Jvm.MethodName) ({ cls := "SequenceBench", name := "commands", desc := "(I)I" } : Jvm.MethodName)) ∈ lw_all := lw_g (lw_at lw_m6 93 rfl) rfl
theorem q1355 : (Jvm.Cond.code ({ cls := "SequenceBench", name := "commands", desc := "(I)I" } : Jvm.MethodName) prog_1_method_36_code (2 : Nat) (Option.some Jvm.ClassFile.FieldType.int)) ∈ lw_all := lw_g (lw_at lw_m6 94 rfl) rfl
theorem q1360 : (Jvm.Cond.instanceMethod ({ cls := "SequenceBench", name := "eventTime", desc := "(I)I" } : Jvm.MethodName)) ∈ lw_all := lw_g (lw_at lw_m6 99 rfl) rfl
theorem q1361 : (Jvm.Cond.selects "SequenceBench" ({ cls := "SequenceBench", name := "eventTime", desc := "(I)I" } : Jvm.MethodName) ({ cls := "SequenceBench", name := "eventTime", desc := "(I)I" } : Jvm.MethodName)) ∈ lw_all := lw_g (lw_at lw_m6 100 rfl) rfl
theorem q1362 : (Jvm.Cond.code ({ cls := "SequenceBench", name := "eventTime", desc := "(I)I" } : Jvm.MethodName) prog_1_method_39_code (3 : Nat) (Option.some Jvm.ClassFile.FieldType.int)) ∈ lw_all := lw_g (lw_at lw_m6 101 rfl) rfl
theorem q1363 : (Jvm.Cond.methodLink "SequenceBench" (215 : Nat) ({ cls := "SequenceBench", name := "placeOf", desc := "(I)I" } : Jvm.MethodName)) ∈ lw_all := lw_g (lw_at lw_m6 102 rfl) rfl
theorem q1364 : (Jvm.Cond.privateMethod ({ cls := "SequenceBench", name := "placeOf", desc := "(I)I" } : Jvm.MethodName)) ∈ lw_tbl := lw_at lw_m6 103 rfl
theorem q1365 : (Jvm.Cond.instanceMethod ({ cls := "SequenceBench", name := "placeOf", desc := "(I)I" } : Jvm.MethodName)) ∈ lw_all := lw_g (lw_at lw_m6 104 rfl) rfl
theorem q1366 : (Jvm.Cond.code ({ cls := "SequenceBench", name := "placeOf", desc := "(I)I" } : Jvm.MethodName) prog_1_method_38_code (2 : Nat) (Option.some Jvm.ClassFile.FieldType.int)) ∈ lw_all := lw_g (lw_at lw_m6 105 rfl) rfl
theorem q1371 : (Jvm.Cond.instanceMethod ({ cls := "SequenceBench", name := "eventMove", desc := "(I)I" } : Jvm.MethodName)) ∈ lw_all := lw_g (lw_at lw_m6 110 rfl) rfl
theorem q1372 : (Jvm.Cond.selects "SequenceBench" ({ cls := "SequenceBench", name := "eventMove", desc := "(I)I" } : Jvm.MethodName) ({ cls := "SequenceBench", name := "eventMove", desc := "(I)I" } : Jvm.MethodName)) ∈ lw_all := lw_g (lw_at lw_m6 111 rfl) rfl
theorem q1373 : (Jvm.Cond.code ({ cls := "SequenceBench", name := "eventMove", desc := "(I)I" } : Jvm.MethodName) prog_1_method_40_code (3 : Nat) (Option.some Jvm.ClassFile.FieldType.int)) ∈ lw_all := lw_g (lw_at lw_m6 112 rfl) rfl
theorem q1378 : (Jvm.Cond.instanceMethod ({ cls := "SequenceBench", name := "works", desc := "(I)Z" } : Jvm.MethodName)) ∈ lw_all := lw_g (lw_at lw_m6 117 rfl) rfl
theorem q1379 : (Jvm.Cond.selects "SequenceBench" ({ cls := "SequenceBench", name := "works", desc := "(I)Z" } : Jvm.MethodName) ({ cls := "SequenceBench", name := "works", desc := "(I)Z" } : Jvm.MethodName)) ∈ lw_all := lw_g (lw_at lw_m6 118 rfl) rfl
theorem q1380 : (Jvm.Cond.code ({ cls := "SequenceBench", name := "works", desc := "(I)Z" } : Jvm.MethodName) prog_1_method_45_code (2 : Nat) (Option.some Jvm.ClassFile.FieldType.boolean)) ∈ lw_all := lw_g (lw_at lw_m6 119 rfl) rfl
theorem q1381 : (Jvm.Cond.methodLink "SequenceBench" (233 : Nat) ({ cls := "SequenceBench", name := "trial", desc := "(LSequenceBench$Method;)LSequenceBench$Rig;" } : Jvm.MethodName)) ∈ lw_all := lw_g (lw_at lw_m6 120 rfl) rfl
theorem q1382 : (Jvm.Cond.privateMethod ({ cls := "SequenceBench", name := "trial", desc := "(LSequenceBench$Method;)LSequenceBench$Rig;" } : Jvm.MethodName)) ∈ lw_tbl := lw_at lw_m6 121 rfl
theorem q1383 : (Jvm.Cond.instanceMethod ({ cls := "SequenceBench", name := "trial", desc := "(LSequenceBench$Method;)LSequenceBench$Rig;" } : Jvm.MethodName)) ∈ lw_all := lw_g (lw_at lw_m6 122 rfl) rfl
theorem q1384 : (Jvm.Cond.code ({ cls := "SequenceBench", name := "trial", desc := "(LSequenceBench$Method;)LSequenceBench$Rig;" } : Jvm.MethodName) prog_1_method_44_code (2 : Nat) (Option.some (Jvm.ClassFile.FieldType.object "SequenceBench$Rig"))) ∈ lw_all := lw_g (lw_at lw_m6 123 rfl) rfl
theorem q1385 : (Jvm.Cond.methodLink "SequenceBench" (237 : Nat) ({ cls := "SequenceBench$Rig", name := "makesCycles", desc := "()Z" } : Jvm.MethodName)) ∈ lw_all := lw_g (lw_at lw_m6 124 rfl) rfl
theorem q1393 : (Jvm.Cond.instanceMethod ({ cls := "SequenceBench", name := "cycleTime", desc := "(I)I" } : Jvm.MethodName)) ∈ lw_all := lw_g (lw_at lw_m6 132 rfl) rfl
theorem q1394 : (Jvm.Cond.selects "SequenceBench" ({ cls := "SequenceBench", name := "cycleTime", desc := "(I)I" } : Jvm.MethodName) ({ cls := "SequenceBench", name := "cycleTime", desc := "(I)I" } : Jvm.MethodName)) ∈ lw_all := lw_g (lw_at lw_m6 133 rfl) rfl
theorem q1395 : (Jvm.Cond.code ({ cls := "SequenceBench", name := "cycleTime", desc := "(I)I" } : Jvm.MethodName) prog_1_method_46_code (3 : Nat) (Option.some Jvm.ClassFile.FieldType.int)) ∈ lw_all := lw_g (lw_at lw_m6 134 rfl) rfl
theorem q1400 : (Jvm.Cond.instanceMethod ({ cls := "SequenceBench", name := "cheapest", desc := "()I" } : Jvm.MethodName)) ∈ lw_all := lw_g (lw_at lw_m6 139 rfl) rfl
theorem q1401 : (Jvm.Cond.selects "SequenceBench" ({ cls := "SequenceBench", name := "cheapest", desc := "()I" } : Jvm.MethodName) ({ cls := "SequenceBench", name := "cheapest", desc := "()I" } : Jvm.MethodName)) ∈ lw_all := lw_g (lw_at lw_m6 140 rfl) rfl
theorem q1402 : (Jvm.Cond.code ({ cls := "SequenceBench", name := "cheapest", desc := "()I" } : Jvm.MethodName) prog_1_method_47_code (4 : Nat) (Option.some Jvm.ClassFile.FieldType.int)) ∈ lw_all := lw_g (lw_at lw_m6 141 rfl) rfl
theorem q1407 : (Jvm.Cond.instanceMethod ({ cls := "SequenceBench", name := "effect", desc := "(III)I" } : Jvm.MethodName)) ∈ lw_all := lw_g (lw_at lw_m6 146 rfl) rfl
theorem q1408 : (Jvm.Cond.selects "SequenceBench" ({ cls := "SequenceBench", name := "effect", desc := "(III)I" } : Jvm.MethodName) ({ cls := "SequenceBench", name := "effect", desc := "(III)I" } : Jvm.MethodName)) ∈ lw_all := lw_g (lw_at lw_m6 147 rfl) rfl
theorem q1409 : (Jvm.Cond.code ({ cls := "SequenceBench", name := "effect", desc := "(III)I" } : Jvm.MethodName) prog_1_method_49_code (4 : Nat) (Option.some Jvm.ClassFile.FieldType.int)) ∈ lw_all := lw_g (lw_at lw_m6 148 rfl) rfl
theorem q1410 : (Jvm.Cond.constantLong "SequenceBench" (247 : Nat) (2000 : Int64)) ∈ lw_all := lw_g (lw_at lw_m6 149 rfl) rfl
theorem q1411 : (Jvm.Cond.methodLink "SequenceBench" (249 : Nat) ({ cls := "SequenceBench", name := "faulty", desc := "(III)LSequenceBench$Rig;" } : Jvm.MethodName)) ∈ lw_all := lw_g (lw_at lw_m6 150 rfl) rfl
theorem q1412 : (Jvm.Cond.privateMethod ({ cls := "SequenceBench", name := "faulty", desc := "(III)LSequenceBench$Rig;" } : Jvm.MethodName)) ∈ lw_tbl := lw_at lw_m6 151 rfl
theorem q1413 : (Jvm.Cond.instanceMethod ({ cls := "SequenceBench", name := "faulty", desc := "(III)LSequenceBench$Rig;" } : Jvm.MethodName)) ∈ lw_all := lw_g (lw_at lw_m6 152 rfl) rfl
theorem q1414 : (Jvm.Cond.code ({ cls := "SequenceBench", name := "faulty", desc := "(III)LSequenceBench$Rig;" } : Jvm.MethodName) prog_1_method_48_code (6 : Nat) (Option.some (Jvm.ClassFile.FieldType.object "SequenceBench$Rig"))) ∈ lw_all := lw_g (lw_at lw_m6 153 rfl) rfl
theorem q1419 : (Jvm.Cond.instanceMethod ({ cls := "SequenceBench", name := "suspect", desc := "(I)I" } : Jvm.MethodName)) ∈ lw_all := lw_g (lw_at lw_m6 158 rfl) rfl
theorem q1420 : (Jvm.Cond.selects "SequenceBench" ({ cls := "SequenceBench", name := "suspect", desc := "(I)I" } : Jvm.MethodName) ({ cls := "SequenceBench", name := "suspect", desc := "(I)I" } : Jvm.MethodName)) ∈ lw_all := lw_g (lw_at lw_m6 159 rfl) rfl
theorem q1421 : (Jvm.Cond.code ({ cls := "SequenceBench", name := "suspect", desc := "(I)I" } : Jvm.MethodName) prog_1_method_50_code (5 : Nat) (Option.some Jvm.ClassFile.FieldType.int)) ∈ lw_all := lw_g (lw_at lw_m6 160 rfl) rfl
theorem q1422 : (Jvm.Cond.methodLink "SequenceBench" (253 : Nat) ({ cls := "java/lang/Math", name := "min", desc := "(II)I" } : Jvm.MethodName)) ∈ lw_all := lw_g (lw_at lw_m6 161 rfl) rfl
theorem q1423 : (Jvm.Cond.methodLink "SequenceBench" (258 : Nat) ({ cls := "SequenceBench$Rig", name := "isLike", desc := "(LSequenceBench$Rig;)Z" } : Jvm.MethodName)) ∈ lw_all := lw_g (lw_at lw_m6 162 rfl) rfl
theorem q1806 : (Jvm.Cond.castable "SequenceBench" "java/lang/Object") ∈ lw_tbl := lw_at lw_m8 65 rfl
theorem in_X1 : ∀ w ∈ wsX10, w ∈ lw_all := lw_in wsX10 [329, 331, 333, 335, 337, 339, 341, 343, 345] (by decide +kernel) (by decide +kernel)

