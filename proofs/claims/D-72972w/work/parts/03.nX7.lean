/-! SequenceBenchModel -/
set_option maxRecDepth 100000
def RX7 : String := "SequenceBenchModel"
def TX7 : u_T := fun k => match k with
  | 0 => ("SequenceBenchModel", "rig", "[I", true)
  | 1 => ("SequenceBenchModel", "trial", "[I", true)
  | 2 => ("SequenceBenchModel", "strokes", "[I", true)
  | 3 => ("SequenceBenchModel", "thrown", "I", false)
  | 4 => ("SequenceBenchModel", "steps", "I", false)
  | 5 => ("SequenceBenchModel", "outs", "[I", true)
  | 6 => ("SequenceBenchModel", "backs", "[I", true)
  | 7 => ("SequenceBenchModel", "pauses", "[I", true)
  | 8 => ("SequenceBenchModel", "groups", "I", false)
  | 9 => ("SequenceBenchModel", "cuts", "[I", true)
  | 10 => ("SequenceBenchModel", "text", "[I", true)
  | 11 => ("SequenceBenchModel", "typed", "I", false)
  | 12 => ("SequenceBenchModel", "errorKind", "I", false)
  | 13 => ("SequenceBenchModel", "errorPlace", "I", false)
  | 14 => ("SequenceBenchModel", "readSteps", "I", false)
  | 15 => ("SequenceBenchModel", "readOuts", "[I", true)
  | 16 => ("SequenceBenchModel", "readBacks", "[I", true)
  | 17 => ("SequenceBenchModel", "readPauses", "[I", true)
  | 18 => ("SequenceBenchModel", "out", "I", false)
  | _ => ("SequenceBenchModel", "wrongMove", "I", false)
def tyX7 : Nat → FieldType := fun k => match k with
  | 0 => .array .int
  | 1 => .array .int
  | 2 => .array .int
  | 3 => .int
  | 4 => .int
  | 5 => .array .int
  | 6 => .array .int
  | 7 => .array .int
  | 8 => .int
  | 9 => .array .int
  | 10 => .array .int
  | 11 => .int
  | 12 => .int
  | 13 => .int
  | 14 => .int
  | 15 => .array .int
  | 16 => .array .int
  | 17 => .array .int
  | 18 => .int
  | _ => .int
abbrev wsX70 : List Cond := u_ws RX7 TX7 20
set_option maxRecDepth 100000 in
theorem nmX7 : ∀ a, a < 20 → ∀ b, b < 20 → a ≠ b → (TX7 a).2.1 ≠ (TX7 b).2.1 := by decide +kernel
set_option maxRecDepth 100000 in
theorem tyX7_ok : ∀ k, k < 20 → parseFieldDescriptor (TX7 k).2.2.1 = some (tyX7 k) := by decide +kernel
abbrev cX7_init : ByteArray := prog_17_method_1_code
def yX7_init : MethodName := ⟨RX7, "<init>", "()V"⟩
def dkwX7_init_5 : List UInt8 := [4, 4, 79, 42, 180, 0, 7, 5, 4, 79, 42, 42, 180, 0, 7, 182, 0, 43, 177]
abbrev dktX7_init_5 : List UInt8 := dkwX7_init_5 ++ []
def dkwX7_init_4 : List UInt8 := [60, 27, 16, 6, 162, 0, 16, 42, 180, 0, 16, 27, 6, 79, 132, 1, 1, 167, 255, 240, 42, 180, 0, 7]
abbrev dktX7_init_4 : List UInt8 := dkwX7_init_4 ++ dktX7_init_5
def dkwX7_init_3 : List UInt8 := [16, 17, 188, 10, 181, 0, 34, 42, 16, 17, 188, 10, 181, 0, 37, 42, 16, 17, 188, 10, 181, 0, 40, 3]
abbrev dktX7_init_3 : List UInt8 := dkwX7_init_3 ++ dktX7_init_4
def dkwX7_init_2 : List UInt8 := [16, 16, 188, 10, 181, 0, 25, 42, 16, 16, 188, 10, 181, 0, 28, 42, 16, 80, 188, 10, 181, 0, 31, 42]
abbrev dktX7_init_2 : List UInt8 := dkwX7_init_2 ++ dktX7_init_3
def dkwX7_init_1 : List UInt8 := [16, 6, 188, 10, 181, 0, 16, 42, 16, 16, 188, 10, 181, 0, 19, 42, 16, 16, 188, 10, 181, 0, 22, 42]
abbrev dktX7_init_1 : List UInt8 := dkwX7_init_1 ++ dktX7_init_2
def dkwX7_init_0 : List UInt8 := [42, 183, 0, 1, 42, 17, 0, 140, 188, 10, 181, 0, 7, 42, 17, 0, 140, 188, 10, 181, 0, 13, 42]
abbrev dktX7_init_0 : List UInt8 := dkwX7_init_0 ++ dktX7_init_1
theorem dksX7_init_0 : cX7_init.data.toList.drop 0 = dktX7_init_0 := by decide +kernel
theorem dksX7_init_1 : cX7_init.data.toList.drop 23 = dktX7_init_1 := dk_seg dksX7_init_0 23 rfl rfl
theorem dksX7_init_2 : cX7_init.data.toList.drop 47 = dktX7_init_2 := dk_seg dksX7_init_1 24 rfl rfl
theorem dksX7_init_3 : cX7_init.data.toList.drop 71 = dktX7_init_3 := dk_seg dksX7_init_2 24 rfl rfl
theorem dksX7_init_4 : cX7_init.data.toList.drop 95 = dktX7_init_4 := dk_seg dksX7_init_3 24 rfl rfl
theorem dksX7_init_5 : cX7_init.data.toList.drop 119 = dktX7_init_5 := dk_seg dksX7_init_4 24 rfl rfl
theorem dX7_init_0 : decode cX7_init 0 = .ok (.aload_n 0, 1) := dk_42 (dk_at dksX7_init_0 0 rfl rfl)
theorem dX7_init_1 : decode cX7_init 1 = .ok (.invokespecial 1, 3) := dk_183 0 1 (dk_at dksX7_init_0 1 rfl rfl)
theorem dX7_init_4 : decode cX7_init 4 = .ok (.aload_n 0, 1) := dk_42 (dk_at dksX7_init_0 4 rfl rfl)
theorem dX7_init_5 : decode cX7_init 5 = .ok (.sipush 140, 3) := dk_17 0 140 (dk_at dksX7_init_0 5 rfl rfl)
theorem dX7_init_8 : decode cX7_init 8 = .ok (.newarray .int, 2) := dk_188_10 (dk_at dksX7_init_0 8 rfl rfl)
theorem dX7_init_10 : decode cX7_init 10 = .ok (.putfield 7, 3) := dk_181 0 7 (dk_at dksX7_init_0 10 rfl rfl)
theorem dX7_init_13 : decode cX7_init 13 = .ok (.aload_n 0, 1) := dk_42 (dk_at dksX7_init_0 13 rfl rfl)
theorem dX7_init_14 : decode cX7_init 14 = .ok (.sipush 140, 3) := dk_17 0 140 (dk_at dksX7_init_0 14 rfl rfl)
theorem dX7_init_17 : decode cX7_init 17 = .ok (.newarray .int, 2) := dk_188_10 (dk_at dksX7_init_0 17 rfl rfl)
theorem dX7_init_19 : decode cX7_init 19 = .ok (.putfield 13, 3) := dk_181 0 13 (dk_at dksX7_init_0 19 rfl rfl)
theorem dX7_init_22 : decode cX7_init 22 = .ok (.aload_n 0, 1) := dk_42 (dk_at dksX7_init_0 22 rfl rfl)
theorem dX7_init_23 : decode cX7_init 23 = .ok (.bipush 6, 2) := dk_16 6 (dk_at dksX7_init_1 0 rfl rfl)
theorem dX7_init_25 : decode cX7_init 25 = .ok (.newarray .int, 2) := dk_188_10 (dk_at dksX7_init_1 2 rfl rfl)
theorem dX7_init_27 : decode cX7_init 27 = .ok (.putfield 16, 3) := dk_181 0 16 (dk_at dksX7_init_1 4 rfl rfl)
theorem dX7_init_30 : decode cX7_init 30 = .ok (.aload_n 0, 1) := dk_42 (dk_at dksX7_init_1 7 rfl rfl)
theorem dX7_init_31 : decode cX7_init 31 = .ok (.bipush 16, 2) := dk_16 16 (dk_at dksX7_init_1 8 rfl rfl)
theorem dX7_init_33 : decode cX7_init 33 = .ok (.newarray .int, 2) := dk_188_10 (dk_at dksX7_init_1 10 rfl rfl)
theorem dX7_init_35 : decode cX7_init 35 = .ok (.putfield 19, 3) := dk_181 0 19 (dk_at dksX7_init_1 12 rfl rfl)
theorem dX7_init_38 : decode cX7_init 38 = .ok (.aload_n 0, 1) := dk_42 (dk_at dksX7_init_1 15 rfl rfl)
theorem dX7_init_39 : decode cX7_init 39 = .ok (.bipush 16, 2) := dk_16 16 (dk_at dksX7_init_1 16 rfl rfl)
theorem dX7_init_41 : decode cX7_init 41 = .ok (.newarray .int, 2) := dk_188_10 (dk_at dksX7_init_1 18 rfl rfl)
theorem dX7_init_43 : decode cX7_init 43 = .ok (.putfield 22, 3) := dk_181 0 22 (dk_at dksX7_init_1 20 rfl rfl)
theorem dX7_init_46 : decode cX7_init 46 = .ok (.aload_n 0, 1) := dk_42 (dk_at dksX7_init_1 23 rfl rfl)
theorem dX7_init_47 : decode cX7_init 47 = .ok (.bipush 16, 2) := dk_16 16 (dk_at dksX7_init_2 0 rfl rfl)
theorem dX7_init_49 : decode cX7_init 49 = .ok (.newarray .int, 2) := dk_188_10 (dk_at dksX7_init_2 2 rfl rfl)
theorem dX7_init_51 : decode cX7_init 51 = .ok (.putfield 25, 3) := dk_181 0 25 (dk_at dksX7_init_2 4 rfl rfl)
theorem dX7_init_54 : decode cX7_init 54 = .ok (.aload_n 0, 1) := dk_42 (dk_at dksX7_init_2 7 rfl rfl)
theorem dX7_init_55 : decode cX7_init 55 = .ok (.bipush 16, 2) := dk_16 16 (dk_at dksX7_init_2 8 rfl rfl)
theorem dX7_init_57 : decode cX7_init 57 = .ok (.newarray .int, 2) := dk_188_10 (dk_at dksX7_init_2 10 rfl rfl)
theorem dX7_init_59 : decode cX7_init 59 = .ok (.putfield 28, 3) := dk_181 0 28 (dk_at dksX7_init_2 12 rfl rfl)
theorem dX7_init_62 : decode cX7_init 62 = .ok (.aload_n 0, 1) := dk_42 (dk_at dksX7_init_2 15 rfl rfl)
theorem dX7_init_63 : decode cX7_init 63 = .ok (.bipush 80, 2) := dk_16 80 (dk_at dksX7_init_2 16 rfl rfl)
theorem dX7_init_65 : decode cX7_init 65 = .ok (.newarray .int, 2) := dk_188_10 (dk_at dksX7_init_2 18 rfl rfl)
theorem dX7_init_67 : decode cX7_init 67 = .ok (.putfield 31, 3) := dk_181 0 31 (dk_at dksX7_init_2 20 rfl rfl)
theorem dX7_init_70 : decode cX7_init 70 = .ok (.aload_n 0, 1) := dk_42 (dk_at dksX7_init_2 23 rfl rfl)
theorem dX7_init_71 : decode cX7_init 71 = .ok (.bipush 17, 2) := dk_16 17 (dk_at dksX7_init_3 0 rfl rfl)
theorem dX7_init_73 : decode cX7_init 73 = .ok (.newarray .int, 2) := dk_188_10 (dk_at dksX7_init_3 2 rfl rfl)
theorem dX7_init_75 : decode cX7_init 75 = .ok (.putfield 34, 3) := dk_181 0 34 (dk_at dksX7_init_3 4 rfl rfl)
theorem dX7_init_78 : decode cX7_init 78 = .ok (.aload_n 0, 1) := dk_42 (dk_at dksX7_init_3 7 rfl rfl)
theorem dX7_init_79 : decode cX7_init 79 = .ok (.bipush 17, 2) := dk_16 17 (dk_at dksX7_init_3 8 rfl rfl)
theorem dX7_init_81 : decode cX7_init 81 = .ok (.newarray .int, 2) := dk_188_10 (dk_at dksX7_init_3 10 rfl rfl)
theorem dX7_init_83 : decode cX7_init 83 = .ok (.putfield 37, 3) := dk_181 0 37 (dk_at dksX7_init_3 12 rfl rfl)
theorem dX7_init_86 : decode cX7_init 86 = .ok (.aload_n 0, 1) := dk_42 (dk_at dksX7_init_3 15 rfl rfl)
theorem dX7_init_87 : decode cX7_init 87 = .ok (.bipush 17, 2) := dk_16 17 (dk_at dksX7_init_3 16 rfl rfl)
theorem dX7_init_89 : decode cX7_init 89 = .ok (.newarray .int, 2) := dk_188_10 (dk_at dksX7_init_3 18 rfl rfl)
theorem dX7_init_91 : decode cX7_init 91 = .ok (.putfield 40, 3) := dk_181 0 40 (dk_at dksX7_init_3 20 rfl rfl)
theorem dX7_init_94 : decode cX7_init 94 = .ok (.iconst 0, 1) := dk_3 (dk_at dksX7_init_3 23 rfl rfl)
theorem dX7_init_95 : decode cX7_init 95 = .ok (.istore_n 1, 1) := dk_60 (dk_at dksX7_init_4 0 rfl rfl)
theorem dX7_init_96 : decode cX7_init 96 = .ok (.iload_n 1, 1) := dk_27 (dk_at dksX7_init_4 1 rfl rfl)
theorem dX7_init_97 : decode cX7_init 97 = .ok (.bipush 6, 2) := dk_16 6 (dk_at dksX7_init_4 2 rfl rfl)
theorem dX7_init_99 : decode cX7_init 99 = .ok (.if_icmp .ge 16, 3) := dk_162 0 16 (dk_at dksX7_init_4 4 rfl rfl)
theorem dX7_init_102 : decode cX7_init 102 = .ok (.aload_n 0, 1) := dk_42 (dk_at dksX7_init_4 7 rfl rfl)
theorem dX7_init_103 : decode cX7_init 103 = .ok (.getfield 16, 3) := dk_180 0 16 (dk_at dksX7_init_4 8 rfl rfl)
theorem dX7_init_106 : decode cX7_init 106 = .ok (.iload_n 1, 1) := dk_27 (dk_at dksX7_init_4 11 rfl rfl)
theorem dX7_init_107 : decode cX7_init 107 = .ok (.iconst 3, 1) := dk_6 (dk_at dksX7_init_4 12 rfl rfl)
theorem dX7_init_108 : decode cX7_init 108 = .ok (.iastore, 1) := dk_79 (dk_at dksX7_init_4 13 rfl rfl)
theorem dX7_init_109 : decode cX7_init 109 = .ok (.iinc 1 1, 3) := dk_132 1 1 (dk_at dksX7_init_4 14 rfl rfl)
theorem dX7_init_112 : decode cX7_init 112 = .ok (.goto (-16), 3) := dk_167 255 240 (dk_at dksX7_init_4 17 rfl rfl)
theorem dX7_init_115 : decode cX7_init 115 = .ok (.aload_n 0, 1) := dk_42 (dk_at dksX7_init_4 20 rfl rfl)
theorem dX7_init_116 : decode cX7_init 116 = .ok (.getfield 7, 3) := dk_180 0 7 (dk_at dksX7_init_4 21 rfl rfl)
theorem dX7_init_119 : decode cX7_init 119 = .ok (.iconst 1, 1) := dk_4 (dk_at dksX7_init_5 0 rfl rfl)
theorem dX7_init_120 : decode cX7_init 120 = .ok (.iconst 1, 1) := dk_4 (dk_at dksX7_init_5 1 rfl rfl)
theorem dX7_init_121 : decode cX7_init 121 = .ok (.iastore, 1) := dk_79 (dk_at dksX7_init_5 2 rfl rfl)
theorem dX7_init_122 : decode cX7_init 122 = .ok (.aload_n 0, 1) := dk_42 (dk_at dksX7_init_5 3 rfl rfl)
theorem dX7_init_123 : decode cX7_init 123 = .ok (.getfield 7, 3) := dk_180 0 7 (dk_at dksX7_init_5 4 rfl rfl)
theorem dX7_init_126 : decode cX7_init 126 = .ok (.iconst 2, 1) := dk_5 (dk_at dksX7_init_5 7 rfl rfl)
theorem dX7_init_127 : decode cX7_init 127 = .ok (.iconst 1, 1) := dk_4 (dk_at dksX7_init_5 8 rfl rfl)
theorem dX7_init_128 : decode cX7_init 128 = .ok (.iastore, 1) := dk_79 (dk_at dksX7_init_5 9 rfl rfl)
theorem dX7_init_129 : decode cX7_init 129 = .ok (.aload_n 0, 1) := dk_42 (dk_at dksX7_init_5 10 rfl rfl)
theorem dX7_init_130 : decode cX7_init 130 = .ok (.aload_n 0, 1) := dk_42 (dk_at dksX7_init_5 11 rfl rfl)
theorem dX7_init_131 : decode cX7_init 131 = .ok (.getfield 7, 3) := dk_180 0 7 (dk_at dksX7_init_5 12 rfl rfl)
theorem dX7_init_134 : decode cX7_init 134 = .ok (.invokevirtual 43, 3) := dk_182 0 43 (dk_at dksX7_init_5 15 rfl rfl)
theorem dX7_init_137 : decode cX7_init 137 = .ok (.return_, 1) := dk_177 (dk_at dksX7_init_5 18 rfl rfl)
abbrev cX7_rests : ByteArray := prog_17_method_41_code
def yX7_rests : MethodName := ⟨RX7, "rests", "([I)V"⟩
def dkwX7_rests_4 : List UInt8 := [16, 7, 46, 182, 0, 152, 79, 43, 16, 11, 2, 79, 43, 16, 12, 2, 79, 177]
abbrev dktX7_rests_4 : List UInt8 := dkwX7_rests_4 ++ []
def dkwX7_rests_3 : List UInt8 := [42, 180, 0, 136, 4, 100, 167, 0, 4, 2, 79, 43, 16, 7, 42, 182, 0, 148, 79, 43, 16, 8, 42, 43]
abbrev dktX7_rests_3 : List UInt8 := dkwX7_rests_3 ++ dktX7_rests_4
def dkwX7_rests_2 : List UInt8 := [3, 79, 132, 2, 1, 167, 255, 205, 43, 6, 42, 180, 0, 104, 158, 0, 19, 43, 4, 46, 4, 160, 0, 12]
abbrev dktX7_rests_2 : List UInt8 := dkwX7_rests_2 ++ dktX7_rests_3
def dkwX7_rests_1 : List UInt8 := [184, 0, 51, 153, 0, 7, 4, 167, 0, 4, 3, 62, 43, 28, 29, 153, 0, 9, 43, 28, 46, 167, 0, 4]
abbrev dktX7_rests_1 : List UInt8 := dkwX7_rests_1 ++ dktX7_rests_2
def dkwX7_rests_0 : List UInt8 := [3, 61, 28, 17, 0, 140, 162, 0, 50, 28, 4, 159, 0, 19, 28, 5, 159, 0, 14, 28, 16, 38, 16, 43]
abbrev dktX7_rests_0 : List UInt8 := dkwX7_rests_0 ++ dktX7_rests_1
theorem dksX7_rests_0 : cX7_rests.data.toList.drop 0 = dktX7_rests_0 := by decide +kernel
theorem dksX7_rests_1 : cX7_rests.data.toList.drop 24 = dktX7_rests_1 := dk_seg dksX7_rests_0 24 rfl rfl
theorem dksX7_rests_2 : cX7_rests.data.toList.drop 48 = dktX7_rests_2 := dk_seg dksX7_rests_1 24 rfl rfl
theorem dksX7_rests_3 : cX7_rests.data.toList.drop 72 = dktX7_rests_3 := dk_seg dksX7_rests_2 24 rfl rfl
theorem dksX7_rests_4 : cX7_rests.data.toList.drop 96 = dktX7_rests_4 := dk_seg dksX7_rests_3 24 rfl rfl
theorem dX7_rests_0 : decode cX7_rests 0 = .ok (.iconst 0, 1) := dk_3 (dk_at dksX7_rests_0 0 rfl rfl)
theorem dX7_rests_1 : decode cX7_rests 1 = .ok (.istore_n 2, 1) := dk_61 (dk_at dksX7_rests_0 1 rfl rfl)
theorem dX7_rests_2 : decode cX7_rests 2 = .ok (.iload_n 2, 1) := dk_28 (dk_at dksX7_rests_0 2 rfl rfl)
theorem dX7_rests_3 : decode cX7_rests 3 = .ok (.sipush 140, 3) := dk_17 0 140 (dk_at dksX7_rests_0 3 rfl rfl)
theorem dX7_rests_6 : decode cX7_rests 6 = .ok (.if_icmp .ge 50, 3) := dk_162 0 50 (dk_at dksX7_rests_0 6 rfl rfl)
theorem dX7_rests_9 : decode cX7_rests 9 = .ok (.iload_n 2, 1) := dk_28 (dk_at dksX7_rests_0 9 rfl rfl)
theorem dX7_rests_10 : decode cX7_rests 10 = .ok (.iconst 1, 1) := dk_4 (dk_at dksX7_rests_0 10 rfl rfl)
theorem dX7_rests_11 : decode cX7_rests 11 = .ok (.if_icmp .eq 19, 3) := dk_159 0 19 (dk_at dksX7_rests_0 11 rfl rfl)
theorem dX7_rests_14 : decode cX7_rests 14 = .ok (.iload_n 2, 1) := dk_28 (dk_at dksX7_rests_0 14 rfl rfl)
theorem dX7_rests_15 : decode cX7_rests 15 = .ok (.iconst 2, 1) := dk_5 (dk_at dksX7_rests_0 15 rfl rfl)
theorem dX7_rests_16 : decode cX7_rests 16 = .ok (.if_icmp .eq 14, 3) := dk_159 0 14 (dk_at dksX7_rests_0 16 rfl rfl)
theorem dX7_rests_19 : decode cX7_rests 19 = .ok (.iload_n 2, 1) := dk_28 (dk_at dksX7_rests_0 19 rfl rfl)
theorem dX7_rests_20 : decode cX7_rests 20 = .ok (.bipush 38, 2) := dk_16 38 (dk_at dksX7_rests_0 20 rfl rfl)
theorem dX7_rests_22 : decode cX7_rests 22 = .ok (.bipush 43, 2) := dk_16 43 (dk_at dksX7_rests_0 22 rfl rfl)
theorem dX7_rests_24 : decode cX7_rests 24 = .ok (.invokestatic 51, 3) := dk_184 0 51 (dk_at dksX7_rests_1 0 rfl rfl)
theorem dX7_rests_27 : decode cX7_rests 27 = .ok (.ifCond .eq 7, 3) := dk_153 0 7 (dk_at dksX7_rests_1 3 rfl rfl)
theorem dX7_rests_30 : decode cX7_rests 30 = .ok (.iconst 1, 1) := dk_4 (dk_at dksX7_rests_1 6 rfl rfl)
theorem dX7_rests_31 : decode cX7_rests 31 = .ok (.goto 4, 3) := dk_167 0 4 (dk_at dksX7_rests_1 7 rfl rfl)
theorem dX7_rests_34 : decode cX7_rests 34 = .ok (.iconst 0, 1) := dk_3 (dk_at dksX7_rests_1 10 rfl rfl)
theorem dX7_rests_35 : decode cX7_rests 35 = .ok (.istore_n 3, 1) := dk_62 (dk_at dksX7_rests_1 11 rfl rfl)
theorem dX7_rests_36 : decode cX7_rests 36 = .ok (.aload_n 1, 1) := dk_43 (dk_at dksX7_rests_1 12 rfl rfl)
theorem dX7_rests_37 : decode cX7_rests 37 = .ok (.iload_n 2, 1) := dk_28 (dk_at dksX7_rests_1 13 rfl rfl)
theorem dX7_rests_38 : decode cX7_rests 38 = .ok (.iload_n 3, 1) := dk_29 (dk_at dksX7_rests_1 14 rfl rfl)
theorem dX7_rests_39 : decode cX7_rests 39 = .ok (.ifCond .eq 9, 3) := dk_153 0 9 (dk_at dksX7_rests_1 15 rfl rfl)
theorem dX7_rests_42 : decode cX7_rests 42 = .ok (.aload_n 1, 1) := dk_43 (dk_at dksX7_rests_1 18 rfl rfl)
theorem dX7_rests_43 : decode cX7_rests 43 = .ok (.iload_n 2, 1) := dk_28 (dk_at dksX7_rests_1 19 rfl rfl)
theorem dX7_rests_44 : decode cX7_rests 44 = .ok (.iaload, 1) := dk_46 (dk_at dksX7_rests_1 20 rfl rfl)
theorem dX7_rests_45 : decode cX7_rests 45 = .ok (.goto 4, 3) := dk_167 0 4 (dk_at dksX7_rests_1 21 rfl rfl)
theorem dX7_rests_48 : decode cX7_rests 48 = .ok (.iconst 0, 1) := dk_3 (dk_at dksX7_rests_2 0 rfl rfl)
theorem dX7_rests_49 : decode cX7_rests 49 = .ok (.iastore, 1) := dk_79 (dk_at dksX7_rests_2 1 rfl rfl)
theorem dX7_rests_50 : decode cX7_rests 50 = .ok (.iinc 2 1, 3) := dk_132 2 1 (dk_at dksX7_rests_2 2 rfl rfl)
theorem dX7_rests_53 : decode cX7_rests 53 = .ok (.goto (-51), 3) := dk_167 255 205 (dk_at dksX7_rests_2 5 rfl rfl)
theorem dX7_rests_56 : decode cX7_rests 56 = .ok (.aload_n 1, 1) := dk_43 (dk_at dksX7_rests_2 8 rfl rfl)
theorem dX7_rests_57 : decode cX7_rests 57 = .ok (.iconst 3, 1) := dk_6 (dk_at dksX7_rests_2 9 rfl rfl)
theorem dX7_rests_58 : decode cX7_rests 58 = .ok (.aload_n 0, 1) := dk_42 (dk_at dksX7_rests_2 10 rfl rfl)
theorem dX7_rests_59 : decode cX7_rests 59 = .ok (.getfield 104, 3) := dk_180 0 104 (dk_at dksX7_rests_2 11 rfl rfl)
theorem dX7_rests_62 : decode cX7_rests 62 = .ok (.ifCond .le 19, 3) := dk_158 0 19 (dk_at dksX7_rests_2 14 rfl rfl)
theorem dX7_rests_65 : decode cX7_rests 65 = .ok (.aload_n 1, 1) := dk_43 (dk_at dksX7_rests_2 17 rfl rfl)
theorem dX7_rests_66 : decode cX7_rests 66 = .ok (.iconst 1, 1) := dk_4 (dk_at dksX7_rests_2 18 rfl rfl)
theorem dX7_rests_67 : decode cX7_rests 67 = .ok (.iaload, 1) := dk_46 (dk_at dksX7_rests_2 19 rfl rfl)
theorem dX7_rests_68 : decode cX7_rests 68 = .ok (.iconst 1, 1) := dk_4 (dk_at dksX7_rests_2 20 rfl rfl)
theorem dX7_rests_69 : decode cX7_rests 69 = .ok (.if_icmp .ne 12, 3) := dk_160 0 12 (dk_at dksX7_rests_2 21 rfl rfl)
theorem dX7_rests_72 : decode cX7_rests 72 = .ok (.aload_n 0, 1) := dk_42 (dk_at dksX7_rests_3 0 rfl rfl)
theorem dX7_rests_73 : decode cX7_rests 73 = .ok (.getfield 136, 3) := dk_180 0 136 (dk_at dksX7_rests_3 1 rfl rfl)
theorem dX7_rests_76 : decode cX7_rests 76 = .ok (.iconst 1, 1) := dk_4 (dk_at dksX7_rests_3 4 rfl rfl)
theorem dX7_rests_77 : decode cX7_rests 77 = .ok (.isub, 1) := dk_100 (dk_at dksX7_rests_3 5 rfl rfl)
theorem dX7_rests_78 : decode cX7_rests 78 = .ok (.goto 4, 3) := dk_167 0 4 (dk_at dksX7_rests_3 6 rfl rfl)
theorem dX7_rests_81 : decode cX7_rests 81 = .ok (.iconst (-1), 1) := dk_2 (dk_at dksX7_rests_3 9 rfl rfl)
theorem dX7_rests_82 : decode cX7_rests 82 = .ok (.iastore, 1) := dk_79 (dk_at dksX7_rests_3 10 rfl rfl)
theorem dX7_rests_83 : decode cX7_rests 83 = .ok (.aload_n 1, 1) := dk_43 (dk_at dksX7_rests_3 11 rfl rfl)
theorem dX7_rests_84 : decode cX7_rests 84 = .ok (.bipush 7, 2) := dk_16 7 (dk_at dksX7_rests_3 12 rfl rfl)
theorem dX7_rests_86 : decode cX7_rests 86 = .ok (.aload_n 0, 1) := dk_42 (dk_at dksX7_rests_3 14 rfl rfl)
theorem dX7_rests_87 : decode cX7_rests 87 = .ok (.invokevirtual 148, 3) := dk_182 0 148 (dk_at dksX7_rests_3 15 rfl rfl)
theorem dX7_rests_90 : decode cX7_rests 90 = .ok (.iastore, 1) := dk_79 (dk_at dksX7_rests_3 18 rfl rfl)
theorem dX7_rests_91 : decode cX7_rests 91 = .ok (.aload_n 1, 1) := dk_43 (dk_at dksX7_rests_3 19 rfl rfl)
theorem dX7_rests_92 : decode cX7_rests 92 = .ok (.bipush 8, 2) := dk_16 8 (dk_at dksX7_rests_3 20 rfl rfl)
theorem dX7_rests_94 : decode cX7_rests 94 = .ok (.aload_n 0, 1) := dk_42 (dk_at dksX7_rests_3 22 rfl rfl)
theorem dX7_rests_95 : decode cX7_rests 95 = .ok (.aload_n 1, 1) := dk_43 (dk_at dksX7_rests_3 23 rfl rfl)
theorem dX7_rests_96 : decode cX7_rests 96 = .ok (.bipush 7, 2) := dk_16 7 (dk_at dksX7_rests_4 0 rfl rfl)
theorem dX7_rests_98 : decode cX7_rests 98 = .ok (.iaload, 1) := dk_46 (dk_at dksX7_rests_4 2 rfl rfl)
theorem dX7_rests_99 : decode cX7_rests 99 = .ok (.invokevirtual 152, 3) := dk_182 0 152 (dk_at dksX7_rests_4 3 rfl rfl)
theorem dX7_rests_102 : decode cX7_rests 102 = .ok (.iastore, 1) := dk_79 (dk_at dksX7_rests_4 6 rfl rfl)
theorem dX7_rests_103 : decode cX7_rests 103 = .ok (.aload_n 1, 1) := dk_43 (dk_at dksX7_rests_4 7 rfl rfl)
theorem dX7_rests_104 : decode cX7_rests 104 = .ok (.bipush 11, 2) := dk_16 11 (dk_at dksX7_rests_4 8 rfl rfl)
theorem dX7_rests_106 : decode cX7_rests 106 = .ok (.iconst (-1), 1) := dk_2 (dk_at dksX7_rests_4 10 rfl rfl)
theorem dX7_rests_107 : decode cX7_rests 107 = .ok (.iastore, 1) := dk_79 (dk_at dksX7_rests_4 11 rfl rfl)
theorem dX7_rests_108 : decode cX7_rests 108 = .ok (.aload_n 1, 1) := dk_43 (dk_at dksX7_rests_4 12 rfl rfl)
theorem dX7_rests_109 : decode cX7_rests 109 = .ok (.bipush 12, 2) := dk_16 12 (dk_at dksX7_rests_4 13 rfl rfl)
theorem dX7_rests_111 : decode cX7_rests 111 = .ok (.iconst (-1), 1) := dk_2 (dk_at dksX7_rests_4 15 rfl rfl)
theorem dX7_rests_112 : decode cX7_rests 112 = .ok (.iastore, 1) := dk_79 (dk_at dksX7_rests_4 16 rfl rfl)
theorem dX7_rests_113 : decode cX7_rests 113 = .ok (.return_, 1) := dk_177 (dk_at dksX7_rests_4 17 rfl rfl)
abbrev cX7_in : ByteArray := prog_17_method_3_code
def yX7_in : MethodName := ⟨RX7, "in", "(III)Z"⟩
def dkwX7_in_0 : List UInt8 := [26, 27, 161, 0, 12, 26, 28, 163, 0, 7, 4, 167, 0, 4, 3, 172]
abbrev dktX7_in_0 : List UInt8 := dkwX7_in_0 ++ []
theorem dksX7_in_0 : cX7_in.data.toList.drop 0 = dktX7_in_0 := by decide +kernel
theorem dX7_in_0 : decode cX7_in 0 = .ok (.iload_n 0, 1) := dk_26 (dk_at dksX7_in_0 0 rfl rfl)
theorem dX7_in_1 : decode cX7_in 1 = .ok (.iload_n 1, 1) := dk_27 (dk_at dksX7_in_0 1 rfl rfl)
theorem dX7_in_2 : decode cX7_in 2 = .ok (.if_icmp .lt 12, 3) := dk_161 0 12 (dk_at dksX7_in_0 2 rfl rfl)
theorem dX7_in_5 : decode cX7_in 5 = .ok (.iload_n 0, 1) := dk_26 (dk_at dksX7_in_0 5 rfl rfl)
theorem dX7_in_6 : decode cX7_in 6 = .ok (.iload_n 2, 1) := dk_28 (dk_at dksX7_in_0 6 rfl rfl)
theorem dX7_in_7 : decode cX7_in 7 = .ok (.if_icmp .gt 7, 3) := dk_163 0 7 (dk_at dksX7_in_0 7 rfl rfl)
theorem dX7_in_10 : decode cX7_in 10 = .ok (.iconst 1, 1) := dk_4 (dk_at dksX7_in_0 10 rfl rfl)
theorem dX7_in_11 : decode cX7_in 11 = .ok (.goto 4, 3) := dk_167 0 4 (dk_at dksX7_in_0 11 rfl rfl)
theorem dX7_in_14 : decode cX7_in 14 = .ok (.iconst 0, 1) := dk_3 (dk_at dksX7_in_0 14 rfl rfl)
theorem dX7_in_15 : decode cX7_in 15 = .ok (.ireturn, 1) := dk_172 (dk_at dksX7_in_0 15 rfl rfl)
abbrev cX7_firstWithMoves : ByteArray := prog_17_method_39_code
def yX7_firstWithMoves : MethodName := ⟨RX7, "firstWithMoves", "()I"⟩
def dkwX7_firstWithMoves_1 : List UInt8 := [167, 255, 236, 27, 172]
abbrev dktX7_firstWithMoves_1 : List UInt8 := dkwX7_firstWithMoves_1 ++ []
def dkwX7_firstWithMoves_0 : List UInt8 := [3, 60, 27, 42, 180, 0, 104, 162, 0, 18, 42, 180, 0, 25, 27, 46, 158, 0, 9, 132, 1, 1]
abbrev dktX7_firstWithMoves_0 : List UInt8 := dkwX7_firstWithMoves_0 ++ dktX7_firstWithMoves_1
theorem dksX7_firstWithMoves_0 : cX7_firstWithMoves.data.toList.drop 0 = dktX7_firstWithMoves_0 := by decide +kernel
theorem dksX7_firstWithMoves_1 : cX7_firstWithMoves.data.toList.drop 22 = dktX7_firstWithMoves_1 := dk_seg dksX7_firstWithMoves_0 22 rfl rfl
theorem dX7_firstWithMoves_0 : decode cX7_firstWithMoves 0 = .ok (.iconst 0, 1) := dk_3 (dk_at dksX7_firstWithMoves_0 0 rfl rfl)
theorem dX7_firstWithMoves_1 : decode cX7_firstWithMoves 1 = .ok (.istore_n 1, 1) := dk_60 (dk_at dksX7_firstWithMoves_0 1 rfl rfl)
theorem dX7_firstWithMoves_2 : decode cX7_firstWithMoves 2 = .ok (.iload_n 1, 1) := dk_27 (dk_at dksX7_firstWithMoves_0 2 rfl rfl)
theorem dX7_firstWithMoves_3 : decode cX7_firstWithMoves 3 = .ok (.aload_n 0, 1) := dk_42 (dk_at dksX7_firstWithMoves_0 3 rfl rfl)
theorem dX7_firstWithMoves_4 : decode cX7_firstWithMoves 4 = .ok (.getfield 104, 3) := dk_180 0 104 (dk_at dksX7_firstWithMoves_0 4 rfl rfl)
theorem dX7_firstWithMoves_7 : decode cX7_firstWithMoves 7 = .ok (.if_icmp .ge 18, 3) := dk_162 0 18 (dk_at dksX7_firstWithMoves_0 7 rfl rfl)
theorem dX7_firstWithMoves_10 : decode cX7_firstWithMoves 10 = .ok (.aload_n 0, 1) := dk_42 (dk_at dksX7_firstWithMoves_0 10 rfl rfl)
theorem dX7_firstWithMoves_11 : decode cX7_firstWithMoves 11 = .ok (.getfield 25, 3) := dk_180 0 25 (dk_at dksX7_firstWithMoves_0 11 rfl rfl)
theorem dX7_firstWithMoves_14 : decode cX7_firstWithMoves 14 = .ok (.iload_n 1, 1) := dk_27 (dk_at dksX7_firstWithMoves_0 14 rfl rfl)
theorem dX7_firstWithMoves_15 : decode cX7_firstWithMoves 15 = .ok (.iaload, 1) := dk_46 (dk_at dksX7_firstWithMoves_0 15 rfl rfl)
theorem dX7_firstWithMoves_16 : decode cX7_firstWithMoves 16 = .ok (.ifCond .le 9, 3) := dk_158 0 9 (dk_at dksX7_firstWithMoves_0 16 rfl rfl)
theorem dX7_firstWithMoves_19 : decode cX7_firstWithMoves 19 = .ok (.iinc 1 1, 3) := dk_132 1 1 (dk_at dksX7_firstWithMoves_0 19 rfl rfl)
theorem dX7_firstWithMoves_22 : decode cX7_firstWithMoves 22 = .ok (.goto (-20), 3) := dk_167 255 236 (dk_at dksX7_firstWithMoves_1 0 rfl rfl)
theorem dX7_firstWithMoves_25 : decode cX7_firstWithMoves 25 = .ok (.iload_n 1, 1) := dk_27 (dk_at dksX7_firstWithMoves_1 3 rfl rfl)
theorem dX7_firstWithMoves_26 : decode cX7_firstWithMoves 26 = .ok (.ireturn, 1) := dk_172 (dk_at dksX7_firstWithMoves_1 4 rfl rfl)
abbrev cX7_movesOf : ByteArray := prog_17_method_40_code
def yX7_movesOf : MethodName := ⟨RX7, "movesOf", "(I)I"⟩
def dkwX7_movesOf_1 : List UInt8 := [16, 6, 120, 128, 172]
abbrev dktX7_movesOf_1 : List UInt8 := dkwX7_movesOf_1 ++ []
def dkwX7_movesOf_0 : List UInt8 := [42, 180, 0, 104, 154, 0, 7, 3, 167, 0, 19, 42, 180, 0, 19, 27, 46, 42, 180, 0, 22, 27, 46]
abbrev dktX7_movesOf_0 : List UInt8 := dkwX7_movesOf_0 ++ dktX7_movesOf_1
theorem dksX7_movesOf_0 : cX7_movesOf.data.toList.drop 0 = dktX7_movesOf_0 := by decide +kernel
theorem dksX7_movesOf_1 : cX7_movesOf.data.toList.drop 23 = dktX7_movesOf_1 := dk_seg dksX7_movesOf_0 23 rfl rfl
theorem dX7_movesOf_0 : decode cX7_movesOf 0 = .ok (.aload_n 0, 1) := dk_42 (dk_at dksX7_movesOf_0 0 rfl rfl)
theorem dX7_movesOf_1 : decode cX7_movesOf 1 = .ok (.getfield 104, 3) := dk_180 0 104 (dk_at dksX7_movesOf_0 1 rfl rfl)
theorem dX7_movesOf_4 : decode cX7_movesOf 4 = .ok (.ifCond .ne 7, 3) := dk_154 0 7 (dk_at dksX7_movesOf_0 4 rfl rfl)
theorem dX7_movesOf_7 : decode cX7_movesOf 7 = .ok (.iconst 0, 1) := dk_3 (dk_at dksX7_movesOf_0 7 rfl rfl)
theorem dX7_movesOf_8 : decode cX7_movesOf 8 = .ok (.goto 19, 3) := dk_167 0 19 (dk_at dksX7_movesOf_0 8 rfl rfl)
theorem dX7_movesOf_11 : decode cX7_movesOf 11 = .ok (.aload_n 0, 1) := dk_42 (dk_at dksX7_movesOf_0 11 rfl rfl)
theorem dX7_movesOf_12 : decode cX7_movesOf 12 = .ok (.getfield 19, 3) := dk_180 0 19 (dk_at dksX7_movesOf_0 12 rfl rfl)
theorem dX7_movesOf_15 : decode cX7_movesOf 15 = .ok (.iload_n 1, 1) := dk_27 (dk_at dksX7_movesOf_0 15 rfl rfl)
theorem dX7_movesOf_16 : decode cX7_movesOf 16 = .ok (.iaload, 1) := dk_46 (dk_at dksX7_movesOf_0 16 rfl rfl)
theorem dX7_movesOf_17 : decode cX7_movesOf 17 = .ok (.aload_n 0, 1) := dk_42 (dk_at dksX7_movesOf_0 17 rfl rfl)
theorem dX7_movesOf_18 : decode cX7_movesOf 18 = .ok (.getfield 22, 3) := dk_180 0 22 (dk_at dksX7_movesOf_0 18 rfl rfl)
theorem dX7_movesOf_21 : decode cX7_movesOf 21 = .ok (.iload_n 1, 1) := dk_27 (dk_at dksX7_movesOf_0 21 rfl rfl)
theorem dX7_movesOf_22 : decode cX7_movesOf 22 = .ok (.iaload, 1) := dk_46 (dk_at dksX7_movesOf_0 22 rfl rfl)
theorem dX7_movesOf_23 : decode cX7_movesOf 23 = .ok (.bipush 6, 2) := dk_16 6 (dk_at dksX7_movesOf_1 0 rfl rfl)
theorem dX7_movesOf_25 : decode cX7_movesOf 25 = .ok (.ishl, 1) := dk_120 (dk_at dksX7_movesOf_1 2 rfl rfl)
theorem dX7_movesOf_26 : decode cX7_movesOf 26 = .ok (.ior, 1) := dk_128 (dk_at dksX7_movesOf_1 3 rfl rfl)
theorem dX7_movesOf_27 : decode cX7_movesOf 27 = .ok (.ireturn, 1) := dk_172 (dk_at dksX7_movesOf_1 4 rfl rfl)
abbrev cX7_thrown : ByteArray := prog_17_method_2_code
def yX7_thrown : MethodName := ⟨RX7, "thrown", "()I"⟩
theorem dX7_thrown_0 : decode cX7_thrown 0 = .ok (.aload_n 0, 1) := by decide +kernel
theorem dX7_thrown_1 : decode cX7_thrown 1 = .ok (.getfield 47, 3) := by decide +kernel
theorem dX7_thrown_4 : decode cX7_thrown 4 = .ok (.ireturn, 1) := by decide +kernel
abbrev cX7_type : ByteArray := prog_17_method_5_code
def yX7_type : MethodName := ⟨RX7, "type", "(I)I"⟩
def dkwX7_type_2 : List UInt8 := [42, 89, 180, 0, 59, 4, 96, 181, 0, 59, 42, 180, 0, 59, 172]
abbrev dktX7_type_2 : List UInt8 := dkwX7_type_2 ++ []
def dkwX7_type_1 : List UInt8 := [180, 0, 59, 16, 80, 160, 0, 9, 42, 5, 182, 0, 55, 172, 42, 180, 0, 31, 42, 180, 0, 59, 27, 79]
abbrev dktX7_type_1 : List UInt8 := dkwX7_type_1 ++ dktX7_type_2
def dkwX7_type_0 : List UInt8 := [42, 3, 181, 0, 47, 27, 16, 32, 16, 126, 184, 0, 51, 154, 0, 9, 42, 4, 182, 0, 55, 172, 42]
abbrev dktX7_type_0 : List UInt8 := dkwX7_type_0 ++ dktX7_type_1
theorem dksX7_type_0 : cX7_type.data.toList.drop 0 = dktX7_type_0 := by decide +kernel
theorem dksX7_type_1 : cX7_type.data.toList.drop 23 = dktX7_type_1 := dk_seg dksX7_type_0 23 rfl rfl
theorem dksX7_type_2 : cX7_type.data.toList.drop 47 = dktX7_type_2 := dk_seg dksX7_type_1 24 rfl rfl
theorem dX7_type_0 : decode cX7_type 0 = .ok (.aload_n 0, 1) := dk_42 (dk_at dksX7_type_0 0 rfl rfl)
theorem dX7_type_1 : decode cX7_type 1 = .ok (.iconst 0, 1) := dk_3 (dk_at dksX7_type_0 1 rfl rfl)
theorem dX7_type_2 : decode cX7_type 2 = .ok (.putfield 47, 3) := dk_181 0 47 (dk_at dksX7_type_0 2 rfl rfl)
theorem dX7_type_5 : decode cX7_type 5 = .ok (.iload_n 1, 1) := dk_27 (dk_at dksX7_type_0 5 rfl rfl)
theorem dX7_type_6 : decode cX7_type 6 = .ok (.bipush 32, 2) := dk_16 32 (dk_at dksX7_type_0 6 rfl rfl)
theorem dX7_type_8 : decode cX7_type 8 = .ok (.bipush 126, 2) := dk_16 126 (dk_at dksX7_type_0 8 rfl rfl)
theorem dX7_type_10 : decode cX7_type 10 = .ok (.invokestatic 51, 3) := dk_184 0 51 (dk_at dksX7_type_0 10 rfl rfl)
theorem dX7_type_13 : decode cX7_type 13 = .ok (.ifCond .ne 9, 3) := dk_154 0 9 (dk_at dksX7_type_0 13 rfl rfl)
theorem dX7_type_16 : decode cX7_type 16 = .ok (.aload_n 0, 1) := dk_42 (dk_at dksX7_type_0 16 rfl rfl)
theorem dX7_type_17 : decode cX7_type 17 = .ok (.iconst 1, 1) := dk_4 (dk_at dksX7_type_0 17 rfl rfl)
theorem dX7_type_18 : decode cX7_type 18 = .ok (.invokevirtual 55, 3) := dk_182 0 55 (dk_at dksX7_type_0 18 rfl rfl)
theorem dX7_type_21 : decode cX7_type 21 = .ok (.ireturn, 1) := dk_172 (dk_at dksX7_type_0 21 rfl rfl)
theorem dX7_type_22 : decode cX7_type 22 = .ok (.aload_n 0, 1) := dk_42 (dk_at dksX7_type_0 22 rfl rfl)
theorem dX7_type_23 : decode cX7_type 23 = .ok (.getfield 59, 3) := dk_180 0 59 (dk_at dksX7_type_1 0 rfl rfl)
theorem dX7_type_26 : decode cX7_type 26 = .ok (.bipush 80, 2) := dk_16 80 (dk_at dksX7_type_1 3 rfl rfl)
theorem dX7_type_28 : decode cX7_type 28 = .ok (.if_icmp .ne 9, 3) := dk_160 0 9 (dk_at dksX7_type_1 5 rfl rfl)
theorem dX7_type_31 : decode cX7_type 31 = .ok (.aload_n 0, 1) := dk_42 (dk_at dksX7_type_1 8 rfl rfl)
theorem dX7_type_32 : decode cX7_type 32 = .ok (.iconst 2, 1) := dk_5 (dk_at dksX7_type_1 9 rfl rfl)
theorem dX7_type_33 : decode cX7_type 33 = .ok (.invokevirtual 55, 3) := dk_182 0 55 (dk_at dksX7_type_1 10 rfl rfl)
theorem dX7_type_36 : decode cX7_type 36 = .ok (.ireturn, 1) := dk_172 (dk_at dksX7_type_1 13 rfl rfl)
theorem dX7_type_37 : decode cX7_type 37 = .ok (.aload_n 0, 1) := dk_42 (dk_at dksX7_type_1 14 rfl rfl)
theorem dX7_type_38 : decode cX7_type 38 = .ok (.getfield 31, 3) := dk_180 0 31 (dk_at dksX7_type_1 15 rfl rfl)
theorem dX7_type_41 : decode cX7_type 41 = .ok (.aload_n 0, 1) := dk_42 (dk_at dksX7_type_1 18 rfl rfl)
theorem dX7_type_42 : decode cX7_type 42 = .ok (.getfield 59, 3) := dk_180 0 59 (dk_at dksX7_type_1 19 rfl rfl)
theorem dX7_type_45 : decode cX7_type 45 = .ok (.iload_n 1, 1) := dk_27 (dk_at dksX7_type_1 22 rfl rfl)
theorem dX7_type_46 : decode cX7_type 46 = .ok (.iastore, 1) := dk_79 (dk_at dksX7_type_1 23 rfl rfl)
theorem dX7_type_47 : decode cX7_type 47 = .ok (.aload_n 0, 1) := dk_42 (dk_at dksX7_type_2 0 rfl rfl)
theorem dX7_type_48 : decode cX7_type 48 = .ok (.dup, 1) := dk_89 (dk_at dksX7_type_2 1 rfl rfl)
theorem dX7_type_49 : decode cX7_type 49 = .ok (.getfield 59, 3) := dk_180 0 59 (dk_at dksX7_type_2 2 rfl rfl)
theorem dX7_type_52 : decode cX7_type 52 = .ok (.iconst 1, 1) := dk_4 (dk_at dksX7_type_2 5 rfl rfl)
theorem dX7_type_53 : decode cX7_type 53 = .ok (.iadd, 1) := dk_96 (dk_at dksX7_type_2 6 rfl rfl)
theorem dX7_type_54 : decode cX7_type 54 = .ok (.putfield 59, 3) := dk_181 0 59 (dk_at dksX7_type_2 7 rfl rfl)
theorem dX7_type_57 : decode cX7_type 57 = .ok (.aload_n 0, 1) := dk_42 (dk_at dksX7_type_2 10 rfl rfl)
theorem dX7_type_58 : decode cX7_type 58 = .ok (.getfield 59, 3) := dk_180 0 59 (dk_at dksX7_type_2 11 rfl rfl)
theorem dX7_type_61 : decode cX7_type 61 = .ok (.ireturn, 1) := dk_172 (dk_at dksX7_type_2 14 rfl rfl)
abbrev cX7_fails : ByteArray := prog_17_method_4_code
def yX7_fails : MethodName := ⟨RX7, "fails", "(I)I"⟩
def dkwX7_fails_0 : List UInt8 := [42, 27, 181, 0, 47, 3, 172]
abbrev dktX7_fails_0 : List UInt8 := dkwX7_fails_0 ++ []
theorem dksX7_fails_0 : cX7_fails.data.toList.drop 0 = dktX7_fails_0 := by decide +kernel
theorem dX7_fails_0 : decode cX7_fails 0 = .ok (.aload_n 0, 1) := dk_42 (dk_at dksX7_fails_0 0 rfl rfl)
theorem dX7_fails_1 : decode cX7_fails 1 = .ok (.iload_n 1, 1) := dk_27 (dk_at dksX7_fails_0 1 rfl rfl)
theorem dX7_fails_2 : decode cX7_fails 2 = .ok (.putfield 47, 3) := dk_181 0 47 (dk_at dksX7_fails_0 2 rfl rfl)
theorem dX7_fails_5 : decode cX7_fails 5 = .ok (.iconst 0, 1) := dk_3 (dk_at dksX7_fails_0 5 rfl rfl)
theorem dX7_fails_6 : decode cX7_fails 6 = .ok (.ireturn, 1) := dk_172 (dk_at dksX7_fails_0 6 rfl rfl)
abbrev cX7_clearText : ByteArray := prog_17_method_6_code
def yX7_clearText : MethodName := ⟨RX7, "clearText", "()I"⟩
def dkwX7_clearText_0 : List UInt8 := [42, 3, 181, 0, 47, 42, 180, 0, 59, 60, 42, 3, 181, 0, 59, 27, 172]
abbrev dktX7_clearText_0 : List UInt8 := dkwX7_clearText_0 ++ []
theorem dksX7_clearText_0 : cX7_clearText.data.toList.drop 0 = dktX7_clearText_0 := by decide +kernel
theorem dX7_clearText_0 : decode cX7_clearText 0 = .ok (.aload_n 0, 1) := dk_42 (dk_at dksX7_clearText_0 0 rfl rfl)
theorem dX7_clearText_1 : decode cX7_clearText 1 = .ok (.iconst 0, 1) := dk_3 (dk_at dksX7_clearText_0 1 rfl rfl)
theorem dX7_clearText_2 : decode cX7_clearText 2 = .ok (.putfield 47, 3) := dk_181 0 47 (dk_at dksX7_clearText_0 2 rfl rfl)
theorem dX7_clearText_5 : decode cX7_clearText 5 = .ok (.aload_n 0, 1) := dk_42 (dk_at dksX7_clearText_0 5 rfl rfl)
theorem dX7_clearText_6 : decode cX7_clearText 6 = .ok (.getfield 59, 3) := dk_180 0 59 (dk_at dksX7_clearText_0 6 rfl rfl)
theorem dX7_clearText_9 : decode cX7_clearText 9 = .ok (.istore_n 1, 1) := dk_60 (dk_at dksX7_clearText_0 9 rfl rfl)
theorem dX7_clearText_10 : decode cX7_clearText 10 = .ok (.aload_n 0, 1) := dk_42 (dk_at dksX7_clearText_0 10 rfl rfl)
theorem dX7_clearText_11 : decode cX7_clearText 11 = .ok (.iconst 0, 1) := dk_3 (dk_at dksX7_clearText_0 11 rfl rfl)
theorem dX7_clearText_12 : decode cX7_clearText 12 = .ok (.putfield 59, 3) := dk_181 0 59 (dk_at dksX7_clearText_0 12 rfl rfl)
theorem dX7_clearText_15 : decode cX7_clearText 15 = .ok (.iload_n 1, 1) := dk_27 (dk_at dksX7_clearText_0 15 rfl rfl)
theorem dX7_clearText_16 : decode cX7_clearText 16 = .ok (.ireturn, 1) := dk_172 (dk_at dksX7_clearText_0 16 rfl rfl)
abbrev cX7_readSequence : ByteArray := prog_17_method_15_code
def yX7_readSequence : MethodName := ⟨RX7, "readSequence", "()I"⟩
def dkwX7_readSequence_4 : List UInt8 := [42, 180, 0, 104, 172]
abbrev dktX7_readSequence_4 : List UInt8 := dkwX7_readSequence_4 ++ []
def dkwX7_readSequence_3 : List UInt8 := [79, 132, 1, 1, 167, 255, 209, 42, 182, 0, 107, 42, 3, 181, 0, 59, 42, 42, 180, 0, 7, 182, 0, 43]
abbrev dktX7_readSequence_3 : List UInt8 := dkwX7_readSequence_3 ++ dktX7_readSequence_4
def dkwX7_readSequence_2 : List UInt8 := [79, 42, 180, 0, 22, 27, 42, 180, 0, 37, 27, 46, 79, 42, 180, 0, 25, 27, 42, 180, 0, 40, 27, 46]
abbrev dktX7_readSequence_2 : List UInt8 := dkwX7_readSequence_2 ++ dktX7_readSequence_3
def dkwX7_readSequence_1 : List UInt8 := [181, 0, 104, 3, 60, 27, 42, 180, 0, 104, 162, 0, 45, 42, 180, 0, 19, 27, 42, 180, 0, 34, 27, 46]
abbrev dktX7_readSequence_1 : List UInt8 := dkwX7_readSequence_1 ++ dktX7_readSequence_2
def dkwX7_readSequence_0 : List UInt8 := [42, 3, 181, 0, 47, 42, 182, 0, 100, 154, 0, 10, 2, 42, 180, 0, 97, 100, 172, 42, 42, 180, 0, 65]
abbrev dktX7_readSequence_0 : List UInt8 := dkwX7_readSequence_0 ++ dktX7_readSequence_1
theorem dksX7_readSequence_0 : cX7_readSequence.data.toList.drop 0 = dktX7_readSequence_0 := by decide +kernel
theorem dksX7_readSequence_1 : cX7_readSequence.data.toList.drop 24 = dktX7_readSequence_1 := dk_seg dksX7_readSequence_0 24 rfl rfl
theorem dksX7_readSequence_2 : cX7_readSequence.data.toList.drop 48 = dktX7_readSequence_2 := dk_seg dksX7_readSequence_1 24 rfl rfl
theorem dksX7_readSequence_3 : cX7_readSequence.data.toList.drop 72 = dktX7_readSequence_3 := dk_seg dksX7_readSequence_2 24 rfl rfl
theorem dksX7_readSequence_4 : cX7_readSequence.data.toList.drop 96 = dktX7_readSequence_4 := dk_seg dksX7_readSequence_3 24 rfl rfl
theorem dX7_readSequence_0 : decode cX7_readSequence 0 = .ok (.aload_n 0, 1) := dk_42 (dk_at dksX7_readSequence_0 0 rfl rfl)
theorem dX7_readSequence_1 : decode cX7_readSequence 1 = .ok (.iconst 0, 1) := dk_3 (dk_at dksX7_readSequence_0 1 rfl rfl)
theorem dX7_readSequence_2 : decode cX7_readSequence 2 = .ok (.putfield 47, 3) := dk_181 0 47 (dk_at dksX7_readSequence_0 2 rfl rfl)
theorem dX7_readSequence_5 : decode cX7_readSequence 5 = .ok (.aload_n 0, 1) := dk_42 (dk_at dksX7_readSequence_0 5 rfl rfl)
theorem dX7_readSequence_6 : decode cX7_readSequence 6 = .ok (.invokevirtual 100, 3) := dk_182 0 100 (dk_at dksX7_readSequence_0 6 rfl rfl)
theorem dX7_readSequence_9 : decode cX7_readSequence 9 = .ok (.ifCond .ne 10, 3) := dk_154 0 10 (dk_at dksX7_readSequence_0 9 rfl rfl)
theorem dX7_readSequence_12 : decode cX7_readSequence 12 = .ok (.iconst (-1), 1) := dk_2 (dk_at dksX7_readSequence_0 12 rfl rfl)
theorem dX7_readSequence_13 : decode cX7_readSequence 13 = .ok (.aload_n 0, 1) := dk_42 (dk_at dksX7_readSequence_0 13 rfl rfl)
theorem dX7_readSequence_14 : decode cX7_readSequence 14 = .ok (.getfield 97, 3) := dk_180 0 97 (dk_at dksX7_readSequence_0 14 rfl rfl)
theorem dX7_readSequence_17 : decode cX7_readSequence 17 = .ok (.isub, 1) := dk_100 (dk_at dksX7_readSequence_0 17 rfl rfl)
theorem dX7_readSequence_18 : decode cX7_readSequence 18 = .ok (.ireturn, 1) := dk_172 (dk_at dksX7_readSequence_0 18 rfl rfl)
theorem dX7_readSequence_19 : decode cX7_readSequence 19 = .ok (.aload_n 0, 1) := dk_42 (dk_at dksX7_readSequence_0 19 rfl rfl)
theorem dX7_readSequence_20 : decode cX7_readSequence 20 = .ok (.aload_n 0, 1) := dk_42 (dk_at dksX7_readSequence_0 20 rfl rfl)
theorem dX7_readSequence_21 : decode cX7_readSequence 21 = .ok (.getfield 65, 3) := dk_180 0 65 (dk_at dksX7_readSequence_0 21 rfl rfl)
theorem dX7_readSequence_24 : decode cX7_readSequence 24 = .ok (.putfield 104, 3) := dk_181 0 104 (dk_at dksX7_readSequence_1 0 rfl rfl)
theorem dX7_readSequence_27 : decode cX7_readSequence 27 = .ok (.iconst 0, 1) := dk_3 (dk_at dksX7_readSequence_1 3 rfl rfl)
theorem dX7_readSequence_28 : decode cX7_readSequence 28 = .ok (.istore_n 1, 1) := dk_60 (dk_at dksX7_readSequence_1 4 rfl rfl)
theorem dX7_readSequence_29 : decode cX7_readSequence 29 = .ok (.iload_n 1, 1) := dk_27 (dk_at dksX7_readSequence_1 5 rfl rfl)
theorem dX7_readSequence_30 : decode cX7_readSequence 30 = .ok (.aload_n 0, 1) := dk_42 (dk_at dksX7_readSequence_1 6 rfl rfl)
theorem dX7_readSequence_31 : decode cX7_readSequence 31 = .ok (.getfield 104, 3) := dk_180 0 104 (dk_at dksX7_readSequence_1 7 rfl rfl)
theorem dX7_readSequence_34 : decode cX7_readSequence 34 = .ok (.if_icmp .ge 45, 3) := dk_162 0 45 (dk_at dksX7_readSequence_1 10 rfl rfl)
theorem dX7_readSequence_37 : decode cX7_readSequence 37 = .ok (.aload_n 0, 1) := dk_42 (dk_at dksX7_readSequence_1 13 rfl rfl)
theorem dX7_readSequence_38 : decode cX7_readSequence 38 = .ok (.getfield 19, 3) := dk_180 0 19 (dk_at dksX7_readSequence_1 14 rfl rfl)
theorem dX7_readSequence_41 : decode cX7_readSequence 41 = .ok (.iload_n 1, 1) := dk_27 (dk_at dksX7_readSequence_1 17 rfl rfl)
theorem dX7_readSequence_42 : decode cX7_readSequence 42 = .ok (.aload_n 0, 1) := dk_42 (dk_at dksX7_readSequence_1 18 rfl rfl)
theorem dX7_readSequence_43 : decode cX7_readSequence 43 = .ok (.getfield 34, 3) := dk_180 0 34 (dk_at dksX7_readSequence_1 19 rfl rfl)
theorem dX7_readSequence_46 : decode cX7_readSequence 46 = .ok (.iload_n 1, 1) := dk_27 (dk_at dksX7_readSequence_1 22 rfl rfl)
theorem dX7_readSequence_47 : decode cX7_readSequence 47 = .ok (.iaload, 1) := dk_46 (dk_at dksX7_readSequence_1 23 rfl rfl)
theorem dX7_readSequence_48 : decode cX7_readSequence 48 = .ok (.iastore, 1) := dk_79 (dk_at dksX7_readSequence_2 0 rfl rfl)
theorem dX7_readSequence_49 : decode cX7_readSequence 49 = .ok (.aload_n 0, 1) := dk_42 (dk_at dksX7_readSequence_2 1 rfl rfl)
theorem dX7_readSequence_50 : decode cX7_readSequence 50 = .ok (.getfield 22, 3) := dk_180 0 22 (dk_at dksX7_readSequence_2 2 rfl rfl)
theorem dX7_readSequence_53 : decode cX7_readSequence 53 = .ok (.iload_n 1, 1) := dk_27 (dk_at dksX7_readSequence_2 5 rfl rfl)
theorem dX7_readSequence_54 : decode cX7_readSequence 54 = .ok (.aload_n 0, 1) := dk_42 (dk_at dksX7_readSequence_2 6 rfl rfl)
theorem dX7_readSequence_55 : decode cX7_readSequence 55 = .ok (.getfield 37, 3) := dk_180 0 37 (dk_at dksX7_readSequence_2 7 rfl rfl)
theorem dX7_readSequence_58 : decode cX7_readSequence 58 = .ok (.iload_n 1, 1) := dk_27 (dk_at dksX7_readSequence_2 10 rfl rfl)
theorem dX7_readSequence_59 : decode cX7_readSequence 59 = .ok (.iaload, 1) := dk_46 (dk_at dksX7_readSequence_2 11 rfl rfl)
theorem dX7_readSequence_60 : decode cX7_readSequence 60 = .ok (.iastore, 1) := dk_79 (dk_at dksX7_readSequence_2 12 rfl rfl)
theorem dX7_readSequence_61 : decode cX7_readSequence 61 = .ok (.aload_n 0, 1) := dk_42 (dk_at dksX7_readSequence_2 13 rfl rfl)
theorem dX7_readSequence_62 : decode cX7_readSequence 62 = .ok (.getfield 25, 3) := dk_180 0 25 (dk_at dksX7_readSequence_2 14 rfl rfl)
theorem dX7_readSequence_65 : decode cX7_readSequence 65 = .ok (.iload_n 1, 1) := dk_27 (dk_at dksX7_readSequence_2 17 rfl rfl)
theorem dX7_readSequence_66 : decode cX7_readSequence 66 = .ok (.aload_n 0, 1) := dk_42 (dk_at dksX7_readSequence_2 18 rfl rfl)
theorem dX7_readSequence_67 : decode cX7_readSequence 67 = .ok (.getfield 40, 3) := dk_180 0 40 (dk_at dksX7_readSequence_2 19 rfl rfl)
theorem dX7_readSequence_70 : decode cX7_readSequence 70 = .ok (.iload_n 1, 1) := dk_27 (dk_at dksX7_readSequence_2 22 rfl rfl)
theorem dX7_readSequence_71 : decode cX7_readSequence 71 = .ok (.iaload, 1) := dk_46 (dk_at dksX7_readSequence_2 23 rfl rfl)
theorem dX7_readSequence_72 : decode cX7_readSequence 72 = .ok (.iastore, 1) := dk_79 (dk_at dksX7_readSequence_3 0 rfl rfl)
theorem dX7_readSequence_73 : decode cX7_readSequence 73 = .ok (.iinc 1 1, 3) := dk_132 1 1 (dk_at dksX7_readSequence_3 1 rfl rfl)
theorem dX7_readSequence_76 : decode cX7_readSequence 76 = .ok (.goto (-47), 3) := dk_167 255 209 (dk_at dksX7_readSequence_3 4 rfl rfl)
theorem dX7_readSequence_79 : decode cX7_readSequence 79 = .ok (.aload_n 0, 1) := dk_42 (dk_at dksX7_readSequence_3 7 rfl rfl)
theorem dX7_readSequence_80 : decode cX7_readSequence 80 = .ok (.invokevirtual 107, 3) := dk_182 0 107 (dk_at dksX7_readSequence_3 8 rfl rfl)
theorem dX7_readSequence_83 : decode cX7_readSequence 83 = .ok (.aload_n 0, 1) := dk_42 (dk_at dksX7_readSequence_3 11 rfl rfl)
theorem dX7_readSequence_84 : decode cX7_readSequence 84 = .ok (.iconst 0, 1) := dk_3 (dk_at dksX7_readSequence_3 12 rfl rfl)
theorem dX7_readSequence_85 : decode cX7_readSequence 85 = .ok (.putfield 59, 3) := dk_181 0 59 (dk_at dksX7_readSequence_3 13 rfl rfl)
theorem dX7_readSequence_88 : decode cX7_readSequence 88 = .ok (.aload_n 0, 1) := dk_42 (dk_at dksX7_readSequence_3 16 rfl rfl)
theorem dX7_readSequence_89 : decode cX7_readSequence 89 = .ok (.aload_n 0, 1) := dk_42 (dk_at dksX7_readSequence_3 17 rfl rfl)
theorem dX7_readSequence_90 : decode cX7_readSequence 90 = .ok (.getfield 7, 3) := dk_180 0 7 (dk_at dksX7_readSequence_3 18 rfl rfl)
theorem dX7_readSequence_93 : decode cX7_readSequence 93 = .ok (.invokevirtual 43, 3) := dk_182 0 43 (dk_at dksX7_readSequence_3 21 rfl rfl)
theorem dX7_readSequence_96 : decode cX7_readSequence 96 = .ok (.aload_n 0, 1) := dk_42 (dk_at dksX7_readSequence_4 0 rfl rfl)
theorem dX7_readSequence_97 : decode cX7_readSequence 97 = .ok (.getfield 104, 3) := dk_180 0 104 (dk_at dksX7_readSequence_4 1 rfl rfl)
theorem dX7_readSequence_100 : decode cX7_readSequence 100 = .ok (.ireturn, 1) := dk_172 (dk_at dksX7_readSequence_4 4 rfl rfl)
abbrev cX7_reads : ByteArray := prog_17_method_14_code
def yX7_reads : MethodName := ⟨RX7, "reads", "()Z"⟩
def dkwX7_reads_7 : List UInt8 := [180, 0, 59, 181, 0, 97, 42, 180, 0, 94, 154, 0, 7, 4, 167, 0, 4, 3, 172]
abbrev dktX7_reads_7 : List UInt8 := dkwX7_reads_7 ++ []
def dkwX7_reads_6 : List UInt8 := [167, 0, 4, 3, 181, 0, 94, 42, 42, 180, 0, 68, 155, 0, 10, 42, 180, 0, 68, 167, 0, 7, 42]
abbrev dktX7_reads_6 : List UInt8 := dkwX7_reads_6 ++ dktX7_reads_7
def dkwX7_reads_5 : List UInt8 := [180, 0, 68, 155, 0, 7, 5, 167, 0, 19, 42, 180, 0, 71, 154, 0, 7, 28, 154, 0, 7, 6]
abbrev dktX7_reads_5 : List UInt8 := dkwX7_reads_5 ++ dktX7_reads_6
def dkwX7_reads_4 : List UInt8 := [167, 0, 4, 3, 61, 29, 60, 42, 89, 180, 0, 65, 4, 96, 181, 0, 65, 167, 255, 168, 42, 42]
abbrev dktX7_reads_4 : List UInt8 := dkwX7_reads_4 ++ dktX7_reads_5
def dkwX7_reads_3 : List UInt8 := [181, 0, 97, 3, 172, 28, 154, 0, 15, 42, 180, 0, 40, 42, 180, 0, 65, 46, 154, 0, 7, 4]
abbrev dktX7_reads_3 : List UInt8 := dkwX7_reads_3 ++ dktX7_reads_4
def dkwX7_reads_2 : List UInt8 := [167, 0, 8, 42, 27, 182, 0, 91, 62, 29, 156, 0, 17, 42, 4, 181, 0, 94, 42, 2, 29, 100]
abbrev dktX7_reads_2 : List UInt8 := dkwX7_reads_2 ++ dktX7_reads_3
def dkwX7_reads_1 : List UInt8 := [161, 0, 10, 42, 180, 0, 65, 154, 0, 79, 42, 180, 0, 65, 16, 16, 160, 0, 9, 2, 27, 100]
abbrev dktX7_reads_1 : List UInt8 := dkwX7_reads_1 ++ dktX7_reads_2
def dkwX7_reads_0 : List UInt8 := [42, 3, 181, 0, 65, 42, 3, 181, 0, 71, 42, 2, 181, 0, 68, 3, 60, 3, 61, 27, 42, 180, 0, 59]
abbrev dktX7_reads_0 : List UInt8 := dkwX7_reads_0 ++ dktX7_reads_1
theorem dksX7_reads_0 : cX7_reads.data.toList.drop 0 = dktX7_reads_0 := by decide +kernel
theorem dksX7_reads_1 : cX7_reads.data.toList.drop 24 = dktX7_reads_1 := dk_seg dksX7_reads_0 24 rfl rfl
theorem dksX7_reads_2 : cX7_reads.data.toList.drop 46 = dktX7_reads_2 := dk_seg dksX7_reads_1 22 rfl rfl
theorem dksX7_reads_3 : cX7_reads.data.toList.drop 68 = dktX7_reads_3 := dk_seg dksX7_reads_2 22 rfl rfl
theorem dksX7_reads_4 : cX7_reads.data.toList.drop 90 = dktX7_reads_4 := dk_seg dksX7_reads_3 22 rfl rfl
theorem dksX7_reads_5 : cX7_reads.data.toList.drop 112 = dktX7_reads_5 := dk_seg dksX7_reads_4 22 rfl rfl
theorem dksX7_reads_6 : cX7_reads.data.toList.drop 134 = dktX7_reads_6 := dk_seg dksX7_reads_5 22 rfl rfl
theorem dksX7_reads_7 : cX7_reads.data.toList.drop 157 = dktX7_reads_7 := dk_seg dksX7_reads_6 23 rfl rfl
theorem dX7_reads_0 : decode cX7_reads 0 = .ok (.aload_n 0, 1) := dk_42 (dk_at dksX7_reads_0 0 rfl rfl)
theorem dX7_reads_1 : decode cX7_reads 1 = .ok (.iconst 0, 1) := dk_3 (dk_at dksX7_reads_0 1 rfl rfl)
theorem dX7_reads_2 : decode cX7_reads 2 = .ok (.putfield 65, 3) := dk_181 0 65 (dk_at dksX7_reads_0 2 rfl rfl)
theorem dX7_reads_5 : decode cX7_reads 5 = .ok (.aload_n 0, 1) := dk_42 (dk_at dksX7_reads_0 5 rfl rfl)
theorem dX7_reads_6 : decode cX7_reads 6 = .ok (.iconst 0, 1) := dk_3 (dk_at dksX7_reads_0 6 rfl rfl)
theorem dX7_reads_7 : decode cX7_reads 7 = .ok (.putfield 71, 3) := dk_181 0 71 (dk_at dksX7_reads_0 7 rfl rfl)
theorem dX7_reads_10 : decode cX7_reads 10 = .ok (.aload_n 0, 1) := dk_42 (dk_at dksX7_reads_0 10 rfl rfl)
theorem dX7_reads_11 : decode cX7_reads 11 = .ok (.iconst (-1), 1) := dk_2 (dk_at dksX7_reads_0 11 rfl rfl)
theorem dX7_reads_12 : decode cX7_reads 12 = .ok (.putfield 68, 3) := dk_181 0 68 (dk_at dksX7_reads_0 12 rfl rfl)
theorem dX7_reads_15 : decode cX7_reads 15 = .ok (.iconst 0, 1) := dk_3 (dk_at dksX7_reads_0 15 rfl rfl)
theorem dX7_reads_16 : decode cX7_reads 16 = .ok (.istore_n 1, 1) := dk_60 (dk_at dksX7_reads_0 16 rfl rfl)
theorem dX7_reads_17 : decode cX7_reads 17 = .ok (.iconst 0, 1) := dk_3 (dk_at dksX7_reads_0 17 rfl rfl)
theorem dX7_reads_18 : decode cX7_reads 18 = .ok (.istore_n 2, 1) := dk_61 (dk_at dksX7_reads_0 18 rfl rfl)
theorem dX7_reads_19 : decode cX7_reads 19 = .ok (.iload_n 1, 1) := dk_27 (dk_at dksX7_reads_0 19 rfl rfl)
theorem dX7_reads_20 : decode cX7_reads 20 = .ok (.aload_n 0, 1) := dk_42 (dk_at dksX7_reads_0 20 rfl rfl)
theorem dX7_reads_21 : decode cX7_reads 21 = .ok (.getfield 59, 3) := dk_180 0 59 (dk_at dksX7_reads_0 21 rfl rfl)
theorem dX7_reads_24 : decode cX7_reads 24 = .ok (.if_icmp .lt 10, 3) := dk_161 0 10 (dk_at dksX7_reads_1 0 rfl rfl)
theorem dX7_reads_27 : decode cX7_reads 27 = .ok (.aload_n 0, 1) := dk_42 (dk_at dksX7_reads_1 3 rfl rfl)
theorem dX7_reads_28 : decode cX7_reads 28 = .ok (.getfield 65, 3) := dk_180 0 65 (dk_at dksX7_reads_1 4 rfl rfl)
theorem dX7_reads_31 : decode cX7_reads 31 = .ok (.ifCond .ne 79, 3) := dk_154 0 79 (dk_at dksX7_reads_1 7 rfl rfl)
theorem dX7_reads_34 : decode cX7_reads 34 = .ok (.aload_n 0, 1) := dk_42 (dk_at dksX7_reads_1 10 rfl rfl)
theorem dX7_reads_35 : decode cX7_reads 35 = .ok (.getfield 65, 3) := dk_180 0 65 (dk_at dksX7_reads_1 11 rfl rfl)
theorem dX7_reads_38 : decode cX7_reads 38 = .ok (.bipush 16, 2) := dk_16 16 (dk_at dksX7_reads_1 14 rfl rfl)
theorem dX7_reads_40 : decode cX7_reads 40 = .ok (.if_icmp .ne 9, 3) := dk_160 0 9 (dk_at dksX7_reads_1 16 rfl rfl)
theorem dX7_reads_43 : decode cX7_reads 43 = .ok (.iconst (-1), 1) := dk_2 (dk_at dksX7_reads_1 19 rfl rfl)
theorem dX7_reads_44 : decode cX7_reads 44 = .ok (.iload_n 1, 1) := dk_27 (dk_at dksX7_reads_1 20 rfl rfl)
theorem dX7_reads_45 : decode cX7_reads 45 = .ok (.isub, 1) := dk_100 (dk_at dksX7_reads_1 21 rfl rfl)
theorem dX7_reads_46 : decode cX7_reads 46 = .ok (.goto 8, 3) := dk_167 0 8 (dk_at dksX7_reads_2 0 rfl rfl)
theorem dX7_reads_49 : decode cX7_reads 49 = .ok (.aload_n 0, 1) := dk_42 (dk_at dksX7_reads_2 3 rfl rfl)
theorem dX7_reads_50 : decode cX7_reads 50 = .ok (.iload_n 1, 1) := dk_27 (dk_at dksX7_reads_2 4 rfl rfl)
theorem dX7_reads_51 : decode cX7_reads 51 = .ok (.invokevirtual 91, 3) := dk_182 0 91 (dk_at dksX7_reads_2 5 rfl rfl)
theorem dX7_reads_54 : decode cX7_reads 54 = .ok (.istore_n 3, 1) := dk_62 (dk_at dksX7_reads_2 8 rfl rfl)
theorem dX7_reads_55 : decode cX7_reads 55 = .ok (.iload_n 3, 1) := dk_29 (dk_at dksX7_reads_2 9 rfl rfl)
theorem dX7_reads_56 : decode cX7_reads 56 = .ok (.ifCond .ge 17, 3) := dk_156 0 17 (dk_at dksX7_reads_2 10 rfl rfl)
theorem dX7_reads_59 : decode cX7_reads 59 = .ok (.aload_n 0, 1) := dk_42 (dk_at dksX7_reads_2 13 rfl rfl)
theorem dX7_reads_60 : decode cX7_reads 60 = .ok (.iconst 1, 1) := dk_4 (dk_at dksX7_reads_2 14 rfl rfl)
theorem dX7_reads_61 : decode cX7_reads 61 = .ok (.putfield 94, 3) := dk_181 0 94 (dk_at dksX7_reads_2 15 rfl rfl)
theorem dX7_reads_64 : decode cX7_reads 64 = .ok (.aload_n 0, 1) := dk_42 (dk_at dksX7_reads_2 18 rfl rfl)
theorem dX7_reads_65 : decode cX7_reads 65 = .ok (.iconst (-1), 1) := dk_2 (dk_at dksX7_reads_2 19 rfl rfl)
theorem dX7_reads_66 : decode cX7_reads 66 = .ok (.iload_n 3, 1) := dk_29 (dk_at dksX7_reads_2 20 rfl rfl)
theorem dX7_reads_67 : decode cX7_reads 67 = .ok (.isub, 1) := dk_100 (dk_at dksX7_reads_2 21 rfl rfl)
theorem dX7_reads_68 : decode cX7_reads 68 = .ok (.putfield 97, 3) := dk_181 0 97 (dk_at dksX7_reads_3 0 rfl rfl)
theorem dX7_reads_71 : decode cX7_reads 71 = .ok (.iconst 0, 1) := dk_3 (dk_at dksX7_reads_3 3 rfl rfl)
theorem dX7_reads_72 : decode cX7_reads 72 = .ok (.ireturn, 1) := dk_172 (dk_at dksX7_reads_3 4 rfl rfl)
theorem dX7_reads_73 : decode cX7_reads 73 = .ok (.iload_n 2, 1) := dk_28 (dk_at dksX7_reads_3 5 rfl rfl)
theorem dX7_reads_74 : decode cX7_reads 74 = .ok (.ifCond .ne 15, 3) := dk_154 0 15 (dk_at dksX7_reads_3 6 rfl rfl)
theorem dX7_reads_77 : decode cX7_reads 77 = .ok (.aload_n 0, 1) := dk_42 (dk_at dksX7_reads_3 9 rfl rfl)
theorem dX7_reads_78 : decode cX7_reads 78 = .ok (.getfield 40, 3) := dk_180 0 40 (dk_at dksX7_reads_3 10 rfl rfl)
theorem dX7_reads_81 : decode cX7_reads 81 = .ok (.aload_n 0, 1) := dk_42 (dk_at dksX7_reads_3 13 rfl rfl)
theorem dX7_reads_82 : decode cX7_reads 82 = .ok (.getfield 65, 3) := dk_180 0 65 (dk_at dksX7_reads_3 14 rfl rfl)
theorem dX7_reads_85 : decode cX7_reads 85 = .ok (.iaload, 1) := dk_46 (dk_at dksX7_reads_3 17 rfl rfl)
theorem dX7_reads_86 : decode cX7_reads 86 = .ok (.ifCond .ne 7, 3) := dk_154 0 7 (dk_at dksX7_reads_3 18 rfl rfl)
theorem dX7_reads_89 : decode cX7_reads 89 = .ok (.iconst 1, 1) := dk_4 (dk_at dksX7_reads_3 21 rfl rfl)
theorem dX7_reads_90 : decode cX7_reads 90 = .ok (.goto 4, 3) := dk_167 0 4 (dk_at dksX7_reads_4 0 rfl rfl)
theorem dX7_reads_93 : decode cX7_reads 93 = .ok (.iconst 0, 1) := dk_3 (dk_at dksX7_reads_4 3 rfl rfl)
theorem dX7_reads_94 : decode cX7_reads 94 = .ok (.istore_n 2, 1) := dk_61 (dk_at dksX7_reads_4 4 rfl rfl)
theorem dX7_reads_95 : decode cX7_reads 95 = .ok (.iload_n 3, 1) := dk_29 (dk_at dksX7_reads_4 5 rfl rfl)
theorem dX7_reads_96 : decode cX7_reads 96 = .ok (.istore_n 1, 1) := dk_60 (dk_at dksX7_reads_4 6 rfl rfl)
theorem dX7_reads_97 : decode cX7_reads 97 = .ok (.aload_n 0, 1) := dk_42 (dk_at dksX7_reads_4 7 rfl rfl)
theorem dX7_reads_98 : decode cX7_reads 98 = .ok (.dup, 1) := dk_89 (dk_at dksX7_reads_4 8 rfl rfl)
theorem dX7_reads_99 : decode cX7_reads 99 = .ok (.getfield 65, 3) := dk_180 0 65 (dk_at dksX7_reads_4 9 rfl rfl)
theorem dX7_reads_102 : decode cX7_reads 102 = .ok (.iconst 1, 1) := dk_4 (dk_at dksX7_reads_4 12 rfl rfl)
theorem dX7_reads_103 : decode cX7_reads 103 = .ok (.iadd, 1) := dk_96 (dk_at dksX7_reads_4 13 rfl rfl)
theorem dX7_reads_104 : decode cX7_reads 104 = .ok (.putfield 65, 3) := dk_181 0 65 (dk_at dksX7_reads_4 14 rfl rfl)
theorem dX7_reads_107 : decode cX7_reads 107 = .ok (.goto (-88), 3) := dk_167 255 168 (dk_at dksX7_reads_4 17 rfl rfl)
theorem dX7_reads_110 : decode cX7_reads 110 = .ok (.aload_n 0, 1) := dk_42 (dk_at dksX7_reads_4 20 rfl rfl)
theorem dX7_reads_111 : decode cX7_reads 111 = .ok (.aload_n 0, 1) := dk_42 (dk_at dksX7_reads_4 21 rfl rfl)
theorem dX7_reads_112 : decode cX7_reads 112 = .ok (.getfield 68, 3) := dk_180 0 68 (dk_at dksX7_reads_5 0 rfl rfl)
theorem dX7_reads_115 : decode cX7_reads 115 = .ok (.ifCond .lt 7, 3) := dk_155 0 7 (dk_at dksX7_reads_5 3 rfl rfl)
theorem dX7_reads_118 : decode cX7_reads 118 = .ok (.iconst 2, 1) := dk_5 (dk_at dksX7_reads_5 6 rfl rfl)
theorem dX7_reads_119 : decode cX7_reads 119 = .ok (.goto 19, 3) := dk_167 0 19 (dk_at dksX7_reads_5 7 rfl rfl)
theorem dX7_reads_122 : decode cX7_reads 122 = .ok (.aload_n 0, 1) := dk_42 (dk_at dksX7_reads_5 10 rfl rfl)
theorem dX7_reads_123 : decode cX7_reads 123 = .ok (.getfield 71, 3) := dk_180 0 71 (dk_at dksX7_reads_5 11 rfl rfl)
theorem dX7_reads_126 : decode cX7_reads 126 = .ok (.ifCond .ne 7, 3) := dk_154 0 7 (dk_at dksX7_reads_5 14 rfl rfl)
theorem dX7_reads_129 : decode cX7_reads 129 = .ok (.iload_n 2, 1) := dk_28 (dk_at dksX7_reads_5 17 rfl rfl)
theorem dX7_reads_130 : decode cX7_reads 130 = .ok (.ifCond .ne 7, 3) := dk_154 0 7 (dk_at dksX7_reads_5 18 rfl rfl)
theorem dX7_reads_133 : decode cX7_reads 133 = .ok (.iconst 3, 1) := dk_6 (dk_at dksX7_reads_5 21 rfl rfl)
theorem dX7_reads_134 : decode cX7_reads 134 = .ok (.goto 4, 3) := dk_167 0 4 (dk_at dksX7_reads_6 0 rfl rfl)
theorem dX7_reads_137 : decode cX7_reads 137 = .ok (.iconst 0, 1) := dk_3 (dk_at dksX7_reads_6 3 rfl rfl)
theorem dX7_reads_138 : decode cX7_reads 138 = .ok (.putfield 94, 3) := dk_181 0 94 (dk_at dksX7_reads_6 4 rfl rfl)
theorem dX7_reads_141 : decode cX7_reads 141 = .ok (.aload_n 0, 1) := dk_42 (dk_at dksX7_reads_6 7 rfl rfl)
theorem dX7_reads_142 : decode cX7_reads 142 = .ok (.aload_n 0, 1) := dk_42 (dk_at dksX7_reads_6 8 rfl rfl)
theorem dX7_reads_143 : decode cX7_reads 143 = .ok (.getfield 68, 3) := dk_180 0 68 (dk_at dksX7_reads_6 9 rfl rfl)
theorem dX7_reads_146 : decode cX7_reads 146 = .ok (.ifCond .lt 10, 3) := dk_155 0 10 (dk_at dksX7_reads_6 12 rfl rfl)
theorem dX7_reads_149 : decode cX7_reads 149 = .ok (.aload_n 0, 1) := dk_42 (dk_at dksX7_reads_6 15 rfl rfl)
theorem dX7_reads_150 : decode cX7_reads 150 = .ok (.getfield 68, 3) := dk_180 0 68 (dk_at dksX7_reads_6 16 rfl rfl)
theorem dX7_reads_153 : decode cX7_reads 153 = .ok (.goto 7, 3) := dk_167 0 7 (dk_at dksX7_reads_6 19 rfl rfl)
theorem dX7_reads_156 : decode cX7_reads 156 = .ok (.aload_n 0, 1) := dk_42 (dk_at dksX7_reads_6 22 rfl rfl)
theorem dX7_reads_157 : decode cX7_reads 157 = .ok (.getfield 59, 3) := dk_180 0 59 (dk_at dksX7_reads_7 0 rfl rfl)
theorem dX7_reads_160 : decode cX7_reads 160 = .ok (.putfield 97, 3) := dk_181 0 97 (dk_at dksX7_reads_7 3 rfl rfl)
theorem dX7_reads_163 : decode cX7_reads 163 = .ok (.aload_n 0, 1) := dk_42 (dk_at dksX7_reads_7 6 rfl rfl)
theorem dX7_reads_164 : decode cX7_reads 164 = .ok (.getfield 94, 3) := dk_180 0 94 (dk_at dksX7_reads_7 7 rfl rfl)
theorem dX7_reads_167 : decode cX7_reads 167 = .ok (.ifCond .ne 7, 3) := dk_154 0 7 (dk_at dksX7_reads_7 10 rfl rfl)
theorem dX7_reads_170 : decode cX7_reads 170 = .ok (.iconst 1, 1) := dk_4 (dk_at dksX7_reads_7 13 rfl rfl)
theorem dX7_reads_171 : decode cX7_reads 171 = .ok (.goto 4, 3) := dk_167 0 4 (dk_at dksX7_reads_7 14 rfl rfl)
theorem dX7_reads_174 : decode cX7_reads 174 = .ok (.iconst 0, 1) := dk_3 (dk_at dksX7_reads_7 17 rfl rfl)
theorem dX7_reads_175 : decode cX7_reads 175 = .ok (.ireturn, 1) := dk_172 (dk_at dksX7_reads_7 18 rfl rfl)
abbrev cX7_readsStep : ByteArray := prog_17_method_12_code
def yX7_readsStep : MethodName := ⟨RX7, "readsStep", "(I)I"⟩
def dkwX7_readsStep_6 : List UInt8 := [29, 182, 0, 81, 100, 172]
abbrev dktX7_readsStep_6 : List UInt8 := dkwX7_readsStep_6 ++ []
def dkwX7_readsStep_5 : List UInt8 := [21, 4, 5, 161, 0, 19, 42, 29, 182, 0, 62, 16, 41, 160, 0, 9, 29, 4, 96, 167, 0, 10, 2, 42]
abbrev dktX7_readsStep_5 : List UInt8 := dkwX7_readsStep_5 ++ dktX7_readsStep_6
def dkwX7_readsStep_4 : List UInt8 := [42, 29, 182, 0, 77, 153, 0, 18, 42, 29, 28, 182, 0, 84, 132, 4, 1, 132, 3, 2, 167, 255, 236]
abbrev dktX7_readsStep_4 : List UInt8 := dkwX7_readsStep_4 ++ dktX7_readsStep_5
def dkwX7_readsStep_3 : List UInt8 := [42, 27, 182, 0, 81, 100, 172, 42, 27, 28, 182, 0, 84, 27, 5, 96, 172, 27, 4, 96, 62, 3, 54, 4]
abbrev dktX7_readsStep_3 : List UInt8 := dkwX7_readsStep_3 ++ dktX7_readsStep_4
def dkwX7_readsStep_2 : List UInt8 := [96, 182, 0, 74, 172, 42, 27, 182, 0, 62, 16, 40, 159, 0, 29, 42, 27, 182, 0, 77, 154, 0, 11, 2]
abbrev dktX7_readsStep_2 : List UInt8 := dkwX7_readsStep_2 ++ dktX7_readsStep_3
def dkwX7_readsStep_1 : List UInt8 := [79, 42, 180, 0, 40, 42, 180, 0, 65, 3, 79, 42, 27, 182, 0, 62, 16, 84, 160, 0, 11, 42, 27, 4]
abbrev dktX7_readsStep_1 : List UInt8 := dkwX7_readsStep_1 ++ dktX7_readsStep_2
def dkwX7_readsStep_0 : List UInt8 := [42, 180, 0, 71, 61, 42, 180, 0, 34, 42, 180, 0, 65, 3, 79, 42, 180, 0, 37, 42, 180, 0, 65, 3]
abbrev dktX7_readsStep_0 : List UInt8 := dkwX7_readsStep_0 ++ dktX7_readsStep_1
theorem dksX7_readsStep_0 : cX7_readsStep.data.toList.drop 0 = dktX7_readsStep_0 := by decide +kernel
theorem dksX7_readsStep_1 : cX7_readsStep.data.toList.drop 24 = dktX7_readsStep_1 := dk_seg dksX7_readsStep_0 24 rfl rfl
theorem dksX7_readsStep_2 : cX7_readsStep.data.toList.drop 48 = dktX7_readsStep_2 := dk_seg dksX7_readsStep_1 24 rfl rfl
theorem dksX7_readsStep_3 : cX7_readsStep.data.toList.drop 72 = dktX7_readsStep_3 := dk_seg dksX7_readsStep_2 24 rfl rfl
theorem dksX7_readsStep_4 : cX7_readsStep.data.toList.drop 96 = dktX7_readsStep_4 := dk_seg dksX7_readsStep_3 24 rfl rfl
theorem dksX7_readsStep_5 : cX7_readsStep.data.toList.drop 119 = dktX7_readsStep_5 := dk_seg dksX7_readsStep_4 23 rfl rfl
theorem dksX7_readsStep_6 : cX7_readsStep.data.toList.drop 143 = dktX7_readsStep_6 := dk_seg dksX7_readsStep_5 24 rfl rfl
theorem dX7_readsStep_0 : decode cX7_readsStep 0 = .ok (.aload_n 0, 1) := dk_42 (dk_at dksX7_readsStep_0 0 rfl rfl)
theorem dX7_readsStep_1 : decode cX7_readsStep 1 = .ok (.getfield 71, 3) := dk_180 0 71 (dk_at dksX7_readsStep_0 1 rfl rfl)
theorem dX7_readsStep_4 : decode cX7_readsStep 4 = .ok (.istore_n 2, 1) := dk_61 (dk_at dksX7_readsStep_0 4 rfl rfl)
theorem dX7_readsStep_5 : decode cX7_readsStep 5 = .ok (.aload_n 0, 1) := dk_42 (dk_at dksX7_readsStep_0 5 rfl rfl)
theorem dX7_readsStep_6 : decode cX7_readsStep 6 = .ok (.getfield 34, 3) := dk_180 0 34 (dk_at dksX7_readsStep_0 6 rfl rfl)
theorem dX7_readsStep_9 : decode cX7_readsStep 9 = .ok (.aload_n 0, 1) := dk_42 (dk_at dksX7_readsStep_0 9 rfl rfl)
theorem dX7_readsStep_10 : decode cX7_readsStep 10 = .ok (.getfield 65, 3) := dk_180 0 65 (dk_at dksX7_readsStep_0 10 rfl rfl)
theorem dX7_readsStep_13 : decode cX7_readsStep 13 = .ok (.iconst 0, 1) := dk_3 (dk_at dksX7_readsStep_0 13 rfl rfl)
theorem dX7_readsStep_14 : decode cX7_readsStep 14 = .ok (.iastore, 1) := dk_79 (dk_at dksX7_readsStep_0 14 rfl rfl)
theorem dX7_readsStep_15 : decode cX7_readsStep 15 = .ok (.aload_n 0, 1) := dk_42 (dk_at dksX7_readsStep_0 15 rfl rfl)
theorem dX7_readsStep_16 : decode cX7_readsStep 16 = .ok (.getfield 37, 3) := dk_180 0 37 (dk_at dksX7_readsStep_0 16 rfl rfl)
theorem dX7_readsStep_19 : decode cX7_readsStep 19 = .ok (.aload_n 0, 1) := dk_42 (dk_at dksX7_readsStep_0 19 rfl rfl)
theorem dX7_readsStep_20 : decode cX7_readsStep 20 = .ok (.getfield 65, 3) := dk_180 0 65 (dk_at dksX7_readsStep_0 20 rfl rfl)
theorem dX7_readsStep_23 : decode cX7_readsStep 23 = .ok (.iconst 0, 1) := dk_3 (dk_at dksX7_readsStep_0 23 rfl rfl)
theorem dX7_readsStep_24 : decode cX7_readsStep 24 = .ok (.iastore, 1) := dk_79 (dk_at dksX7_readsStep_1 0 rfl rfl)
theorem dX7_readsStep_25 : decode cX7_readsStep 25 = .ok (.aload_n 0, 1) := dk_42 (dk_at dksX7_readsStep_1 1 rfl rfl)
theorem dX7_readsStep_26 : decode cX7_readsStep 26 = .ok (.getfield 40, 3) := dk_180 0 40 (dk_at dksX7_readsStep_1 2 rfl rfl)
theorem dX7_readsStep_29 : decode cX7_readsStep 29 = .ok (.aload_n 0, 1) := dk_42 (dk_at dksX7_readsStep_1 5 rfl rfl)
theorem dX7_readsStep_30 : decode cX7_readsStep 30 = .ok (.getfield 65, 3) := dk_180 0 65 (dk_at dksX7_readsStep_1 6 rfl rfl)
theorem dX7_readsStep_33 : decode cX7_readsStep 33 = .ok (.iconst 0, 1) := dk_3 (dk_at dksX7_readsStep_1 9 rfl rfl)
theorem dX7_readsStep_34 : decode cX7_readsStep 34 = .ok (.iastore, 1) := dk_79 (dk_at dksX7_readsStep_1 10 rfl rfl)
theorem dX7_readsStep_35 : decode cX7_readsStep 35 = .ok (.aload_n 0, 1) := dk_42 (dk_at dksX7_readsStep_1 11 rfl rfl)
theorem dX7_readsStep_36 : decode cX7_readsStep 36 = .ok (.iload_n 1, 1) := dk_27 (dk_at dksX7_readsStep_1 12 rfl rfl)
theorem dX7_readsStep_37 : decode cX7_readsStep 37 = .ok (.invokevirtual 62, 3) := dk_182 0 62 (dk_at dksX7_readsStep_1 13 rfl rfl)
theorem dX7_readsStep_40 : decode cX7_readsStep 40 = .ok (.bipush 84, 2) := dk_16 84 (dk_at dksX7_readsStep_1 16 rfl rfl)
theorem dX7_readsStep_42 : decode cX7_readsStep 42 = .ok (.if_icmp .ne 11, 3) := dk_160 0 11 (dk_at dksX7_readsStep_1 18 rfl rfl)
theorem dX7_readsStep_45 : decode cX7_readsStep 45 = .ok (.aload_n 0, 1) := dk_42 (dk_at dksX7_readsStep_1 21 rfl rfl)
theorem dX7_readsStep_46 : decode cX7_readsStep 46 = .ok (.iload_n 1, 1) := dk_27 (dk_at dksX7_readsStep_1 22 rfl rfl)
theorem dX7_readsStep_47 : decode cX7_readsStep 47 = .ok (.iconst 1, 1) := dk_4 (dk_at dksX7_readsStep_1 23 rfl rfl)
theorem dX7_readsStep_48 : decode cX7_readsStep 48 = .ok (.iadd, 1) := dk_96 (dk_at dksX7_readsStep_2 0 rfl rfl)
theorem dX7_readsStep_49 : decode cX7_readsStep 49 = .ok (.invokevirtual 74, 3) := dk_182 0 74 (dk_at dksX7_readsStep_2 1 rfl rfl)
theorem dX7_readsStep_52 : decode cX7_readsStep 52 = .ok (.ireturn, 1) := dk_172 (dk_at dksX7_readsStep_2 4 rfl rfl)
theorem dX7_readsStep_53 : decode cX7_readsStep 53 = .ok (.aload_n 0, 1) := dk_42 (dk_at dksX7_readsStep_2 5 rfl rfl)
theorem dX7_readsStep_54 : decode cX7_readsStep 54 = .ok (.iload_n 1, 1) := dk_27 (dk_at dksX7_readsStep_2 6 rfl rfl)
theorem dX7_readsStep_55 : decode cX7_readsStep 55 = .ok (.invokevirtual 62, 3) := dk_182 0 62 (dk_at dksX7_readsStep_2 7 rfl rfl)
theorem dX7_readsStep_58 : decode cX7_readsStep 58 = .ok (.bipush 40, 2) := dk_16 40 (dk_at dksX7_readsStep_2 10 rfl rfl)
theorem dX7_readsStep_60 : decode cX7_readsStep 60 = .ok (.if_icmp .eq 29, 3) := dk_159 0 29 (dk_at dksX7_readsStep_2 12 rfl rfl)
theorem dX7_readsStep_63 : decode cX7_readsStep 63 = .ok (.aload_n 0, 1) := dk_42 (dk_at dksX7_readsStep_2 15 rfl rfl)
theorem dX7_readsStep_64 : decode cX7_readsStep 64 = .ok (.iload_n 1, 1) := dk_27 (dk_at dksX7_readsStep_2 16 rfl rfl)
theorem dX7_readsStep_65 : decode cX7_readsStep 65 = .ok (.invokevirtual 77, 3) := dk_182 0 77 (dk_at dksX7_readsStep_2 17 rfl rfl)
theorem dX7_readsStep_68 : decode cX7_readsStep 68 = .ok (.ifCond .ne 11, 3) := dk_154 0 11 (dk_at dksX7_readsStep_2 20 rfl rfl)
theorem dX7_readsStep_71 : decode cX7_readsStep 71 = .ok (.iconst (-1), 1) := dk_2 (dk_at dksX7_readsStep_2 23 rfl rfl)
theorem dX7_readsStep_72 : decode cX7_readsStep 72 = .ok (.aload_n 0, 1) := dk_42 (dk_at dksX7_readsStep_3 0 rfl rfl)
theorem dX7_readsStep_73 : decode cX7_readsStep 73 = .ok (.iload_n 1, 1) := dk_27 (dk_at dksX7_readsStep_3 1 rfl rfl)
theorem dX7_readsStep_74 : decode cX7_readsStep 74 = .ok (.invokevirtual 81, 3) := dk_182 0 81 (dk_at dksX7_readsStep_3 2 rfl rfl)
theorem dX7_readsStep_77 : decode cX7_readsStep 77 = .ok (.isub, 1) := dk_100 (dk_at dksX7_readsStep_3 5 rfl rfl)
theorem dX7_readsStep_78 : decode cX7_readsStep 78 = .ok (.ireturn, 1) := dk_172 (dk_at dksX7_readsStep_3 6 rfl rfl)
theorem dX7_readsStep_79 : decode cX7_readsStep 79 = .ok (.aload_n 0, 1) := dk_42 (dk_at dksX7_readsStep_3 7 rfl rfl)
theorem dX7_readsStep_80 : decode cX7_readsStep 80 = .ok (.iload_n 1, 1) := dk_27 (dk_at dksX7_readsStep_3 8 rfl rfl)
theorem dX7_readsStep_81 : decode cX7_readsStep 81 = .ok (.iload_n 2, 1) := dk_28 (dk_at dksX7_readsStep_3 9 rfl rfl)
theorem dX7_readsStep_82 : decode cX7_readsStep 82 = .ok (.invokevirtual 84, 3) := dk_182 0 84 (dk_at dksX7_readsStep_3 10 rfl rfl)
theorem dX7_readsStep_85 : decode cX7_readsStep 85 = .ok (.iload_n 1, 1) := dk_27 (dk_at dksX7_readsStep_3 13 rfl rfl)
theorem dX7_readsStep_86 : decode cX7_readsStep 86 = .ok (.iconst 2, 1) := dk_5 (dk_at dksX7_readsStep_3 14 rfl rfl)
theorem dX7_readsStep_87 : decode cX7_readsStep 87 = .ok (.iadd, 1) := dk_96 (dk_at dksX7_readsStep_3 15 rfl rfl)
theorem dX7_readsStep_88 : decode cX7_readsStep 88 = .ok (.ireturn, 1) := dk_172 (dk_at dksX7_readsStep_3 16 rfl rfl)
theorem dX7_readsStep_89 : decode cX7_readsStep 89 = .ok (.iload_n 1, 1) := dk_27 (dk_at dksX7_readsStep_3 17 rfl rfl)
theorem dX7_readsStep_90 : decode cX7_readsStep 90 = .ok (.iconst 1, 1) := dk_4 (dk_at dksX7_readsStep_3 18 rfl rfl)
theorem dX7_readsStep_91 : decode cX7_readsStep 91 = .ok (.iadd, 1) := dk_96 (dk_at dksX7_readsStep_3 19 rfl rfl)
theorem dX7_readsStep_92 : decode cX7_readsStep 92 = .ok (.istore_n 3, 1) := dk_62 (dk_at dksX7_readsStep_3 20 rfl rfl)
theorem dX7_readsStep_93 : decode cX7_readsStep 93 = .ok (.iconst 0, 1) := dk_3 (dk_at dksX7_readsStep_3 21 rfl rfl)
theorem dX7_readsStep_94 : decode cX7_readsStep 94 = .ok (.istore 4, 2) := dk_54 4 (dk_at dksX7_readsStep_3 22 rfl rfl)
theorem dX7_readsStep_96 : decode cX7_readsStep 96 = .ok (.aload_n 0, 1) := dk_42 (dk_at dksX7_readsStep_4 0 rfl rfl)
theorem dX7_readsStep_97 : decode cX7_readsStep 97 = .ok (.iload_n 3, 1) := dk_29 (dk_at dksX7_readsStep_4 1 rfl rfl)
theorem dX7_readsStep_98 : decode cX7_readsStep 98 = .ok (.invokevirtual 77, 3) := dk_182 0 77 (dk_at dksX7_readsStep_4 2 rfl rfl)
theorem dX7_readsStep_101 : decode cX7_readsStep 101 = .ok (.ifCond .eq 18, 3) := dk_153 0 18 (dk_at dksX7_readsStep_4 5 rfl rfl)
theorem dX7_readsStep_104 : decode cX7_readsStep 104 = .ok (.aload_n 0, 1) := dk_42 (dk_at dksX7_readsStep_4 8 rfl rfl)
theorem dX7_readsStep_105 : decode cX7_readsStep 105 = .ok (.iload_n 3, 1) := dk_29 (dk_at dksX7_readsStep_4 9 rfl rfl)
theorem dX7_readsStep_106 : decode cX7_readsStep 106 = .ok (.iload_n 2, 1) := dk_28 (dk_at dksX7_readsStep_4 10 rfl rfl)
theorem dX7_readsStep_107 : decode cX7_readsStep 107 = .ok (.invokevirtual 84, 3) := dk_182 0 84 (dk_at dksX7_readsStep_4 11 rfl rfl)
theorem dX7_readsStep_110 : decode cX7_readsStep 110 = .ok (.iinc 4 1, 3) := dk_132 4 1 (dk_at dksX7_readsStep_4 14 rfl rfl)
theorem dX7_readsStep_113 : decode cX7_readsStep 113 = .ok (.iinc 3 2, 3) := dk_132 3 2 (dk_at dksX7_readsStep_4 17 rfl rfl)
theorem dX7_readsStep_116 : decode cX7_readsStep 116 = .ok (.goto (-20), 3) := dk_167 255 236 (dk_at dksX7_readsStep_4 20 rfl rfl)
theorem dX7_readsStep_119 : decode cX7_readsStep 119 = .ok (.iload 4, 2) := dk_21 4 (dk_at dksX7_readsStep_5 0 rfl rfl)
theorem dX7_readsStep_121 : decode cX7_readsStep 121 = .ok (.iconst 2, 1) := dk_5 (dk_at dksX7_readsStep_5 2 rfl rfl)
theorem dX7_readsStep_122 : decode cX7_readsStep 122 = .ok (.if_icmp .lt 19, 3) := dk_161 0 19 (dk_at dksX7_readsStep_5 3 rfl rfl)
theorem dX7_readsStep_125 : decode cX7_readsStep 125 = .ok (.aload_n 0, 1) := dk_42 (dk_at dksX7_readsStep_5 6 rfl rfl)
theorem dX7_readsStep_126 : decode cX7_readsStep 126 = .ok (.iload_n 3, 1) := dk_29 (dk_at dksX7_readsStep_5 7 rfl rfl)
theorem dX7_readsStep_127 : decode cX7_readsStep 127 = .ok (.invokevirtual 62, 3) := dk_182 0 62 (dk_at dksX7_readsStep_5 8 rfl rfl)
theorem dX7_readsStep_130 : decode cX7_readsStep 130 = .ok (.bipush 41, 2) := dk_16 41 (dk_at dksX7_readsStep_5 11 rfl rfl)
theorem dX7_readsStep_132 : decode cX7_readsStep 132 = .ok (.if_icmp .ne 9, 3) := dk_160 0 9 (dk_at dksX7_readsStep_5 13 rfl rfl)
theorem dX7_readsStep_135 : decode cX7_readsStep 135 = .ok (.iload_n 3, 1) := dk_29 (dk_at dksX7_readsStep_5 16 rfl rfl)
theorem dX7_readsStep_136 : decode cX7_readsStep 136 = .ok (.iconst 1, 1) := dk_4 (dk_at dksX7_readsStep_5 17 rfl rfl)
theorem dX7_readsStep_137 : decode cX7_readsStep 137 = .ok (.iadd, 1) := dk_96 (dk_at dksX7_readsStep_5 18 rfl rfl)
theorem dX7_readsStep_138 : decode cX7_readsStep 138 = .ok (.goto 10, 3) := dk_167 0 10 (dk_at dksX7_readsStep_5 19 rfl rfl)
theorem dX7_readsStep_141 : decode cX7_readsStep 141 = .ok (.iconst (-1), 1) := dk_2 (dk_at dksX7_readsStep_5 22 rfl rfl)
theorem dX7_readsStep_142 : decode cX7_readsStep 142 = .ok (.aload_n 0, 1) := dk_42 (dk_at dksX7_readsStep_5 23 rfl rfl)
theorem dX7_readsStep_143 : decode cX7_readsStep 143 = .ok (.iload_n 3, 1) := dk_29 (dk_at dksX7_readsStep_6 0 rfl rfl)
theorem dX7_readsStep_144 : decode cX7_readsStep 144 = .ok (.invokevirtual 81, 3) := dk_182 0 81 (dk_at dksX7_readsStep_6 1 rfl rfl)
theorem dX7_readsStep_147 : decode cX7_readsStep 147 = .ok (.isub, 1) := dk_100 (dk_at dksX7_readsStep_6 4 rfl rfl)
theorem dX7_readsStep_148 : decode cX7_readsStep 148 = .ok (.ireturn, 1) := dk_172 (dk_at dksX7_readsStep_6 5 rfl rfl)
abbrev cX7_letter : ByteArray := prog_17_method_7_code
def yX7_letter : MethodName := ⟨RX7, "letter", "(I)I"⟩
def dkwX7_letter_0 : List UInt8 := [27, 42, 180, 0, 59, 162, 0, 12, 42, 180, 0, 31, 27, 46, 167, 0, 4, 2, 172]
abbrev dktX7_letter_0 : List UInt8 := dkwX7_letter_0 ++ []
theorem dksX7_letter_0 : cX7_letter.data.toList.drop 0 = dktX7_letter_0 := by decide +kernel
theorem dX7_letter_0 : decode cX7_letter 0 = .ok (.iload_n 1, 1) := dk_27 (dk_at dksX7_letter_0 0 rfl rfl)
theorem dX7_letter_1 : decode cX7_letter 1 = .ok (.aload_n 0, 1) := dk_42 (dk_at dksX7_letter_0 1 rfl rfl)
theorem dX7_letter_2 : decode cX7_letter 2 = .ok (.getfield 59, 3) := dk_180 0 59 (dk_at dksX7_letter_0 2 rfl rfl)
theorem dX7_letter_5 : decode cX7_letter 5 = .ok (.if_icmp .ge 12, 3) := dk_162 0 12 (dk_at dksX7_letter_0 5 rfl rfl)
theorem dX7_letter_8 : decode cX7_letter 8 = .ok (.aload_n 0, 1) := dk_42 (dk_at dksX7_letter_0 8 rfl rfl)
theorem dX7_letter_9 : decode cX7_letter 9 = .ok (.getfield 31, 3) := dk_180 0 31 (dk_at dksX7_letter_0 9 rfl rfl)
theorem dX7_letter_12 : decode cX7_letter 12 = .ok (.iload_n 1, 1) := dk_27 (dk_at dksX7_letter_0 12 rfl rfl)
theorem dX7_letter_13 : decode cX7_letter 13 = .ok (.iaload, 1) := dk_46 (dk_at dksX7_letter_0 13 rfl rfl)
theorem dX7_letter_14 : decode cX7_letter 14 = .ok (.goto 4, 3) := dk_167 0 4 (dk_at dksX7_letter_0 14 rfl rfl)
theorem dX7_letter_17 : decode cX7_letter 17 = .ok (.iconst (-1), 1) := dk_2 (dk_at dksX7_letter_0 17 rfl rfl)
theorem dX7_letter_18 : decode cX7_letter 18 = .ok (.ireturn, 1) := dk_172 (dk_at dksX7_letter_0 18 rfl rfl)
abbrev cX7_readsPause : ByteArray := prog_17_method_13_code
def yX7_readsPause : MethodName := ⟨RX7, "readsPause", "(I)I"⟩
def dkwX7_readsPause_3 : List UInt8 := [167, 0, 6, 2, 27, 100, 172]
abbrev dktX7_readsPause_3 : List UInt8 := dkwX7_readsPause_3 ++ []
def dkwX7_readsPause_2 : List UInt8 := [132, 3, 1, 42, 180, 0, 40, 42, 180, 0, 65, 28, 79, 28, 4, 16, 60, 184, 0, 51, 153, 0, 7, 29]
abbrev dktX7_readsPause_2 : List UInt8 := dkwX7_readsPause_2 ++ dktX7_readsPause_3
def dkwX7_readsPause_1 : List UInt8 := [62, 42, 29, 182, 0, 88, 153, 0, 20, 16, 10, 28, 104, 42, 29, 182, 0, 62, 96, 16, 48, 100, 61]
abbrev dktX7_readsPause_1 : List UInt8 := dkwX7_readsPause_1 ++ dktX7_readsPause_2
def dkwX7_readsPause_0 : List UInt8 := [42, 27, 182, 0, 88, 154, 0, 7, 2, 27, 100, 172, 42, 27, 182, 0, 62, 16, 48, 100, 61, 27, 4, 96]
abbrev dktX7_readsPause_0 : List UInt8 := dkwX7_readsPause_0 ++ dktX7_readsPause_1
theorem dksX7_readsPause_0 : cX7_readsPause.data.toList.drop 0 = dktX7_readsPause_0 := by decide +kernel
theorem dksX7_readsPause_1 : cX7_readsPause.data.toList.drop 24 = dktX7_readsPause_1 := dk_seg dksX7_readsPause_0 24 rfl rfl
theorem dksX7_readsPause_2 : cX7_readsPause.data.toList.drop 47 = dktX7_readsPause_2 := dk_seg dksX7_readsPause_1 23 rfl rfl
theorem dksX7_readsPause_3 : cX7_readsPause.data.toList.drop 71 = dktX7_readsPause_3 := dk_seg dksX7_readsPause_2 24 rfl rfl
theorem dX7_readsPause_0 : decode cX7_readsPause 0 = .ok (.aload_n 0, 1) := dk_42 (dk_at dksX7_readsPause_0 0 rfl rfl)
theorem dX7_readsPause_1 : decode cX7_readsPause 1 = .ok (.iload_n 1, 1) := dk_27 (dk_at dksX7_readsPause_0 1 rfl rfl)
theorem dX7_readsPause_2 : decode cX7_readsPause 2 = .ok (.invokevirtual 88, 3) := dk_182 0 88 (dk_at dksX7_readsPause_0 2 rfl rfl)
theorem dX7_readsPause_5 : decode cX7_readsPause 5 = .ok (.ifCond .ne 7, 3) := dk_154 0 7 (dk_at dksX7_readsPause_0 5 rfl rfl)
theorem dX7_readsPause_8 : decode cX7_readsPause 8 = .ok (.iconst (-1), 1) := dk_2 (dk_at dksX7_readsPause_0 8 rfl rfl)
theorem dX7_readsPause_9 : decode cX7_readsPause 9 = .ok (.iload_n 1, 1) := dk_27 (dk_at dksX7_readsPause_0 9 rfl rfl)
theorem dX7_readsPause_10 : decode cX7_readsPause 10 = .ok (.isub, 1) := dk_100 (dk_at dksX7_readsPause_0 10 rfl rfl)
theorem dX7_readsPause_11 : decode cX7_readsPause 11 = .ok (.ireturn, 1) := dk_172 (dk_at dksX7_readsPause_0 11 rfl rfl)
theorem dX7_readsPause_12 : decode cX7_readsPause 12 = .ok (.aload_n 0, 1) := dk_42 (dk_at dksX7_readsPause_0 12 rfl rfl)
theorem dX7_readsPause_13 : decode cX7_readsPause 13 = .ok (.iload_n 1, 1) := dk_27 (dk_at dksX7_readsPause_0 13 rfl rfl)
theorem dX7_readsPause_14 : decode cX7_readsPause 14 = .ok (.invokevirtual 62, 3) := dk_182 0 62 (dk_at dksX7_readsPause_0 14 rfl rfl)
theorem dX7_readsPause_17 : decode cX7_readsPause 17 = .ok (.bipush 48, 2) := dk_16 48 (dk_at dksX7_readsPause_0 17 rfl rfl)
theorem dX7_readsPause_19 : decode cX7_readsPause 19 = .ok (.isub, 1) := dk_100 (dk_at dksX7_readsPause_0 19 rfl rfl)
theorem dX7_readsPause_20 : decode cX7_readsPause 20 = .ok (.istore_n 2, 1) := dk_61 (dk_at dksX7_readsPause_0 20 rfl rfl)
theorem dX7_readsPause_21 : decode cX7_readsPause 21 = .ok (.iload_n 1, 1) := dk_27 (dk_at dksX7_readsPause_0 21 rfl rfl)
theorem dX7_readsPause_22 : decode cX7_readsPause 22 = .ok (.iconst 1, 1) := dk_4 (dk_at dksX7_readsPause_0 22 rfl rfl)
theorem dX7_readsPause_23 : decode cX7_readsPause 23 = .ok (.iadd, 1) := dk_96 (dk_at dksX7_readsPause_0 23 rfl rfl)
theorem dX7_readsPause_24 : decode cX7_readsPause 24 = .ok (.istore_n 3, 1) := dk_62 (dk_at dksX7_readsPause_1 0 rfl rfl)
theorem dX7_readsPause_25 : decode cX7_readsPause 25 = .ok (.aload_n 0, 1) := dk_42 (dk_at dksX7_readsPause_1 1 rfl rfl)
theorem dX7_readsPause_26 : decode cX7_readsPause 26 = .ok (.iload_n 3, 1) := dk_29 (dk_at dksX7_readsPause_1 2 rfl rfl)
theorem dX7_readsPause_27 : decode cX7_readsPause 27 = .ok (.invokevirtual 88, 3) := dk_182 0 88 (dk_at dksX7_readsPause_1 3 rfl rfl)
theorem dX7_readsPause_30 : decode cX7_readsPause 30 = .ok (.ifCond .eq 20, 3) := dk_153 0 20 (dk_at dksX7_readsPause_1 6 rfl rfl)
theorem dX7_readsPause_33 : decode cX7_readsPause 33 = .ok (.bipush 10, 2) := dk_16 10 (dk_at dksX7_readsPause_1 9 rfl rfl)
theorem dX7_readsPause_35 : decode cX7_readsPause 35 = .ok (.iload_n 2, 1) := dk_28 (dk_at dksX7_readsPause_1 11 rfl rfl)
theorem dX7_readsPause_36 : decode cX7_readsPause 36 = .ok (.imul, 1) := dk_104 (dk_at dksX7_readsPause_1 12 rfl rfl)
theorem dX7_readsPause_37 : decode cX7_readsPause 37 = .ok (.aload_n 0, 1) := dk_42 (dk_at dksX7_readsPause_1 13 rfl rfl)
theorem dX7_readsPause_38 : decode cX7_readsPause 38 = .ok (.iload_n 3, 1) := dk_29 (dk_at dksX7_readsPause_1 14 rfl rfl)
theorem dX7_readsPause_39 : decode cX7_readsPause 39 = .ok (.invokevirtual 62, 3) := dk_182 0 62 (dk_at dksX7_readsPause_1 15 rfl rfl)
theorem dX7_readsPause_42 : decode cX7_readsPause 42 = .ok (.iadd, 1) := dk_96 (dk_at dksX7_readsPause_1 18 rfl rfl)
theorem dX7_readsPause_43 : decode cX7_readsPause 43 = .ok (.bipush 48, 2) := dk_16 48 (dk_at dksX7_readsPause_1 19 rfl rfl)
theorem dX7_readsPause_45 : decode cX7_readsPause 45 = .ok (.isub, 1) := dk_100 (dk_at dksX7_readsPause_1 21 rfl rfl)
theorem dX7_readsPause_46 : decode cX7_readsPause 46 = .ok (.istore_n 2, 1) := dk_61 (dk_at dksX7_readsPause_1 22 rfl rfl)
theorem dX7_readsPause_47 : decode cX7_readsPause 47 = .ok (.iinc 3 1, 3) := dk_132 3 1 (dk_at dksX7_readsPause_2 0 rfl rfl)
theorem dX7_readsPause_50 : decode cX7_readsPause 50 = .ok (.aload_n 0, 1) := dk_42 (dk_at dksX7_readsPause_2 3 rfl rfl)
theorem dX7_readsPause_51 : decode cX7_readsPause 51 = .ok (.getfield 40, 3) := dk_180 0 40 (dk_at dksX7_readsPause_2 4 rfl rfl)
theorem dX7_readsPause_54 : decode cX7_readsPause 54 = .ok (.aload_n 0, 1) := dk_42 (dk_at dksX7_readsPause_2 7 rfl rfl)
theorem dX7_readsPause_55 : decode cX7_readsPause 55 = .ok (.getfield 65, 3) := dk_180 0 65 (dk_at dksX7_readsPause_2 8 rfl rfl)
theorem dX7_readsPause_58 : decode cX7_readsPause 58 = .ok (.iload_n 2, 1) := dk_28 (dk_at dksX7_readsPause_2 11 rfl rfl)
theorem dX7_readsPause_59 : decode cX7_readsPause 59 = .ok (.iastore, 1) := dk_79 (dk_at dksX7_readsPause_2 12 rfl rfl)
theorem dX7_readsPause_60 : decode cX7_readsPause 60 = .ok (.iload_n 2, 1) := dk_28 (dk_at dksX7_readsPause_2 13 rfl rfl)
theorem dX7_readsPause_61 : decode cX7_readsPause 61 = .ok (.iconst 1, 1) := dk_4 (dk_at dksX7_readsPause_2 14 rfl rfl)
theorem dX7_readsPause_62 : decode cX7_readsPause 62 = .ok (.bipush 60, 2) := dk_16 60 (dk_at dksX7_readsPause_2 15 rfl rfl)
theorem dX7_readsPause_64 : decode cX7_readsPause 64 = .ok (.invokestatic 51, 3) := dk_184 0 51 (dk_at dksX7_readsPause_2 17 rfl rfl)
theorem dX7_readsPause_67 : decode cX7_readsPause 67 = .ok (.ifCond .eq 7, 3) := dk_153 0 7 (dk_at dksX7_readsPause_2 20 rfl rfl)
theorem dX7_readsPause_70 : decode cX7_readsPause 70 = .ok (.iload_n 3, 1) := dk_29 (dk_at dksX7_readsPause_2 23 rfl rfl)
theorem dX7_readsPause_71 : decode cX7_readsPause 71 = .ok (.goto 6, 3) := dk_167 0 6 (dk_at dksX7_readsPause_3 0 rfl rfl)
theorem dX7_readsPause_74 : decode cX7_readsPause 74 = .ok (.iconst (-1), 1) := dk_2 (dk_at dksX7_readsPause_3 3 rfl rfl)
theorem dX7_readsPause_75 : decode cX7_readsPause 75 = .ok (.iload_n 1, 1) := dk_27 (dk_at dksX7_readsPause_3 4 rfl rfl)
theorem dX7_readsPause_76 : decode cX7_readsPause 76 = .ok (.isub, 1) := dk_100 (dk_at dksX7_readsPause_3 5 rfl rfl)
theorem dX7_readsPause_77 : decode cX7_readsPause 77 = .ok (.ireturn, 1) := dk_172 (dk_at dksX7_readsPause_3 6 rfl rfl)
abbrev cX7_isDigit : ByteArray := prog_17_method_8_code
def yX7_isDigit : MethodName := ⟨RX7, "isDigit", "(I)Z"⟩
def dkwX7_isDigit_0 : List UInt8 := [42, 27, 182, 0, 62, 16, 48, 16, 57, 184, 0, 51, 172]
abbrev dktX7_isDigit_0 : List UInt8 := dkwX7_isDigit_0 ++ []
theorem dksX7_isDigit_0 : cX7_isDigit.data.toList.drop 0 = dktX7_isDigit_0 := by decide +kernel
theorem dX7_isDigit_0 : decode cX7_isDigit 0 = .ok (.aload_n 0, 1) := dk_42 (dk_at dksX7_isDigit_0 0 rfl rfl)
theorem dX7_isDigit_1 : decode cX7_isDigit 1 = .ok (.iload_n 1, 1) := dk_27 (dk_at dksX7_isDigit_0 1 rfl rfl)
theorem dX7_isDigit_2 : decode cX7_isDigit 2 = .ok (.invokevirtual 62, 3) := dk_182 0 62 (dk_at dksX7_isDigit_0 2 rfl rfl)
theorem dX7_isDigit_5 : decode cX7_isDigit 5 = .ok (.bipush 48, 2) := dk_16 48 (dk_at dksX7_isDigit_0 5 rfl rfl)
theorem dX7_isDigit_7 : decode cX7_isDigit 7 = .ok (.bipush 57, 2) := dk_16 57 (dk_at dksX7_isDigit_0 7 rfl rfl)
theorem dX7_isDigit_9 : decode cX7_isDigit 9 = .ok (.invokestatic 51, 3) := dk_184 0 51 (dk_at dksX7_isDigit_0 9 rfl rfl)
theorem dX7_isDigit_12 : decode cX7_isDigit 12 = .ok (.ireturn, 1) := dk_172 (dk_at dksX7_isDigit_0 12 rfl rfl)
abbrev cX7_isMove : ByteArray := prog_17_method_9_code
def yX7_isMove : MethodName := ⟨RX7, "isMove", "(I)Z"⟩
def dkwX7_isMove_1 : List UInt8 := [159, 0, 15, 42, 27, 4, 96, 182, 0, 62, 16, 45, 160, 0, 7, 4, 167, 0, 4, 3, 172]
abbrev dktX7_isMove_1 : List UInt8 := dkwX7_isMove_1 ++ []
def dkwX7_isMove_0 : List UInt8 := [42, 27, 182, 0, 62, 16, 65, 16, 70, 184, 0, 51, 153, 0, 31, 42, 27, 4, 96, 182, 0, 62, 16, 43]
abbrev dktX7_isMove_0 : List UInt8 := dkwX7_isMove_0 ++ dktX7_isMove_1
theorem dksX7_isMove_0 : cX7_isMove.data.toList.drop 0 = dktX7_isMove_0 := by decide +kernel
theorem dksX7_isMove_1 : cX7_isMove.data.toList.drop 24 = dktX7_isMove_1 := dk_seg dksX7_isMove_0 24 rfl rfl
theorem dX7_isMove_0 : decode cX7_isMove 0 = .ok (.aload_n 0, 1) := dk_42 (dk_at dksX7_isMove_0 0 rfl rfl)
theorem dX7_isMove_1 : decode cX7_isMove 1 = .ok (.iload_n 1, 1) := dk_27 (dk_at dksX7_isMove_0 1 rfl rfl)
theorem dX7_isMove_2 : decode cX7_isMove 2 = .ok (.invokevirtual 62, 3) := dk_182 0 62 (dk_at dksX7_isMove_0 2 rfl rfl)
theorem dX7_isMove_5 : decode cX7_isMove 5 = .ok (.bipush 65, 2) := dk_16 65 (dk_at dksX7_isMove_0 5 rfl rfl)
theorem dX7_isMove_7 : decode cX7_isMove 7 = .ok (.bipush 70, 2) := dk_16 70 (dk_at dksX7_isMove_0 7 rfl rfl)
theorem dX7_isMove_9 : decode cX7_isMove 9 = .ok (.invokestatic 51, 3) := dk_184 0 51 (dk_at dksX7_isMove_0 9 rfl rfl)
theorem dX7_isMove_12 : decode cX7_isMove 12 = .ok (.ifCond .eq 31, 3) := dk_153 0 31 (dk_at dksX7_isMove_0 12 rfl rfl)
theorem dX7_isMove_15 : decode cX7_isMove 15 = .ok (.aload_n 0, 1) := dk_42 (dk_at dksX7_isMove_0 15 rfl rfl)
theorem dX7_isMove_16 : decode cX7_isMove 16 = .ok (.iload_n 1, 1) := dk_27 (dk_at dksX7_isMove_0 16 rfl rfl)
theorem dX7_isMove_17 : decode cX7_isMove 17 = .ok (.iconst 1, 1) := dk_4 (dk_at dksX7_isMove_0 17 rfl rfl)
theorem dX7_isMove_18 : decode cX7_isMove 18 = .ok (.iadd, 1) := dk_96 (dk_at dksX7_isMove_0 18 rfl rfl)
theorem dX7_isMove_19 : decode cX7_isMove 19 = .ok (.invokevirtual 62, 3) := dk_182 0 62 (dk_at dksX7_isMove_0 19 rfl rfl)
theorem dX7_isMove_22 : decode cX7_isMove 22 = .ok (.bipush 43, 2) := dk_16 43 (dk_at dksX7_isMove_0 22 rfl rfl)
theorem dX7_isMove_24 : decode cX7_isMove 24 = .ok (.if_icmp .eq 15, 3) := dk_159 0 15 (dk_at dksX7_isMove_1 0 rfl rfl)
theorem dX7_isMove_27 : decode cX7_isMove 27 = .ok (.aload_n 0, 1) := dk_42 (dk_at dksX7_isMove_1 3 rfl rfl)
theorem dX7_isMove_28 : decode cX7_isMove 28 = .ok (.iload_n 1, 1) := dk_27 (dk_at dksX7_isMove_1 4 rfl rfl)
theorem dX7_isMove_29 : decode cX7_isMove 29 = .ok (.iconst 1, 1) := dk_4 (dk_at dksX7_isMove_1 5 rfl rfl)
theorem dX7_isMove_30 : decode cX7_isMove 30 = .ok (.iadd, 1) := dk_96 (dk_at dksX7_isMove_1 6 rfl rfl)
theorem dX7_isMove_31 : decode cX7_isMove 31 = .ok (.invokevirtual 62, 3) := dk_182 0 62 (dk_at dksX7_isMove_1 7 rfl rfl)
theorem dX7_isMove_34 : decode cX7_isMove 34 = .ok (.bipush 45, 2) := dk_16 45 (dk_at dksX7_isMove_1 10 rfl rfl)
theorem dX7_isMove_36 : decode cX7_isMove 36 = .ok (.if_icmp .ne 7, 3) := dk_160 0 7 (dk_at dksX7_isMove_1 12 rfl rfl)
theorem dX7_isMove_39 : decode cX7_isMove 39 = .ok (.iconst 1, 1) := dk_4 (dk_at dksX7_isMove_1 15 rfl rfl)
theorem dX7_isMove_40 : decode cX7_isMove 40 = .ok (.goto 4, 3) := dk_167 0 4 (dk_at dksX7_isMove_1 16 rfl rfl)
theorem dX7_isMove_43 : decode cX7_isMove 43 = .ok (.iconst 0, 1) := dk_3 (dk_at dksX7_isMove_1 19 rfl rfl)
theorem dX7_isMove_44 : decode cX7_isMove 44 = .ok (.ireturn, 1) := dk_172 (dk_at dksX7_isMove_1 20 rfl rfl)
abbrev cX7_failsAt : ByteArray := prog_17_method_10_code
def yX7_failsAt : MethodName := ⟨RX7, "failsAt", "(I)I"⟩
def dkwX7_failsAt_0 : List UInt8 := [42, 27, 182, 0, 62, 16, 65, 16, 70, 184, 0, 51, 153, 0, 9, 27, 4, 96, 167, 0, 4, 27, 172]
abbrev dktX7_failsAt_0 : List UInt8 := dkwX7_failsAt_0 ++ []
theorem dksX7_failsAt_0 : cX7_failsAt.data.toList.drop 0 = dktX7_failsAt_0 := by decide +kernel
theorem dX7_failsAt_0 : decode cX7_failsAt 0 = .ok (.aload_n 0, 1) := dk_42 (dk_at dksX7_failsAt_0 0 rfl rfl)
theorem dX7_failsAt_1 : decode cX7_failsAt 1 = .ok (.iload_n 1, 1) := dk_27 (dk_at dksX7_failsAt_0 1 rfl rfl)
theorem dX7_failsAt_2 : decode cX7_failsAt 2 = .ok (.invokevirtual 62, 3) := dk_182 0 62 (dk_at dksX7_failsAt_0 2 rfl rfl)
theorem dX7_failsAt_5 : decode cX7_failsAt 5 = .ok (.bipush 65, 2) := dk_16 65 (dk_at dksX7_failsAt_0 5 rfl rfl)
theorem dX7_failsAt_7 : decode cX7_failsAt 7 = .ok (.bipush 70, 2) := dk_16 70 (dk_at dksX7_failsAt_0 7 rfl rfl)
theorem dX7_failsAt_9 : decode cX7_failsAt 9 = .ok (.invokestatic 51, 3) := dk_184 0 51 (dk_at dksX7_failsAt_0 9 rfl rfl)
theorem dX7_failsAt_12 : decode cX7_failsAt 12 = .ok (.ifCond .eq 9, 3) := dk_153 0 9 (dk_at dksX7_failsAt_0 12 rfl rfl)
theorem dX7_failsAt_15 : decode cX7_failsAt 15 = .ok (.iload_n 1, 1) := dk_27 (dk_at dksX7_failsAt_0 15 rfl rfl)
theorem dX7_failsAt_16 : decode cX7_failsAt 16 = .ok (.iconst 1, 1) := dk_4 (dk_at dksX7_failsAt_0 16 rfl rfl)
theorem dX7_failsAt_17 : decode cX7_failsAt 17 = .ok (.iadd, 1) := dk_96 (dk_at dksX7_failsAt_0 17 rfl rfl)
theorem dX7_failsAt_18 : decode cX7_failsAt 18 = .ok (.goto 4, 3) := dk_167 0 4 (dk_at dksX7_failsAt_0 18 rfl rfl)
theorem dX7_failsAt_21 : decode cX7_failsAt 21 = .ok (.iload_n 1, 1) := dk_27 (dk_at dksX7_failsAt_0 21 rfl rfl)
theorem dX7_failsAt_22 : decode cX7_failsAt 22 = .ok (.ireturn, 1) := dk_172 (dk_at dksX7_failsAt_0 22 rfl rfl)
abbrev cX7_notes : ByteArray := prog_17_method_11_code
def yX7_notes : MethodName := ⟨RX7, "notes", "(II)V"⟩
def dkwX7_notes_7 : List UInt8 := [181, 0, 71, 177]
abbrev dktX7_notes_7 : List UInt8 := dkwX7_notes_7 ++ []
def dkwX7_notes_6 : List UInt8 := [21, 4, 153, 0, 12, 42, 180, 0, 71, 29, 128, 167, 0, 11, 42, 180, 0, 71, 29, 2, 130, 126]
abbrev dktX7_notes_6 : List UInt8 := dkwX7_notes_6 ++ dktX7_notes_7
def dkwX7_notes_5 : List UInt8 := [79, 42, 180, 0, 37, 42, 180, 0, 65, 92, 46, 21, 4, 153, 0, 7, 3, 167, 0, 4, 29, 128, 79, 42]
abbrev dktX7_notes_5 : List UInt8 := dkwX7_notes_5 ++ dktX7_notes_6
def dkwX7_notes_4 : List UInt8 := [181, 0, 68, 42, 180, 0, 34, 42, 180, 0, 65, 92, 46, 21, 4, 153, 0, 7, 29, 167, 0, 4, 3, 128]
abbrev dktX7_notes_4 : List UInt8 := dkwX7_notes_4 ++ dktX7_notes_5
def dkwX7_notes_3 : List UInt8 := [54, 6, 21, 5, 154, 0, 10, 21, 6, 21, 4, 160, 0, 15, 42, 180, 0, 68, 156, 0, 8, 42, 27]
abbrev dktX7_notes_3 : List UInt8 := dkwX7_notes_3 ++ dktX7_notes_4
def dkwX7_notes_2 : List UInt8 := [128, 29, 126, 153, 0, 7, 4, 167, 0, 4, 3, 54, 5, 28, 29, 126, 153, 0, 7, 4, 167, 0, 4, 3]
abbrev dktX7_notes_2 : List UInt8 := dkwX7_notes_2 ++ dktX7_notes_3
def dkwX7_notes_1 : List UInt8 := [167, 0, 4, 3, 54, 4, 42, 180, 0, 34, 42, 180, 0, 65, 46, 42, 180, 0, 37, 42, 180, 0, 65, 46]
abbrev dktX7_notes_1 : List UInt8 := dkwX7_notes_1 ++ dktX7_notes_2
def dkwX7_notes_0 : List UInt8 := [4, 42, 27, 182, 0, 62, 16, 65, 100, 120, 62, 42, 27, 4, 96, 182, 0, 62, 16, 43, 160, 0, 7, 4]
abbrev dktX7_notes_0 : List UInt8 := dkwX7_notes_0 ++ dktX7_notes_1
theorem dksX7_notes_0 : cX7_notes.data.toList.drop 0 = dktX7_notes_0 := by decide +kernel
theorem dksX7_notes_1 : cX7_notes.data.toList.drop 24 = dktX7_notes_1 := dk_seg dksX7_notes_0 24 rfl rfl
theorem dksX7_notes_2 : cX7_notes.data.toList.drop 48 = dktX7_notes_2 := dk_seg dksX7_notes_1 24 rfl rfl
theorem dksX7_notes_3 : cX7_notes.data.toList.drop 72 = dktX7_notes_3 := dk_seg dksX7_notes_2 24 rfl rfl
theorem dksX7_notes_4 : cX7_notes.data.toList.drop 95 = dktX7_notes_4 := dk_seg dksX7_notes_3 23 rfl rfl
theorem dksX7_notes_5 : cX7_notes.data.toList.drop 119 = dktX7_notes_5 := dk_seg dksX7_notes_4 24 rfl rfl
theorem dksX7_notes_6 : cX7_notes.data.toList.drop 143 = dktX7_notes_6 := dk_seg dksX7_notes_5 24 rfl rfl
theorem dksX7_notes_7 : cX7_notes.data.toList.drop 165 = dktX7_notes_7 := dk_seg dksX7_notes_6 22 rfl rfl
theorem dX7_notes_0 : decode cX7_notes 0 = .ok (.iconst 1, 1) := dk_4 (dk_at dksX7_notes_0 0 rfl rfl)
theorem dX7_notes_1 : decode cX7_notes 1 = .ok (.aload_n 0, 1) := dk_42 (dk_at dksX7_notes_0 1 rfl rfl)
theorem dX7_notes_2 : decode cX7_notes 2 = .ok (.iload_n 1, 1) := dk_27 (dk_at dksX7_notes_0 2 rfl rfl)
theorem dX7_notes_3 : decode cX7_notes 3 = .ok (.invokevirtual 62, 3) := dk_182 0 62 (dk_at dksX7_notes_0 3 rfl rfl)
theorem dX7_notes_6 : decode cX7_notes 6 = .ok (.bipush 65, 2) := dk_16 65 (dk_at dksX7_notes_0 6 rfl rfl)
theorem dX7_notes_8 : decode cX7_notes 8 = .ok (.isub, 1) := dk_100 (dk_at dksX7_notes_0 8 rfl rfl)
theorem dX7_notes_9 : decode cX7_notes 9 = .ok (.ishl, 1) := dk_120 (dk_at dksX7_notes_0 9 rfl rfl)
theorem dX7_notes_10 : decode cX7_notes 10 = .ok (.istore_n 3, 1) := dk_62 (dk_at dksX7_notes_0 10 rfl rfl)
theorem dX7_notes_11 : decode cX7_notes 11 = .ok (.aload_n 0, 1) := dk_42 (dk_at dksX7_notes_0 11 rfl rfl)
theorem dX7_notes_12 : decode cX7_notes 12 = .ok (.iload_n 1, 1) := dk_27 (dk_at dksX7_notes_0 12 rfl rfl)
theorem dX7_notes_13 : decode cX7_notes 13 = .ok (.iconst 1, 1) := dk_4 (dk_at dksX7_notes_0 13 rfl rfl)
theorem dX7_notes_14 : decode cX7_notes 14 = .ok (.iadd, 1) := dk_96 (dk_at dksX7_notes_0 14 rfl rfl)
theorem dX7_notes_15 : decode cX7_notes 15 = .ok (.invokevirtual 62, 3) := dk_182 0 62 (dk_at dksX7_notes_0 15 rfl rfl)
theorem dX7_notes_18 : decode cX7_notes 18 = .ok (.bipush 43, 2) := dk_16 43 (dk_at dksX7_notes_0 18 rfl rfl)
theorem dX7_notes_20 : decode cX7_notes 20 = .ok (.if_icmp .ne 7, 3) := dk_160 0 7 (dk_at dksX7_notes_0 20 rfl rfl)
theorem dX7_notes_23 : decode cX7_notes 23 = .ok (.iconst 1, 1) := dk_4 (dk_at dksX7_notes_0 23 rfl rfl)
theorem dX7_notes_24 : decode cX7_notes 24 = .ok (.goto 4, 3) := dk_167 0 4 (dk_at dksX7_notes_1 0 rfl rfl)
theorem dX7_notes_27 : decode cX7_notes 27 = .ok (.iconst 0, 1) := dk_3 (dk_at dksX7_notes_1 3 rfl rfl)
theorem dX7_notes_28 : decode cX7_notes 28 = .ok (.istore 4, 2) := dk_54 4 (dk_at dksX7_notes_1 4 rfl rfl)
theorem dX7_notes_30 : decode cX7_notes 30 = .ok (.aload_n 0, 1) := dk_42 (dk_at dksX7_notes_1 6 rfl rfl)
theorem dX7_notes_31 : decode cX7_notes 31 = .ok (.getfield 34, 3) := dk_180 0 34 (dk_at dksX7_notes_1 7 rfl rfl)
theorem dX7_notes_34 : decode cX7_notes 34 = .ok (.aload_n 0, 1) := dk_42 (dk_at dksX7_notes_1 10 rfl rfl)
theorem dX7_notes_35 : decode cX7_notes 35 = .ok (.getfield 65, 3) := dk_180 0 65 (dk_at dksX7_notes_1 11 rfl rfl)
theorem dX7_notes_38 : decode cX7_notes 38 = .ok (.iaload, 1) := dk_46 (dk_at dksX7_notes_1 14 rfl rfl)
theorem dX7_notes_39 : decode cX7_notes 39 = .ok (.aload_n 0, 1) := dk_42 (dk_at dksX7_notes_1 15 rfl rfl)
theorem dX7_notes_40 : decode cX7_notes 40 = .ok (.getfield 37, 3) := dk_180 0 37 (dk_at dksX7_notes_1 16 rfl rfl)
theorem dX7_notes_43 : decode cX7_notes 43 = .ok (.aload_n 0, 1) := dk_42 (dk_at dksX7_notes_1 19 rfl rfl)
theorem dX7_notes_44 : decode cX7_notes 44 = .ok (.getfield 65, 3) := dk_180 0 65 (dk_at dksX7_notes_1 20 rfl rfl)
theorem dX7_notes_47 : decode cX7_notes 47 = .ok (.iaload, 1) := dk_46 (dk_at dksX7_notes_1 23 rfl rfl)
theorem dX7_notes_48 : decode cX7_notes 48 = .ok (.ior, 1) := dk_128 (dk_at dksX7_notes_2 0 rfl rfl)
theorem dX7_notes_49 : decode cX7_notes 49 = .ok (.iload_n 3, 1) := dk_29 (dk_at dksX7_notes_2 1 rfl rfl)
theorem dX7_notes_50 : decode cX7_notes 50 = .ok (.iand, 1) := dk_126 (dk_at dksX7_notes_2 2 rfl rfl)
theorem dX7_notes_51 : decode cX7_notes 51 = .ok (.ifCond .eq 7, 3) := dk_153 0 7 (dk_at dksX7_notes_2 3 rfl rfl)
theorem dX7_notes_54 : decode cX7_notes 54 = .ok (.iconst 1, 1) := dk_4 (dk_at dksX7_notes_2 6 rfl rfl)
theorem dX7_notes_55 : decode cX7_notes 55 = .ok (.goto 4, 3) := dk_167 0 4 (dk_at dksX7_notes_2 7 rfl rfl)
theorem dX7_notes_58 : decode cX7_notes 58 = .ok (.iconst 0, 1) := dk_3 (dk_at dksX7_notes_2 10 rfl rfl)
theorem dX7_notes_59 : decode cX7_notes 59 = .ok (.istore 5, 2) := dk_54 5 (dk_at dksX7_notes_2 11 rfl rfl)
theorem dX7_notes_61 : decode cX7_notes 61 = .ok (.iload_n 2, 1) := dk_28 (dk_at dksX7_notes_2 13 rfl rfl)
theorem dX7_notes_62 : decode cX7_notes 62 = .ok (.iload_n 3, 1) := dk_29 (dk_at dksX7_notes_2 14 rfl rfl)
theorem dX7_notes_63 : decode cX7_notes 63 = .ok (.iand, 1) := dk_126 (dk_at dksX7_notes_2 15 rfl rfl)
theorem dX7_notes_64 : decode cX7_notes 64 = .ok (.ifCond .eq 7, 3) := dk_153 0 7 (dk_at dksX7_notes_2 16 rfl rfl)
theorem dX7_notes_67 : decode cX7_notes 67 = .ok (.iconst 1, 1) := dk_4 (dk_at dksX7_notes_2 19 rfl rfl)
theorem dX7_notes_68 : decode cX7_notes 68 = .ok (.goto 4, 3) := dk_167 0 4 (dk_at dksX7_notes_2 20 rfl rfl)
theorem dX7_notes_71 : decode cX7_notes 71 = .ok (.iconst 0, 1) := dk_3 (dk_at dksX7_notes_2 23 rfl rfl)
theorem dX7_notes_72 : decode cX7_notes 72 = .ok (.istore 6, 2) := dk_54 6 (dk_at dksX7_notes_3 0 rfl rfl)
theorem dX7_notes_74 : decode cX7_notes 74 = .ok (.iload 5, 2) := dk_21 5 (dk_at dksX7_notes_3 2 rfl rfl)
theorem dX7_notes_76 : decode cX7_notes 76 = .ok (.ifCond .ne 10, 3) := dk_154 0 10 (dk_at dksX7_notes_3 4 rfl rfl)
theorem dX7_notes_79 : decode cX7_notes 79 = .ok (.iload 6, 2) := dk_21 6 (dk_at dksX7_notes_3 7 rfl rfl)
theorem dX7_notes_81 : decode cX7_notes 81 = .ok (.iload 4, 2) := dk_21 4 (dk_at dksX7_notes_3 9 rfl rfl)
theorem dX7_notes_83 : decode cX7_notes 83 = .ok (.if_icmp .ne 15, 3) := dk_160 0 15 (dk_at dksX7_notes_3 11 rfl rfl)
theorem dX7_notes_86 : decode cX7_notes 86 = .ok (.aload_n 0, 1) := dk_42 (dk_at dksX7_notes_3 14 rfl rfl)
theorem dX7_notes_87 : decode cX7_notes 87 = .ok (.getfield 68, 3) := dk_180 0 68 (dk_at dksX7_notes_3 15 rfl rfl)
theorem dX7_notes_90 : decode cX7_notes 90 = .ok (.ifCond .ge 8, 3) := dk_156 0 8 (dk_at dksX7_notes_3 18 rfl rfl)
theorem dX7_notes_93 : decode cX7_notes 93 = .ok (.aload_n 0, 1) := dk_42 (dk_at dksX7_notes_3 21 rfl rfl)
theorem dX7_notes_94 : decode cX7_notes 94 = .ok (.iload_n 1, 1) := dk_27 (dk_at dksX7_notes_3 22 rfl rfl)
theorem dX7_notes_95 : decode cX7_notes 95 = .ok (.putfield 68, 3) := dk_181 0 68 (dk_at dksX7_notes_4 0 rfl rfl)
theorem dX7_notes_98 : decode cX7_notes 98 = .ok (.aload_n 0, 1) := dk_42 (dk_at dksX7_notes_4 3 rfl rfl)
theorem dX7_notes_99 : decode cX7_notes 99 = .ok (.getfield 34, 3) := dk_180 0 34 (dk_at dksX7_notes_4 4 rfl rfl)
theorem dX7_notes_102 : decode cX7_notes 102 = .ok (.aload_n 0, 1) := dk_42 (dk_at dksX7_notes_4 7 rfl rfl)
theorem dX7_notes_103 : decode cX7_notes 103 = .ok (.getfield 65, 3) := dk_180 0 65 (dk_at dksX7_notes_4 8 rfl rfl)
theorem dX7_notes_106 : decode cX7_notes 106 = .ok (.dup2, 1) := dk_92 (dk_at dksX7_notes_4 11 rfl rfl)
theorem dX7_notes_107 : decode cX7_notes 107 = .ok (.iaload, 1) := dk_46 (dk_at dksX7_notes_4 12 rfl rfl)
theorem dX7_notes_108 : decode cX7_notes 108 = .ok (.iload 4, 2) := dk_21 4 (dk_at dksX7_notes_4 13 rfl rfl)
theorem dX7_notes_110 : decode cX7_notes 110 = .ok (.ifCond .eq 7, 3) := dk_153 0 7 (dk_at dksX7_notes_4 15 rfl rfl)
theorem dX7_notes_113 : decode cX7_notes 113 = .ok (.iload_n 3, 1) := dk_29 (dk_at dksX7_notes_4 18 rfl rfl)
theorem dX7_notes_114 : decode cX7_notes 114 = .ok (.goto 4, 3) := dk_167 0 4 (dk_at dksX7_notes_4 19 rfl rfl)
theorem dX7_notes_117 : decode cX7_notes 117 = .ok (.iconst 0, 1) := dk_3 (dk_at dksX7_notes_4 22 rfl rfl)
theorem dX7_notes_118 : decode cX7_notes 118 = .ok (.ior, 1) := dk_128 (dk_at dksX7_notes_4 23 rfl rfl)
theorem dX7_notes_119 : decode cX7_notes 119 = .ok (.iastore, 1) := dk_79 (dk_at dksX7_notes_5 0 rfl rfl)
theorem dX7_notes_120 : decode cX7_notes 120 = .ok (.aload_n 0, 1) := dk_42 (dk_at dksX7_notes_5 1 rfl rfl)
theorem dX7_notes_121 : decode cX7_notes 121 = .ok (.getfield 37, 3) := dk_180 0 37 (dk_at dksX7_notes_5 2 rfl rfl)
theorem dX7_notes_124 : decode cX7_notes 124 = .ok (.aload_n 0, 1) := dk_42 (dk_at dksX7_notes_5 5 rfl rfl)
theorem dX7_notes_125 : decode cX7_notes 125 = .ok (.getfield 65, 3) := dk_180 0 65 (dk_at dksX7_notes_5 6 rfl rfl)
theorem dX7_notes_128 : decode cX7_notes 128 = .ok (.dup2, 1) := dk_92 (dk_at dksX7_notes_5 9 rfl rfl)
theorem dX7_notes_129 : decode cX7_notes 129 = .ok (.iaload, 1) := dk_46 (dk_at dksX7_notes_5 10 rfl rfl)
theorem dX7_notes_130 : decode cX7_notes 130 = .ok (.iload 4, 2) := dk_21 4 (dk_at dksX7_notes_5 11 rfl rfl)
theorem dX7_notes_132 : decode cX7_notes 132 = .ok (.ifCond .eq 7, 3) := dk_153 0 7 (dk_at dksX7_notes_5 13 rfl rfl)
theorem dX7_notes_135 : decode cX7_notes 135 = .ok (.iconst 0, 1) := dk_3 (dk_at dksX7_notes_5 16 rfl rfl)
theorem dX7_notes_136 : decode cX7_notes 136 = .ok (.goto 4, 3) := dk_167 0 4 (dk_at dksX7_notes_5 17 rfl rfl)
theorem dX7_notes_139 : decode cX7_notes 139 = .ok (.iload_n 3, 1) := dk_29 (dk_at dksX7_notes_5 20 rfl rfl)
theorem dX7_notes_140 : decode cX7_notes 140 = .ok (.ior, 1) := dk_128 (dk_at dksX7_notes_5 21 rfl rfl)
theorem dX7_notes_141 : decode cX7_notes 141 = .ok (.iastore, 1) := dk_79 (dk_at dksX7_notes_5 22 rfl rfl)
theorem dX7_notes_142 : decode cX7_notes 142 = .ok (.aload_n 0, 1) := dk_42 (dk_at dksX7_notes_5 23 rfl rfl)
theorem dX7_notes_143 : decode cX7_notes 143 = .ok (.iload 4, 2) := dk_21 4 (dk_at dksX7_notes_6 0 rfl rfl)
theorem dX7_notes_145 : decode cX7_notes 145 = .ok (.ifCond .eq 12, 3) := dk_153 0 12 (dk_at dksX7_notes_6 2 rfl rfl)
theorem dX7_notes_148 : decode cX7_notes 148 = .ok (.aload_n 0, 1) := dk_42 (dk_at dksX7_notes_6 5 rfl rfl)
theorem dX7_notes_149 : decode cX7_notes 149 = .ok (.getfield 71, 3) := dk_180 0 71 (dk_at dksX7_notes_6 6 rfl rfl)
theorem dX7_notes_152 : decode cX7_notes 152 = .ok (.iload_n 3, 1) := dk_29 (dk_at dksX7_notes_6 9 rfl rfl)
theorem dX7_notes_153 : decode cX7_notes 153 = .ok (.ior, 1) := dk_128 (dk_at dksX7_notes_6 10 rfl rfl)
theorem dX7_notes_154 : decode cX7_notes 154 = .ok (.goto 11, 3) := dk_167 0 11 (dk_at dksX7_notes_6 11 rfl rfl)
theorem dX7_notes_157 : decode cX7_notes 157 = .ok (.aload_n 0, 1) := dk_42 (dk_at dksX7_notes_6 14 rfl rfl)
theorem dX7_notes_158 : decode cX7_notes 158 = .ok (.getfield 71, 3) := dk_180 0 71 (dk_at dksX7_notes_6 15 rfl rfl)
theorem dX7_notes_161 : decode cX7_notes 161 = .ok (.iload_n 3, 1) := dk_29 (dk_at dksX7_notes_6 18 rfl rfl)
theorem dX7_notes_162 : decode cX7_notes 162 = .ok (.iconst (-1), 1) := dk_2 (dk_at dksX7_notes_6 19 rfl rfl)
theorem dX7_notes_163 : decode cX7_notes 163 = .ok (.ixor, 1) := dk_130 (dk_at dksX7_notes_6 20 rfl rfl)
theorem dX7_notes_164 : decode cX7_notes 164 = .ok (.iand, 1) := dk_126 (dk_at dksX7_notes_6 21 rfl rfl)
theorem dX7_notes_165 : decode cX7_notes 165 = .ok (.putfield 71, 3) := dk_181 0 71 (dk_at dksX7_notes_7 0 rfl rfl)
theorem dX7_notes_168 : decode cX7_notes 168 = .ok (.return_, 1) := dk_177 (dk_at dksX7_notes_7 3 rfl rfl)
abbrev cX7_divides : ByteArray := prog_17_method_31_code
def yX7_divides : MethodName := ⟨RX7, "divides", "()V"⟩
def dkwX7_divides_4 : List UInt8 := [180, 0, 136, 29, 79, 42, 89, 180, 0, 136, 4, 96, 181, 0, 136, 132, 3, 1, 167, 255, 216, 177]
abbrev dktX7_divides_4 : List UInt8 := dkwX7_divides_4 ++ []
def dkwX7_divides_3 : List UInt8 := [29, 42, 180, 0, 104, 162, 0, 38, 27, 29, 122, 4, 126, 4, 160, 0, 23, 42, 180, 0, 28, 42]
abbrev dktX7_divides_3 : List UInt8 := dkwX7_divides_3 ++ dktX7_divides_4
def dkwX7_divides_2 : List UInt8 := [182, 0, 133, 153, 0, 8, 29, 60, 21, 4, 61, 132, 3, 1, 167, 255, 204, 42, 3, 181, 0, 136, 3, 62]
abbrev dktX7_divides_2 : List UInt8 := dkwX7_divides_2 ++ dktX7_divides_3
def dkwX7_divides_1 : List UInt8 := [21, 4, 28, 161, 0, 17, 21, 4, 28, 160, 0, 24, 29, 27, 184, 0, 129, 153, 0, 16, 42, 29]
abbrev dktX7_divides_1 : List UInt8 := dkwX7_divides_1 ++ dktX7_divides_2
def dkwX7_divides_0 : List UInt8 := [3, 60, 16, 17, 61, 4, 62, 29, 4, 42, 180, 0, 104, 120, 162, 0, 48, 29, 184, 0, 126, 54, 4]
abbrev dktX7_divides_0 : List UInt8 := dkwX7_divides_0 ++ dktX7_divides_1
theorem dksX7_divides_0 : cX7_divides.data.toList.drop 0 = dktX7_divides_0 := by decide +kernel
theorem dksX7_divides_1 : cX7_divides.data.toList.drop 23 = dktX7_divides_1 := dk_seg dksX7_divides_0 23 rfl rfl
theorem dksX7_divides_2 : cX7_divides.data.toList.drop 45 = dktX7_divides_2 := dk_seg dksX7_divides_1 22 rfl rfl
theorem dksX7_divides_3 : cX7_divides.data.toList.drop 69 = dktX7_divides_3 := dk_seg dksX7_divides_2 24 rfl rfl
theorem dksX7_divides_4 : cX7_divides.data.toList.drop 91 = dktX7_divides_4 := dk_seg dksX7_divides_3 22 rfl rfl
theorem dX7_divides_0 : decode cX7_divides 0 = .ok (.iconst 0, 1) := dk_3 (dk_at dksX7_divides_0 0 rfl rfl)
theorem dX7_divides_1 : decode cX7_divides 1 = .ok (.istore_n 1, 1) := dk_60 (dk_at dksX7_divides_0 1 rfl rfl)
theorem dX7_divides_2 : decode cX7_divides 2 = .ok (.bipush 17, 2) := dk_16 17 (dk_at dksX7_divides_0 2 rfl rfl)
theorem dX7_divides_4 : decode cX7_divides 4 = .ok (.istore_n 2, 1) := dk_61 (dk_at dksX7_divides_0 4 rfl rfl)
theorem dX7_divides_5 : decode cX7_divides 5 = .ok (.iconst 1, 1) := dk_4 (dk_at dksX7_divides_0 5 rfl rfl)
theorem dX7_divides_6 : decode cX7_divides 6 = .ok (.istore_n 3, 1) := dk_62 (dk_at dksX7_divides_0 6 rfl rfl)
theorem dX7_divides_7 : decode cX7_divides 7 = .ok (.iload_n 3, 1) := dk_29 (dk_at dksX7_divides_0 7 rfl rfl)
theorem dX7_divides_8 : decode cX7_divides 8 = .ok (.iconst 1, 1) := dk_4 (dk_at dksX7_divides_0 8 rfl rfl)
theorem dX7_divides_9 : decode cX7_divides 9 = .ok (.aload_n 0, 1) := dk_42 (dk_at dksX7_divides_0 9 rfl rfl)
theorem dX7_divides_10 : decode cX7_divides 10 = .ok (.getfield 104, 3) := dk_180 0 104 (dk_at dksX7_divides_0 10 rfl rfl)
theorem dX7_divides_13 : decode cX7_divides 13 = .ok (.ishl, 1) := dk_120 (dk_at dksX7_divides_0 13 rfl rfl)
theorem dX7_divides_14 : decode cX7_divides 14 = .ok (.if_icmp .ge 48, 3) := dk_162 0 48 (dk_at dksX7_divides_0 14 rfl rfl)
theorem dX7_divides_17 : decode cX7_divides 17 = .ok (.iload_n 3, 1) := dk_29 (dk_at dksX7_divides_0 17 rfl rfl)
theorem dX7_divides_18 : decode cX7_divides 18 = .ok (.invokestatic 126, 3) := dk_184 0 126 (dk_at dksX7_divides_0 18 rfl rfl)
theorem dX7_divides_21 : decode cX7_divides 21 = .ok (.istore 4, 2) := dk_54 4 (dk_at dksX7_divides_0 21 rfl rfl)
theorem dX7_divides_23 : decode cX7_divides 23 = .ok (.iload 4, 2) := dk_21 4 (dk_at dksX7_divides_1 0 rfl rfl)
theorem dX7_divides_25 : decode cX7_divides 25 = .ok (.iload_n 2, 1) := dk_28 (dk_at dksX7_divides_1 2 rfl rfl)
theorem dX7_divides_26 : decode cX7_divides 26 = .ok (.if_icmp .lt 17, 3) := dk_161 0 17 (dk_at dksX7_divides_1 3 rfl rfl)
theorem dX7_divides_29 : decode cX7_divides 29 = .ok (.iload 4, 2) := dk_21 4 (dk_at dksX7_divides_1 6 rfl rfl)
theorem dX7_divides_31 : decode cX7_divides 31 = .ok (.iload_n 2, 1) := dk_28 (dk_at dksX7_divides_1 8 rfl rfl)
theorem dX7_divides_32 : decode cX7_divides 32 = .ok (.if_icmp .ne 24, 3) := dk_160 0 24 (dk_at dksX7_divides_1 9 rfl rfl)
theorem dX7_divides_35 : decode cX7_divides 35 = .ok (.iload_n 3, 1) := dk_29 (dk_at dksX7_divides_1 12 rfl rfl)
theorem dX7_divides_36 : decode cX7_divides 36 = .ok (.iload_n 1, 1) := dk_27 (dk_at dksX7_divides_1 13 rfl rfl)
theorem dX7_divides_37 : decode cX7_divides 37 = .ok (.invokestatic 129, 3) := dk_184 0 129 (dk_at dksX7_divides_1 14 rfl rfl)
theorem dX7_divides_40 : decode cX7_divides 40 = .ok (.ifCond .eq 16, 3) := dk_153 0 16 (dk_at dksX7_divides_1 17 rfl rfl)
theorem dX7_divides_43 : decode cX7_divides 43 = .ok (.aload_n 0, 1) := dk_42 (dk_at dksX7_divides_1 20 rfl rfl)
theorem dX7_divides_44 : decode cX7_divides 44 = .ok (.iload_n 3, 1) := dk_29 (dk_at dksX7_divides_1 21 rfl rfl)
theorem dX7_divides_45 : decode cX7_divides 45 = .ok (.invokevirtual 133, 3) := dk_182 0 133 (dk_at dksX7_divides_2 0 rfl rfl)
theorem dX7_divides_48 : decode cX7_divides 48 = .ok (.ifCond .eq 8, 3) := dk_153 0 8 (dk_at dksX7_divides_2 3 rfl rfl)
theorem dX7_divides_51 : decode cX7_divides 51 = .ok (.iload_n 3, 1) := dk_29 (dk_at dksX7_divides_2 6 rfl rfl)
theorem dX7_divides_52 : decode cX7_divides 52 = .ok (.istore_n 1, 1) := dk_60 (dk_at dksX7_divides_2 7 rfl rfl)
theorem dX7_divides_53 : decode cX7_divides 53 = .ok (.iload 4, 2) := dk_21 4 (dk_at dksX7_divides_2 8 rfl rfl)
theorem dX7_divides_55 : decode cX7_divides 55 = .ok (.istore_n 2, 1) := dk_61 (dk_at dksX7_divides_2 10 rfl rfl)
theorem dX7_divides_56 : decode cX7_divides 56 = .ok (.iinc 3 1, 3) := dk_132 3 1 (dk_at dksX7_divides_2 11 rfl rfl)
theorem dX7_divides_59 : decode cX7_divides 59 = .ok (.goto (-52), 3) := dk_167 255 204 (dk_at dksX7_divides_2 14 rfl rfl)
theorem dX7_divides_62 : decode cX7_divides 62 = .ok (.aload_n 0, 1) := dk_42 (dk_at dksX7_divides_2 17 rfl rfl)
theorem dX7_divides_63 : decode cX7_divides 63 = .ok (.iconst 0, 1) := dk_3 (dk_at dksX7_divides_2 18 rfl rfl)
theorem dX7_divides_64 : decode cX7_divides 64 = .ok (.putfield 136, 3) := dk_181 0 136 (dk_at dksX7_divides_2 19 rfl rfl)
theorem dX7_divides_67 : decode cX7_divides 67 = .ok (.iconst 0, 1) := dk_3 (dk_at dksX7_divides_2 22 rfl rfl)
theorem dX7_divides_68 : decode cX7_divides 68 = .ok (.istore_n 3, 1) := dk_62 (dk_at dksX7_divides_2 23 rfl rfl)
theorem dX7_divides_69 : decode cX7_divides 69 = .ok (.iload_n 3, 1) := dk_29 (dk_at dksX7_divides_3 0 rfl rfl)
theorem dX7_divides_70 : decode cX7_divides 70 = .ok (.aload_n 0, 1) := dk_42 (dk_at dksX7_divides_3 1 rfl rfl)
theorem dX7_divides_71 : decode cX7_divides 71 = .ok (.getfield 104, 3) := dk_180 0 104 (dk_at dksX7_divides_3 2 rfl rfl)
theorem dX7_divides_74 : decode cX7_divides 74 = .ok (.if_icmp .ge 38, 3) := dk_162 0 38 (dk_at dksX7_divides_3 5 rfl rfl)
theorem dX7_divides_77 : decode cX7_divides 77 = .ok (.iload_n 1, 1) := dk_27 (dk_at dksX7_divides_3 8 rfl rfl)
theorem dX7_divides_78 : decode cX7_divides 78 = .ok (.iload_n 3, 1) := dk_29 (dk_at dksX7_divides_3 9 rfl rfl)
theorem dX7_divides_79 : decode cX7_divides 79 = .ok (.ishr, 1) := dk_122 (dk_at dksX7_divides_3 10 rfl rfl)
theorem dX7_divides_80 : decode cX7_divides 80 = .ok (.iconst 1, 1) := dk_4 (dk_at dksX7_divides_3 11 rfl rfl)
theorem dX7_divides_81 : decode cX7_divides 81 = .ok (.iand, 1) := dk_126 (dk_at dksX7_divides_3 12 rfl rfl)
theorem dX7_divides_82 : decode cX7_divides 82 = .ok (.iconst 1, 1) := dk_4 (dk_at dksX7_divides_3 13 rfl rfl)
theorem dX7_divides_83 : decode cX7_divides 83 = .ok (.if_icmp .ne 23, 3) := dk_160 0 23 (dk_at dksX7_divides_3 14 rfl rfl)
theorem dX7_divides_86 : decode cX7_divides 86 = .ok (.aload_n 0, 1) := dk_42 (dk_at dksX7_divides_3 17 rfl rfl)
theorem dX7_divides_87 : decode cX7_divides 87 = .ok (.getfield 28, 3) := dk_180 0 28 (dk_at dksX7_divides_3 18 rfl rfl)
theorem dX7_divides_90 : decode cX7_divides 90 = .ok (.aload_n 0, 1) := dk_42 (dk_at dksX7_divides_3 21 rfl rfl)
theorem dX7_divides_91 : decode cX7_divides 91 = .ok (.getfield 136, 3) := dk_180 0 136 (dk_at dksX7_divides_4 0 rfl rfl)
theorem dX7_divides_94 : decode cX7_divides 94 = .ok (.iload_n 3, 1) := dk_29 (dk_at dksX7_divides_4 3 rfl rfl)
theorem dX7_divides_95 : decode cX7_divides 95 = .ok (.iastore, 1) := dk_79 (dk_at dksX7_divides_4 4 rfl rfl)
theorem dX7_divides_96 : decode cX7_divides 96 = .ok (.aload_n 0, 1) := dk_42 (dk_at dksX7_divides_4 5 rfl rfl)
theorem dX7_divides_97 : decode cX7_divides 97 = .ok (.dup, 1) := dk_89 (dk_at dksX7_divides_4 6 rfl rfl)
theorem dX7_divides_98 : decode cX7_divides 98 = .ok (.getfield 136, 3) := dk_180 0 136 (dk_at dksX7_divides_4 7 rfl rfl)
theorem dX7_divides_101 : decode cX7_divides 101 = .ok (.iconst 1, 1) := dk_4 (dk_at dksX7_divides_4 10 rfl rfl)
theorem dX7_divides_102 : decode cX7_divides 102 = .ok (.iadd, 1) := dk_96 (dk_at dksX7_divides_4 11 rfl rfl)
theorem dX7_divides_103 : decode cX7_divides 103 = .ok (.putfield 136, 3) := dk_181 0 136 (dk_at dksX7_divides_4 12 rfl rfl)
theorem dX7_divides_106 : decode cX7_divides 106 = .ok (.iinc 3 1, 3) := dk_132 3 1 (dk_at dksX7_divides_4 15 rfl rfl)
theorem dX7_divides_109 : decode cX7_divides 109 = .ok (.goto (-40), 3) := dk_167 255 216 (dk_at dksX7_divides_4 18 rfl rfl)
theorem dX7_divides_112 : decode cX7_divides 112 = .ok (.return_, 1) := dk_177 (dk_at dksX7_divides_4 21 rfl rfl)
abbrev cX7_countOf : ByteArray := prog_17_method_28_code
def yX7_countOf : MethodName := ⟨RX7, "countOf", "(I)I"⟩
def dkwX7_countOf_1 : List UInt8 := [27, 172]
abbrev dktX7_countOf_1 : List UInt8 := dkwX7_countOf_1 ++ []
def dkwX7_countOf_0 : List UInt8 := [3, 60, 3, 61, 28, 16, 16, 162, 0, 17, 27, 26, 28, 122, 4, 126, 96, 60, 132, 2, 1, 167, 255, 239]
abbrev dktX7_countOf_0 : List UInt8 := dkwX7_countOf_0 ++ dktX7_countOf_1
theorem dksX7_countOf_0 : cX7_countOf.data.toList.drop 0 = dktX7_countOf_0 := by decide +kernel
theorem dksX7_countOf_1 : cX7_countOf.data.toList.drop 24 = dktX7_countOf_1 := dk_seg dksX7_countOf_0 24 rfl rfl
theorem dX7_countOf_0 : decode cX7_countOf 0 = .ok (.iconst 0, 1) := dk_3 (dk_at dksX7_countOf_0 0 rfl rfl)
theorem dX7_countOf_1 : decode cX7_countOf 1 = .ok (.istore_n 1, 1) := dk_60 (dk_at dksX7_countOf_0 1 rfl rfl)
theorem dX7_countOf_2 : decode cX7_countOf 2 = .ok (.iconst 0, 1) := dk_3 (dk_at dksX7_countOf_0 2 rfl rfl)
theorem dX7_countOf_3 : decode cX7_countOf 3 = .ok (.istore_n 2, 1) := dk_61 (dk_at dksX7_countOf_0 3 rfl rfl)
theorem dX7_countOf_4 : decode cX7_countOf 4 = .ok (.iload_n 2, 1) := dk_28 (dk_at dksX7_countOf_0 4 rfl rfl)
theorem dX7_countOf_5 : decode cX7_countOf 5 = .ok (.bipush 16, 2) := dk_16 16 (dk_at dksX7_countOf_0 5 rfl rfl)
theorem dX7_countOf_7 : decode cX7_countOf 7 = .ok (.if_icmp .ge 17, 3) := dk_162 0 17 (dk_at dksX7_countOf_0 7 rfl rfl)
theorem dX7_countOf_10 : decode cX7_countOf 10 = .ok (.iload_n 1, 1) := dk_27 (dk_at dksX7_countOf_0 10 rfl rfl)
theorem dX7_countOf_11 : decode cX7_countOf 11 = .ok (.iload_n 0, 1) := dk_26 (dk_at dksX7_countOf_0 11 rfl rfl)
theorem dX7_countOf_12 : decode cX7_countOf 12 = .ok (.iload_n 2, 1) := dk_28 (dk_at dksX7_countOf_0 12 rfl rfl)
theorem dX7_countOf_13 : decode cX7_countOf 13 = .ok (.ishr, 1) := dk_122 (dk_at dksX7_countOf_0 13 rfl rfl)
theorem dX7_countOf_14 : decode cX7_countOf 14 = .ok (.iconst 1, 1) := dk_4 (dk_at dksX7_countOf_0 14 rfl rfl)
theorem dX7_countOf_15 : decode cX7_countOf 15 = .ok (.iand, 1) := dk_126 (dk_at dksX7_countOf_0 15 rfl rfl)
theorem dX7_countOf_16 : decode cX7_countOf 16 = .ok (.iadd, 1) := dk_96 (dk_at dksX7_countOf_0 16 rfl rfl)
theorem dX7_countOf_17 : decode cX7_countOf 17 = .ok (.istore_n 1, 1) := dk_60 (dk_at dksX7_countOf_0 17 rfl rfl)
theorem dX7_countOf_18 : decode cX7_countOf 18 = .ok (.iinc 2 1, 3) := dk_132 2 1 (dk_at dksX7_countOf_0 18 rfl rfl)
theorem dX7_countOf_21 : decode cX7_countOf 21 = .ok (.goto (-17), 3) := dk_167 255 239 (dk_at dksX7_countOf_0 21 rfl rfl)
theorem dX7_countOf_24 : decode cX7_countOf 24 = .ok (.iload_n 1, 1) := dk_27 (dk_at dksX7_countOf_1 0 rfl rfl)
theorem dX7_countOf_25 : decode cX7_countOf 25 = .ok (.ireturn, 1) := dk_172 (dk_at dksX7_countOf_1 1 rfl rfl)
abbrev cX7_isAhead : ByteArray := prog_17_method_30_code
def yX7_isAhead : MethodName := ⟨RX7, "isAhead", "(II)Z"⟩
def dkwX7_isAhead_0 : List UInt8 := [26, 27, 130, 61, 28, 153, 0, 16, 26, 28, 126, 28, 116, 126, 153, 0, 7, 4, 167, 0, 4, 3, 172]
abbrev dktX7_isAhead_0 : List UInt8 := dkwX7_isAhead_0 ++ []
theorem dksX7_isAhead_0 : cX7_isAhead.data.toList.drop 0 = dktX7_isAhead_0 := by decide +kernel
theorem dX7_isAhead_0 : decode cX7_isAhead 0 = .ok (.iload_n 0, 1) := dk_26 (dk_at dksX7_isAhead_0 0 rfl rfl)
theorem dX7_isAhead_1 : decode cX7_isAhead 1 = .ok (.iload_n 1, 1) := dk_27 (dk_at dksX7_isAhead_0 1 rfl rfl)
theorem dX7_isAhead_2 : decode cX7_isAhead 2 = .ok (.ixor, 1) := dk_130 (dk_at dksX7_isAhead_0 2 rfl rfl)
theorem dX7_isAhead_3 : decode cX7_isAhead 3 = .ok (.istore_n 2, 1) := dk_61 (dk_at dksX7_isAhead_0 3 rfl rfl)
theorem dX7_isAhead_4 : decode cX7_isAhead 4 = .ok (.iload_n 2, 1) := dk_28 (dk_at dksX7_isAhead_0 4 rfl rfl)
theorem dX7_isAhead_5 : decode cX7_isAhead 5 = .ok (.ifCond .eq 16, 3) := dk_153 0 16 (dk_at dksX7_isAhead_0 5 rfl rfl)
theorem dX7_isAhead_8 : decode cX7_isAhead 8 = .ok (.iload_n 0, 1) := dk_26 (dk_at dksX7_isAhead_0 8 rfl rfl)
theorem dX7_isAhead_9 : decode cX7_isAhead 9 = .ok (.iload_n 2, 1) := dk_28 (dk_at dksX7_isAhead_0 9 rfl rfl)
theorem dX7_isAhead_10 : decode cX7_isAhead 10 = .ok (.iand, 1) := dk_126 (dk_at dksX7_isAhead_0 10 rfl rfl)
theorem dX7_isAhead_11 : decode cX7_isAhead 11 = .ok (.iload_n 2, 1) := dk_28 (dk_at dksX7_isAhead_0 11 rfl rfl)
theorem dX7_isAhead_12 : decode cX7_isAhead 12 = .ok (.ineg, 1) := dk_116 (dk_at dksX7_isAhead_0 12 rfl rfl)
theorem dX7_isAhead_13 : decode cX7_isAhead 13 = .ok (.iand, 1) := dk_126 (dk_at dksX7_isAhead_0 13 rfl rfl)
theorem dX7_isAhead_14 : decode cX7_isAhead 14 = .ok (.ifCond .eq 7, 3) := dk_153 0 7 (dk_at dksX7_isAhead_0 14 rfl rfl)
theorem dX7_isAhead_17 : decode cX7_isAhead 17 = .ok (.iconst 1, 1) := dk_4 (dk_at dksX7_isAhead_0 17 rfl rfl)
theorem dX7_isAhead_18 : decode cX7_isAhead 18 = .ok (.goto 4, 3) := dk_167 0 4 (dk_at dksX7_isAhead_0 18 rfl rfl)
theorem dX7_isAhead_21 : decode cX7_isAhead 21 = .ok (.iconst 0, 1) := dk_3 (dk_at dksX7_isAhead_0 21 rfl rfl)
theorem dX7_isAhead_22 : decode cX7_isAhead 22 = .ok (.ireturn, 1) := dk_172 (dk_at dksX7_isAhead_0 22 rfl rfl)
abbrev cX7_areGroups : ByteArray := prog_17_method_29_code
def yX7_areGroups : MethodName := ⟨RX7, "areGroups", "(I)Z"⟩
def dkwX7_areGroups_3 : List UInt8 := [54, 6, 29, 21, 6, 126, 153, 0, 5, 3, 172, 29, 21, 6, 128, 62, 132, 4, 1, 167, 255, 186, 4, 172]
abbrev dktX7_areGroups_3 : List UInt8 := dkwX7_areGroups_3 ++ []
def dkwX7_areGroups_2 : List UInt8 := [160, 0, 7, 3, 167, 0, 4, 29, 62, 42, 180, 0, 19, 21, 5, 46, 42, 180, 0, 22, 21, 5, 46, 128]
abbrev dktX7_areGroups_2 : List UInt8 := dkwX7_areGroups_2 ++ dktX7_areGroups_3
def dkwX7_areGroups_1 : List UInt8 := [180, 0, 104, 162, 0, 67, 28, 21, 4, 96, 42, 180, 0, 104, 112, 54, 5, 27, 21, 5, 122, 4, 126, 4]
abbrev dktX7_areGroups_1 : List UInt8 := dkwX7_areGroups_1 ++ dktX7_areGroups_2
def dkwX7_areGroups_0 : List UInt8 := [3, 61, 27, 28, 122, 4, 126, 154, 0, 9, 132, 2, 1, 167, 255, 245, 3, 62, 3, 54, 4, 21, 4, 42]
abbrev dktX7_areGroups_0 : List UInt8 := dkwX7_areGroups_0 ++ dktX7_areGroups_1
theorem dksX7_areGroups_0 : cX7_areGroups.data.toList.drop 0 = dktX7_areGroups_0 := by decide +kernel
theorem dksX7_areGroups_1 : cX7_areGroups.data.toList.drop 24 = dktX7_areGroups_1 := dk_seg dksX7_areGroups_0 24 rfl rfl
theorem dksX7_areGroups_2 : cX7_areGroups.data.toList.drop 48 = dktX7_areGroups_2 := dk_seg dksX7_areGroups_1 24 rfl rfl
theorem dksX7_areGroups_3 : cX7_areGroups.data.toList.drop 72 = dktX7_areGroups_3 := dk_seg dksX7_areGroups_2 24 rfl rfl
theorem dX7_areGroups_0 : decode cX7_areGroups 0 = .ok (.iconst 0, 1) := dk_3 (dk_at dksX7_areGroups_0 0 rfl rfl)
theorem dX7_areGroups_1 : decode cX7_areGroups 1 = .ok (.istore_n 2, 1) := dk_61 (dk_at dksX7_areGroups_0 1 rfl rfl)
theorem dX7_areGroups_2 : decode cX7_areGroups 2 = .ok (.iload_n 1, 1) := dk_27 (dk_at dksX7_areGroups_0 2 rfl rfl)
theorem dX7_areGroups_3 : decode cX7_areGroups 3 = .ok (.iload_n 2, 1) := dk_28 (dk_at dksX7_areGroups_0 3 rfl rfl)
theorem dX7_areGroups_4 : decode cX7_areGroups 4 = .ok (.ishr, 1) := dk_122 (dk_at dksX7_areGroups_0 4 rfl rfl)
theorem dX7_areGroups_5 : decode cX7_areGroups 5 = .ok (.iconst 1, 1) := dk_4 (dk_at dksX7_areGroups_0 5 rfl rfl)
theorem dX7_areGroups_6 : decode cX7_areGroups 6 = .ok (.iand, 1) := dk_126 (dk_at dksX7_areGroups_0 6 rfl rfl)
theorem dX7_areGroups_7 : decode cX7_areGroups 7 = .ok (.ifCond .ne 9, 3) := dk_154 0 9 (dk_at dksX7_areGroups_0 7 rfl rfl)
theorem dX7_areGroups_10 : decode cX7_areGroups 10 = .ok (.iinc 2 1, 3) := dk_132 2 1 (dk_at dksX7_areGroups_0 10 rfl rfl)
theorem dX7_areGroups_13 : decode cX7_areGroups 13 = .ok (.goto (-11), 3) := dk_167 255 245 (dk_at dksX7_areGroups_0 13 rfl rfl)
theorem dX7_areGroups_16 : decode cX7_areGroups 16 = .ok (.iconst 0, 1) := dk_3 (dk_at dksX7_areGroups_0 16 rfl rfl)
theorem dX7_areGroups_17 : decode cX7_areGroups 17 = .ok (.istore_n 3, 1) := dk_62 (dk_at dksX7_areGroups_0 17 rfl rfl)
theorem dX7_areGroups_18 : decode cX7_areGroups 18 = .ok (.iconst 0, 1) := dk_3 (dk_at dksX7_areGroups_0 18 rfl rfl)
theorem dX7_areGroups_19 : decode cX7_areGroups 19 = .ok (.istore 4, 2) := dk_54 4 (dk_at dksX7_areGroups_0 19 rfl rfl)
theorem dX7_areGroups_21 : decode cX7_areGroups 21 = .ok (.iload 4, 2) := dk_21 4 (dk_at dksX7_areGroups_0 21 rfl rfl)
theorem dX7_areGroups_23 : decode cX7_areGroups 23 = .ok (.aload_n 0, 1) := dk_42 (dk_at dksX7_areGroups_0 23 rfl rfl)
theorem dX7_areGroups_24 : decode cX7_areGroups 24 = .ok (.getfield 104, 3) := dk_180 0 104 (dk_at dksX7_areGroups_1 0 rfl rfl)
theorem dX7_areGroups_27 : decode cX7_areGroups 27 = .ok (.if_icmp .ge 67, 3) := dk_162 0 67 (dk_at dksX7_areGroups_1 3 rfl rfl)
theorem dX7_areGroups_30 : decode cX7_areGroups 30 = .ok (.iload_n 2, 1) := dk_28 (dk_at dksX7_areGroups_1 6 rfl rfl)
theorem dX7_areGroups_31 : decode cX7_areGroups 31 = .ok (.iload 4, 2) := dk_21 4 (dk_at dksX7_areGroups_1 7 rfl rfl)
theorem dX7_areGroups_33 : decode cX7_areGroups 33 = .ok (.iadd, 1) := dk_96 (dk_at dksX7_areGroups_1 9 rfl rfl)
theorem dX7_areGroups_34 : decode cX7_areGroups 34 = .ok (.aload_n 0, 1) := dk_42 (dk_at dksX7_areGroups_1 10 rfl rfl)
theorem dX7_areGroups_35 : decode cX7_areGroups 35 = .ok (.getfield 104, 3) := dk_180 0 104 (dk_at dksX7_areGroups_1 11 rfl rfl)
theorem dX7_areGroups_38 : decode cX7_areGroups 38 = .ok (.irem, 1) := dk_112 (dk_at dksX7_areGroups_1 14 rfl rfl)
theorem dX7_areGroups_39 : decode cX7_areGroups 39 = .ok (.istore 5, 2) := dk_54 5 (dk_at dksX7_areGroups_1 15 rfl rfl)
theorem dX7_areGroups_41 : decode cX7_areGroups 41 = .ok (.iload_n 1, 1) := dk_27 (dk_at dksX7_areGroups_1 17 rfl rfl)
theorem dX7_areGroups_42 : decode cX7_areGroups 42 = .ok (.iload 5, 2) := dk_21 5 (dk_at dksX7_areGroups_1 18 rfl rfl)
theorem dX7_areGroups_44 : decode cX7_areGroups 44 = .ok (.ishr, 1) := dk_122 (dk_at dksX7_areGroups_1 20 rfl rfl)
theorem dX7_areGroups_45 : decode cX7_areGroups 45 = .ok (.iconst 1, 1) := dk_4 (dk_at dksX7_areGroups_1 21 rfl rfl)
theorem dX7_areGroups_46 : decode cX7_areGroups 46 = .ok (.iand, 1) := dk_126 (dk_at dksX7_areGroups_1 22 rfl rfl)
theorem dX7_areGroups_47 : decode cX7_areGroups 47 = .ok (.iconst 1, 1) := dk_4 (dk_at dksX7_areGroups_1 23 rfl rfl)
theorem dX7_areGroups_48 : decode cX7_areGroups 48 = .ok (.if_icmp .ne 7, 3) := dk_160 0 7 (dk_at dksX7_areGroups_2 0 rfl rfl)
theorem dX7_areGroups_51 : decode cX7_areGroups 51 = .ok (.iconst 0, 1) := dk_3 (dk_at dksX7_areGroups_2 3 rfl rfl)
theorem dX7_areGroups_52 : decode cX7_areGroups 52 = .ok (.goto 4, 3) := dk_167 0 4 (dk_at dksX7_areGroups_2 4 rfl rfl)
theorem dX7_areGroups_55 : decode cX7_areGroups 55 = .ok (.iload_n 3, 1) := dk_29 (dk_at dksX7_areGroups_2 7 rfl rfl)
theorem dX7_areGroups_56 : decode cX7_areGroups 56 = .ok (.istore_n 3, 1) := dk_62 (dk_at dksX7_areGroups_2 8 rfl rfl)
theorem dX7_areGroups_57 : decode cX7_areGroups 57 = .ok (.aload_n 0, 1) := dk_42 (dk_at dksX7_areGroups_2 9 rfl rfl)
theorem dX7_areGroups_58 : decode cX7_areGroups 58 = .ok (.getfield 19, 3) := dk_180 0 19 (dk_at dksX7_areGroups_2 10 rfl rfl)
theorem dX7_areGroups_61 : decode cX7_areGroups 61 = .ok (.iload 5, 2) := dk_21 5 (dk_at dksX7_areGroups_2 13 rfl rfl)
theorem dX7_areGroups_63 : decode cX7_areGroups 63 = .ok (.iaload, 1) := dk_46 (dk_at dksX7_areGroups_2 15 rfl rfl)
theorem dX7_areGroups_64 : decode cX7_areGroups 64 = .ok (.aload_n 0, 1) := dk_42 (dk_at dksX7_areGroups_2 16 rfl rfl)
theorem dX7_areGroups_65 : decode cX7_areGroups 65 = .ok (.getfield 22, 3) := dk_180 0 22 (dk_at dksX7_areGroups_2 17 rfl rfl)
theorem dX7_areGroups_68 : decode cX7_areGroups 68 = .ok (.iload 5, 2) := dk_21 5 (dk_at dksX7_areGroups_2 20 rfl rfl)
theorem dX7_areGroups_70 : decode cX7_areGroups 70 = .ok (.iaload, 1) := dk_46 (dk_at dksX7_areGroups_2 22 rfl rfl)
theorem dX7_areGroups_71 : decode cX7_areGroups 71 = .ok (.ior, 1) := dk_128 (dk_at dksX7_areGroups_2 23 rfl rfl)
theorem dX7_areGroups_72 : decode cX7_areGroups 72 = .ok (.istore 6, 2) := dk_54 6 (dk_at dksX7_areGroups_3 0 rfl rfl)
theorem dX7_areGroups_74 : decode cX7_areGroups 74 = .ok (.iload_n 3, 1) := dk_29 (dk_at dksX7_areGroups_3 2 rfl rfl)
theorem dX7_areGroups_75 : decode cX7_areGroups 75 = .ok (.iload 6, 2) := dk_21 6 (dk_at dksX7_areGroups_3 3 rfl rfl)
theorem dX7_areGroups_77 : decode cX7_areGroups 77 = .ok (.iand, 1) := dk_126 (dk_at dksX7_areGroups_3 5 rfl rfl)
theorem dX7_areGroups_78 : decode cX7_areGroups 78 = .ok (.ifCond .eq 5, 3) := dk_153 0 5 (dk_at dksX7_areGroups_3 6 rfl rfl)
theorem dX7_areGroups_81 : decode cX7_areGroups 81 = .ok (.iconst 0, 1) := dk_3 (dk_at dksX7_areGroups_3 9 rfl rfl)
theorem dX7_areGroups_82 : decode cX7_areGroups 82 = .ok (.ireturn, 1) := dk_172 (dk_at dksX7_areGroups_3 10 rfl rfl)
theorem dX7_areGroups_83 : decode cX7_areGroups 83 = .ok (.iload_n 3, 1) := dk_29 (dk_at dksX7_areGroups_3 11 rfl rfl)
theorem dX7_areGroups_84 : decode cX7_areGroups 84 = .ok (.iload 6, 2) := dk_21 6 (dk_at dksX7_areGroups_3 12 rfl rfl)
theorem dX7_areGroups_86 : decode cX7_areGroups 86 = .ok (.ior, 1) := dk_128 (dk_at dksX7_areGroups_3 14 rfl rfl)
theorem dX7_areGroups_87 : decode cX7_areGroups 87 = .ok (.istore_n 3, 1) := dk_62 (dk_at dksX7_areGroups_3 15 rfl rfl)
theorem dX7_areGroups_88 : decode cX7_areGroups 88 = .ok (.iinc 4 1, 3) := dk_132 4 1 (dk_at dksX7_areGroups_3 16 rfl rfl)
theorem dX7_areGroups_91 : decode cX7_areGroups 91 = .ok (.goto (-70), 3) := dk_167 255 186 (dk_at dksX7_areGroups_3 19 rfl rfl)
theorem dX7_areGroups_94 : decode cX7_areGroups 94 = .ok (.iconst 1, 1) := dk_4 (dk_at dksX7_areGroups_3 22 rfl rfl)
theorem dX7_areGroups_95 : decode cX7_areGroups 95 = .ok (.ireturn, 1) := dk_172 (dk_at dksX7_areGroups_3 23 rfl rfl)
abbrev cX7_errorKind : ByteArray := prog_17_method_16_code
def yX7_errorKind : MethodName := ⟨RX7, "errorKind", "()I"⟩
def dkwX7_errorKind_0 : List UInt8 := [42, 3, 181, 0, 47, 42, 180, 0, 94, 172]
abbrev dktX7_errorKind_0 : List UInt8 := dkwX7_errorKind_0 ++ []
theorem dksX7_errorKind_0 : cX7_errorKind.data.toList.drop 0 = dktX7_errorKind_0 := by decide +kernel
theorem dX7_errorKind_0 : decode cX7_errorKind 0 = .ok (.aload_n 0, 1) := dk_42 (dk_at dksX7_errorKind_0 0 rfl rfl)
theorem dX7_errorKind_1 : decode cX7_errorKind 1 = .ok (.iconst 0, 1) := dk_3 (dk_at dksX7_errorKind_0 1 rfl rfl)
theorem dX7_errorKind_2 : decode cX7_errorKind 2 = .ok (.putfield 47, 3) := dk_181 0 47 (dk_at dksX7_errorKind_0 2 rfl rfl)
theorem dX7_errorKind_5 : decode cX7_errorKind 5 = .ok (.aload_n 0, 1) := dk_42 (dk_at dksX7_errorKind_0 5 rfl rfl)
theorem dX7_errorKind_6 : decode cX7_errorKind 6 = .ok (.getfield 94, 3) := dk_180 0 94 (dk_at dksX7_errorKind_0 6 rfl rfl)
theorem dX7_errorKind_9 : decode cX7_errorKind 9 = .ok (.ireturn, 1) := dk_172 (dk_at dksX7_errorKind_0 9 rfl rfl)
abbrev cX7_steps : ByteArray := prog_17_method_18_code
def yX7_steps : MethodName := ⟨RX7, "steps", "()I"⟩
def dkwX7_steps_0 : List UInt8 := [42, 3, 181, 0, 47, 42, 180, 0, 104, 172]
abbrev dktX7_steps_0 : List UInt8 := dkwX7_steps_0 ++ []
theorem dksX7_steps_0 : cX7_steps.data.toList.drop 0 = dktX7_steps_0 := by decide +kernel
theorem dX7_steps_0 : decode cX7_steps 0 = .ok (.aload_n 0, 1) := dk_42 (dk_at dksX7_steps_0 0 rfl rfl)
theorem dX7_steps_1 : decode cX7_steps 1 = .ok (.iconst 0, 1) := dk_3 (dk_at dksX7_steps_0 1 rfl rfl)
theorem dX7_steps_2 : decode cX7_steps 2 = .ok (.putfield 47, 3) := dk_181 0 47 (dk_at dksX7_steps_0 2 rfl rfl)
theorem dX7_steps_5 : decode cX7_steps 5 = .ok (.aload_n 0, 1) := dk_42 (dk_at dksX7_steps_0 5 rfl rfl)
theorem dX7_steps_6 : decode cX7_steps 6 = .ok (.getfield 104, 3) := dk_180 0 104 (dk_at dksX7_steps_0 6 rfl rfl)
theorem dX7_steps_9 : decode cX7_steps 9 = .ok (.ireturn, 1) := dk_172 (dk_at dksX7_steps_0 9 rfl rfl)
abbrev cX7_moves : ByteArray := prog_17_method_19_code
def yX7_moves : MethodName := ⟨RX7, "moves", "(I)I"⟩
def dkwX7_moves_1 : List UInt8 := [46, 128, 167, 0, 8, 42, 4, 182, 0, 55, 172]
abbrev dktX7_moves_1 : List UInt8 := dkwX7_moves_1 ++ []
def dkwX7_moves_0 : List UInt8 := [42, 3, 181, 0, 47, 42, 27, 182, 0, 110, 153, 0, 19, 42, 180, 0, 19, 27, 46, 42, 180, 0, 22, 27]
abbrev dktX7_moves_0 : List UInt8 := dkwX7_moves_0 ++ dktX7_moves_1
theorem dksX7_moves_0 : cX7_moves.data.toList.drop 0 = dktX7_moves_0 := by decide +kernel
theorem dksX7_moves_1 : cX7_moves.data.toList.drop 24 = dktX7_moves_1 := dk_seg dksX7_moves_0 24 rfl rfl
theorem dX7_moves_0 : decode cX7_moves 0 = .ok (.aload_n 0, 1) := dk_42 (dk_at dksX7_moves_0 0 rfl rfl)
theorem dX7_moves_1 : decode cX7_moves 1 = .ok (.iconst 0, 1) := dk_3 (dk_at dksX7_moves_0 1 rfl rfl)
theorem dX7_moves_2 : decode cX7_moves 2 = .ok (.putfield 47, 3) := dk_181 0 47 (dk_at dksX7_moves_0 2 rfl rfl)
theorem dX7_moves_5 : decode cX7_moves 5 = .ok (.aload_n 0, 1) := dk_42 (dk_at dksX7_moves_0 5 rfl rfl)
theorem dX7_moves_6 : decode cX7_moves 6 = .ok (.iload_n 1, 1) := dk_27 (dk_at dksX7_moves_0 6 rfl rfl)
theorem dX7_moves_7 : decode cX7_moves 7 = .ok (.invokevirtual 110, 3) := dk_182 0 110 (dk_at dksX7_moves_0 7 rfl rfl)
theorem dX7_moves_10 : decode cX7_moves 10 = .ok (.ifCond .eq 19, 3) := dk_153 0 19 (dk_at dksX7_moves_0 10 rfl rfl)
theorem dX7_moves_13 : decode cX7_moves 13 = .ok (.aload_n 0, 1) := dk_42 (dk_at dksX7_moves_0 13 rfl rfl)
theorem dX7_moves_14 : decode cX7_moves 14 = .ok (.getfield 19, 3) := dk_180 0 19 (dk_at dksX7_moves_0 14 rfl rfl)
theorem dX7_moves_17 : decode cX7_moves 17 = .ok (.iload_n 1, 1) := dk_27 (dk_at dksX7_moves_0 17 rfl rfl)
theorem dX7_moves_18 : decode cX7_moves 18 = .ok (.iaload, 1) := dk_46 (dk_at dksX7_moves_0 18 rfl rfl)
theorem dX7_moves_19 : decode cX7_moves 19 = .ok (.aload_n 0, 1) := dk_42 (dk_at dksX7_moves_0 19 rfl rfl)
theorem dX7_moves_20 : decode cX7_moves 20 = .ok (.getfield 22, 3) := dk_180 0 22 (dk_at dksX7_moves_0 20 rfl rfl)
theorem dX7_moves_23 : decode cX7_moves 23 = .ok (.iload_n 1, 1) := dk_27 (dk_at dksX7_moves_0 23 rfl rfl)
theorem dX7_moves_24 : decode cX7_moves 24 = .ok (.iaload, 1) := dk_46 (dk_at dksX7_moves_1 0 rfl rfl)
theorem dX7_moves_25 : decode cX7_moves 25 = .ok (.ior, 1) := dk_128 (dk_at dksX7_moves_1 1 rfl rfl)
theorem dX7_moves_26 : decode cX7_moves 26 = .ok (.goto 8, 3) := dk_167 0 8 (dk_at dksX7_moves_1 2 rfl rfl)
theorem dX7_moves_29 : decode cX7_moves 29 = .ok (.aload_n 0, 1) := dk_42 (dk_at dksX7_moves_1 5 rfl rfl)
theorem dX7_moves_30 : decode cX7_moves 30 = .ok (.iconst 1, 1) := dk_4 (dk_at dksX7_moves_1 6 rfl rfl)
theorem dX7_moves_31 : decode cX7_moves 31 = .ok (.invokevirtual 55, 3) := dk_182 0 55 (dk_at dksX7_moves_1 7 rfl rfl)
theorem dX7_moves_34 : decode cX7_moves 34 = .ok (.ireturn, 1) := dk_172 (dk_at dksX7_moves_1 10 rfl rfl)
abbrev cX7_isStep : ByteArray := prog_17_method_17_code
def yX7_isStep : MethodName := ⟨RX7, "isStep", "(I)Z"⟩
def dkwX7_isStep_0 : List UInt8 := [27, 3, 42, 180, 0, 104, 4, 100, 184, 0, 51, 172]
abbrev dktX7_isStep_0 : List UInt8 := dkwX7_isStep_0 ++ []
theorem dksX7_isStep_0 : cX7_isStep.data.toList.drop 0 = dktX7_isStep_0 := by decide +kernel
theorem dX7_isStep_0 : decode cX7_isStep 0 = .ok (.iload_n 1, 1) := dk_27 (dk_at dksX7_isStep_0 0 rfl rfl)
theorem dX7_isStep_1 : decode cX7_isStep 1 = .ok (.iconst 0, 1) := dk_3 (dk_at dksX7_isStep_0 1 rfl rfl)
theorem dX7_isStep_2 : decode cX7_isStep 2 = .ok (.aload_n 0, 1) := dk_42 (dk_at dksX7_isStep_0 2 rfl rfl)
theorem dX7_isStep_3 : decode cX7_isStep 3 = .ok (.getfield 104, 3) := dk_180 0 104 (dk_at dksX7_isStep_0 3 rfl rfl)
theorem dX7_isStep_6 : decode cX7_isStep 6 = .ok (.iconst 1, 1) := dk_4 (dk_at dksX7_isStep_0 6 rfl rfl)
theorem dX7_isStep_7 : decode cX7_isStep 7 = .ok (.isub, 1) := dk_100 (dk_at dksX7_isStep_0 7 rfl rfl)
theorem dX7_isStep_8 : decode cX7_isStep 8 = .ok (.invokestatic 51, 3) := dk_184 0 51 (dk_at dksX7_isStep_0 8 rfl rfl)
theorem dX7_isStep_11 : decode cX7_isStep 11 = .ok (.ireturn, 1) := dk_172 (dk_at dksX7_isStep_0 11 rfl rfl)
abbrev cX7_direction : ByteArray := prog_17_method_21_code
def yX7_direction : MethodName := ⟨RX7, "direction", "(II)I"⟩
def dkwX7_direction_1 : List UInt8 := [28, 182, 0, 113, 167, 0, 8, 42, 4, 182, 0, 55, 172]
abbrev dktX7_direction_1 : List UInt8 := dkwX7_direction_1 ++ []
def dkwX7_direction_0 : List UInt8 := [42, 3, 181, 0, 47, 42, 27, 182, 0, 110, 153, 0, 21, 28, 3, 8, 184, 0, 51, 153, 0, 12, 42, 27]
abbrev dktX7_direction_0 : List UInt8 := dkwX7_direction_0 ++ dktX7_direction_1
theorem dksX7_direction_0 : cX7_direction.data.toList.drop 0 = dktX7_direction_0 := by decide +kernel
theorem dksX7_direction_1 : cX7_direction.data.toList.drop 24 = dktX7_direction_1 := dk_seg dksX7_direction_0 24 rfl rfl
theorem dX7_direction_0 : decode cX7_direction 0 = .ok (.aload_n 0, 1) := dk_42 (dk_at dksX7_direction_0 0 rfl rfl)
theorem dX7_direction_1 : decode cX7_direction 1 = .ok (.iconst 0, 1) := dk_3 (dk_at dksX7_direction_0 1 rfl rfl)
theorem dX7_direction_2 : decode cX7_direction 2 = .ok (.putfield 47, 3) := dk_181 0 47 (dk_at dksX7_direction_0 2 rfl rfl)
theorem dX7_direction_5 : decode cX7_direction 5 = .ok (.aload_n 0, 1) := dk_42 (dk_at dksX7_direction_0 5 rfl rfl)
theorem dX7_direction_6 : decode cX7_direction 6 = .ok (.iload_n 1, 1) := dk_27 (dk_at dksX7_direction_0 6 rfl rfl)
theorem dX7_direction_7 : decode cX7_direction 7 = .ok (.invokevirtual 110, 3) := dk_182 0 110 (dk_at dksX7_direction_0 7 rfl rfl)
theorem dX7_direction_10 : decode cX7_direction 10 = .ok (.ifCond .eq 21, 3) := dk_153 0 21 (dk_at dksX7_direction_0 10 rfl rfl)
theorem dX7_direction_13 : decode cX7_direction 13 = .ok (.iload_n 2, 1) := dk_28 (dk_at dksX7_direction_0 13 rfl rfl)
theorem dX7_direction_14 : decode cX7_direction 14 = .ok (.iconst 0, 1) := dk_3 (dk_at dksX7_direction_0 14 rfl rfl)
theorem dX7_direction_15 : decode cX7_direction 15 = .ok (.iconst 5, 1) := dk_8 (dk_at dksX7_direction_0 15 rfl rfl)
theorem dX7_direction_16 : decode cX7_direction 16 = .ok (.invokestatic 51, 3) := dk_184 0 51 (dk_at dksX7_direction_0 16 rfl rfl)
theorem dX7_direction_19 : decode cX7_direction 19 = .ok (.ifCond .eq 12, 3) := dk_153 0 12 (dk_at dksX7_direction_0 19 rfl rfl)
theorem dX7_direction_22 : decode cX7_direction 22 = .ok (.aload_n 0, 1) := dk_42 (dk_at dksX7_direction_0 22 rfl rfl)
theorem dX7_direction_23 : decode cX7_direction 23 = .ok (.iload_n 1, 1) := dk_27 (dk_at dksX7_direction_0 23 rfl rfl)
theorem dX7_direction_24 : decode cX7_direction 24 = .ok (.iload_n 2, 1) := dk_28 (dk_at dksX7_direction_1 0 rfl rfl)
theorem dX7_direction_25 : decode cX7_direction 25 = .ok (.invokevirtual 113, 3) := dk_182 0 113 (dk_at dksX7_direction_1 1 rfl rfl)
theorem dX7_direction_28 : decode cX7_direction 28 = .ok (.goto 8, 3) := dk_167 0 8 (dk_at dksX7_direction_1 4 rfl rfl)
theorem dX7_direction_31 : decode cX7_direction 31 = .ok (.aload_n 0, 1) := dk_42 (dk_at dksX7_direction_1 7 rfl rfl)
theorem dX7_direction_32 : decode cX7_direction 32 = .ok (.iconst 1, 1) := dk_4 (dk_at dksX7_direction_1 8 rfl rfl)
theorem dX7_direction_33 : decode cX7_direction 33 = .ok (.invokevirtual 55, 3) := dk_182 0 55 (dk_at dksX7_direction_1 9 rfl rfl)
theorem dX7_direction_36 : decode cX7_direction 36 = .ok (.ireturn, 1) := dk_172 (dk_at dksX7_direction_1 12 rfl rfl)
abbrev cX7_directionOf : ByteArray := prog_17_method_20_code
def yX7_directionOf : MethodName := ⟨RX7, "directionOf", "(II)I"⟩
def dkwX7_directionOf_0 : List UInt8 := [42, 180, 0, 19, 27, 46, 28, 122, 4, 126, 42, 180, 0, 22, 27, 46, 28, 122, 4, 126, 100, 172]
abbrev dktX7_directionOf_0 : List UInt8 := dkwX7_directionOf_0 ++ []
theorem dksX7_directionOf_0 : cX7_directionOf.data.toList.drop 0 = dktX7_directionOf_0 := by decide +kernel
theorem dX7_directionOf_0 : decode cX7_directionOf 0 = .ok (.aload_n 0, 1) := dk_42 (dk_at dksX7_directionOf_0 0 rfl rfl)
theorem dX7_directionOf_1 : decode cX7_directionOf 1 = .ok (.getfield 19, 3) := dk_180 0 19 (dk_at dksX7_directionOf_0 1 rfl rfl)
theorem dX7_directionOf_4 : decode cX7_directionOf 4 = .ok (.iload_n 1, 1) := dk_27 (dk_at dksX7_directionOf_0 4 rfl rfl)
theorem dX7_directionOf_5 : decode cX7_directionOf 5 = .ok (.iaload, 1) := dk_46 (dk_at dksX7_directionOf_0 5 rfl rfl)
theorem dX7_directionOf_6 : decode cX7_directionOf 6 = .ok (.iload_n 2, 1) := dk_28 (dk_at dksX7_directionOf_0 6 rfl rfl)
theorem dX7_directionOf_7 : decode cX7_directionOf 7 = .ok (.ishr, 1) := dk_122 (dk_at dksX7_directionOf_0 7 rfl rfl)
theorem dX7_directionOf_8 : decode cX7_directionOf 8 = .ok (.iconst 1, 1) := dk_4 (dk_at dksX7_directionOf_0 8 rfl rfl)
theorem dX7_directionOf_9 : decode cX7_directionOf 9 = .ok (.iand, 1) := dk_126 (dk_at dksX7_directionOf_0 9 rfl rfl)
theorem dX7_directionOf_10 : decode cX7_directionOf 10 = .ok (.aload_n 0, 1) := dk_42 (dk_at dksX7_directionOf_0 10 rfl rfl)
theorem dX7_directionOf_11 : decode cX7_directionOf 11 = .ok (.getfield 22, 3) := dk_180 0 22 (dk_at dksX7_directionOf_0 11 rfl rfl)
theorem dX7_directionOf_14 : decode cX7_directionOf 14 = .ok (.iload_n 1, 1) := dk_27 (dk_at dksX7_directionOf_0 14 rfl rfl)
theorem dX7_directionOf_15 : decode cX7_directionOf 15 = .ok (.iaload, 1) := dk_46 (dk_at dksX7_directionOf_0 15 rfl rfl)
theorem dX7_directionOf_16 : decode cX7_directionOf 16 = .ok (.iload_n 2, 1) := dk_28 (dk_at dksX7_directionOf_0 16 rfl rfl)
theorem dX7_directionOf_17 : decode cX7_directionOf 17 = .ok (.ishr, 1) := dk_122 (dk_at dksX7_directionOf_0 17 rfl rfl)
theorem dX7_directionOf_18 : decode cX7_directionOf 18 = .ok (.iconst 1, 1) := dk_4 (dk_at dksX7_directionOf_0 18 rfl rfl)
theorem dX7_directionOf_19 : decode cX7_directionOf 19 = .ok (.iand, 1) := dk_126 (dk_at dksX7_directionOf_0 19 rfl rfl)
theorem dX7_directionOf_20 : decode cX7_directionOf 20 = .ok (.isub, 1) := dk_100 (dk_at dksX7_directionOf_0 20 rfl rfl)
theorem dX7_directionOf_21 : decode cX7_directionOf 21 = .ok (.ireturn, 1) := dk_172 (dk_at dksX7_directionOf_0 21 rfl rfl)
abbrev cX7_pause : ByteArray := prog_17_method_22_code
def yX7_pause : MethodName := ⟨RX7, "pause", "(I)I"⟩
def dkwX7_pause_1 : List UInt8 := [182, 0, 55, 172]
abbrev dktX7_pause_1 : List UInt8 := dkwX7_pause_1 ++ []
def dkwX7_pause_0 : List UInt8 := [42, 3, 181, 0, 47, 42, 27, 182, 0, 110, 153, 0, 12, 42, 180, 0, 25, 27, 46, 167, 0, 8, 42, 4]
abbrev dktX7_pause_0 : List UInt8 := dkwX7_pause_0 ++ dktX7_pause_1
theorem dksX7_pause_0 : cX7_pause.data.toList.drop 0 = dktX7_pause_0 := by decide +kernel
theorem dksX7_pause_1 : cX7_pause.data.toList.drop 24 = dktX7_pause_1 := dk_seg dksX7_pause_0 24 rfl rfl
theorem dX7_pause_0 : decode cX7_pause 0 = .ok (.aload_n 0, 1) := dk_42 (dk_at dksX7_pause_0 0 rfl rfl)
theorem dX7_pause_1 : decode cX7_pause 1 = .ok (.iconst 0, 1) := dk_3 (dk_at dksX7_pause_0 1 rfl rfl)
theorem dX7_pause_2 : decode cX7_pause 2 = .ok (.putfield 47, 3) := dk_181 0 47 (dk_at dksX7_pause_0 2 rfl rfl)
theorem dX7_pause_5 : decode cX7_pause 5 = .ok (.aload_n 0, 1) := dk_42 (dk_at dksX7_pause_0 5 rfl rfl)
theorem dX7_pause_6 : decode cX7_pause 6 = .ok (.iload_n 1, 1) := dk_27 (dk_at dksX7_pause_0 6 rfl rfl)
theorem dX7_pause_7 : decode cX7_pause 7 = .ok (.invokevirtual 110, 3) := dk_182 0 110 (dk_at dksX7_pause_0 7 rfl rfl)
theorem dX7_pause_10 : decode cX7_pause 10 = .ok (.ifCond .eq 12, 3) := dk_153 0 12 (dk_at dksX7_pause_0 10 rfl rfl)
theorem dX7_pause_13 : decode cX7_pause 13 = .ok (.aload_n 0, 1) := dk_42 (dk_at dksX7_pause_0 13 rfl rfl)
theorem dX7_pause_14 : decode cX7_pause 14 = .ok (.getfield 25, 3) := dk_180 0 25 (dk_at dksX7_pause_0 14 rfl rfl)
theorem dX7_pause_17 : decode cX7_pause 17 = .ok (.iload_n 1, 1) := dk_27 (dk_at dksX7_pause_0 17 rfl rfl)
theorem dX7_pause_18 : decode cX7_pause 18 = .ok (.iaload, 1) := dk_46 (dk_at dksX7_pause_0 18 rfl rfl)
theorem dX7_pause_19 : decode cX7_pause 19 = .ok (.goto 8, 3) := dk_167 0 8 (dk_at dksX7_pause_0 19 rfl rfl)
theorem dX7_pause_22 : decode cX7_pause 22 = .ok (.aload_n 0, 1) := dk_42 (dk_at dksX7_pause_0 22 rfl rfl)
theorem dX7_pause_23 : decode cX7_pause 23 = .ok (.iconst 1, 1) := dk_4 (dk_at dksX7_pause_0 23 rfl rfl)
theorem dX7_pause_24 : decode cX7_pause 24 = .ok (.invokevirtual 55, 3) := dk_182 0 55 (dk_at dksX7_pause_1 0 rfl rfl)
theorem dX7_pause_27 : decode cX7_pause 27 = .ok (.ireturn, 1) := dk_172 (dk_at dksX7_pause_1 3 rfl rfl)
abbrev cX7_clashes : ByteArray := prog_17_method_26_code
def yX7_clashes : MethodName := ⟨RX7, "clashes", "()I"⟩
def dkwX7_clashes_2 : List UInt8 := [4, 167, 0, 4, 3, 96, 60, 132, 3, 1, 167, 255, 230, 132, 2, 1, 167, 255, 214, 27, 172]
abbrev dktX7_clashes_2 : List UInt8 := dkwX7_clashes_2 ++ []
def dkwX7_clashes_1 : List UInt8 := [180, 0, 104, 162, 0, 40, 3, 62, 29, 16, 6, 162, 0, 26, 27, 42, 28, 29, 182, 0, 123, 155, 0, 7]
abbrev dktX7_clashes_1 : List UInt8 := dkwX7_clashes_1 ++ dktX7_clashes_2
def dkwX7_clashes_0 : List UInt8 := [42, 3, 181, 0, 47, 42, 180, 0, 104, 154, 0, 9, 42, 4, 182, 0, 55, 172, 3, 60, 3, 61, 28, 42]
abbrev dktX7_clashes_0 : List UInt8 := dkwX7_clashes_0 ++ dktX7_clashes_1
theorem dksX7_clashes_0 : cX7_clashes.data.toList.drop 0 = dktX7_clashes_0 := by decide +kernel
theorem dksX7_clashes_1 : cX7_clashes.data.toList.drop 24 = dktX7_clashes_1 := dk_seg dksX7_clashes_0 24 rfl rfl
theorem dksX7_clashes_2 : cX7_clashes.data.toList.drop 48 = dktX7_clashes_2 := dk_seg dksX7_clashes_1 24 rfl rfl
theorem dX7_clashes_0 : decode cX7_clashes 0 = .ok (.aload_n 0, 1) := dk_42 (dk_at dksX7_clashes_0 0 rfl rfl)
theorem dX7_clashes_1 : decode cX7_clashes 1 = .ok (.iconst 0, 1) := dk_3 (dk_at dksX7_clashes_0 1 rfl rfl)
theorem dX7_clashes_2 : decode cX7_clashes 2 = .ok (.putfield 47, 3) := dk_181 0 47 (dk_at dksX7_clashes_0 2 rfl rfl)
theorem dX7_clashes_5 : decode cX7_clashes 5 = .ok (.aload_n 0, 1) := dk_42 (dk_at dksX7_clashes_0 5 rfl rfl)
theorem dX7_clashes_6 : decode cX7_clashes 6 = .ok (.getfield 104, 3) := dk_180 0 104 (dk_at dksX7_clashes_0 6 rfl rfl)
theorem dX7_clashes_9 : decode cX7_clashes 9 = .ok (.ifCond .ne 9, 3) := dk_154 0 9 (dk_at dksX7_clashes_0 9 rfl rfl)
theorem dX7_clashes_12 : decode cX7_clashes 12 = .ok (.aload_n 0, 1) := dk_42 (dk_at dksX7_clashes_0 12 rfl rfl)
theorem dX7_clashes_13 : decode cX7_clashes 13 = .ok (.iconst 1, 1) := dk_4 (dk_at dksX7_clashes_0 13 rfl rfl)
theorem dX7_clashes_14 : decode cX7_clashes 14 = .ok (.invokevirtual 55, 3) := dk_182 0 55 (dk_at dksX7_clashes_0 14 rfl rfl)
theorem dX7_clashes_17 : decode cX7_clashes 17 = .ok (.ireturn, 1) := dk_172 (dk_at dksX7_clashes_0 17 rfl rfl)
theorem dX7_clashes_18 : decode cX7_clashes 18 = .ok (.iconst 0, 1) := dk_3 (dk_at dksX7_clashes_0 18 rfl rfl)
theorem dX7_clashes_19 : decode cX7_clashes 19 = .ok (.istore_n 1, 1) := dk_60 (dk_at dksX7_clashes_0 19 rfl rfl)
theorem dX7_clashes_20 : decode cX7_clashes 20 = .ok (.iconst 0, 1) := dk_3 (dk_at dksX7_clashes_0 20 rfl rfl)
theorem dX7_clashes_21 : decode cX7_clashes 21 = .ok (.istore_n 2, 1) := dk_61 (dk_at dksX7_clashes_0 21 rfl rfl)
theorem dX7_clashes_22 : decode cX7_clashes 22 = .ok (.iload_n 2, 1) := dk_28 (dk_at dksX7_clashes_0 22 rfl rfl)
theorem dX7_clashes_23 : decode cX7_clashes 23 = .ok (.aload_n 0, 1) := dk_42 (dk_at dksX7_clashes_0 23 rfl rfl)
theorem dX7_clashes_24 : decode cX7_clashes 24 = .ok (.getfield 104, 3) := dk_180 0 104 (dk_at dksX7_clashes_1 0 rfl rfl)
theorem dX7_clashes_27 : decode cX7_clashes 27 = .ok (.if_icmp .ge 40, 3) := dk_162 0 40 (dk_at dksX7_clashes_1 3 rfl rfl)
theorem dX7_clashes_30 : decode cX7_clashes 30 = .ok (.iconst 0, 1) := dk_3 (dk_at dksX7_clashes_1 6 rfl rfl)
theorem dX7_clashes_31 : decode cX7_clashes 31 = .ok (.istore_n 3, 1) := dk_62 (dk_at dksX7_clashes_1 7 rfl rfl)
theorem dX7_clashes_32 : decode cX7_clashes 32 = .ok (.iload_n 3, 1) := dk_29 (dk_at dksX7_clashes_1 8 rfl rfl)
theorem dX7_clashes_33 : decode cX7_clashes 33 = .ok (.bipush 6, 2) := dk_16 6 (dk_at dksX7_clashes_1 9 rfl rfl)
theorem dX7_clashes_35 : decode cX7_clashes 35 = .ok (.if_icmp .ge 26, 3) := dk_162 0 26 (dk_at dksX7_clashes_1 11 rfl rfl)
theorem dX7_clashes_38 : decode cX7_clashes 38 = .ok (.iload_n 1, 1) := dk_27 (dk_at dksX7_clashes_1 14 rfl rfl)
theorem dX7_clashes_39 : decode cX7_clashes 39 = .ok (.aload_n 0, 1) := dk_42 (dk_at dksX7_clashes_1 15 rfl rfl)
theorem dX7_clashes_40 : decode cX7_clashes 40 = .ok (.iload_n 2, 1) := dk_28 (dk_at dksX7_clashes_1 16 rfl rfl)
theorem dX7_clashes_41 : decode cX7_clashes 41 = .ok (.iload_n 3, 1) := dk_29 (dk_at dksX7_clashes_1 17 rfl rfl)
theorem dX7_clashes_42 : decode cX7_clashes 42 = .ok (.invokevirtual 123, 3) := dk_182 0 123 (dk_at dksX7_clashes_1 18 rfl rfl)
theorem dX7_clashes_45 : decode cX7_clashes 45 = .ok (.ifCond .lt 7, 3) := dk_155 0 7 (dk_at dksX7_clashes_1 21 rfl rfl)
theorem dX7_clashes_48 : decode cX7_clashes 48 = .ok (.iconst 1, 1) := dk_4 (dk_at dksX7_clashes_2 0 rfl rfl)
theorem dX7_clashes_49 : decode cX7_clashes 49 = .ok (.goto 4, 3) := dk_167 0 4 (dk_at dksX7_clashes_2 1 rfl rfl)
theorem dX7_clashes_52 : decode cX7_clashes 52 = .ok (.iconst 0, 1) := dk_3 (dk_at dksX7_clashes_2 4 rfl rfl)
theorem dX7_clashes_53 : decode cX7_clashes 53 = .ok (.iadd, 1) := dk_96 (dk_at dksX7_clashes_2 5 rfl rfl)
theorem dX7_clashes_54 : decode cX7_clashes 54 = .ok (.istore_n 1, 1) := dk_60 (dk_at dksX7_clashes_2 6 rfl rfl)
theorem dX7_clashes_55 : decode cX7_clashes 55 = .ok (.iinc 3 1, 3) := dk_132 3 1 (dk_at dksX7_clashes_2 7 rfl rfl)
theorem dX7_clashes_58 : decode cX7_clashes 58 = .ok (.goto (-26), 3) := dk_167 255 230 (dk_at dksX7_clashes_2 10 rfl rfl)
theorem dX7_clashes_61 : decode cX7_clashes 61 = .ok (.iinc 2 1, 3) := dk_132 2 1 (dk_at dksX7_clashes_2 13 rfl rfl)
theorem dX7_clashes_64 : decode cX7_clashes 64 = .ok (.goto (-42), 3) := dk_167 255 214 (dk_at dksX7_clashes_2 16 rfl rfl)
theorem dX7_clashes_67 : decode cX7_clashes 67 = .ok (.iload_n 1, 1) := dk_27 (dk_at dksX7_clashes_2 19 rfl rfl)
theorem dX7_clashes_68 : decode cX7_clashes 68 = .ok (.ireturn, 1) := dk_172 (dk_at dksX7_clashes_2 20 rfl rfl)
abbrev cX7_clashOf : ByteArray := prog_17_method_25_code
def yX7_clashOf : MethodName := ⟨RX7, "clashOf", "(II)I"⟩
def dkwX7_clashOf_4 : List UInt8 := [153, 0, 11, 21, 6, 153, 0, 6, 21, 4, 172, 132, 4, 1, 167, 255, 159, 2, 172]
abbrev dktX7_clashOf_4 : List UInt8 := dkwX7_clashOf_4 ++ []
def dkwX7_clashOf_3 : List UInt8 := [21, 4, 28, 182, 0, 113, 42, 27, 28, 182, 0, 113, 116, 160, 0, 20, 42, 27, 28, 182, 0, 113]
abbrev dktX7_clashOf_3 : List UInt8 := dkwX7_clashOf_3 ++ dktX7_clashOf_4
def dkwX7_clashOf_2 : List UInt8 := [154, 0, 19, 42, 180, 0, 22, 21, 5, 46, 29, 126, 154, 0, 7, 4, 167, 0, 4, 3, 54, 6, 42]
abbrev dktX7_clashOf_2 : List UInt8 := dkwX7_clashOf_2 ++ dktX7_clashOf_3
def dkwX7_clashOf_1 : List UInt8 := [54, 5, 42, 180, 0, 25, 21, 5, 46, 154, 0, 33, 42, 180, 0, 19, 21, 5, 46, 29, 2, 130, 126]
abbrev dktX7_clashOf_1 : List UInt8 := dkwX7_clashOf_1 ++ dktX7_clashOf_2
def dkwX7_clashOf_0 : List UInt8 := [42, 27, 182, 0, 117, 62, 3, 54, 4, 21, 4, 42, 180, 0, 104, 162, 0, 94, 42, 21, 4, 182, 0, 120]
abbrev dktX7_clashOf_0 : List UInt8 := dkwX7_clashOf_0 ++ dktX7_clashOf_1
theorem dksX7_clashOf_0 : cX7_clashOf.data.toList.drop 0 = dktX7_clashOf_0 := by decide +kernel
theorem dksX7_clashOf_1 : cX7_clashOf.data.toList.drop 24 = dktX7_clashOf_1 := dk_seg dksX7_clashOf_0 24 rfl rfl
theorem dksX7_clashOf_2 : cX7_clashOf.data.toList.drop 47 = dktX7_clashOf_2 := dk_seg dksX7_clashOf_1 23 rfl rfl
theorem dksX7_clashOf_3 : cX7_clashOf.data.toList.drop 70 = dktX7_clashOf_3 := dk_seg dksX7_clashOf_2 23 rfl rfl
theorem dksX7_clashOf_4 : cX7_clashOf.data.toList.drop 92 = dktX7_clashOf_4 := dk_seg dksX7_clashOf_3 22 rfl rfl
theorem dX7_clashOf_0 : decode cX7_clashOf 0 = .ok (.aload_n 0, 1) := dk_42 (dk_at dksX7_clashOf_0 0 rfl rfl)
theorem dX7_clashOf_1 : decode cX7_clashOf 1 = .ok (.iload_n 1, 1) := dk_27 (dk_at dksX7_clashOf_0 1 rfl rfl)
theorem dX7_clashOf_2 : decode cX7_clashOf 2 = .ok (.invokevirtual 117, 3) := dk_182 0 117 (dk_at dksX7_clashOf_0 2 rfl rfl)
theorem dX7_clashOf_5 : decode cX7_clashOf 5 = .ok (.istore_n 3, 1) := dk_62 (dk_at dksX7_clashOf_0 5 rfl rfl)
theorem dX7_clashOf_6 : decode cX7_clashOf 6 = .ok (.iconst 0, 1) := dk_3 (dk_at dksX7_clashOf_0 6 rfl rfl)
theorem dX7_clashOf_7 : decode cX7_clashOf 7 = .ok (.istore 4, 2) := dk_54 4 (dk_at dksX7_clashOf_0 7 rfl rfl)
theorem dX7_clashOf_9 : decode cX7_clashOf 9 = .ok (.iload 4, 2) := dk_21 4 (dk_at dksX7_clashOf_0 9 rfl rfl)
theorem dX7_clashOf_11 : decode cX7_clashOf 11 = .ok (.aload_n 0, 1) := dk_42 (dk_at dksX7_clashOf_0 11 rfl rfl)
theorem dX7_clashOf_12 : decode cX7_clashOf 12 = .ok (.getfield 104, 3) := dk_180 0 104 (dk_at dksX7_clashOf_0 12 rfl rfl)
theorem dX7_clashOf_15 : decode cX7_clashOf 15 = .ok (.if_icmp .ge 94, 3) := dk_162 0 94 (dk_at dksX7_clashOf_0 15 rfl rfl)
theorem dX7_clashOf_18 : decode cX7_clashOf 18 = .ok (.aload_n 0, 1) := dk_42 (dk_at dksX7_clashOf_0 18 rfl rfl)
theorem dX7_clashOf_19 : decode cX7_clashOf 19 = .ok (.iload 4, 2) := dk_21 4 (dk_at dksX7_clashOf_0 19 rfl rfl)
theorem dX7_clashOf_21 : decode cX7_clashOf 21 = .ok (.invokevirtual 120, 3) := dk_182 0 120 (dk_at dksX7_clashOf_0 21 rfl rfl)
theorem dX7_clashOf_24 : decode cX7_clashOf 24 = .ok (.istore 5, 2) := dk_54 5 (dk_at dksX7_clashOf_1 0 rfl rfl)
theorem dX7_clashOf_26 : decode cX7_clashOf 26 = .ok (.aload_n 0, 1) := dk_42 (dk_at dksX7_clashOf_1 2 rfl rfl)
theorem dX7_clashOf_27 : decode cX7_clashOf 27 = .ok (.getfield 25, 3) := dk_180 0 25 (dk_at dksX7_clashOf_1 3 rfl rfl)
theorem dX7_clashOf_30 : decode cX7_clashOf 30 = .ok (.iload 5, 2) := dk_21 5 (dk_at dksX7_clashOf_1 6 rfl rfl)
theorem dX7_clashOf_32 : decode cX7_clashOf 32 = .ok (.iaload, 1) := dk_46 (dk_at dksX7_clashOf_1 8 rfl rfl)
theorem dX7_clashOf_33 : decode cX7_clashOf 33 = .ok (.ifCond .ne 33, 3) := dk_154 0 33 (dk_at dksX7_clashOf_1 9 rfl rfl)
theorem dX7_clashOf_36 : decode cX7_clashOf 36 = .ok (.aload_n 0, 1) := dk_42 (dk_at dksX7_clashOf_1 12 rfl rfl)
theorem dX7_clashOf_37 : decode cX7_clashOf 37 = .ok (.getfield 19, 3) := dk_180 0 19 (dk_at dksX7_clashOf_1 13 rfl rfl)
theorem dX7_clashOf_40 : decode cX7_clashOf 40 = .ok (.iload 5, 2) := dk_21 5 (dk_at dksX7_clashOf_1 16 rfl rfl)
theorem dX7_clashOf_42 : decode cX7_clashOf 42 = .ok (.iaload, 1) := dk_46 (dk_at dksX7_clashOf_1 18 rfl rfl)
theorem dX7_clashOf_43 : decode cX7_clashOf 43 = .ok (.iload_n 3, 1) := dk_29 (dk_at dksX7_clashOf_1 19 rfl rfl)
theorem dX7_clashOf_44 : decode cX7_clashOf 44 = .ok (.iconst (-1), 1) := dk_2 (dk_at dksX7_clashOf_1 20 rfl rfl)
theorem dX7_clashOf_45 : decode cX7_clashOf 45 = .ok (.ixor, 1) := dk_130 (dk_at dksX7_clashOf_1 21 rfl rfl)
theorem dX7_clashOf_46 : decode cX7_clashOf 46 = .ok (.iand, 1) := dk_126 (dk_at dksX7_clashOf_1 22 rfl rfl)
theorem dX7_clashOf_47 : decode cX7_clashOf 47 = .ok (.ifCond .ne 19, 3) := dk_154 0 19 (dk_at dksX7_clashOf_2 0 rfl rfl)
theorem dX7_clashOf_50 : decode cX7_clashOf 50 = .ok (.aload_n 0, 1) := dk_42 (dk_at dksX7_clashOf_2 3 rfl rfl)
theorem dX7_clashOf_51 : decode cX7_clashOf 51 = .ok (.getfield 22, 3) := dk_180 0 22 (dk_at dksX7_clashOf_2 4 rfl rfl)
theorem dX7_clashOf_54 : decode cX7_clashOf 54 = .ok (.iload 5, 2) := dk_21 5 (dk_at dksX7_clashOf_2 7 rfl rfl)
theorem dX7_clashOf_56 : decode cX7_clashOf 56 = .ok (.iaload, 1) := dk_46 (dk_at dksX7_clashOf_2 9 rfl rfl)
theorem dX7_clashOf_57 : decode cX7_clashOf 57 = .ok (.iload_n 3, 1) := dk_29 (dk_at dksX7_clashOf_2 10 rfl rfl)
theorem dX7_clashOf_58 : decode cX7_clashOf 58 = .ok (.iand, 1) := dk_126 (dk_at dksX7_clashOf_2 11 rfl rfl)
theorem dX7_clashOf_59 : decode cX7_clashOf 59 = .ok (.ifCond .ne 7, 3) := dk_154 0 7 (dk_at dksX7_clashOf_2 12 rfl rfl)
theorem dX7_clashOf_62 : decode cX7_clashOf 62 = .ok (.iconst 1, 1) := dk_4 (dk_at dksX7_clashOf_2 15 rfl rfl)
theorem dX7_clashOf_63 : decode cX7_clashOf 63 = .ok (.goto 4, 3) := dk_167 0 4 (dk_at dksX7_clashOf_2 16 rfl rfl)
theorem dX7_clashOf_66 : decode cX7_clashOf 66 = .ok (.iconst 0, 1) := dk_3 (dk_at dksX7_clashOf_2 19 rfl rfl)
theorem dX7_clashOf_67 : decode cX7_clashOf 67 = .ok (.istore 6, 2) := dk_54 6 (dk_at dksX7_clashOf_2 20 rfl rfl)
theorem dX7_clashOf_69 : decode cX7_clashOf 69 = .ok (.aload_n 0, 1) := dk_42 (dk_at dksX7_clashOf_2 22 rfl rfl)
theorem dX7_clashOf_70 : decode cX7_clashOf 70 = .ok (.iload 4, 2) := dk_21 4 (dk_at dksX7_clashOf_3 0 rfl rfl)
theorem dX7_clashOf_72 : decode cX7_clashOf 72 = .ok (.iload_n 2, 1) := dk_28 (dk_at dksX7_clashOf_3 2 rfl rfl)
theorem dX7_clashOf_73 : decode cX7_clashOf 73 = .ok (.invokevirtual 113, 3) := dk_182 0 113 (dk_at dksX7_clashOf_3 3 rfl rfl)
theorem dX7_clashOf_76 : decode cX7_clashOf 76 = .ok (.aload_n 0, 1) := dk_42 (dk_at dksX7_clashOf_3 6 rfl rfl)
theorem dX7_clashOf_77 : decode cX7_clashOf 77 = .ok (.iload_n 1, 1) := dk_27 (dk_at dksX7_clashOf_3 7 rfl rfl)
theorem dX7_clashOf_78 : decode cX7_clashOf 78 = .ok (.iload_n 2, 1) := dk_28 (dk_at dksX7_clashOf_3 8 rfl rfl)
theorem dX7_clashOf_79 : decode cX7_clashOf 79 = .ok (.invokevirtual 113, 3) := dk_182 0 113 (dk_at dksX7_clashOf_3 9 rfl rfl)
theorem dX7_clashOf_82 : decode cX7_clashOf 82 = .ok (.ineg, 1) := dk_116 (dk_at dksX7_clashOf_3 12 rfl rfl)
theorem dX7_clashOf_83 : decode cX7_clashOf 83 = .ok (.if_icmp .ne 20, 3) := dk_160 0 20 (dk_at dksX7_clashOf_3 13 rfl rfl)
theorem dX7_clashOf_86 : decode cX7_clashOf 86 = .ok (.aload_n 0, 1) := dk_42 (dk_at dksX7_clashOf_3 16 rfl rfl)
theorem dX7_clashOf_87 : decode cX7_clashOf 87 = .ok (.iload_n 1, 1) := dk_27 (dk_at dksX7_clashOf_3 17 rfl rfl)
theorem dX7_clashOf_88 : decode cX7_clashOf 88 = .ok (.iload_n 2, 1) := dk_28 (dk_at dksX7_clashOf_3 18 rfl rfl)
theorem dX7_clashOf_89 : decode cX7_clashOf 89 = .ok (.invokevirtual 113, 3) := dk_182 0 113 (dk_at dksX7_clashOf_3 19 rfl rfl)
theorem dX7_clashOf_92 : decode cX7_clashOf 92 = .ok (.ifCond .eq 11, 3) := dk_153 0 11 (dk_at dksX7_clashOf_4 0 rfl rfl)
theorem dX7_clashOf_95 : decode cX7_clashOf 95 = .ok (.iload 6, 2) := dk_21 6 (dk_at dksX7_clashOf_4 3 rfl rfl)
theorem dX7_clashOf_97 : decode cX7_clashOf 97 = .ok (.ifCond .eq 6, 3) := dk_153 0 6 (dk_at dksX7_clashOf_4 5 rfl rfl)
theorem dX7_clashOf_100 : decode cX7_clashOf 100 = .ok (.iload 4, 2) := dk_21 4 (dk_at dksX7_clashOf_4 8 rfl rfl)
theorem dX7_clashOf_102 : decode cX7_clashOf 102 = .ok (.ireturn, 1) := dk_172 (dk_at dksX7_clashOf_4 10 rfl rfl)
theorem dX7_clashOf_103 : decode cX7_clashOf 103 = .ok (.iinc 4 1, 3) := dk_132 4 1 (dk_at dksX7_clashOf_4 11 rfl rfl)
theorem dX7_clashOf_106 : decode cX7_clashOf 106 = .ok (.goto (-97), 3) := dk_167 255 159 (dk_at dksX7_clashOf_4 14 rfl rfl)
theorem dX7_clashOf_109 : decode cX7_clashOf 109 = .ok (.iconst (-1), 1) := dk_2 (dk_at dksX7_clashOf_4 17 rfl rfl)
theorem dX7_clashOf_110 : decode cX7_clashOf 110 = .ok (.ireturn, 1) := dk_172 (dk_at dksX7_clashOf_4 18 rfl rfl)
abbrev cX7_outBehind : ByteArray := prog_17_method_24_code
def yX7_outBehind : MethodName := ⟨RX7, "outBehind", "(I)I"⟩
def dkwX7_outBehind_1 : List UInt8 := [130, 126, 61, 132, 3, 1, 167, 255, 230, 28, 172]
abbrev dktX7_outBehind_1 : List UInt8 := dkwX7_outBehind_1 ++ []
def dkwX7_outBehind_0 : List UInt8 := [3, 61, 3, 62, 29, 27, 162, 0, 27, 28, 42, 180, 0, 19, 29, 46, 128, 42, 180, 0, 22, 29, 46, 2]
abbrev dktX7_outBehind_0 : List UInt8 := dkwX7_outBehind_0 ++ dktX7_outBehind_1
theorem dksX7_outBehind_0 : cX7_outBehind.data.toList.drop 0 = dktX7_outBehind_0 := by decide +kernel
theorem dksX7_outBehind_1 : cX7_outBehind.data.toList.drop 24 = dktX7_outBehind_1 := dk_seg dksX7_outBehind_0 24 rfl rfl
theorem dX7_outBehind_0 : decode cX7_outBehind 0 = .ok (.iconst 0, 1) := dk_3 (dk_at dksX7_outBehind_0 0 rfl rfl)
theorem dX7_outBehind_1 : decode cX7_outBehind 1 = .ok (.istore_n 2, 1) := dk_61 (dk_at dksX7_outBehind_0 1 rfl rfl)
theorem dX7_outBehind_2 : decode cX7_outBehind 2 = .ok (.iconst 0, 1) := dk_3 (dk_at dksX7_outBehind_0 2 rfl rfl)
theorem dX7_outBehind_3 : decode cX7_outBehind 3 = .ok (.istore_n 3, 1) := dk_62 (dk_at dksX7_outBehind_0 3 rfl rfl)
theorem dX7_outBehind_4 : decode cX7_outBehind 4 = .ok (.iload_n 3, 1) := dk_29 (dk_at dksX7_outBehind_0 4 rfl rfl)
theorem dX7_outBehind_5 : decode cX7_outBehind 5 = .ok (.iload_n 1, 1) := dk_27 (dk_at dksX7_outBehind_0 5 rfl rfl)
theorem dX7_outBehind_6 : decode cX7_outBehind 6 = .ok (.if_icmp .ge 27, 3) := dk_162 0 27 (dk_at dksX7_outBehind_0 6 rfl rfl)
theorem dX7_outBehind_9 : decode cX7_outBehind 9 = .ok (.iload_n 2, 1) := dk_28 (dk_at dksX7_outBehind_0 9 rfl rfl)
theorem dX7_outBehind_10 : decode cX7_outBehind 10 = .ok (.aload_n 0, 1) := dk_42 (dk_at dksX7_outBehind_0 10 rfl rfl)
theorem dX7_outBehind_11 : decode cX7_outBehind 11 = .ok (.getfield 19, 3) := dk_180 0 19 (dk_at dksX7_outBehind_0 11 rfl rfl)
theorem dX7_outBehind_14 : decode cX7_outBehind 14 = .ok (.iload_n 3, 1) := dk_29 (dk_at dksX7_outBehind_0 14 rfl rfl)
theorem dX7_outBehind_15 : decode cX7_outBehind 15 = .ok (.iaload, 1) := dk_46 (dk_at dksX7_outBehind_0 15 rfl rfl)
theorem dX7_outBehind_16 : decode cX7_outBehind 16 = .ok (.ior, 1) := dk_128 (dk_at dksX7_outBehind_0 16 rfl rfl)
theorem dX7_outBehind_17 : decode cX7_outBehind 17 = .ok (.aload_n 0, 1) := dk_42 (dk_at dksX7_outBehind_0 17 rfl rfl)
theorem dX7_outBehind_18 : decode cX7_outBehind 18 = .ok (.getfield 22, 3) := dk_180 0 22 (dk_at dksX7_outBehind_0 18 rfl rfl)
theorem dX7_outBehind_21 : decode cX7_outBehind 21 = .ok (.iload_n 3, 1) := dk_29 (dk_at dksX7_outBehind_0 21 rfl rfl)
theorem dX7_outBehind_22 : decode cX7_outBehind 22 = .ok (.iaload, 1) := dk_46 (dk_at dksX7_outBehind_0 22 rfl rfl)
theorem dX7_outBehind_23 : decode cX7_outBehind 23 = .ok (.iconst (-1), 1) := dk_2 (dk_at dksX7_outBehind_0 23 rfl rfl)
theorem dX7_outBehind_24 : decode cX7_outBehind 24 = .ok (.ixor, 1) := dk_130 (dk_at dksX7_outBehind_1 0 rfl rfl)
theorem dX7_outBehind_25 : decode cX7_outBehind 25 = .ok (.iand, 1) := dk_126 (dk_at dksX7_outBehind_1 1 rfl rfl)
theorem dX7_outBehind_26 : decode cX7_outBehind 26 = .ok (.istore_n 2, 1) := dk_61 (dk_at dksX7_outBehind_1 2 rfl rfl)
theorem dX7_outBehind_27 : decode cX7_outBehind 27 = .ok (.iinc 3 1, 3) := dk_132 3 1 (dk_at dksX7_outBehind_1 3 rfl rfl)
theorem dX7_outBehind_30 : decode cX7_outBehind 30 = .ok (.goto (-26), 3) := dk_167 255 230 (dk_at dksX7_outBehind_1 6 rfl rfl)
theorem dX7_outBehind_33 : decode cX7_outBehind 33 = .ok (.iload_n 2, 1) := dk_28 (dk_at dksX7_outBehind_1 9 rfl rfl)
theorem dX7_outBehind_34 : decode cX7_outBehind 34 = .ok (.ireturn, 1) := dk_172 (dk_at dksX7_outBehind_1 10 rfl rfl)
abbrev cX7_before : ByteArray := prog_17_method_23_code
def yX7_before : MethodName := ⟨RX7, "before", "(I)I"⟩
def dkwX7_before_0 : List UInt8 := [27, 154, 0, 12, 42, 180, 0, 104, 4, 100, 167, 0, 6, 27, 4, 100, 172]
abbrev dktX7_before_0 : List UInt8 := dkwX7_before_0 ++ []
theorem dksX7_before_0 : cX7_before.data.toList.drop 0 = dktX7_before_0 := by decide +kernel
theorem dX7_before_0 : decode cX7_before 0 = .ok (.iload_n 1, 1) := dk_27 (dk_at dksX7_before_0 0 rfl rfl)
theorem dX7_before_1 : decode cX7_before 1 = .ok (.ifCond .ne 12, 3) := dk_154 0 12 (dk_at dksX7_before_0 1 rfl rfl)
theorem dX7_before_4 : decode cX7_before 4 = .ok (.aload_n 0, 1) := dk_42 (dk_at dksX7_before_0 4 rfl rfl)
theorem dX7_before_5 : decode cX7_before 5 = .ok (.getfield 104, 3) := dk_180 0 104 (dk_at dksX7_before_0 5 rfl rfl)
theorem dX7_before_8 : decode cX7_before 8 = .ok (.iconst 1, 1) := dk_4 (dk_at dksX7_before_0 8 rfl rfl)
theorem dX7_before_9 : decode cX7_before 9 = .ok (.isub, 1) := dk_100 (dk_at dksX7_before_0 9 rfl rfl)
theorem dX7_before_10 : decode cX7_before 10 = .ok (.goto 6, 3) := dk_167 0 6 (dk_at dksX7_before_0 10 rfl rfl)
theorem dX7_before_13 : decode cX7_before 13 = .ok (.iload_n 1, 1) := dk_27 (dk_at dksX7_before_0 13 rfl rfl)
theorem dX7_before_14 : decode cX7_before 14 = .ok (.iconst 1, 1) := dk_4 (dk_at dksX7_before_0 14 rfl rfl)
theorem dX7_before_15 : decode cX7_before 15 = .ok (.isub, 1) := dk_100 (dk_at dksX7_before_0 15 rfl rfl)
theorem dX7_before_16 : decode cX7_before 16 = .ok (.ireturn, 1) := dk_172 (dk_at dksX7_before_0 16 rfl rfl)
abbrev cX7_clash : ByteArray := prog_17_method_27_code
def yX7_clash : MethodName := ⟨RX7, "clash", "(II)I"⟩
def dkwX7_clash_1 : List UInt8 := [28, 182, 0, 123, 167, 0, 8, 42, 4, 182, 0, 55, 172]
abbrev dktX7_clash_1 : List UInt8 := dkwX7_clash_1 ++ []
def dkwX7_clash_0 : List UInt8 := [42, 3, 181, 0, 47, 42, 27, 182, 0, 110, 153, 0, 21, 28, 3, 8, 184, 0, 51, 153, 0, 12, 42, 27]
abbrev dktX7_clash_0 : List UInt8 := dkwX7_clash_0 ++ dktX7_clash_1
theorem dksX7_clash_0 : cX7_clash.data.toList.drop 0 = dktX7_clash_0 := by decide +kernel
theorem dksX7_clash_1 : cX7_clash.data.toList.drop 24 = dktX7_clash_1 := dk_seg dksX7_clash_0 24 rfl rfl
theorem dX7_clash_0 : decode cX7_clash 0 = .ok (.aload_n 0, 1) := dk_42 (dk_at dksX7_clash_0 0 rfl rfl)
theorem dX7_clash_1 : decode cX7_clash 1 = .ok (.iconst 0, 1) := dk_3 (dk_at dksX7_clash_0 1 rfl rfl)
theorem dX7_clash_2 : decode cX7_clash 2 = .ok (.putfield 47, 3) := dk_181 0 47 (dk_at dksX7_clash_0 2 rfl rfl)
theorem dX7_clash_5 : decode cX7_clash 5 = .ok (.aload_n 0, 1) := dk_42 (dk_at dksX7_clash_0 5 rfl rfl)
theorem dX7_clash_6 : decode cX7_clash 6 = .ok (.iload_n 1, 1) := dk_27 (dk_at dksX7_clash_0 6 rfl rfl)
theorem dX7_clash_7 : decode cX7_clash 7 = .ok (.invokevirtual 110, 3) := dk_182 0 110 (dk_at dksX7_clash_0 7 rfl rfl)
theorem dX7_clash_10 : decode cX7_clash 10 = .ok (.ifCond .eq 21, 3) := dk_153 0 21 (dk_at dksX7_clash_0 10 rfl rfl)
theorem dX7_clash_13 : decode cX7_clash 13 = .ok (.iload_n 2, 1) := dk_28 (dk_at dksX7_clash_0 13 rfl rfl)
theorem dX7_clash_14 : decode cX7_clash 14 = .ok (.iconst 0, 1) := dk_3 (dk_at dksX7_clash_0 14 rfl rfl)
theorem dX7_clash_15 : decode cX7_clash 15 = .ok (.iconst 5, 1) := dk_8 (dk_at dksX7_clash_0 15 rfl rfl)
theorem dX7_clash_16 : decode cX7_clash 16 = .ok (.invokestatic 51, 3) := dk_184 0 51 (dk_at dksX7_clash_0 16 rfl rfl)
theorem dX7_clash_19 : decode cX7_clash 19 = .ok (.ifCond .eq 12, 3) := dk_153 0 12 (dk_at dksX7_clash_0 19 rfl rfl)
theorem dX7_clash_22 : decode cX7_clash 22 = .ok (.aload_n 0, 1) := dk_42 (dk_at dksX7_clash_0 22 rfl rfl)
theorem dX7_clash_23 : decode cX7_clash 23 = .ok (.iload_n 1, 1) := dk_27 (dk_at dksX7_clash_0 23 rfl rfl)
theorem dX7_clash_24 : decode cX7_clash 24 = .ok (.iload_n 2, 1) := dk_28 (dk_at dksX7_clash_1 0 rfl rfl)
theorem dX7_clash_25 : decode cX7_clash 25 = .ok (.invokevirtual 123, 3) := dk_182 0 123 (dk_at dksX7_clash_1 1 rfl rfl)
theorem dX7_clash_28 : decode cX7_clash 28 = .ok (.goto 8, 3) := dk_167 0 8 (dk_at dksX7_clash_1 4 rfl rfl)
theorem dX7_clash_31 : decode cX7_clash 31 = .ok (.aload_n 0, 1) := dk_42 (dk_at dksX7_clash_1 7 rfl rfl)
theorem dX7_clash_32 : decode cX7_clash 32 = .ok (.iconst 1, 1) := dk_4 (dk_at dksX7_clash_1 8 rfl rfl)
theorem dX7_clash_33 : decode cX7_clash 33 = .ok (.invokevirtual 55, 3) := dk_182 0 55 (dk_at dksX7_clash_1 9 rfl rfl)
theorem dX7_clash_36 : decode cX7_clash 36 = .ok (.ireturn, 1) := dk_172 (dk_at dksX7_clash_1 12 rfl rfl)
abbrev cX7_groups : ByteArray := prog_17_method_33_code
def yX7_groups : MethodName := ⟨RX7, "groups", "()I"⟩
def dkwX7_groups_1 : List UInt8 := [172]
abbrev dktX7_groups_1 : List UInt8 := dkwX7_groups_1 ++ []
def dkwX7_groups_0 : List UInt8 := [42, 3, 181, 0, 47, 42, 180, 0, 104, 154, 0, 11, 42, 4, 182, 0, 55, 167, 0, 7, 42, 180, 0, 136]
abbrev dktX7_groups_0 : List UInt8 := dkwX7_groups_0 ++ dktX7_groups_1
theorem dksX7_groups_0 : cX7_groups.data.toList.drop 0 = dktX7_groups_0 := by decide +kernel
theorem dksX7_groups_1 : cX7_groups.data.toList.drop 24 = dktX7_groups_1 := dk_seg dksX7_groups_0 24 rfl rfl
theorem dX7_groups_0 : decode cX7_groups 0 = .ok (.aload_n 0, 1) := dk_42 (dk_at dksX7_groups_0 0 rfl rfl)
theorem dX7_groups_1 : decode cX7_groups 1 = .ok (.iconst 0, 1) := dk_3 (dk_at dksX7_groups_0 1 rfl rfl)
theorem dX7_groups_2 : decode cX7_groups 2 = .ok (.putfield 47, 3) := dk_181 0 47 (dk_at dksX7_groups_0 2 rfl rfl)
theorem dX7_groups_5 : decode cX7_groups 5 = .ok (.aload_n 0, 1) := dk_42 (dk_at dksX7_groups_0 5 rfl rfl)
theorem dX7_groups_6 : decode cX7_groups 6 = .ok (.getfield 104, 3) := dk_180 0 104 (dk_at dksX7_groups_0 6 rfl rfl)
theorem dX7_groups_9 : decode cX7_groups 9 = .ok (.ifCond .ne 11, 3) := dk_154 0 11 (dk_at dksX7_groups_0 9 rfl rfl)
theorem dX7_groups_12 : decode cX7_groups 12 = .ok (.aload_n 0, 1) := dk_42 (dk_at dksX7_groups_0 12 rfl rfl)
theorem dX7_groups_13 : decode cX7_groups 13 = .ok (.iconst 1, 1) := dk_4 (dk_at dksX7_groups_0 13 rfl rfl)
theorem dX7_groups_14 : decode cX7_groups 14 = .ok (.invokevirtual 55, 3) := dk_182 0 55 (dk_at dksX7_groups_0 14 rfl rfl)
theorem dX7_groups_17 : decode cX7_groups 17 = .ok (.goto 7, 3) := dk_167 0 7 (dk_at dksX7_groups_0 17 rfl rfl)
theorem dX7_groups_20 : decode cX7_groups 20 = .ok (.aload_n 0, 1) := dk_42 (dk_at dksX7_groups_0 20 rfl rfl)
theorem dX7_groups_21 : decode cX7_groups 21 = .ok (.getfield 136, 3) := dk_180 0 136 (dk_at dksX7_groups_0 21 rfl rfl)
theorem dX7_groups_24 : decode cX7_groups 24 = .ok (.ireturn, 1) := dk_172 (dk_at dksX7_groups_1 0 rfl rfl)
abbrev cX7_cut : ByteArray := prog_17_method_34_code
def yX7_cut : MethodName := ⟨RX7, "cut", "(I)I"⟩
def dkwX7_cut_1 : List UInt8 := [153, 0, 12, 42, 180, 0, 28, 27, 46, 167, 0, 8, 42, 4, 182, 0, 55, 172]
abbrev dktX7_cut_1 : List UInt8 := dkwX7_cut_1 ++ []
def dkwX7_cut_0 : List UInt8 := [42, 3, 181, 0, 47, 42, 180, 0, 104, 158, 0, 26, 27, 3, 42, 180, 0, 136, 4, 100, 184, 0, 51]
abbrev dktX7_cut_0 : List UInt8 := dkwX7_cut_0 ++ dktX7_cut_1
theorem dksX7_cut_0 : cX7_cut.data.toList.drop 0 = dktX7_cut_0 := by decide +kernel
theorem dksX7_cut_1 : cX7_cut.data.toList.drop 23 = dktX7_cut_1 := dk_seg dksX7_cut_0 23 rfl rfl
theorem dX7_cut_0 : decode cX7_cut 0 = .ok (.aload_n 0, 1) := dk_42 (dk_at dksX7_cut_0 0 rfl rfl)
theorem dX7_cut_1 : decode cX7_cut 1 = .ok (.iconst 0, 1) := dk_3 (dk_at dksX7_cut_0 1 rfl rfl)
theorem dX7_cut_2 : decode cX7_cut 2 = .ok (.putfield 47, 3) := dk_181 0 47 (dk_at dksX7_cut_0 2 rfl rfl)
theorem dX7_cut_5 : decode cX7_cut 5 = .ok (.aload_n 0, 1) := dk_42 (dk_at dksX7_cut_0 5 rfl rfl)
theorem dX7_cut_6 : decode cX7_cut 6 = .ok (.getfield 104, 3) := dk_180 0 104 (dk_at dksX7_cut_0 6 rfl rfl)
theorem dX7_cut_9 : decode cX7_cut 9 = .ok (.ifCond .le 26, 3) := dk_158 0 26 (dk_at dksX7_cut_0 9 rfl rfl)
theorem dX7_cut_12 : decode cX7_cut 12 = .ok (.iload_n 1, 1) := dk_27 (dk_at dksX7_cut_0 12 rfl rfl)
theorem dX7_cut_13 : decode cX7_cut 13 = .ok (.iconst 0, 1) := dk_3 (dk_at dksX7_cut_0 13 rfl rfl)
theorem dX7_cut_14 : decode cX7_cut 14 = .ok (.aload_n 0, 1) := dk_42 (dk_at dksX7_cut_0 14 rfl rfl)
theorem dX7_cut_15 : decode cX7_cut 15 = .ok (.getfield 136, 3) := dk_180 0 136 (dk_at dksX7_cut_0 15 rfl rfl)
theorem dX7_cut_18 : decode cX7_cut 18 = .ok (.iconst 1, 1) := dk_4 (dk_at dksX7_cut_0 18 rfl rfl)
theorem dX7_cut_19 : decode cX7_cut 19 = .ok (.isub, 1) := dk_100 (dk_at dksX7_cut_0 19 rfl rfl)
theorem dX7_cut_20 : decode cX7_cut 20 = .ok (.invokestatic 51, 3) := dk_184 0 51 (dk_at dksX7_cut_0 20 rfl rfl)
theorem dX7_cut_23 : decode cX7_cut 23 = .ok (.ifCond .eq 12, 3) := dk_153 0 12 (dk_at dksX7_cut_1 0 rfl rfl)
theorem dX7_cut_26 : decode cX7_cut 26 = .ok (.aload_n 0, 1) := dk_42 (dk_at dksX7_cut_1 3 rfl rfl)
theorem dX7_cut_27 : decode cX7_cut 27 = .ok (.getfield 28, 3) := dk_180 0 28 (dk_at dksX7_cut_1 4 rfl rfl)
theorem dX7_cut_30 : decode cX7_cut 30 = .ok (.iload_n 1, 1) := dk_27 (dk_at dksX7_cut_1 7 rfl rfl)
theorem dX7_cut_31 : decode cX7_cut 31 = .ok (.iaload, 1) := dk_46 (dk_at dksX7_cut_1 8 rfl rfl)
theorem dX7_cut_32 : decode cX7_cut 32 = .ok (.goto 8, 3) := dk_167 0 8 (dk_at dksX7_cut_1 9 rfl rfl)
theorem dX7_cut_35 : decode cX7_cut 35 = .ok (.aload_n 0, 1) := dk_42 (dk_at dksX7_cut_1 12 rfl rfl)
theorem dX7_cut_36 : decode cX7_cut 36 = .ok (.iconst 1, 1) := dk_4 (dk_at dksX7_cut_1 13 rfl rfl)
theorem dX7_cut_37 : decode cX7_cut 37 = .ok (.invokevirtual 55, 3) := dk_182 0 55 (dk_at dksX7_cut_1 14 rfl rfl)
theorem dX7_cut_40 : decode cX7_cut 40 = .ok (.ireturn, 1) := dk_172 (dk_at dksX7_cut_1 17 rfl rfl)
abbrev cX7_groupOf : ByteArray := prog_17_method_35_code
def yX7_groupOf : MethodName := ⟨RX7, "groupOf", "(I)I"⟩
def dkwX7_groupOf_1 : List UInt8 := [182, 0, 55, 172]
abbrev dktX7_groupOf_1 : List UInt8 := dkwX7_groupOf_1 ++ []
def dkwX7_groupOf_0 : List UInt8 := [42, 3, 181, 0, 47, 42, 27, 182, 0, 110, 153, 0, 11, 42, 27, 182, 0, 139, 167, 0, 8, 42, 4]
abbrev dktX7_groupOf_0 : List UInt8 := dkwX7_groupOf_0 ++ dktX7_groupOf_1
theorem dksX7_groupOf_0 : cX7_groupOf.data.toList.drop 0 = dktX7_groupOf_0 := by decide +kernel
theorem dksX7_groupOf_1 : cX7_groupOf.data.toList.drop 23 = dktX7_groupOf_1 := dk_seg dksX7_groupOf_0 23 rfl rfl
theorem dX7_groupOf_0 : decode cX7_groupOf 0 = .ok (.aload_n 0, 1) := dk_42 (dk_at dksX7_groupOf_0 0 rfl rfl)
theorem dX7_groupOf_1 : decode cX7_groupOf 1 = .ok (.iconst 0, 1) := dk_3 (dk_at dksX7_groupOf_0 1 rfl rfl)
theorem dX7_groupOf_2 : decode cX7_groupOf 2 = .ok (.putfield 47, 3) := dk_181 0 47 (dk_at dksX7_groupOf_0 2 rfl rfl)
theorem dX7_groupOf_5 : decode cX7_groupOf 5 = .ok (.aload_n 0, 1) := dk_42 (dk_at dksX7_groupOf_0 5 rfl rfl)
theorem dX7_groupOf_6 : decode cX7_groupOf 6 = .ok (.iload_n 1, 1) := dk_27 (dk_at dksX7_groupOf_0 6 rfl rfl)
theorem dX7_groupOf_7 : decode cX7_groupOf 7 = .ok (.invokevirtual 110, 3) := dk_182 0 110 (dk_at dksX7_groupOf_0 7 rfl rfl)
theorem dX7_groupOf_10 : decode cX7_groupOf 10 = .ok (.ifCond .eq 11, 3) := dk_153 0 11 (dk_at dksX7_groupOf_0 10 rfl rfl)
theorem dX7_groupOf_13 : decode cX7_groupOf 13 = .ok (.aload_n 0, 1) := dk_42 (dk_at dksX7_groupOf_0 13 rfl rfl)
theorem dX7_groupOf_14 : decode cX7_groupOf 14 = .ok (.iload_n 1, 1) := dk_27 (dk_at dksX7_groupOf_0 14 rfl rfl)
theorem dX7_groupOf_15 : decode cX7_groupOf 15 = .ok (.invokevirtual 139, 3) := dk_182 0 139 (dk_at dksX7_groupOf_0 15 rfl rfl)
theorem dX7_groupOf_18 : decode cX7_groupOf 18 = .ok (.goto 8, 3) := dk_167 0 8 (dk_at dksX7_groupOf_0 18 rfl rfl)
theorem dX7_groupOf_21 : decode cX7_groupOf 21 = .ok (.aload_n 0, 1) := dk_42 (dk_at dksX7_groupOf_0 21 rfl rfl)
theorem dX7_groupOf_22 : decode cX7_groupOf 22 = .ok (.iconst 1, 1) := dk_4 (dk_at dksX7_groupOf_0 22 rfl rfl)
theorem dX7_groupOf_23 : decode cX7_groupOf 23 = .ok (.invokevirtual 55, 3) := dk_182 0 55 (dk_at dksX7_groupOf_1 0 rfl rfl)
theorem dX7_groupOf_26 : decode cX7_groupOf 26 = .ok (.ireturn, 1) := dk_172 (dk_at dksX7_groupOf_1 3 rfl rfl)
abbrev cX7_groupFor : ByteArray := prog_17_method_32_code
def yX7_groupFor : MethodName := ⟨RX7, "groupFor", "(I)I"⟩
def dkwX7_groupFor_1 : List UInt8 := [163, 0, 7, 29, 167, 0, 4, 28, 61, 132, 3, 1, 167, 255, 229, 28, 172]
abbrev dktX7_groupFor_1 : List UInt8 := dkwX7_groupFor_1 ++ []
def dkwX7_groupFor_0 : List UInt8 := [42, 180, 0, 136, 4, 100, 61, 3, 62, 29, 42, 180, 0, 136, 162, 0, 25, 42, 180, 0, 28, 29, 46, 27]
abbrev dktX7_groupFor_0 : List UInt8 := dkwX7_groupFor_0 ++ dktX7_groupFor_1
theorem dksX7_groupFor_0 : cX7_groupFor.data.toList.drop 0 = dktX7_groupFor_0 := by decide +kernel
theorem dksX7_groupFor_1 : cX7_groupFor.data.toList.drop 24 = dktX7_groupFor_1 := dk_seg dksX7_groupFor_0 24 rfl rfl
theorem dX7_groupFor_0 : decode cX7_groupFor 0 = .ok (.aload_n 0, 1) := dk_42 (dk_at dksX7_groupFor_0 0 rfl rfl)
theorem dX7_groupFor_1 : decode cX7_groupFor 1 = .ok (.getfield 136, 3) := dk_180 0 136 (dk_at dksX7_groupFor_0 1 rfl rfl)
theorem dX7_groupFor_4 : decode cX7_groupFor 4 = .ok (.iconst 1, 1) := dk_4 (dk_at dksX7_groupFor_0 4 rfl rfl)
theorem dX7_groupFor_5 : decode cX7_groupFor 5 = .ok (.isub, 1) := dk_100 (dk_at dksX7_groupFor_0 5 rfl rfl)
theorem dX7_groupFor_6 : decode cX7_groupFor 6 = .ok (.istore_n 2, 1) := dk_61 (dk_at dksX7_groupFor_0 6 rfl rfl)
theorem dX7_groupFor_7 : decode cX7_groupFor 7 = .ok (.iconst 0, 1) := dk_3 (dk_at dksX7_groupFor_0 7 rfl rfl)
theorem dX7_groupFor_8 : decode cX7_groupFor 8 = .ok (.istore_n 3, 1) := dk_62 (dk_at dksX7_groupFor_0 8 rfl rfl)
theorem dX7_groupFor_9 : decode cX7_groupFor 9 = .ok (.iload_n 3, 1) := dk_29 (dk_at dksX7_groupFor_0 9 rfl rfl)
theorem dX7_groupFor_10 : decode cX7_groupFor 10 = .ok (.aload_n 0, 1) := dk_42 (dk_at dksX7_groupFor_0 10 rfl rfl)
theorem dX7_groupFor_11 : decode cX7_groupFor 11 = .ok (.getfield 136, 3) := dk_180 0 136 (dk_at dksX7_groupFor_0 11 rfl rfl)
theorem dX7_groupFor_14 : decode cX7_groupFor 14 = .ok (.if_icmp .ge 25, 3) := dk_162 0 25 (dk_at dksX7_groupFor_0 14 rfl rfl)
theorem dX7_groupFor_17 : decode cX7_groupFor 17 = .ok (.aload_n 0, 1) := dk_42 (dk_at dksX7_groupFor_0 17 rfl rfl)
theorem dX7_groupFor_18 : decode cX7_groupFor 18 = .ok (.getfield 28, 3) := dk_180 0 28 (dk_at dksX7_groupFor_0 18 rfl rfl)
theorem dX7_groupFor_21 : decode cX7_groupFor 21 = .ok (.iload_n 3, 1) := dk_29 (dk_at dksX7_groupFor_0 21 rfl rfl)
theorem dX7_groupFor_22 : decode cX7_groupFor 22 = .ok (.iaload, 1) := dk_46 (dk_at dksX7_groupFor_0 22 rfl rfl)
theorem dX7_groupFor_23 : decode cX7_groupFor 23 = .ok (.iload_n 1, 1) := dk_27 (dk_at dksX7_groupFor_0 23 rfl rfl)
theorem dX7_groupFor_24 : decode cX7_groupFor 24 = .ok (.if_icmp .gt 7, 3) := dk_163 0 7 (dk_at dksX7_groupFor_1 0 rfl rfl)
theorem dX7_groupFor_27 : decode cX7_groupFor 27 = .ok (.iload_n 3, 1) := dk_29 (dk_at dksX7_groupFor_1 3 rfl rfl)
theorem dX7_groupFor_28 : decode cX7_groupFor 28 = .ok (.goto 4, 3) := dk_167 0 4 (dk_at dksX7_groupFor_1 4 rfl rfl)
theorem dX7_groupFor_31 : decode cX7_groupFor 31 = .ok (.iload_n 2, 1) := dk_28 (dk_at dksX7_groupFor_1 7 rfl rfl)
theorem dX7_groupFor_32 : decode cX7_groupFor 32 = .ok (.istore_n 2, 1) := dk_61 (dk_at dksX7_groupFor_1 8 rfl rfl)
theorem dX7_groupFor_33 : decode cX7_groupFor 33 = .ok (.iinc 3 1, 3) := dk_132 3 1 (dk_at dksX7_groupFor_1 9 rfl rfl)
theorem dX7_groupFor_36 : decode cX7_groupFor 36 = .ok (.goto (-27), 3) := dk_167 255 229 (dk_at dksX7_groupFor_1 12 rfl rfl)
theorem dX7_groupFor_39 : decode cX7_groupFor 39 = .ok (.iload_n 2, 1) := dk_28 (dk_at dksX7_groupFor_1 15 rfl rfl)
theorem dX7_groupFor_40 : decode cX7_groupFor 40 = .ok (.ireturn, 1) := dk_172 (dk_at dksX7_groupFor_1 16 rfl rfl)
abbrev cX7_valves : ByteArray := prog_17_method_38_code
def yX7_valves : MethodName := ⟨RX7, "valves", "(I)I"⟩
def dkwX7_valves_0 : List UInt8 := [42, 27, 182, 0, 142, 153, 0, 7, 3, 167, 0, 8, 42, 27, 182, 0, 145, 172]
abbrev dktX7_valves_0 : List UInt8 := dkwX7_valves_0 ++ []
theorem dksX7_valves_0 : cX7_valves.data.toList.drop 0 = dktX7_valves_0 := by decide +kernel
theorem dX7_valves_0 : decode cX7_valves 0 = .ok (.aload_n 0, 1) := dk_42 (dk_at dksX7_valves_0 0 rfl rfl)
theorem dX7_valves_1 : decode cX7_valves 1 = .ok (.iload_n 1, 1) := dk_27 (dk_at dksX7_valves_0 1 rfl rfl)
theorem dX7_valves_2 : decode cX7_valves 2 = .ok (.invokevirtual 142, 3) := dk_182 0 142 (dk_at dksX7_valves_0 2 rfl rfl)
theorem dX7_valves_5 : decode cX7_valves 5 = .ok (.ifCond .eq 7, 3) := dk_153 0 7 (dk_at dksX7_valves_0 5 rfl rfl)
theorem dX7_valves_8 : decode cX7_valves 8 = .ok (.iconst 0, 1) := dk_3 (dk_at dksX7_valves_0 8 rfl rfl)
theorem dX7_valves_9 : decode cX7_valves 9 = .ok (.goto 8, 3) := dk_167 0 8 (dk_at dksX7_valves_0 9 rfl rfl)
theorem dX7_valves_12 : decode cX7_valves 12 = .ok (.aload_n 0, 1) := dk_42 (dk_at dksX7_valves_0 12 rfl rfl)
theorem dX7_valves_13 : decode cX7_valves 13 = .ok (.iload_n 1, 1) := dk_27 (dk_at dksX7_valves_0 13 rfl rfl)
theorem dX7_valves_14 : decode cX7_valves 14 = .ok (.invokevirtual 145, 3) := dk_182 0 145 (dk_at dksX7_valves_0 14 rfl rfl)
theorem dX7_valves_17 : decode cX7_valves 17 = .ok (.ireturn, 1) := dk_172 (dk_at dksX7_valves_0 17 rfl rfl)
abbrev cX7_lacks : ByteArray := prog_17_method_37_code
def yX7_lacks : MethodName := ⟨RX7, "lacks", "(I)Z"⟩
def dkwX7_lacks_1 : List UInt8 := [167, 0, 4, 3, 181, 0, 47, 42, 180, 0, 47, 153, 0, 7, 4, 167, 0, 4, 3, 172]
abbrev dktX7_lacks_1 : List UInt8 := dkwX7_lacks_1 ++ []
def dkwX7_lacks_0 : List UInt8 := [42, 27, 3, 5, 184, 0, 51, 154, 0, 7, 4, 167, 0, 15, 42, 180, 0, 104, 154, 0, 7, 5]
abbrev dktX7_lacks_0 : List UInt8 := dkwX7_lacks_0 ++ dktX7_lacks_1
theorem dksX7_lacks_0 : cX7_lacks.data.toList.drop 0 = dktX7_lacks_0 := by decide +kernel
theorem dksX7_lacks_1 : cX7_lacks.data.toList.drop 22 = dktX7_lacks_1 := dk_seg dksX7_lacks_0 22 rfl rfl
theorem dX7_lacks_0 : decode cX7_lacks 0 = .ok (.aload_n 0, 1) := dk_42 (dk_at dksX7_lacks_0 0 rfl rfl)
theorem dX7_lacks_1 : decode cX7_lacks 1 = .ok (.iload_n 1, 1) := dk_27 (dk_at dksX7_lacks_0 1 rfl rfl)
theorem dX7_lacks_2 : decode cX7_lacks 2 = .ok (.iconst 0, 1) := dk_3 (dk_at dksX7_lacks_0 2 rfl rfl)
theorem dX7_lacks_3 : decode cX7_lacks 3 = .ok (.iconst 2, 1) := dk_5 (dk_at dksX7_lacks_0 3 rfl rfl)
theorem dX7_lacks_4 : decode cX7_lacks 4 = .ok (.invokestatic 51, 3) := dk_184 0 51 (dk_at dksX7_lacks_0 4 rfl rfl)
theorem dX7_lacks_7 : decode cX7_lacks 7 = .ok (.ifCond .ne 7, 3) := dk_154 0 7 (dk_at dksX7_lacks_0 7 rfl rfl)
theorem dX7_lacks_10 : decode cX7_lacks 10 = .ok (.iconst 1, 1) := dk_4 (dk_at dksX7_lacks_0 10 rfl rfl)
theorem dX7_lacks_11 : decode cX7_lacks 11 = .ok (.goto 15, 3) := dk_167 0 15 (dk_at dksX7_lacks_0 11 rfl rfl)
theorem dX7_lacks_14 : decode cX7_lacks 14 = .ok (.aload_n 0, 1) := dk_42 (dk_at dksX7_lacks_0 14 rfl rfl)
theorem dX7_lacks_15 : decode cX7_lacks 15 = .ok (.getfield 104, 3) := dk_180 0 104 (dk_at dksX7_lacks_0 15 rfl rfl)
theorem dX7_lacks_18 : decode cX7_lacks 18 = .ok (.ifCond .ne 7, 3) := dk_154 0 7 (dk_at dksX7_lacks_0 18 rfl rfl)
theorem dX7_lacks_21 : decode cX7_lacks 21 = .ok (.iconst 2, 1) := dk_5 (dk_at dksX7_lacks_0 21 rfl rfl)
theorem dX7_lacks_22 : decode cX7_lacks 22 = .ok (.goto 4, 3) := dk_167 0 4 (dk_at dksX7_lacks_1 0 rfl rfl)
theorem dX7_lacks_25 : decode cX7_lacks 25 = .ok (.iconst 0, 1) := dk_3 (dk_at dksX7_lacks_1 3 rfl rfl)
theorem dX7_lacks_26 : decode cX7_lacks 26 = .ok (.putfield 47, 3) := dk_181 0 47 (dk_at dksX7_lacks_1 4 rfl rfl)
theorem dX7_lacks_29 : decode cX7_lacks 29 = .ok (.aload_n 0, 1) := dk_42 (dk_at dksX7_lacks_1 7 rfl rfl)
theorem dX7_lacks_30 : decode cX7_lacks 30 = .ok (.getfield 47, 3) := dk_180 0 47 (dk_at dksX7_lacks_1 8 rfl rfl)
theorem dX7_lacks_33 : decode cX7_lacks 33 = .ok (.ifCond .eq 7, 3) := dk_153 0 7 (dk_at dksX7_lacks_1 11 rfl rfl)
theorem dX7_lacks_36 : decode cX7_lacks 36 = .ok (.iconst 1, 1) := dk_4 (dk_at dksX7_lacks_1 14 rfl rfl)
theorem dX7_lacks_37 : decode cX7_lacks 37 = .ok (.goto 4, 3) := dk_167 0 4 (dk_at dksX7_lacks_1 15 rfl rfl)
theorem dX7_lacks_40 : decode cX7_lacks 40 = .ok (.iconst 0, 1) := dk_3 (dk_at dksX7_lacks_1 18 rfl rfl)
theorem dX7_lacks_41 : decode cX7_lacks 41 = .ok (.ireturn, 1) := dk_172 (dk_at dksX7_lacks_1 19 rfl rfl)
abbrev cX7_valvesOf : ByteArray := prog_17_method_36_code
def yX7_valvesOf : MethodName := ⟨RX7, "valvesOf", "(I)I"⟩
def dkwX7_valvesOf_2 : List UInt8 := [160, 0, 10, 42, 180, 0, 104, 167, 0, 4, 3, 96, 172]
abbrev dktX7_valvesOf_2 : List UInt8 := dkwX7_valvesOf_2 ++ []
def dkwX7_valvesOf_1 : List UInt8 := [167, 255, 236, 28, 184, 0, 126, 27, 4, 160, 0, 12, 42, 180, 0, 136, 4, 100, 167, 0, 16, 27, 5]
abbrev dktX7_valvesOf_1 : List UInt8 := dkwX7_valvesOf_1 ++ dktX7_valvesOf_2
def dkwX7_valvesOf_0 : List UInt8 := [3, 61, 3, 62, 29, 42, 180, 0, 104, 162, 0, 18, 28, 42, 180, 0, 19, 29, 46, 128, 61, 132, 3, 1]
abbrev dktX7_valvesOf_0 : List UInt8 := dkwX7_valvesOf_0 ++ dktX7_valvesOf_1
theorem dksX7_valvesOf_0 : cX7_valvesOf.data.toList.drop 0 = dktX7_valvesOf_0 := by decide +kernel
theorem dksX7_valvesOf_1 : cX7_valvesOf.data.toList.drop 24 = dktX7_valvesOf_1 := dk_seg dksX7_valvesOf_0 24 rfl rfl
theorem dksX7_valvesOf_2 : cX7_valvesOf.data.toList.drop 47 = dktX7_valvesOf_2 := dk_seg dksX7_valvesOf_1 23 rfl rfl
theorem dX7_valvesOf_0 : decode cX7_valvesOf 0 = .ok (.iconst 0, 1) := dk_3 (dk_at dksX7_valvesOf_0 0 rfl rfl)
theorem dX7_valvesOf_1 : decode cX7_valvesOf 1 = .ok (.istore_n 2, 1) := dk_61 (dk_at dksX7_valvesOf_0 1 rfl rfl)
theorem dX7_valvesOf_2 : decode cX7_valvesOf 2 = .ok (.iconst 0, 1) := dk_3 (dk_at dksX7_valvesOf_0 2 rfl rfl)
theorem dX7_valvesOf_3 : decode cX7_valvesOf 3 = .ok (.istore_n 3, 1) := dk_62 (dk_at dksX7_valvesOf_0 3 rfl rfl)
theorem dX7_valvesOf_4 : decode cX7_valvesOf 4 = .ok (.iload_n 3, 1) := dk_29 (dk_at dksX7_valvesOf_0 4 rfl rfl)
theorem dX7_valvesOf_5 : decode cX7_valvesOf 5 = .ok (.aload_n 0, 1) := dk_42 (dk_at dksX7_valvesOf_0 5 rfl rfl)
theorem dX7_valvesOf_6 : decode cX7_valvesOf 6 = .ok (.getfield 104, 3) := dk_180 0 104 (dk_at dksX7_valvesOf_0 6 rfl rfl)
theorem dX7_valvesOf_9 : decode cX7_valvesOf 9 = .ok (.if_icmp .ge 18, 3) := dk_162 0 18 (dk_at dksX7_valvesOf_0 9 rfl rfl)
theorem dX7_valvesOf_12 : decode cX7_valvesOf 12 = .ok (.iload_n 2, 1) := dk_28 (dk_at dksX7_valvesOf_0 12 rfl rfl)
theorem dX7_valvesOf_13 : decode cX7_valvesOf 13 = .ok (.aload_n 0, 1) := dk_42 (dk_at dksX7_valvesOf_0 13 rfl rfl)
theorem dX7_valvesOf_14 : decode cX7_valvesOf 14 = .ok (.getfield 19, 3) := dk_180 0 19 (dk_at dksX7_valvesOf_0 14 rfl rfl)
theorem dX7_valvesOf_17 : decode cX7_valvesOf 17 = .ok (.iload_n 3, 1) := dk_29 (dk_at dksX7_valvesOf_0 17 rfl rfl)
theorem dX7_valvesOf_18 : decode cX7_valvesOf 18 = .ok (.iaload, 1) := dk_46 (dk_at dksX7_valvesOf_0 18 rfl rfl)
theorem dX7_valvesOf_19 : decode cX7_valvesOf 19 = .ok (.ior, 1) := dk_128 (dk_at dksX7_valvesOf_0 19 rfl rfl)
theorem dX7_valvesOf_20 : decode cX7_valvesOf 20 = .ok (.istore_n 2, 1) := dk_61 (dk_at dksX7_valvesOf_0 20 rfl rfl)
theorem dX7_valvesOf_21 : decode cX7_valvesOf 21 = .ok (.iinc 3 1, 3) := dk_132 3 1 (dk_at dksX7_valvesOf_0 21 rfl rfl)
theorem dX7_valvesOf_24 : decode cX7_valvesOf 24 = .ok (.goto (-20), 3) := dk_167 255 236 (dk_at dksX7_valvesOf_1 0 rfl rfl)
theorem dX7_valvesOf_27 : decode cX7_valvesOf 27 = .ok (.iload_n 2, 1) := dk_28 (dk_at dksX7_valvesOf_1 3 rfl rfl)
theorem dX7_valvesOf_28 : decode cX7_valvesOf 28 = .ok (.invokestatic 126, 3) := dk_184 0 126 (dk_at dksX7_valvesOf_1 4 rfl rfl)
theorem dX7_valvesOf_31 : decode cX7_valvesOf 31 = .ok (.iload_n 1, 1) := dk_27 (dk_at dksX7_valvesOf_1 7 rfl rfl)
theorem dX7_valvesOf_32 : decode cX7_valvesOf 32 = .ok (.iconst 1, 1) := dk_4 (dk_at dksX7_valvesOf_1 8 rfl rfl)
theorem dX7_valvesOf_33 : decode cX7_valvesOf 33 = .ok (.if_icmp .ne 12, 3) := dk_160 0 12 (dk_at dksX7_valvesOf_1 9 rfl rfl)
theorem dX7_valvesOf_36 : decode cX7_valvesOf 36 = .ok (.aload_n 0, 1) := dk_42 (dk_at dksX7_valvesOf_1 12 rfl rfl)
theorem dX7_valvesOf_37 : decode cX7_valvesOf 37 = .ok (.getfield 136, 3) := dk_180 0 136 (dk_at dksX7_valvesOf_1 13 rfl rfl)
theorem dX7_valvesOf_40 : decode cX7_valvesOf 40 = .ok (.iconst 1, 1) := dk_4 (dk_at dksX7_valvesOf_1 16 rfl rfl)
theorem dX7_valvesOf_41 : decode cX7_valvesOf 41 = .ok (.isub, 1) := dk_100 (dk_at dksX7_valvesOf_1 17 rfl rfl)
theorem dX7_valvesOf_42 : decode cX7_valvesOf 42 = .ok (.goto 16, 3) := dk_167 0 16 (dk_at dksX7_valvesOf_1 18 rfl rfl)
theorem dX7_valvesOf_45 : decode cX7_valvesOf 45 = .ok (.iload_n 1, 1) := dk_27 (dk_at dksX7_valvesOf_1 21 rfl rfl)
theorem dX7_valvesOf_46 : decode cX7_valvesOf 46 = .ok (.iconst 2, 1) := dk_5 (dk_at dksX7_valvesOf_1 22 rfl rfl)
theorem dX7_valvesOf_47 : decode cX7_valvesOf 47 = .ok (.if_icmp .ne 10, 3) := dk_160 0 10 (dk_at dksX7_valvesOf_2 0 rfl rfl)
theorem dX7_valvesOf_50 : decode cX7_valvesOf 50 = .ok (.aload_n 0, 1) := dk_42 (dk_at dksX7_valvesOf_2 3 rfl rfl)
theorem dX7_valvesOf_51 : decode cX7_valvesOf 51 = .ok (.getfield 104, 3) := dk_180 0 104 (dk_at dksX7_valvesOf_2 4 rfl rfl)
theorem dX7_valvesOf_54 : decode cX7_valvesOf 54 = .ok (.goto 4, 3) := dk_167 0 4 (dk_at dksX7_valvesOf_2 7 rfl rfl)
theorem dX7_valvesOf_57 : decode cX7_valvesOf 57 = .ok (.iconst 0, 1) := dk_3 (dk_at dksX7_valvesOf_2 10 rfl rfl)
theorem dX7_valvesOf_58 : decode cX7_valvesOf 58 = .ok (.iadd, 1) := dk_96 (dk_at dksX7_valvesOf_2 11 rfl rfl)
theorem dX7_valvesOf_59 : decode cX7_valvesOf 59 = .ok (.ireturn, 1) := dk_172 (dk_at dksX7_valvesOf_2 12 rfl rfl)
abbrev cX7_setMethod : ByteArray := prog_17_method_47_code
def yX7_setMethod : MethodName := ⟨RX7, "setMethod", "(I)I"⟩
def dkwX7_setMethod_1 : List UInt8 := [4, 46, 61, 42, 180, 0, 7, 4, 27, 79, 42, 42, 180, 0, 7, 182, 0, 43, 28, 172]
abbrev dktX7_setMethod_1 : List UInt8 := dkwX7_setMethod_1 ++ []
def dkwX7_setMethod_0 : List UInt8 := [42, 3, 181, 0, 47, 27, 3, 5, 184, 0, 51, 154, 0, 9, 42, 4, 182, 0, 55, 172, 42, 180, 0, 7]
abbrev dktX7_setMethod_0 : List UInt8 := dkwX7_setMethod_0 ++ dktX7_setMethod_1
theorem dksX7_setMethod_0 : cX7_setMethod.data.toList.drop 0 = dktX7_setMethod_0 := by decide +kernel
theorem dksX7_setMethod_1 : cX7_setMethod.data.toList.drop 24 = dktX7_setMethod_1 := dk_seg dksX7_setMethod_0 24 rfl rfl
theorem dX7_setMethod_0 : decode cX7_setMethod 0 = .ok (.aload_n 0, 1) := dk_42 (dk_at dksX7_setMethod_0 0 rfl rfl)
theorem dX7_setMethod_1 : decode cX7_setMethod 1 = .ok (.iconst 0, 1) := dk_3 (dk_at dksX7_setMethod_0 1 rfl rfl)
theorem dX7_setMethod_2 : decode cX7_setMethod 2 = .ok (.putfield 47, 3) := dk_181 0 47 (dk_at dksX7_setMethod_0 2 rfl rfl)
theorem dX7_setMethod_5 : decode cX7_setMethod 5 = .ok (.iload_n 1, 1) := dk_27 (dk_at dksX7_setMethod_0 5 rfl rfl)
theorem dX7_setMethod_6 : decode cX7_setMethod 6 = .ok (.iconst 0, 1) := dk_3 (dk_at dksX7_setMethod_0 6 rfl rfl)
theorem dX7_setMethod_7 : decode cX7_setMethod 7 = .ok (.iconst 2, 1) := dk_5 (dk_at dksX7_setMethod_0 7 rfl rfl)
theorem dX7_setMethod_8 : decode cX7_setMethod 8 = .ok (.invokestatic 51, 3) := dk_184 0 51 (dk_at dksX7_setMethod_0 8 rfl rfl)
theorem dX7_setMethod_11 : decode cX7_setMethod 11 = .ok (.ifCond .ne 9, 3) := dk_154 0 9 (dk_at dksX7_setMethod_0 11 rfl rfl)
theorem dX7_setMethod_14 : decode cX7_setMethod 14 = .ok (.aload_n 0, 1) := dk_42 (dk_at dksX7_setMethod_0 14 rfl rfl)
theorem dX7_setMethod_15 : decode cX7_setMethod 15 = .ok (.iconst 1, 1) := dk_4 (dk_at dksX7_setMethod_0 15 rfl rfl)
theorem dX7_setMethod_16 : decode cX7_setMethod 16 = .ok (.invokevirtual 55, 3) := dk_182 0 55 (dk_at dksX7_setMethod_0 16 rfl rfl)
theorem dX7_setMethod_19 : decode cX7_setMethod 19 = .ok (.ireturn, 1) := dk_172 (dk_at dksX7_setMethod_0 19 rfl rfl)
theorem dX7_setMethod_20 : decode cX7_setMethod 20 = .ok (.aload_n 0, 1) := dk_42 (dk_at dksX7_setMethod_0 20 rfl rfl)
theorem dX7_setMethod_21 : decode cX7_setMethod 21 = .ok (.getfield 7, 3) := dk_180 0 7 (dk_at dksX7_setMethod_0 21 rfl rfl)
theorem dX7_setMethod_24 : decode cX7_setMethod 24 = .ok (.iconst 1, 1) := dk_4 (dk_at dksX7_setMethod_1 0 rfl rfl)
theorem dX7_setMethod_25 : decode cX7_setMethod 25 = .ok (.iaload, 1) := dk_46 (dk_at dksX7_setMethod_1 1 rfl rfl)
theorem dX7_setMethod_26 : decode cX7_setMethod 26 = .ok (.istore_n 2, 1) := dk_61 (dk_at dksX7_setMethod_1 2 rfl rfl)
theorem dX7_setMethod_27 : decode cX7_setMethod 27 = .ok (.aload_n 0, 1) := dk_42 (dk_at dksX7_setMethod_1 3 rfl rfl)
theorem dX7_setMethod_28 : decode cX7_setMethod 28 = .ok (.getfield 7, 3) := dk_180 0 7 (dk_at dksX7_setMethod_1 4 rfl rfl)
theorem dX7_setMethod_31 : decode cX7_setMethod 31 = .ok (.iconst 1, 1) := dk_4 (dk_at dksX7_setMethod_1 7 rfl rfl)
theorem dX7_setMethod_32 : decode cX7_setMethod 32 = .ok (.iload_n 1, 1) := dk_27 (dk_at dksX7_setMethod_1 8 rfl rfl)
theorem dX7_setMethod_33 : decode cX7_setMethod 33 = .ok (.iastore, 1) := dk_79 (dk_at dksX7_setMethod_1 9 rfl rfl)
theorem dX7_setMethod_34 : decode cX7_setMethod 34 = .ok (.aload_n 0, 1) := dk_42 (dk_at dksX7_setMethod_1 10 rfl rfl)
theorem dX7_setMethod_35 : decode cX7_setMethod 35 = .ok (.aload_n 0, 1) := dk_42 (dk_at dksX7_setMethod_1 11 rfl rfl)
theorem dX7_setMethod_36 : decode cX7_setMethod 36 = .ok (.getfield 7, 3) := dk_180 0 7 (dk_at dksX7_setMethod_1 12 rfl rfl)
theorem dX7_setMethod_39 : decode cX7_setMethod 39 = .ok (.invokevirtual 43, 3) := dk_182 0 43 (dk_at dksX7_setMethod_1 15 rfl rfl)
theorem dX7_setMethod_42 : decode cX7_setMethod 42 = .ok (.iload_n 2, 1) := dk_28 (dk_at dksX7_setMethod_1 18 rfl rfl)
theorem dX7_setMethod_43 : decode cX7_setMethod 43 = .ok (.ireturn, 1) := dk_172 (dk_at dksX7_setMethod_1 19 rfl rfl)
abbrev cX7_setStroke : ByteArray := prog_17_method_48_code
def yX7_setStroke : MethodName := ⟨RX7, "setStroke", "(II)I"⟩
def dkwX7_setStroke_2 : List UInt8 := [28, 79, 42, 42, 180, 0, 7, 182, 0, 43, 29, 172]
abbrev dktX7_setStroke_2 : List UInt8 := dkwX7_setStroke_2 ++ []
def dkwX7_setStroke_1 : List UInt8 := [184, 0, 51, 154, 0, 9, 42, 5, 182, 0, 55, 172, 42, 180, 0, 16, 27, 46, 62, 42, 180, 0, 16, 27]
abbrev dktX7_setStroke_1 : List UInt8 := dkwX7_setStroke_1 ++ dktX7_setStroke_2
def dkwX7_setStroke_0 : List UInt8 := [42, 3, 181, 0, 47, 27, 3, 8, 184, 0, 51, 154, 0, 9, 42, 4, 182, 0, 55, 172, 28, 4, 16, 20]
abbrev dktX7_setStroke_0 : List UInt8 := dkwX7_setStroke_0 ++ dktX7_setStroke_1
theorem dksX7_setStroke_0 : cX7_setStroke.data.toList.drop 0 = dktX7_setStroke_0 := by decide +kernel
theorem dksX7_setStroke_1 : cX7_setStroke.data.toList.drop 24 = dktX7_setStroke_1 := dk_seg dksX7_setStroke_0 24 rfl rfl
theorem dksX7_setStroke_2 : cX7_setStroke.data.toList.drop 48 = dktX7_setStroke_2 := dk_seg dksX7_setStroke_1 24 rfl rfl
theorem dX7_setStroke_0 : decode cX7_setStroke 0 = .ok (.aload_n 0, 1) := dk_42 (dk_at dksX7_setStroke_0 0 rfl rfl)
theorem dX7_setStroke_1 : decode cX7_setStroke 1 = .ok (.iconst 0, 1) := dk_3 (dk_at dksX7_setStroke_0 1 rfl rfl)
theorem dX7_setStroke_2 : decode cX7_setStroke 2 = .ok (.putfield 47, 3) := dk_181 0 47 (dk_at dksX7_setStroke_0 2 rfl rfl)
theorem dX7_setStroke_5 : decode cX7_setStroke 5 = .ok (.iload_n 1, 1) := dk_27 (dk_at dksX7_setStroke_0 5 rfl rfl)
theorem dX7_setStroke_6 : decode cX7_setStroke 6 = .ok (.iconst 0, 1) := dk_3 (dk_at dksX7_setStroke_0 6 rfl rfl)
theorem dX7_setStroke_7 : decode cX7_setStroke 7 = .ok (.iconst 5, 1) := dk_8 (dk_at dksX7_setStroke_0 7 rfl rfl)
theorem dX7_setStroke_8 : decode cX7_setStroke 8 = .ok (.invokestatic 51, 3) := dk_184 0 51 (dk_at dksX7_setStroke_0 8 rfl rfl)
theorem dX7_setStroke_11 : decode cX7_setStroke 11 = .ok (.ifCond .ne 9, 3) := dk_154 0 9 (dk_at dksX7_setStroke_0 11 rfl rfl)
theorem dX7_setStroke_14 : decode cX7_setStroke 14 = .ok (.aload_n 0, 1) := dk_42 (dk_at dksX7_setStroke_0 14 rfl rfl)
theorem dX7_setStroke_15 : decode cX7_setStroke 15 = .ok (.iconst 1, 1) := dk_4 (dk_at dksX7_setStroke_0 15 rfl rfl)
theorem dX7_setStroke_16 : decode cX7_setStroke 16 = .ok (.invokevirtual 55, 3) := dk_182 0 55 (dk_at dksX7_setStroke_0 16 rfl rfl)
theorem dX7_setStroke_19 : decode cX7_setStroke 19 = .ok (.ireturn, 1) := dk_172 (dk_at dksX7_setStroke_0 19 rfl rfl)
theorem dX7_setStroke_20 : decode cX7_setStroke 20 = .ok (.iload_n 2, 1) := dk_28 (dk_at dksX7_setStroke_0 20 rfl rfl)
theorem dX7_setStroke_21 : decode cX7_setStroke 21 = .ok (.iconst 1, 1) := dk_4 (dk_at dksX7_setStroke_0 21 rfl rfl)
theorem dX7_setStroke_22 : decode cX7_setStroke 22 = .ok (.bipush 20, 2) := dk_16 20 (dk_at dksX7_setStroke_0 22 rfl rfl)
theorem dX7_setStroke_24 : decode cX7_setStroke 24 = .ok (.invokestatic 51, 3) := dk_184 0 51 (dk_at dksX7_setStroke_1 0 rfl rfl)
theorem dX7_setStroke_27 : decode cX7_setStroke 27 = .ok (.ifCond .ne 9, 3) := dk_154 0 9 (dk_at dksX7_setStroke_1 3 rfl rfl)
theorem dX7_setStroke_30 : decode cX7_setStroke 30 = .ok (.aload_n 0, 1) := dk_42 (dk_at dksX7_setStroke_1 6 rfl rfl)
theorem dX7_setStroke_31 : decode cX7_setStroke 31 = .ok (.iconst 2, 1) := dk_5 (dk_at dksX7_setStroke_1 7 rfl rfl)
theorem dX7_setStroke_32 : decode cX7_setStroke 32 = .ok (.invokevirtual 55, 3) := dk_182 0 55 (dk_at dksX7_setStroke_1 8 rfl rfl)
theorem dX7_setStroke_35 : decode cX7_setStroke 35 = .ok (.ireturn, 1) := dk_172 (dk_at dksX7_setStroke_1 11 rfl rfl)
theorem dX7_setStroke_36 : decode cX7_setStroke 36 = .ok (.aload_n 0, 1) := dk_42 (dk_at dksX7_setStroke_1 12 rfl rfl)
theorem dX7_setStroke_37 : decode cX7_setStroke 37 = .ok (.getfield 16, 3) := dk_180 0 16 (dk_at dksX7_setStroke_1 13 rfl rfl)
theorem dX7_setStroke_40 : decode cX7_setStroke 40 = .ok (.iload_n 1, 1) := dk_27 (dk_at dksX7_setStroke_1 16 rfl rfl)
theorem dX7_setStroke_41 : decode cX7_setStroke 41 = .ok (.iaload, 1) := dk_46 (dk_at dksX7_setStroke_1 17 rfl rfl)
theorem dX7_setStroke_42 : decode cX7_setStroke 42 = .ok (.istore_n 3, 1) := dk_62 (dk_at dksX7_setStroke_1 18 rfl rfl)
theorem dX7_setStroke_43 : decode cX7_setStroke 43 = .ok (.aload_n 0, 1) := dk_42 (dk_at dksX7_setStroke_1 19 rfl rfl)
theorem dX7_setStroke_44 : decode cX7_setStroke 44 = .ok (.getfield 16, 3) := dk_180 0 16 (dk_at dksX7_setStroke_1 20 rfl rfl)
theorem dX7_setStroke_47 : decode cX7_setStroke 47 = .ok (.iload_n 1, 1) := dk_27 (dk_at dksX7_setStroke_1 23 rfl rfl)
theorem dX7_setStroke_48 : decode cX7_setStroke 48 = .ok (.iload_n 2, 1) := dk_28 (dk_at dksX7_setStroke_2 0 rfl rfl)
theorem dX7_setStroke_49 : decode cX7_setStroke 49 = .ok (.iastore, 1) := dk_79 (dk_at dksX7_setStroke_2 1 rfl rfl)
theorem dX7_setStroke_50 : decode cX7_setStroke 50 = .ok (.aload_n 0, 1) := dk_42 (dk_at dksX7_setStroke_2 2 rfl rfl)
theorem dX7_setStroke_51 : decode cX7_setStroke 51 = .ok (.aload_n 0, 1) := dk_42 (dk_at dksX7_setStroke_2 3 rfl rfl)
theorem dX7_setStroke_52 : decode cX7_setStroke 52 = .ok (.getfield 7, 3) := dk_180 0 7 (dk_at dksX7_setStroke_2 4 rfl rfl)
theorem dX7_setStroke_55 : decode cX7_setStroke 55 = .ok (.invokevirtual 43, 3) := dk_182 0 43 (dk_at dksX7_setStroke_2 7 rfl rfl)
theorem dX7_setStroke_58 : decode cX7_setStroke 58 = .ok (.iload_n 3, 1) := dk_29 (dk_at dksX7_setStroke_2 10 rfl rfl)
theorem dX7_setStroke_59 : decode cX7_setStroke 59 = .ok (.ireturn, 1) := dk_172 (dk_at dksX7_setStroke_2 11 rfl rfl)
abbrev cX7_setStart : ByteArray := prog_17_method_49_code
def yX7_setStart : MethodName := ⟨RX7, "setStart", "(Z)Z"⟩
def dkwX7_setStart_1 : List UInt8 := [180, 0, 7, 5, 27, 153, 0, 7, 4, 167, 0, 4, 3, 79, 28, 172]
abbrev dktX7_setStart_1 : List UInt8 := dkwX7_setStart_1 ++ []
def dkwX7_setStart_0 : List UInt8 := [42, 3, 181, 0, 47, 42, 180, 0, 7, 5, 46, 4, 160, 0, 7, 4, 167, 0, 4, 3, 61, 42]
abbrev dktX7_setStart_0 : List UInt8 := dkwX7_setStart_0 ++ dktX7_setStart_1
theorem dksX7_setStart_0 : cX7_setStart.data.toList.drop 0 = dktX7_setStart_0 := by decide +kernel
theorem dksX7_setStart_1 : cX7_setStart.data.toList.drop 22 = dktX7_setStart_1 := dk_seg dksX7_setStart_0 22 rfl rfl
theorem dX7_setStart_0 : decode cX7_setStart 0 = .ok (.aload_n 0, 1) := dk_42 (dk_at dksX7_setStart_0 0 rfl rfl)
theorem dX7_setStart_1 : decode cX7_setStart 1 = .ok (.iconst 0, 1) := dk_3 (dk_at dksX7_setStart_0 1 rfl rfl)
theorem dX7_setStart_2 : decode cX7_setStart 2 = .ok (.putfield 47, 3) := dk_181 0 47 (dk_at dksX7_setStart_0 2 rfl rfl)
theorem dX7_setStart_5 : decode cX7_setStart 5 = .ok (.aload_n 0, 1) := dk_42 (dk_at dksX7_setStart_0 5 rfl rfl)
theorem dX7_setStart_6 : decode cX7_setStart 6 = .ok (.getfield 7, 3) := dk_180 0 7 (dk_at dksX7_setStart_0 6 rfl rfl)
theorem dX7_setStart_9 : decode cX7_setStart 9 = .ok (.iconst 2, 1) := dk_5 (dk_at dksX7_setStart_0 9 rfl rfl)
theorem dX7_setStart_10 : decode cX7_setStart 10 = .ok (.iaload, 1) := dk_46 (dk_at dksX7_setStart_0 10 rfl rfl)
theorem dX7_setStart_11 : decode cX7_setStart 11 = .ok (.iconst 1, 1) := dk_4 (dk_at dksX7_setStart_0 11 rfl rfl)
theorem dX7_setStart_12 : decode cX7_setStart 12 = .ok (.if_icmp .ne 7, 3) := dk_160 0 7 (dk_at dksX7_setStart_0 12 rfl rfl)
theorem dX7_setStart_15 : decode cX7_setStart 15 = .ok (.iconst 1, 1) := dk_4 (dk_at dksX7_setStart_0 15 rfl rfl)
theorem dX7_setStart_16 : decode cX7_setStart 16 = .ok (.goto 4, 3) := dk_167 0 4 (dk_at dksX7_setStart_0 16 rfl rfl)
theorem dX7_setStart_19 : decode cX7_setStart 19 = .ok (.iconst 0, 1) := dk_3 (dk_at dksX7_setStart_0 19 rfl rfl)
theorem dX7_setStart_20 : decode cX7_setStart 20 = .ok (.istore_n 2, 1) := dk_61 (dk_at dksX7_setStart_0 20 rfl rfl)
theorem dX7_setStart_21 : decode cX7_setStart 21 = .ok (.aload_n 0, 1) := dk_42 (dk_at dksX7_setStart_0 21 rfl rfl)
theorem dX7_setStart_22 : decode cX7_setStart 22 = .ok (.getfield 7, 3) := dk_180 0 7 (dk_at dksX7_setStart_1 0 rfl rfl)
theorem dX7_setStart_25 : decode cX7_setStart 25 = .ok (.iconst 2, 1) := dk_5 (dk_at dksX7_setStart_1 3 rfl rfl)
theorem dX7_setStart_26 : decode cX7_setStart 26 = .ok (.iload_n 1, 1) := dk_27 (dk_at dksX7_setStart_1 4 rfl rfl)
theorem dX7_setStart_27 : decode cX7_setStart 27 = .ok (.ifCond .eq 7, 3) := dk_153 0 7 (dk_at dksX7_setStart_1 5 rfl rfl)
theorem dX7_setStart_30 : decode cX7_setStart 30 = .ok (.iconst 1, 1) := dk_4 (dk_at dksX7_setStart_1 8 rfl rfl)
theorem dX7_setStart_31 : decode cX7_setStart 31 = .ok (.goto 4, 3) := dk_167 0 4 (dk_at dksX7_setStart_1 9 rfl rfl)
theorem dX7_setStart_34 : decode cX7_setStart 34 = .ok (.iconst 0, 1) := dk_3 (dk_at dksX7_setStart_1 12 rfl rfl)
theorem dX7_setStart_35 : decode cX7_setStart 35 = .ok (.iastore, 1) := dk_79 (dk_at dksX7_setStart_1 13 rfl rfl)
theorem dX7_setStart_36 : decode cX7_setStart 36 = .ok (.iload_n 2, 1) := dk_28 (dk_at dksX7_setStart_1 14 rfl rfl)
theorem dX7_setStart_37 : decode cX7_setStart 37 = .ok (.ireturn, 1) := dk_172 (dk_at dksX7_setStart_1 15 rfl rfl)
abbrev cX7_setFault : ByteArray := prog_17_method_50_code
def yX7_setFault : MethodName := ⟨RX7, "setFault", "(IIZ)Z"⟩
def dkwX7_setFault_4 : List UInt8 := [16, 38, 27, 96, 46, 4, 28, 120, 2, 130, 126, 79, 21, 4, 172]
abbrev dktX7_setFault_4 : List UInt8 := dkwX7_setFault_4 ++ []
def dkwX7_setFault_3 : List UInt8 := [29, 153, 0, 19, 42, 180, 0, 7, 16, 38, 27, 96, 46, 4, 28, 120, 128, 167, 0, 18, 42, 180, 0, 7]
abbrev dktX7_setFault_3 : List UInt8 := dkwX7_setFault_3 ++ dktX7_setFault_4
def dkwX7_setFault_2 : List UInt8 := [46, 28, 122, 4, 126, 4, 160, 0, 7, 4, 167, 0, 4, 3, 54, 4, 42, 180, 0, 7, 16, 38, 27, 96]
abbrev dktX7_setFault_2 : List UInt8 := dkwX7_setFault_2 ++ dktX7_setFault_3
def dkwX7_setFault_1 : List UInt8 := [167, 0, 4, 3, 181, 0, 47, 42, 180, 0, 47, 153, 0, 5, 3, 172, 42, 180, 0, 7, 16, 38, 27, 96]
abbrev dktX7_setFault_1 : List UInt8 := dkwX7_setFault_1 ++ dktX7_setFault_2
def dkwX7_setFault_0 : List UInt8 := [42, 27, 3, 8, 184, 0, 51, 154, 0, 7, 4, 167, 0, 17, 28, 3, 7, 184, 0, 51, 154, 0, 7, 5]
abbrev dktX7_setFault_0 : List UInt8 := dkwX7_setFault_0 ++ dktX7_setFault_1
theorem dksX7_setFault_0 : cX7_setFault.data.toList.drop 0 = dktX7_setFault_0 := by decide +kernel
theorem dksX7_setFault_1 : cX7_setFault.data.toList.drop 24 = dktX7_setFault_1 := dk_seg dksX7_setFault_0 24 rfl rfl
theorem dksX7_setFault_2 : cX7_setFault.data.toList.drop 48 = dktX7_setFault_2 := dk_seg dksX7_setFault_1 24 rfl rfl
theorem dksX7_setFault_3 : cX7_setFault.data.toList.drop 72 = dktX7_setFault_3 := dk_seg dksX7_setFault_2 24 rfl rfl
theorem dksX7_setFault_4 : cX7_setFault.data.toList.drop 96 = dktX7_setFault_4 := dk_seg dksX7_setFault_3 24 rfl rfl
theorem dX7_setFault_0 : decode cX7_setFault 0 = .ok (.aload_n 0, 1) := dk_42 (dk_at dksX7_setFault_0 0 rfl rfl)
theorem dX7_setFault_1 : decode cX7_setFault 1 = .ok (.iload_n 1, 1) := dk_27 (dk_at dksX7_setFault_0 1 rfl rfl)
theorem dX7_setFault_2 : decode cX7_setFault 2 = .ok (.iconst 0, 1) := dk_3 (dk_at dksX7_setFault_0 2 rfl rfl)
theorem dX7_setFault_3 : decode cX7_setFault 3 = .ok (.iconst 5, 1) := dk_8 (dk_at dksX7_setFault_0 3 rfl rfl)
theorem dX7_setFault_4 : decode cX7_setFault 4 = .ok (.invokestatic 51, 3) := dk_184 0 51 (dk_at dksX7_setFault_0 4 rfl rfl)
theorem dX7_setFault_7 : decode cX7_setFault 7 = .ok (.ifCond .ne 7, 3) := dk_154 0 7 (dk_at dksX7_setFault_0 7 rfl rfl)
theorem dX7_setFault_10 : decode cX7_setFault 10 = .ok (.iconst 1, 1) := dk_4 (dk_at dksX7_setFault_0 10 rfl rfl)
theorem dX7_setFault_11 : decode cX7_setFault 11 = .ok (.goto 17, 3) := dk_167 0 17 (dk_at dksX7_setFault_0 11 rfl rfl)
theorem dX7_setFault_14 : decode cX7_setFault 14 = .ok (.iload_n 2, 1) := dk_28 (dk_at dksX7_setFault_0 14 rfl rfl)
theorem dX7_setFault_15 : decode cX7_setFault 15 = .ok (.iconst 0, 1) := dk_3 (dk_at dksX7_setFault_0 15 rfl rfl)
theorem dX7_setFault_16 : decode cX7_setFault 16 = .ok (.iconst 4, 1) := dk_7 (dk_at dksX7_setFault_0 16 rfl rfl)
theorem dX7_setFault_17 : decode cX7_setFault 17 = .ok (.invokestatic 51, 3) := dk_184 0 51 (dk_at dksX7_setFault_0 17 rfl rfl)
theorem dX7_setFault_20 : decode cX7_setFault 20 = .ok (.ifCond .ne 7, 3) := dk_154 0 7 (dk_at dksX7_setFault_0 20 rfl rfl)
theorem dX7_setFault_23 : decode cX7_setFault 23 = .ok (.iconst 2, 1) := dk_5 (dk_at dksX7_setFault_0 23 rfl rfl)
theorem dX7_setFault_24 : decode cX7_setFault 24 = .ok (.goto 4, 3) := dk_167 0 4 (dk_at dksX7_setFault_1 0 rfl rfl)
theorem dX7_setFault_27 : decode cX7_setFault 27 = .ok (.iconst 0, 1) := dk_3 (dk_at dksX7_setFault_1 3 rfl rfl)
theorem dX7_setFault_28 : decode cX7_setFault 28 = .ok (.putfield 47, 3) := dk_181 0 47 (dk_at dksX7_setFault_1 4 rfl rfl)
theorem dX7_setFault_31 : decode cX7_setFault 31 = .ok (.aload_n 0, 1) := dk_42 (dk_at dksX7_setFault_1 7 rfl rfl)
theorem dX7_setFault_32 : decode cX7_setFault 32 = .ok (.getfield 47, 3) := dk_180 0 47 (dk_at dksX7_setFault_1 8 rfl rfl)
theorem dX7_setFault_35 : decode cX7_setFault 35 = .ok (.ifCond .eq 5, 3) := dk_153 0 5 (dk_at dksX7_setFault_1 11 rfl rfl)
theorem dX7_setFault_38 : decode cX7_setFault 38 = .ok (.iconst 0, 1) := dk_3 (dk_at dksX7_setFault_1 14 rfl rfl)
theorem dX7_setFault_39 : decode cX7_setFault 39 = .ok (.ireturn, 1) := dk_172 (dk_at dksX7_setFault_1 15 rfl rfl)
theorem dX7_setFault_40 : decode cX7_setFault 40 = .ok (.aload_n 0, 1) := dk_42 (dk_at dksX7_setFault_1 16 rfl rfl)
theorem dX7_setFault_41 : decode cX7_setFault 41 = .ok (.getfield 7, 3) := dk_180 0 7 (dk_at dksX7_setFault_1 17 rfl rfl)
theorem dX7_setFault_44 : decode cX7_setFault 44 = .ok (.bipush 38, 2) := dk_16 38 (dk_at dksX7_setFault_1 20 rfl rfl)
theorem dX7_setFault_46 : decode cX7_setFault 46 = .ok (.iload_n 1, 1) := dk_27 (dk_at dksX7_setFault_1 22 rfl rfl)
theorem dX7_setFault_47 : decode cX7_setFault 47 = .ok (.iadd, 1) := dk_96 (dk_at dksX7_setFault_1 23 rfl rfl)
theorem dX7_setFault_48 : decode cX7_setFault 48 = .ok (.iaload, 1) := dk_46 (dk_at dksX7_setFault_2 0 rfl rfl)
theorem dX7_setFault_49 : decode cX7_setFault 49 = .ok (.iload_n 2, 1) := dk_28 (dk_at dksX7_setFault_2 1 rfl rfl)
theorem dX7_setFault_50 : decode cX7_setFault 50 = .ok (.ishr, 1) := dk_122 (dk_at dksX7_setFault_2 2 rfl rfl)
theorem dX7_setFault_51 : decode cX7_setFault 51 = .ok (.iconst 1, 1) := dk_4 (dk_at dksX7_setFault_2 3 rfl rfl)
theorem dX7_setFault_52 : decode cX7_setFault 52 = .ok (.iand, 1) := dk_126 (dk_at dksX7_setFault_2 4 rfl rfl)
theorem dX7_setFault_53 : decode cX7_setFault 53 = .ok (.iconst 1, 1) := dk_4 (dk_at dksX7_setFault_2 5 rfl rfl)
theorem dX7_setFault_54 : decode cX7_setFault 54 = .ok (.if_icmp .ne 7, 3) := dk_160 0 7 (dk_at dksX7_setFault_2 6 rfl rfl)
theorem dX7_setFault_57 : decode cX7_setFault 57 = .ok (.iconst 1, 1) := dk_4 (dk_at dksX7_setFault_2 9 rfl rfl)
theorem dX7_setFault_58 : decode cX7_setFault 58 = .ok (.goto 4, 3) := dk_167 0 4 (dk_at dksX7_setFault_2 10 rfl rfl)
theorem dX7_setFault_61 : decode cX7_setFault 61 = .ok (.iconst 0, 1) := dk_3 (dk_at dksX7_setFault_2 13 rfl rfl)
theorem dX7_setFault_62 : decode cX7_setFault 62 = .ok (.istore 4, 2) := dk_54 4 (dk_at dksX7_setFault_2 14 rfl rfl)
theorem dX7_setFault_64 : decode cX7_setFault 64 = .ok (.aload_n 0, 1) := dk_42 (dk_at dksX7_setFault_2 16 rfl rfl)
theorem dX7_setFault_65 : decode cX7_setFault 65 = .ok (.getfield 7, 3) := dk_180 0 7 (dk_at dksX7_setFault_2 17 rfl rfl)
theorem dX7_setFault_68 : decode cX7_setFault 68 = .ok (.bipush 38, 2) := dk_16 38 (dk_at dksX7_setFault_2 20 rfl rfl)
theorem dX7_setFault_70 : decode cX7_setFault 70 = .ok (.iload_n 1, 1) := dk_27 (dk_at dksX7_setFault_2 22 rfl rfl)
theorem dX7_setFault_71 : decode cX7_setFault 71 = .ok (.iadd, 1) := dk_96 (dk_at dksX7_setFault_2 23 rfl rfl)
theorem dX7_setFault_72 : decode cX7_setFault 72 = .ok (.iload_n 3, 1) := dk_29 (dk_at dksX7_setFault_3 0 rfl rfl)
theorem dX7_setFault_73 : decode cX7_setFault 73 = .ok (.ifCond .eq 19, 3) := dk_153 0 19 (dk_at dksX7_setFault_3 1 rfl rfl)
theorem dX7_setFault_76 : decode cX7_setFault 76 = .ok (.aload_n 0, 1) := dk_42 (dk_at dksX7_setFault_3 4 rfl rfl)
theorem dX7_setFault_77 : decode cX7_setFault 77 = .ok (.getfield 7, 3) := dk_180 0 7 (dk_at dksX7_setFault_3 5 rfl rfl)
theorem dX7_setFault_80 : decode cX7_setFault 80 = .ok (.bipush 38, 2) := dk_16 38 (dk_at dksX7_setFault_3 8 rfl rfl)
theorem dX7_setFault_82 : decode cX7_setFault 82 = .ok (.iload_n 1, 1) := dk_27 (dk_at dksX7_setFault_3 10 rfl rfl)
theorem dX7_setFault_83 : decode cX7_setFault 83 = .ok (.iadd, 1) := dk_96 (dk_at dksX7_setFault_3 11 rfl rfl)
theorem dX7_setFault_84 : decode cX7_setFault 84 = .ok (.iaload, 1) := dk_46 (dk_at dksX7_setFault_3 12 rfl rfl)
theorem dX7_setFault_85 : decode cX7_setFault 85 = .ok (.iconst 1, 1) := dk_4 (dk_at dksX7_setFault_3 13 rfl rfl)
theorem dX7_setFault_86 : decode cX7_setFault 86 = .ok (.iload_n 2, 1) := dk_28 (dk_at dksX7_setFault_3 14 rfl rfl)
theorem dX7_setFault_87 : decode cX7_setFault 87 = .ok (.ishl, 1) := dk_120 (dk_at dksX7_setFault_3 15 rfl rfl)
theorem dX7_setFault_88 : decode cX7_setFault 88 = .ok (.ior, 1) := dk_128 (dk_at dksX7_setFault_3 16 rfl rfl)
theorem dX7_setFault_89 : decode cX7_setFault 89 = .ok (.goto 18, 3) := dk_167 0 18 (dk_at dksX7_setFault_3 17 rfl rfl)
theorem dX7_setFault_92 : decode cX7_setFault 92 = .ok (.aload_n 0, 1) := dk_42 (dk_at dksX7_setFault_3 20 rfl rfl)
theorem dX7_setFault_93 : decode cX7_setFault 93 = .ok (.getfield 7, 3) := dk_180 0 7 (dk_at dksX7_setFault_3 21 rfl rfl)
theorem dX7_setFault_96 : decode cX7_setFault 96 = .ok (.bipush 38, 2) := dk_16 38 (dk_at dksX7_setFault_4 0 rfl rfl)
theorem dX7_setFault_98 : decode cX7_setFault 98 = .ok (.iload_n 1, 1) := dk_27 (dk_at dksX7_setFault_4 2 rfl rfl)
theorem dX7_setFault_99 : decode cX7_setFault 99 = .ok (.iadd, 1) := dk_96 (dk_at dksX7_setFault_4 3 rfl rfl)
theorem dX7_setFault_100 : decode cX7_setFault 100 = .ok (.iaload, 1) := dk_46 (dk_at dksX7_setFault_4 4 rfl rfl)
theorem dX7_setFault_101 : decode cX7_setFault 101 = .ok (.iconst 1, 1) := dk_4 (dk_at dksX7_setFault_4 5 rfl rfl)
theorem dX7_setFault_102 : decode cX7_setFault 102 = .ok (.iload_n 2, 1) := dk_28 (dk_at dksX7_setFault_4 6 rfl rfl)
theorem dX7_setFault_103 : decode cX7_setFault 103 = .ok (.ishl, 1) := dk_120 (dk_at dksX7_setFault_4 7 rfl rfl)
theorem dX7_setFault_104 : decode cX7_setFault 104 = .ok (.iconst (-1), 1) := dk_2 (dk_at dksX7_setFault_4 8 rfl rfl)
theorem dX7_setFault_105 : decode cX7_setFault 105 = .ok (.ixor, 1) := dk_130 (dk_at dksX7_setFault_4 9 rfl rfl)
theorem dX7_setFault_106 : decode cX7_setFault 106 = .ok (.iand, 1) := dk_126 (dk_at dksX7_setFault_4 10 rfl rfl)
theorem dX7_setFault_107 : decode cX7_setFault 107 = .ok (.iastore, 1) := dk_79 (dk_at dksX7_setFault_4 11 rfl rfl)
theorem dX7_setFault_108 : decode cX7_setFault 108 = .ok (.iload 4, 2) := dk_21 4 (dk_at dksX7_setFault_4 12 rfl rfl)
theorem dX7_setFault_110 : decode cX7_setFault 110 = .ok (.ireturn, 1) := dk_172 (dk_at dksX7_setFault_4 14 rfl rfl)
abbrev cX7_rest : ByteArray := prog_17_method_51_code
def yX7_rest : MethodName := ⟨RX7, "rest", "()I"⟩
def dkwX7_rest_0 : List UInt8 := [42, 3, 181, 0, 47, 42, 180, 0, 7, 3, 46, 60, 42, 42, 180, 0, 7, 182, 0, 43, 27, 172]
abbrev dktX7_rest_0 : List UInt8 := dkwX7_rest_0 ++ []
theorem dksX7_rest_0 : cX7_rest.data.toList.drop 0 = dktX7_rest_0 := by decide +kernel
theorem dX7_rest_0 : decode cX7_rest 0 = .ok (.aload_n 0, 1) := dk_42 (dk_at dksX7_rest_0 0 rfl rfl)
theorem dX7_rest_1 : decode cX7_rest 1 = .ok (.iconst 0, 1) := dk_3 (dk_at dksX7_rest_0 1 rfl rfl)
theorem dX7_rest_2 : decode cX7_rest 2 = .ok (.putfield 47, 3) := dk_181 0 47 (dk_at dksX7_rest_0 2 rfl rfl)
theorem dX7_rest_5 : decode cX7_rest 5 = .ok (.aload_n 0, 1) := dk_42 (dk_at dksX7_rest_0 5 rfl rfl)
theorem dX7_rest_6 : decode cX7_rest 6 = .ok (.getfield 7, 3) := dk_180 0 7 (dk_at dksX7_rest_0 6 rfl rfl)
theorem dX7_rest_9 : decode cX7_rest 9 = .ok (.iconst 0, 1) := dk_3 (dk_at dksX7_rest_0 9 rfl rfl)
theorem dX7_rest_10 : decode cX7_rest 10 = .ok (.iaload, 1) := dk_46 (dk_at dksX7_rest_0 10 rfl rfl)
theorem dX7_rest_11 : decode cX7_rest 11 = .ok (.istore_n 1, 1) := dk_60 (dk_at dksX7_rest_0 11 rfl rfl)
theorem dX7_rest_12 : decode cX7_rest 12 = .ok (.aload_n 0, 1) := dk_42 (dk_at dksX7_rest_0 12 rfl rfl)
theorem dX7_rest_13 : decode cX7_rest 13 = .ok (.aload_n 0, 1) := dk_42 (dk_at dksX7_rest_0 13 rfl rfl)
theorem dX7_rest_14 : decode cX7_rest 14 = .ok (.getfield 7, 3) := dk_180 0 7 (dk_at dksX7_rest_0 14 rfl rfl)
theorem dX7_rest_17 : decode cX7_rest 17 = .ok (.invokevirtual 43, 3) := dk_182 0 43 (dk_at dksX7_rest_0 17 rfl rfl)
theorem dX7_rest_20 : decode cX7_rest 20 = .ok (.iload_n 1, 1) := dk_27 (dk_at dksX7_rest_0 20 rfl rfl)
theorem dX7_rest_21 : decode cX7_rest 21 = .ok (.ireturn, 1) := dk_172 (dk_at dksX7_rest_0 21 rfl rfl)
abbrev cX7_ticks : ByteArray := prog_17_method_52_code
def yX7_ticks : MethodName := ⟨RX7, "ticks", "(I)I"⟩
def dkwX7_ticks_3 : List UInt8 := [100, 172]
abbrev dktX7_ticks_3 : List UInt8 := dkwX7_ticks_3 ++ []
def dkwX7_ticks_2 : List UInt8 := [162, 0, 17, 42, 42, 180, 0, 7, 182, 0, 171, 132, 3, 1, 167, 255, 240, 42, 180, 0, 7, 7, 46, 28]
abbrev dktX7_ticks_2 : List UInt8 := dkwX7_ticks_2 ++ dktX7_ticks_3
def dkwX7_ticks_1 : List UInt8 := [180, 0, 104, 154, 0, 9, 42, 5, 182, 0, 55, 172, 42, 180, 0, 7, 7, 46, 61, 3, 62, 29, 27]
abbrev dktX7_ticks_1 : List UInt8 := dkwX7_ticks_1 ++ dktX7_ticks_2
def dkwX7_ticks_0 : List UInt8 := [42, 3, 181, 0, 47, 27, 3, 17, 19, 136, 184, 0, 51, 154, 0, 9, 42, 4, 182, 0, 55, 172, 42]
abbrev dktX7_ticks_0 : List UInt8 := dkwX7_ticks_0 ++ dktX7_ticks_1
theorem dksX7_ticks_0 : cX7_ticks.data.toList.drop 0 = dktX7_ticks_0 := by decide +kernel
theorem dksX7_ticks_1 : cX7_ticks.data.toList.drop 23 = dktX7_ticks_1 := dk_seg dksX7_ticks_0 23 rfl rfl
theorem dksX7_ticks_2 : cX7_ticks.data.toList.drop 46 = dktX7_ticks_2 := dk_seg dksX7_ticks_1 23 rfl rfl
theorem dksX7_ticks_3 : cX7_ticks.data.toList.drop 70 = dktX7_ticks_3 := dk_seg dksX7_ticks_2 24 rfl rfl
theorem dX7_ticks_0 : decode cX7_ticks 0 = .ok (.aload_n 0, 1) := dk_42 (dk_at dksX7_ticks_0 0 rfl rfl)
theorem dX7_ticks_1 : decode cX7_ticks 1 = .ok (.iconst 0, 1) := dk_3 (dk_at dksX7_ticks_0 1 rfl rfl)
theorem dX7_ticks_2 : decode cX7_ticks 2 = .ok (.putfield 47, 3) := dk_181 0 47 (dk_at dksX7_ticks_0 2 rfl rfl)
theorem dX7_ticks_5 : decode cX7_ticks 5 = .ok (.iload_n 1, 1) := dk_27 (dk_at dksX7_ticks_0 5 rfl rfl)
theorem dX7_ticks_6 : decode cX7_ticks 6 = .ok (.iconst 0, 1) := dk_3 (dk_at dksX7_ticks_0 6 rfl rfl)
theorem dX7_ticks_7 : decode cX7_ticks 7 = .ok (.sipush 5000, 3) := dk_17 19 136 (dk_at dksX7_ticks_0 7 rfl rfl)
theorem dX7_ticks_10 : decode cX7_ticks 10 = .ok (.invokestatic 51, 3) := dk_184 0 51 (dk_at dksX7_ticks_0 10 rfl rfl)
theorem dX7_ticks_13 : decode cX7_ticks 13 = .ok (.ifCond .ne 9, 3) := dk_154 0 9 (dk_at dksX7_ticks_0 13 rfl rfl)
theorem dX7_ticks_16 : decode cX7_ticks 16 = .ok (.aload_n 0, 1) := dk_42 (dk_at dksX7_ticks_0 16 rfl rfl)
theorem dX7_ticks_17 : decode cX7_ticks 17 = .ok (.iconst 1, 1) := dk_4 (dk_at dksX7_ticks_0 17 rfl rfl)
theorem dX7_ticks_18 : decode cX7_ticks 18 = .ok (.invokevirtual 55, 3) := dk_182 0 55 (dk_at dksX7_ticks_0 18 rfl rfl)
theorem dX7_ticks_21 : decode cX7_ticks 21 = .ok (.ireturn, 1) := dk_172 (dk_at dksX7_ticks_0 21 rfl rfl)
theorem dX7_ticks_22 : decode cX7_ticks 22 = .ok (.aload_n 0, 1) := dk_42 (dk_at dksX7_ticks_0 22 rfl rfl)
theorem dX7_ticks_23 : decode cX7_ticks 23 = .ok (.getfield 104, 3) := dk_180 0 104 (dk_at dksX7_ticks_1 0 rfl rfl)
theorem dX7_ticks_26 : decode cX7_ticks 26 = .ok (.ifCond .ne 9, 3) := dk_154 0 9 (dk_at dksX7_ticks_1 3 rfl rfl)
theorem dX7_ticks_29 : decode cX7_ticks 29 = .ok (.aload_n 0, 1) := dk_42 (dk_at dksX7_ticks_1 6 rfl rfl)
theorem dX7_ticks_30 : decode cX7_ticks 30 = .ok (.iconst 2, 1) := dk_5 (dk_at dksX7_ticks_1 7 rfl rfl)
theorem dX7_ticks_31 : decode cX7_ticks 31 = .ok (.invokevirtual 55, 3) := dk_182 0 55 (dk_at dksX7_ticks_1 8 rfl rfl)
theorem dX7_ticks_34 : decode cX7_ticks 34 = .ok (.ireturn, 1) := dk_172 (dk_at dksX7_ticks_1 11 rfl rfl)
theorem dX7_ticks_35 : decode cX7_ticks 35 = .ok (.aload_n 0, 1) := dk_42 (dk_at dksX7_ticks_1 12 rfl rfl)
theorem dX7_ticks_36 : decode cX7_ticks 36 = .ok (.getfield 7, 3) := dk_180 0 7 (dk_at dksX7_ticks_1 13 rfl rfl)
theorem dX7_ticks_39 : decode cX7_ticks 39 = .ok (.iconst 4, 1) := dk_7 (dk_at dksX7_ticks_1 16 rfl rfl)
theorem dX7_ticks_40 : decode cX7_ticks 40 = .ok (.iaload, 1) := dk_46 (dk_at dksX7_ticks_1 17 rfl rfl)
theorem dX7_ticks_41 : decode cX7_ticks 41 = .ok (.istore_n 2, 1) := dk_61 (dk_at dksX7_ticks_1 18 rfl rfl)
theorem dX7_ticks_42 : decode cX7_ticks 42 = .ok (.iconst 0, 1) := dk_3 (dk_at dksX7_ticks_1 19 rfl rfl)
theorem dX7_ticks_43 : decode cX7_ticks 43 = .ok (.istore_n 3, 1) := dk_62 (dk_at dksX7_ticks_1 20 rfl rfl)
theorem dX7_ticks_44 : decode cX7_ticks 44 = .ok (.iload_n 3, 1) := dk_29 (dk_at dksX7_ticks_1 21 rfl rfl)
theorem dX7_ticks_45 : decode cX7_ticks 45 = .ok (.iload_n 1, 1) := dk_27 (dk_at dksX7_ticks_1 22 rfl rfl)
theorem dX7_ticks_46 : decode cX7_ticks 46 = .ok (.if_icmp .ge 17, 3) := dk_162 0 17 (dk_at dksX7_ticks_2 0 rfl rfl)
theorem dX7_ticks_49 : decode cX7_ticks 49 = .ok (.aload_n 0, 1) := dk_42 (dk_at dksX7_ticks_2 3 rfl rfl)
theorem dX7_ticks_50 : decode cX7_ticks 50 = .ok (.aload_n 0, 1) := dk_42 (dk_at dksX7_ticks_2 4 rfl rfl)
theorem dX7_ticks_51 : decode cX7_ticks 51 = .ok (.getfield 7, 3) := dk_180 0 7 (dk_at dksX7_ticks_2 5 rfl rfl)
theorem dX7_ticks_54 : decode cX7_ticks 54 = .ok (.invokevirtual 171, 3) := dk_182 0 171 (dk_at dksX7_ticks_2 8 rfl rfl)
theorem dX7_ticks_57 : decode cX7_ticks 57 = .ok (.iinc 3 1, 3) := dk_132 3 1 (dk_at dksX7_ticks_2 11 rfl rfl)
theorem dX7_ticks_60 : decode cX7_ticks 60 = .ok (.goto (-16), 3) := dk_167 255 240 (dk_at dksX7_ticks_2 14 rfl rfl)
theorem dX7_ticks_63 : decode cX7_ticks 63 = .ok (.aload_n 0, 1) := dk_42 (dk_at dksX7_ticks_2 17 rfl rfl)
theorem dX7_ticks_64 : decode cX7_ticks 64 = .ok (.getfield 7, 3) := dk_180 0 7 (dk_at dksX7_ticks_2 18 rfl rfl)
theorem dX7_ticks_67 : decode cX7_ticks 67 = .ok (.iconst 4, 1) := dk_7 (dk_at dksX7_ticks_2 21 rfl rfl)
theorem dX7_ticks_68 : decode cX7_ticks 68 = .ok (.iaload, 1) := dk_46 (dk_at dksX7_ticks_2 22 rfl rfl)
theorem dX7_ticks_69 : decode cX7_ticks 69 = .ok (.iload_n 2, 1) := dk_28 (dk_at dksX7_ticks_2 23 rfl rfl)
theorem dX7_ticks_70 : decode cX7_ticks 70 = .ok (.isub, 1) := dk_100 (dk_at dksX7_ticks_3 0 rfl rfl)
theorem dX7_ticks_71 : decode cX7_ticks 71 = .ok (.ireturn, 1) := dk_172 (dk_at dksX7_ticks_3 1 rfl rfl)
abbrev cX7_ticksOnce : ByteArray := prog_17_method_46_code
def yX7_ticksOnce : MethodName := ⟨RX7, "ticksOnce", "([I)V"⟩
def dkwX7_ticksOnce_16 : List UInt8 := [46, 4, 96, 79, 43, 16, 10, 29, 153, 0, 7, 3, 167, 0, 9, 43, 16, 10, 46, 4, 96, 79, 177]
abbrev dktX7_ticksOnce_16 : List UInt8 := dkwX7_ticksOnce_16 ++ []
def dkwX7_ticksOnce_15 : List UInt8 := [16, 60, 162, 0, 10, 21, 5, 4, 96, 167, 0, 5, 16, 60, 79, 132, 4, 1, 167, 255, 176, 43, 3, 92]
abbrev dktX7_ticksOnce_15 : List UInt8 := dkwX7_ticksOnce_15 ++ dktX7_ticksOnce_16
def dkwX7_ticksOnce_14 : List UInt8 := [167, 0, 4, 3, 54, 6, 43, 16, 44, 21, 4, 96, 21, 6, 154, 0, 7, 3, 167, 0, 19, 21, 5]
abbrev dktX7_ticksOnce_14 : List UInt8 := dkwX7_ticksOnce_14 ++ dktX7_ticksOnce_15
def dkwX7_ticksOnce_13 : List UInt8 := [46, 54, 5, 42, 180, 0, 25, 21, 4, 46, 158, 0, 17, 28, 21, 4, 122, 4, 126, 4, 160, 0, 7, 4]
abbrev dktX7_ticksOnce_13 : List UInt8 := dkwX7_ticksOnce_13 ++ dktX7_ticksOnce_14
def dkwX7_ticksOnce_12 : List UInt8 := [132, 4, 1, 167, 255, 147, 3, 54, 4, 21, 4, 42, 180, 0, 104, 162, 0, 77, 43, 16, 44, 21, 4, 96]
abbrev dktX7_ticksOnce_12 : List UInt8 := dkwX7_ticksOnce_12 ++ dktX7_ticksOnce_13
def dkwX7_ticksOnce_11 : List UInt8 := [96, 92, 46, 21, 6, 96, 79, 29, 154, 0, 8, 21, 6, 153, 0, 7, 4, 167, 0, 4, 3, 62]
abbrev dktX7_ticksOnce_11 : List UInt8 := dkwX7_ticksOnce_11 ++ dktX7_ticksOnce_12
def dkwX7_ticksOnce_10 : List UInt8 := [43, 16, 20, 21, 4, 96, 46, 21, 5, 162, 0, 7, 4, 167, 0, 4, 2, 54, 6, 43, 16, 20, 21, 4]
abbrev dktX7_ticksOnce_10 : List UInt8 := dkwX7_ticksOnce_10 ++ dktX7_ticksOnce_11
def dkwX7_ticksOnce_9 : List UInt8 := [96, 46, 4, 126, 4, 159, 0, 15, 43, 16, 20, 21, 4, 96, 46, 21, 5, 160, 0, 7, 3, 167, 0, 20]
abbrev dktX7_ticksOnce_9 : List UInt8 := dkwX7_ticksOnce_9 ++ dktX7_ticksOnce_10
def dkwX7_ticksOnce_8 : List UInt8 := [96, 46, 4, 160, 0, 13, 42, 180, 0, 16, 21, 4, 46, 167, 0, 4, 3, 54, 5, 43, 16, 38, 21, 4]
abbrev dktX7_ticksOnce_8 : List UInt8 := dkwX7_ticksOnce_8 ++ dktX7_ticksOnce_9
def dkwX7_ticksOnce_7 : List UInt8 := [182, 0, 167, 132, 4, 1, 167, 255, 98, 3, 54, 4, 21, 4, 16, 6, 162, 0, 108, 43, 16, 26, 21, 4]
abbrev dktX7_ticksOnce_7 : List UInt8 := dkwX7_ticksOnce_7 ++ dktX7_ticksOnce_8
def dkwX7_ticksOnce_6 : List UInt8 := [21, 4, 96, 21, 6, 79, 4, 62, 42, 43, 21, 4, 21, 6, 4, 160, 0, 7, 4, 167, 0, 4, 3]
abbrev dktX7_ticksOnce_6 : List UInt8 := dkwX7_ticksOnce_6 ++ dktX7_ticksOnce_7
def dkwX7_ticksOnce_5 : List UInt8 := [16, 26, 21, 4, 96, 46, 54, 6, 21, 6, 43, 16, 26, 21, 4, 96, 46, 159, 0, 32, 43, 16, 26]
abbrev dktX7_ticksOnce_5 : List UInt8 := dkwX7_ticksOnce_5 ++ dktX7_ticksOnce_6
def dkwX7_ticksOnce_4 : List UInt8 := [21, 5, 79, 21, 5, 4, 160, 0, 7, 4, 167, 0, 20, 21, 5, 5, 160, 0, 7, 3, 167, 0, 10, 43]
abbrev dktX7_ticksOnce_4 : List UInt8 := dkwX7_ticksOnce_4 ++ dktX7_ticksOnce_5
def dkwX7_ticksOnce_3 : List UInt8 := [156, 0, 7, 5, 167, 0, 4, 3, 128, 54, 5, 132, 6, 1, 167, 255, 196, 43, 16, 32, 21, 4, 96]
abbrev dktX7_ticksOnce_3 : List UInt8 := dkwX7_ticksOnce_3 ++ dktX7_ticksOnce_4
def dkwX7_ticksOnce_2 : List UInt8 := [182, 0, 113, 167, 0, 4, 3, 54, 7, 21, 5, 21, 7, 158, 0, 7, 4, 167, 0, 13, 21, 7]
abbrev dktX7_ticksOnce_2 : List UInt8 := dkwX7_ticksOnce_2 ++ dktX7_ticksOnce_3
def dkwX7_ticksOnce_1 : List UInt8 := [21, 6, 42, 180, 0, 104, 162, 0, 57, 28, 21, 6, 122, 4, 126, 4, 160, 0, 14, 42, 21, 6, 21, 4]
abbrev dktX7_ticksOnce_1 : List UInt8 := dkwX7_ticksOnce_1 ++ dktX7_ticksOnce_2
def dkwX7_ticksOnce_0 : List UInt8 := [42, 43, 182, 0, 163, 61, 3, 62, 3, 54, 4, 21, 4, 16, 6, 162, 0, 157, 3, 54, 5, 3, 54, 6]
abbrev dktX7_ticksOnce_0 : List UInt8 := dkwX7_ticksOnce_0 ++ dktX7_ticksOnce_1
theorem dksX7_ticksOnce_0 : cX7_ticksOnce.data.toList.drop 0 = dktX7_ticksOnce_0 := by decide +kernel
theorem dksX7_ticksOnce_1 : cX7_ticksOnce.data.toList.drop 24 = dktX7_ticksOnce_1 := dk_seg dksX7_ticksOnce_0 24 rfl rfl
theorem dksX7_ticksOnce_2 : cX7_ticksOnce.data.toList.drop 48 = dktX7_ticksOnce_2 := dk_seg dksX7_ticksOnce_1 24 rfl rfl
theorem dksX7_ticksOnce_3 : cX7_ticksOnce.data.toList.drop 70 = dktX7_ticksOnce_3 := dk_seg dksX7_ticksOnce_2 22 rfl rfl
theorem dksX7_ticksOnce_4 : cX7_ticksOnce.data.toList.drop 93 = dktX7_ticksOnce_4 := dk_seg dksX7_ticksOnce_3 23 rfl rfl
theorem dksX7_ticksOnce_5 : cX7_ticksOnce.data.toList.drop 117 = dktX7_ticksOnce_5 := dk_seg dksX7_ticksOnce_4 24 rfl rfl
theorem dksX7_ticksOnce_6 : cX7_ticksOnce.data.toList.drop 140 = dktX7_ticksOnce_6 := dk_seg dksX7_ticksOnce_5 23 rfl rfl
theorem dksX7_ticksOnce_7 : cX7_ticksOnce.data.toList.drop 163 = dktX7_ticksOnce_7 := dk_seg dksX7_ticksOnce_6 23 rfl rfl
theorem dksX7_ticksOnce_8 : cX7_ticksOnce.data.toList.drop 187 = dktX7_ticksOnce_8 := dk_seg dksX7_ticksOnce_7 24 rfl rfl
theorem dksX7_ticksOnce_9 : cX7_ticksOnce.data.toList.drop 211 = dktX7_ticksOnce_9 := dk_seg dksX7_ticksOnce_8 24 rfl rfl
theorem dksX7_ticksOnce_10 : cX7_ticksOnce.data.toList.drop 235 = dktX7_ticksOnce_10 := dk_seg dksX7_ticksOnce_9 24 rfl rfl
theorem dksX7_ticksOnce_11 : cX7_ticksOnce.data.toList.drop 259 = dktX7_ticksOnce_11 := dk_seg dksX7_ticksOnce_10 24 rfl rfl
theorem dksX7_ticksOnce_12 : cX7_ticksOnce.data.toList.drop 281 = dktX7_ticksOnce_12 := dk_seg dksX7_ticksOnce_11 22 rfl rfl
theorem dksX7_ticksOnce_13 : cX7_ticksOnce.data.toList.drop 305 = dktX7_ticksOnce_13 := dk_seg dksX7_ticksOnce_12 24 rfl rfl
theorem dksX7_ticksOnce_14 : cX7_ticksOnce.data.toList.drop 329 = dktX7_ticksOnce_14 := dk_seg dksX7_ticksOnce_13 24 rfl rfl
theorem dksX7_ticksOnce_15 : cX7_ticksOnce.data.toList.drop 352 = dktX7_ticksOnce_15 := dk_seg dksX7_ticksOnce_14 23 rfl rfl
theorem dksX7_ticksOnce_16 : cX7_ticksOnce.data.toList.drop 376 = dktX7_ticksOnce_16 := dk_seg dksX7_ticksOnce_15 24 rfl rfl
theorem dX7_ticksOnce_0 : decode cX7_ticksOnce 0 = .ok (.aload_n 0, 1) := dk_42 (dk_at dksX7_ticksOnce_0 0 rfl rfl)
theorem dX7_ticksOnce_1 : decode cX7_ticksOnce 1 = .ok (.aload_n 1, 1) := dk_43 (dk_at dksX7_ticksOnce_0 1 rfl rfl)
theorem dX7_ticksOnce_2 : decode cX7_ticksOnce 2 = .ok (.invokevirtual 163, 3) := dk_182 0 163 (dk_at dksX7_ticksOnce_0 2 rfl rfl)
theorem dX7_ticksOnce_5 : decode cX7_ticksOnce 5 = .ok (.istore_n 2, 1) := dk_61 (dk_at dksX7_ticksOnce_0 5 rfl rfl)
theorem dX7_ticksOnce_6 : decode cX7_ticksOnce 6 = .ok (.iconst 0, 1) := dk_3 (dk_at dksX7_ticksOnce_0 6 rfl rfl)
theorem dX7_ticksOnce_7 : decode cX7_ticksOnce 7 = .ok (.istore_n 3, 1) := dk_62 (dk_at dksX7_ticksOnce_0 7 rfl rfl)
theorem dX7_ticksOnce_8 : decode cX7_ticksOnce 8 = .ok (.iconst 0, 1) := dk_3 (dk_at dksX7_ticksOnce_0 8 rfl rfl)
theorem dX7_ticksOnce_9 : decode cX7_ticksOnce 9 = .ok (.istore 4, 2) := dk_54 4 (dk_at dksX7_ticksOnce_0 9 rfl rfl)
theorem dX7_ticksOnce_11 : decode cX7_ticksOnce 11 = .ok (.iload 4, 2) := dk_21 4 (dk_at dksX7_ticksOnce_0 11 rfl rfl)
theorem dX7_ticksOnce_13 : decode cX7_ticksOnce 13 = .ok (.bipush 6, 2) := dk_16 6 (dk_at dksX7_ticksOnce_0 13 rfl rfl)
theorem dX7_ticksOnce_15 : decode cX7_ticksOnce 15 = .ok (.if_icmp .ge 157, 3) := dk_162 0 157 (dk_at dksX7_ticksOnce_0 15 rfl rfl)
theorem dX7_ticksOnce_18 : decode cX7_ticksOnce 18 = .ok (.iconst 0, 1) := dk_3 (dk_at dksX7_ticksOnce_0 18 rfl rfl)
theorem dX7_ticksOnce_19 : decode cX7_ticksOnce 19 = .ok (.istore 5, 2) := dk_54 5 (dk_at dksX7_ticksOnce_0 19 rfl rfl)
theorem dX7_ticksOnce_21 : decode cX7_ticksOnce 21 = .ok (.iconst 0, 1) := dk_3 (dk_at dksX7_ticksOnce_0 21 rfl rfl)
theorem dX7_ticksOnce_22 : decode cX7_ticksOnce 22 = .ok (.istore 6, 2) := dk_54 6 (dk_at dksX7_ticksOnce_0 22 rfl rfl)
theorem dX7_ticksOnce_24 : decode cX7_ticksOnce 24 = .ok (.iload 6, 2) := dk_21 6 (dk_at dksX7_ticksOnce_1 0 rfl rfl)
theorem dX7_ticksOnce_26 : decode cX7_ticksOnce 26 = .ok (.aload_n 0, 1) := dk_42 (dk_at dksX7_ticksOnce_1 2 rfl rfl)
theorem dX7_ticksOnce_27 : decode cX7_ticksOnce 27 = .ok (.getfield 104, 3) := dk_180 0 104 (dk_at dksX7_ticksOnce_1 3 rfl rfl)
theorem dX7_ticksOnce_30 : decode cX7_ticksOnce 30 = .ok (.if_icmp .ge 57, 3) := dk_162 0 57 (dk_at dksX7_ticksOnce_1 6 rfl rfl)
theorem dX7_ticksOnce_33 : decode cX7_ticksOnce 33 = .ok (.iload_n 2, 1) := dk_28 (dk_at dksX7_ticksOnce_1 9 rfl rfl)
theorem dX7_ticksOnce_34 : decode cX7_ticksOnce 34 = .ok (.iload 6, 2) := dk_21 6 (dk_at dksX7_ticksOnce_1 10 rfl rfl)
theorem dX7_ticksOnce_36 : decode cX7_ticksOnce 36 = .ok (.ishr, 1) := dk_122 (dk_at dksX7_ticksOnce_1 12 rfl rfl)
theorem dX7_ticksOnce_37 : decode cX7_ticksOnce 37 = .ok (.iconst 1, 1) := dk_4 (dk_at dksX7_ticksOnce_1 13 rfl rfl)
theorem dX7_ticksOnce_38 : decode cX7_ticksOnce 38 = .ok (.iand, 1) := dk_126 (dk_at dksX7_ticksOnce_1 14 rfl rfl)
theorem dX7_ticksOnce_39 : decode cX7_ticksOnce 39 = .ok (.iconst 1, 1) := dk_4 (dk_at dksX7_ticksOnce_1 15 rfl rfl)
theorem dX7_ticksOnce_40 : decode cX7_ticksOnce 40 = .ok (.if_icmp .ne 14, 3) := dk_160 0 14 (dk_at dksX7_ticksOnce_1 16 rfl rfl)
theorem dX7_ticksOnce_43 : decode cX7_ticksOnce 43 = .ok (.aload_n 0, 1) := dk_42 (dk_at dksX7_ticksOnce_1 19 rfl rfl)
theorem dX7_ticksOnce_44 : decode cX7_ticksOnce 44 = .ok (.iload 6, 2) := dk_21 6 (dk_at dksX7_ticksOnce_1 20 rfl rfl)
theorem dX7_ticksOnce_46 : decode cX7_ticksOnce 46 = .ok (.iload 4, 2) := dk_21 4 (dk_at dksX7_ticksOnce_1 22 rfl rfl)
theorem dX7_ticksOnce_48 : decode cX7_ticksOnce 48 = .ok (.invokevirtual 113, 3) := dk_182 0 113 (dk_at dksX7_ticksOnce_2 0 rfl rfl)
theorem dX7_ticksOnce_51 : decode cX7_ticksOnce 51 = .ok (.goto 4, 3) := dk_167 0 4 (dk_at dksX7_ticksOnce_2 3 rfl rfl)
theorem dX7_ticksOnce_54 : decode cX7_ticksOnce 54 = .ok (.iconst 0, 1) := dk_3 (dk_at dksX7_ticksOnce_2 6 rfl rfl)
theorem dX7_ticksOnce_55 : decode cX7_ticksOnce 55 = .ok (.istore 7, 2) := dk_54 7 (dk_at dksX7_ticksOnce_2 7 rfl rfl)
theorem dX7_ticksOnce_57 : decode cX7_ticksOnce 57 = .ok (.iload 5, 2) := dk_21 5 (dk_at dksX7_ticksOnce_2 9 rfl rfl)
theorem dX7_ticksOnce_59 : decode cX7_ticksOnce 59 = .ok (.iload 7, 2) := dk_21 7 (dk_at dksX7_ticksOnce_2 11 rfl rfl)
theorem dX7_ticksOnce_61 : decode cX7_ticksOnce 61 = .ok (.ifCond .le 7, 3) := dk_158 0 7 (dk_at dksX7_ticksOnce_2 13 rfl rfl)
theorem dX7_ticksOnce_64 : decode cX7_ticksOnce 64 = .ok (.iconst 1, 1) := dk_4 (dk_at dksX7_ticksOnce_2 16 rfl rfl)
theorem dX7_ticksOnce_65 : decode cX7_ticksOnce 65 = .ok (.goto 13, 3) := dk_167 0 13 (dk_at dksX7_ticksOnce_2 17 rfl rfl)
theorem dX7_ticksOnce_68 : decode cX7_ticksOnce 68 = .ok (.iload 7, 2) := dk_21 7 (dk_at dksX7_ticksOnce_2 20 rfl rfl)
theorem dX7_ticksOnce_70 : decode cX7_ticksOnce 70 = .ok (.ifCond .ge 7, 3) := dk_156 0 7 (dk_at dksX7_ticksOnce_3 0 rfl rfl)
theorem dX7_ticksOnce_73 : decode cX7_ticksOnce 73 = .ok (.iconst 2, 1) := dk_5 (dk_at dksX7_ticksOnce_3 3 rfl rfl)
theorem dX7_ticksOnce_74 : decode cX7_ticksOnce 74 = .ok (.goto 4, 3) := dk_167 0 4 (dk_at dksX7_ticksOnce_3 4 rfl rfl)
theorem dX7_ticksOnce_77 : decode cX7_ticksOnce 77 = .ok (.iconst 0, 1) := dk_3 (dk_at dksX7_ticksOnce_3 7 rfl rfl)
theorem dX7_ticksOnce_78 : decode cX7_ticksOnce 78 = .ok (.ior, 1) := dk_128 (dk_at dksX7_ticksOnce_3 8 rfl rfl)
theorem dX7_ticksOnce_79 : decode cX7_ticksOnce 79 = .ok (.istore 5, 2) := dk_54 5 (dk_at dksX7_ticksOnce_3 9 rfl rfl)
theorem dX7_ticksOnce_81 : decode cX7_ticksOnce 81 = .ok (.iinc 6 1, 3) := dk_132 6 1 (dk_at dksX7_ticksOnce_3 11 rfl rfl)
theorem dX7_ticksOnce_84 : decode cX7_ticksOnce 84 = .ok (.goto (-60), 3) := dk_167 255 196 (dk_at dksX7_ticksOnce_3 14 rfl rfl)
theorem dX7_ticksOnce_87 : decode cX7_ticksOnce 87 = .ok (.aload_n 1, 1) := dk_43 (dk_at dksX7_ticksOnce_3 17 rfl rfl)
theorem dX7_ticksOnce_88 : decode cX7_ticksOnce 88 = .ok (.bipush 32, 2) := dk_16 32 (dk_at dksX7_ticksOnce_3 18 rfl rfl)
theorem dX7_ticksOnce_90 : decode cX7_ticksOnce 90 = .ok (.iload 4, 2) := dk_21 4 (dk_at dksX7_ticksOnce_3 20 rfl rfl)
theorem dX7_ticksOnce_92 : decode cX7_ticksOnce 92 = .ok (.iadd, 1) := dk_96 (dk_at dksX7_ticksOnce_3 22 rfl rfl)
theorem dX7_ticksOnce_93 : decode cX7_ticksOnce 93 = .ok (.iload 5, 2) := dk_21 5 (dk_at dksX7_ticksOnce_4 0 rfl rfl)
theorem dX7_ticksOnce_95 : decode cX7_ticksOnce 95 = .ok (.iastore, 1) := dk_79 (dk_at dksX7_ticksOnce_4 2 rfl rfl)
theorem dX7_ticksOnce_96 : decode cX7_ticksOnce 96 = .ok (.iload 5, 2) := dk_21 5 (dk_at dksX7_ticksOnce_4 3 rfl rfl)
theorem dX7_ticksOnce_98 : decode cX7_ticksOnce 98 = .ok (.iconst 1, 1) := dk_4 (dk_at dksX7_ticksOnce_4 5 rfl rfl)
theorem dX7_ticksOnce_99 : decode cX7_ticksOnce 99 = .ok (.if_icmp .ne 7, 3) := dk_160 0 7 (dk_at dksX7_ticksOnce_4 6 rfl rfl)
theorem dX7_ticksOnce_102 : decode cX7_ticksOnce 102 = .ok (.iconst 1, 1) := dk_4 (dk_at dksX7_ticksOnce_4 9 rfl rfl)
theorem dX7_ticksOnce_103 : decode cX7_ticksOnce 103 = .ok (.goto 20, 3) := dk_167 0 20 (dk_at dksX7_ticksOnce_4 10 rfl rfl)
theorem dX7_ticksOnce_106 : decode cX7_ticksOnce 106 = .ok (.iload 5, 2) := dk_21 5 (dk_at dksX7_ticksOnce_4 13 rfl rfl)
theorem dX7_ticksOnce_108 : decode cX7_ticksOnce 108 = .ok (.iconst 2, 1) := dk_5 (dk_at dksX7_ticksOnce_4 15 rfl rfl)
theorem dX7_ticksOnce_109 : decode cX7_ticksOnce 109 = .ok (.if_icmp .ne 7, 3) := dk_160 0 7 (dk_at dksX7_ticksOnce_4 16 rfl rfl)
theorem dX7_ticksOnce_112 : decode cX7_ticksOnce 112 = .ok (.iconst 0, 1) := dk_3 (dk_at dksX7_ticksOnce_4 19 rfl rfl)
theorem dX7_ticksOnce_113 : decode cX7_ticksOnce 113 = .ok (.goto 10, 3) := dk_167 0 10 (dk_at dksX7_ticksOnce_4 20 rfl rfl)
theorem dX7_ticksOnce_116 : decode cX7_ticksOnce 116 = .ok (.aload_n 1, 1) := dk_43 (dk_at dksX7_ticksOnce_4 23 rfl rfl)
theorem dX7_ticksOnce_117 : decode cX7_ticksOnce 117 = .ok (.bipush 26, 2) := dk_16 26 (dk_at dksX7_ticksOnce_5 0 rfl rfl)
theorem dX7_ticksOnce_119 : decode cX7_ticksOnce 119 = .ok (.iload 4, 2) := dk_21 4 (dk_at dksX7_ticksOnce_5 2 rfl rfl)
theorem dX7_ticksOnce_121 : decode cX7_ticksOnce 121 = .ok (.iadd, 1) := dk_96 (dk_at dksX7_ticksOnce_5 4 rfl rfl)
theorem dX7_ticksOnce_122 : decode cX7_ticksOnce 122 = .ok (.iaload, 1) := dk_46 (dk_at dksX7_ticksOnce_5 5 rfl rfl)
theorem dX7_ticksOnce_123 : decode cX7_ticksOnce 123 = .ok (.istore 6, 2) := dk_54 6 (dk_at dksX7_ticksOnce_5 6 rfl rfl)
theorem dX7_ticksOnce_125 : decode cX7_ticksOnce 125 = .ok (.iload 6, 2) := dk_21 6 (dk_at dksX7_ticksOnce_5 8 rfl rfl)
theorem dX7_ticksOnce_127 : decode cX7_ticksOnce 127 = .ok (.aload_n 1, 1) := dk_43 (dk_at dksX7_ticksOnce_5 10 rfl rfl)
theorem dX7_ticksOnce_128 : decode cX7_ticksOnce 128 = .ok (.bipush 26, 2) := dk_16 26 (dk_at dksX7_ticksOnce_5 11 rfl rfl)
theorem dX7_ticksOnce_130 : decode cX7_ticksOnce 130 = .ok (.iload 4, 2) := dk_21 4 (dk_at dksX7_ticksOnce_5 13 rfl rfl)
theorem dX7_ticksOnce_132 : decode cX7_ticksOnce 132 = .ok (.iadd, 1) := dk_96 (dk_at dksX7_ticksOnce_5 15 rfl rfl)
theorem dX7_ticksOnce_133 : decode cX7_ticksOnce 133 = .ok (.iaload, 1) := dk_46 (dk_at dksX7_ticksOnce_5 16 rfl rfl)
theorem dX7_ticksOnce_134 : decode cX7_ticksOnce 134 = .ok (.if_icmp .eq 32, 3) := dk_159 0 32 (dk_at dksX7_ticksOnce_5 17 rfl rfl)
theorem dX7_ticksOnce_137 : decode cX7_ticksOnce 137 = .ok (.aload_n 1, 1) := dk_43 (dk_at dksX7_ticksOnce_5 20 rfl rfl)
theorem dX7_ticksOnce_138 : decode cX7_ticksOnce 138 = .ok (.bipush 26, 2) := dk_16 26 (dk_at dksX7_ticksOnce_5 21 rfl rfl)
theorem dX7_ticksOnce_140 : decode cX7_ticksOnce 140 = .ok (.iload 4, 2) := dk_21 4 (dk_at dksX7_ticksOnce_6 0 rfl rfl)
theorem dX7_ticksOnce_142 : decode cX7_ticksOnce 142 = .ok (.iadd, 1) := dk_96 (dk_at dksX7_ticksOnce_6 2 rfl rfl)
theorem dX7_ticksOnce_143 : decode cX7_ticksOnce 143 = .ok (.iload 6, 2) := dk_21 6 (dk_at dksX7_ticksOnce_6 3 rfl rfl)
theorem dX7_ticksOnce_145 : decode cX7_ticksOnce 145 = .ok (.iastore, 1) := dk_79 (dk_at dksX7_ticksOnce_6 5 rfl rfl)
theorem dX7_ticksOnce_146 : decode cX7_ticksOnce 146 = .ok (.iconst 1, 1) := dk_4 (dk_at dksX7_ticksOnce_6 6 rfl rfl)
theorem dX7_ticksOnce_147 : decode cX7_ticksOnce 147 = .ok (.istore_n 3, 1) := dk_62 (dk_at dksX7_ticksOnce_6 7 rfl rfl)
theorem dX7_ticksOnce_148 : decode cX7_ticksOnce 148 = .ok (.aload_n 0, 1) := dk_42 (dk_at dksX7_ticksOnce_6 8 rfl rfl)
theorem dX7_ticksOnce_149 : decode cX7_ticksOnce 149 = .ok (.aload_n 1, 1) := dk_43 (dk_at dksX7_ticksOnce_6 9 rfl rfl)
theorem dX7_ticksOnce_150 : decode cX7_ticksOnce 150 = .ok (.iload 4, 2) := dk_21 4 (dk_at dksX7_ticksOnce_6 10 rfl rfl)
theorem dX7_ticksOnce_152 : decode cX7_ticksOnce 152 = .ok (.iload 6, 2) := dk_21 6 (dk_at dksX7_ticksOnce_6 12 rfl rfl)
theorem dX7_ticksOnce_154 : decode cX7_ticksOnce 154 = .ok (.iconst 1, 1) := dk_4 (dk_at dksX7_ticksOnce_6 14 rfl rfl)
theorem dX7_ticksOnce_155 : decode cX7_ticksOnce 155 = .ok (.if_icmp .ne 7, 3) := dk_160 0 7 (dk_at dksX7_ticksOnce_6 15 rfl rfl)
theorem dX7_ticksOnce_158 : decode cX7_ticksOnce 158 = .ok (.iconst 1, 1) := dk_4 (dk_at dksX7_ticksOnce_6 18 rfl rfl)
theorem dX7_ticksOnce_159 : decode cX7_ticksOnce 159 = .ok (.goto 4, 3) := dk_167 0 4 (dk_at dksX7_ticksOnce_6 19 rfl rfl)
theorem dX7_ticksOnce_162 : decode cX7_ticksOnce 162 = .ok (.iconst 0, 1) := dk_3 (dk_at dksX7_ticksOnce_6 22 rfl rfl)
theorem dX7_ticksOnce_163 : decode cX7_ticksOnce 163 = .ok (.invokevirtual 167, 3) := dk_182 0 167 (dk_at dksX7_ticksOnce_7 0 rfl rfl)
theorem dX7_ticksOnce_166 : decode cX7_ticksOnce 166 = .ok (.iinc 4 1, 3) := dk_132 4 1 (dk_at dksX7_ticksOnce_7 3 rfl rfl)
theorem dX7_ticksOnce_169 : decode cX7_ticksOnce 169 = .ok (.goto (-158), 3) := dk_167 255 98 (dk_at dksX7_ticksOnce_7 6 rfl rfl)
theorem dX7_ticksOnce_172 : decode cX7_ticksOnce 172 = .ok (.iconst 0, 1) := dk_3 (dk_at dksX7_ticksOnce_7 9 rfl rfl)
theorem dX7_ticksOnce_173 : decode cX7_ticksOnce 173 = .ok (.istore 4, 2) := dk_54 4 (dk_at dksX7_ticksOnce_7 10 rfl rfl)
theorem dX7_ticksOnce_175 : decode cX7_ticksOnce 175 = .ok (.iload 4, 2) := dk_21 4 (dk_at dksX7_ticksOnce_7 12 rfl rfl)
theorem dX7_ticksOnce_177 : decode cX7_ticksOnce 177 = .ok (.bipush 6, 2) := dk_16 6 (dk_at dksX7_ticksOnce_7 14 rfl rfl)
theorem dX7_ticksOnce_179 : decode cX7_ticksOnce 179 = .ok (.if_icmp .ge 108, 3) := dk_162 0 108 (dk_at dksX7_ticksOnce_7 16 rfl rfl)
theorem dX7_ticksOnce_182 : decode cX7_ticksOnce 182 = .ok (.aload_n 1, 1) := dk_43 (dk_at dksX7_ticksOnce_7 19 rfl rfl)
theorem dX7_ticksOnce_183 : decode cX7_ticksOnce 183 = .ok (.bipush 26, 2) := dk_16 26 (dk_at dksX7_ticksOnce_7 20 rfl rfl)
theorem dX7_ticksOnce_185 : decode cX7_ticksOnce 185 = .ok (.iload 4, 2) := dk_21 4 (dk_at dksX7_ticksOnce_7 22 rfl rfl)
theorem dX7_ticksOnce_187 : decode cX7_ticksOnce 187 = .ok (.iadd, 1) := dk_96 (dk_at dksX7_ticksOnce_8 0 rfl rfl)
theorem dX7_ticksOnce_188 : decode cX7_ticksOnce 188 = .ok (.iaload, 1) := dk_46 (dk_at dksX7_ticksOnce_8 1 rfl rfl)
theorem dX7_ticksOnce_189 : decode cX7_ticksOnce 189 = .ok (.iconst 1, 1) := dk_4 (dk_at dksX7_ticksOnce_8 2 rfl rfl)
theorem dX7_ticksOnce_190 : decode cX7_ticksOnce 190 = .ok (.if_icmp .ne 13, 3) := dk_160 0 13 (dk_at dksX7_ticksOnce_8 3 rfl rfl)
theorem dX7_ticksOnce_193 : decode cX7_ticksOnce 193 = .ok (.aload_n 0, 1) := dk_42 (dk_at dksX7_ticksOnce_8 6 rfl rfl)
theorem dX7_ticksOnce_194 : decode cX7_ticksOnce 194 = .ok (.getfield 16, 3) := dk_180 0 16 (dk_at dksX7_ticksOnce_8 7 rfl rfl)
theorem dX7_ticksOnce_197 : decode cX7_ticksOnce 197 = .ok (.iload 4, 2) := dk_21 4 (dk_at dksX7_ticksOnce_8 10 rfl rfl)
theorem dX7_ticksOnce_199 : decode cX7_ticksOnce 199 = .ok (.iaload, 1) := dk_46 (dk_at dksX7_ticksOnce_8 12 rfl rfl)
theorem dX7_ticksOnce_200 : decode cX7_ticksOnce 200 = .ok (.goto 4, 3) := dk_167 0 4 (dk_at dksX7_ticksOnce_8 13 rfl rfl)
theorem dX7_ticksOnce_203 : decode cX7_ticksOnce 203 = .ok (.iconst 0, 1) := dk_3 (dk_at dksX7_ticksOnce_8 16 rfl rfl)
theorem dX7_ticksOnce_204 : decode cX7_ticksOnce 204 = .ok (.istore 5, 2) := dk_54 5 (dk_at dksX7_ticksOnce_8 17 rfl rfl)
theorem dX7_ticksOnce_206 : decode cX7_ticksOnce 206 = .ok (.aload_n 1, 1) := dk_43 (dk_at dksX7_ticksOnce_8 19 rfl rfl)
theorem dX7_ticksOnce_207 : decode cX7_ticksOnce 207 = .ok (.bipush 38, 2) := dk_16 38 (dk_at dksX7_ticksOnce_8 20 rfl rfl)
theorem dX7_ticksOnce_209 : decode cX7_ticksOnce 209 = .ok (.iload 4, 2) := dk_21 4 (dk_at dksX7_ticksOnce_8 22 rfl rfl)
theorem dX7_ticksOnce_211 : decode cX7_ticksOnce 211 = .ok (.iadd, 1) := dk_96 (dk_at dksX7_ticksOnce_9 0 rfl rfl)
theorem dX7_ticksOnce_212 : decode cX7_ticksOnce 212 = .ok (.iaload, 1) := dk_46 (dk_at dksX7_ticksOnce_9 1 rfl rfl)
theorem dX7_ticksOnce_213 : decode cX7_ticksOnce 213 = .ok (.iconst 1, 1) := dk_4 (dk_at dksX7_ticksOnce_9 2 rfl rfl)
theorem dX7_ticksOnce_214 : decode cX7_ticksOnce 214 = .ok (.iand, 1) := dk_126 (dk_at dksX7_ticksOnce_9 3 rfl rfl)
theorem dX7_ticksOnce_215 : decode cX7_ticksOnce 215 = .ok (.iconst 1, 1) := dk_4 (dk_at dksX7_ticksOnce_9 4 rfl rfl)
theorem dX7_ticksOnce_216 : decode cX7_ticksOnce 216 = .ok (.if_icmp .eq 15, 3) := dk_159 0 15 (dk_at dksX7_ticksOnce_9 5 rfl rfl)
theorem dX7_ticksOnce_219 : decode cX7_ticksOnce 219 = .ok (.aload_n 1, 1) := dk_43 (dk_at dksX7_ticksOnce_9 8 rfl rfl)
theorem dX7_ticksOnce_220 : decode cX7_ticksOnce 220 = .ok (.bipush 20, 2) := dk_16 20 (dk_at dksX7_ticksOnce_9 9 rfl rfl)
theorem dX7_ticksOnce_222 : decode cX7_ticksOnce 222 = .ok (.iload 4, 2) := dk_21 4 (dk_at dksX7_ticksOnce_9 11 rfl rfl)
theorem dX7_ticksOnce_224 : decode cX7_ticksOnce 224 = .ok (.iadd, 1) := dk_96 (dk_at dksX7_ticksOnce_9 13 rfl rfl)
theorem dX7_ticksOnce_225 : decode cX7_ticksOnce 225 = .ok (.iaload, 1) := dk_46 (dk_at dksX7_ticksOnce_9 14 rfl rfl)
theorem dX7_ticksOnce_226 : decode cX7_ticksOnce 226 = .ok (.iload 5, 2) := dk_21 5 (dk_at dksX7_ticksOnce_9 15 rfl rfl)
theorem dX7_ticksOnce_228 : decode cX7_ticksOnce 228 = .ok (.if_icmp .ne 7, 3) := dk_160 0 7 (dk_at dksX7_ticksOnce_9 17 rfl rfl)
theorem dX7_ticksOnce_231 : decode cX7_ticksOnce 231 = .ok (.iconst 0, 1) := dk_3 (dk_at dksX7_ticksOnce_9 20 rfl rfl)
theorem dX7_ticksOnce_232 : decode cX7_ticksOnce 232 = .ok (.goto 20, 3) := dk_167 0 20 (dk_at dksX7_ticksOnce_9 21 rfl rfl)
theorem dX7_ticksOnce_235 : decode cX7_ticksOnce 235 = .ok (.aload_n 1, 1) := dk_43 (dk_at dksX7_ticksOnce_10 0 rfl rfl)
theorem dX7_ticksOnce_236 : decode cX7_ticksOnce 236 = .ok (.bipush 20, 2) := dk_16 20 (dk_at dksX7_ticksOnce_10 1 rfl rfl)
theorem dX7_ticksOnce_238 : decode cX7_ticksOnce 238 = .ok (.iload 4, 2) := dk_21 4 (dk_at dksX7_ticksOnce_10 3 rfl rfl)
theorem dX7_ticksOnce_240 : decode cX7_ticksOnce 240 = .ok (.iadd, 1) := dk_96 (dk_at dksX7_ticksOnce_10 5 rfl rfl)
theorem dX7_ticksOnce_241 : decode cX7_ticksOnce 241 = .ok (.iaload, 1) := dk_46 (dk_at dksX7_ticksOnce_10 6 rfl rfl)
theorem dX7_ticksOnce_242 : decode cX7_ticksOnce 242 = .ok (.iload 5, 2) := dk_21 5 (dk_at dksX7_ticksOnce_10 7 rfl rfl)
theorem dX7_ticksOnce_244 : decode cX7_ticksOnce 244 = .ok (.if_icmp .ge 7, 3) := dk_162 0 7 (dk_at dksX7_ticksOnce_10 9 rfl rfl)
theorem dX7_ticksOnce_247 : decode cX7_ticksOnce 247 = .ok (.iconst 1, 1) := dk_4 (dk_at dksX7_ticksOnce_10 12 rfl rfl)
theorem dX7_ticksOnce_248 : decode cX7_ticksOnce 248 = .ok (.goto 4, 3) := dk_167 0 4 (dk_at dksX7_ticksOnce_10 13 rfl rfl)
theorem dX7_ticksOnce_251 : decode cX7_ticksOnce 251 = .ok (.iconst (-1), 1) := dk_2 (dk_at dksX7_ticksOnce_10 16 rfl rfl)
theorem dX7_ticksOnce_252 : decode cX7_ticksOnce 252 = .ok (.istore 6, 2) := dk_54 6 (dk_at dksX7_ticksOnce_10 17 rfl rfl)
theorem dX7_ticksOnce_254 : decode cX7_ticksOnce 254 = .ok (.aload_n 1, 1) := dk_43 (dk_at dksX7_ticksOnce_10 19 rfl rfl)
theorem dX7_ticksOnce_255 : decode cX7_ticksOnce 255 = .ok (.bipush 20, 2) := dk_16 20 (dk_at dksX7_ticksOnce_10 20 rfl rfl)
theorem dX7_ticksOnce_257 : decode cX7_ticksOnce 257 = .ok (.iload 4, 2) := dk_21 4 (dk_at dksX7_ticksOnce_10 22 rfl rfl)
theorem dX7_ticksOnce_259 : decode cX7_ticksOnce 259 = .ok (.iadd, 1) := dk_96 (dk_at dksX7_ticksOnce_11 0 rfl rfl)
theorem dX7_ticksOnce_260 : decode cX7_ticksOnce 260 = .ok (.dup2, 1) := dk_92 (dk_at dksX7_ticksOnce_11 1 rfl rfl)
theorem dX7_ticksOnce_261 : decode cX7_ticksOnce 261 = .ok (.iaload, 1) := dk_46 (dk_at dksX7_ticksOnce_11 2 rfl rfl)
theorem dX7_ticksOnce_262 : decode cX7_ticksOnce 262 = .ok (.iload 6, 2) := dk_21 6 (dk_at dksX7_ticksOnce_11 3 rfl rfl)
theorem dX7_ticksOnce_264 : decode cX7_ticksOnce 264 = .ok (.iadd, 1) := dk_96 (dk_at dksX7_ticksOnce_11 5 rfl rfl)
theorem dX7_ticksOnce_265 : decode cX7_ticksOnce 265 = .ok (.iastore, 1) := dk_79 (dk_at dksX7_ticksOnce_11 6 rfl rfl)
theorem dX7_ticksOnce_266 : decode cX7_ticksOnce 266 = .ok (.iload_n 3, 1) := dk_29 (dk_at dksX7_ticksOnce_11 7 rfl rfl)
theorem dX7_ticksOnce_267 : decode cX7_ticksOnce 267 = .ok (.ifCond .ne 8, 3) := dk_154 0 8 (dk_at dksX7_ticksOnce_11 8 rfl rfl)
theorem dX7_ticksOnce_270 : decode cX7_ticksOnce 270 = .ok (.iload 6, 2) := dk_21 6 (dk_at dksX7_ticksOnce_11 11 rfl rfl)
theorem dX7_ticksOnce_272 : decode cX7_ticksOnce 272 = .ok (.ifCond .eq 7, 3) := dk_153 0 7 (dk_at dksX7_ticksOnce_11 13 rfl rfl)
theorem dX7_ticksOnce_275 : decode cX7_ticksOnce 275 = .ok (.iconst 1, 1) := dk_4 (dk_at dksX7_ticksOnce_11 16 rfl rfl)
theorem dX7_ticksOnce_276 : decode cX7_ticksOnce 276 = .ok (.goto 4, 3) := dk_167 0 4 (dk_at dksX7_ticksOnce_11 17 rfl rfl)
theorem dX7_ticksOnce_279 : decode cX7_ticksOnce 279 = .ok (.iconst 0, 1) := dk_3 (dk_at dksX7_ticksOnce_11 20 rfl rfl)
theorem dX7_ticksOnce_280 : decode cX7_ticksOnce 280 = .ok (.istore_n 3, 1) := dk_62 (dk_at dksX7_ticksOnce_11 21 rfl rfl)
theorem dX7_ticksOnce_281 : decode cX7_ticksOnce 281 = .ok (.iinc 4 1, 3) := dk_132 4 1 (dk_at dksX7_ticksOnce_12 0 rfl rfl)
theorem dX7_ticksOnce_284 : decode cX7_ticksOnce 284 = .ok (.goto (-109), 3) := dk_167 255 147 (dk_at dksX7_ticksOnce_12 3 rfl rfl)
theorem dX7_ticksOnce_287 : decode cX7_ticksOnce 287 = .ok (.iconst 0, 1) := dk_3 (dk_at dksX7_ticksOnce_12 6 rfl rfl)
theorem dX7_ticksOnce_288 : decode cX7_ticksOnce 288 = .ok (.istore 4, 2) := dk_54 4 (dk_at dksX7_ticksOnce_12 7 rfl rfl)
theorem dX7_ticksOnce_290 : decode cX7_ticksOnce 290 = .ok (.iload 4, 2) := dk_21 4 (dk_at dksX7_ticksOnce_12 9 rfl rfl)
theorem dX7_ticksOnce_292 : decode cX7_ticksOnce 292 = .ok (.aload_n 0, 1) := dk_42 (dk_at dksX7_ticksOnce_12 11 rfl rfl)
theorem dX7_ticksOnce_293 : decode cX7_ticksOnce 293 = .ok (.getfield 104, 3) := dk_180 0 104 (dk_at dksX7_ticksOnce_12 12 rfl rfl)
theorem dX7_ticksOnce_296 : decode cX7_ticksOnce 296 = .ok (.if_icmp .ge 77, 3) := dk_162 0 77 (dk_at dksX7_ticksOnce_12 15 rfl rfl)
theorem dX7_ticksOnce_299 : decode cX7_ticksOnce 299 = .ok (.aload_n 1, 1) := dk_43 (dk_at dksX7_ticksOnce_12 18 rfl rfl)
theorem dX7_ticksOnce_300 : decode cX7_ticksOnce 300 = .ok (.bipush 44, 2) := dk_16 44 (dk_at dksX7_ticksOnce_12 19 rfl rfl)
theorem dX7_ticksOnce_302 : decode cX7_ticksOnce 302 = .ok (.iload 4, 2) := dk_21 4 (dk_at dksX7_ticksOnce_12 21 rfl rfl)
theorem dX7_ticksOnce_304 : decode cX7_ticksOnce 304 = .ok (.iadd, 1) := dk_96 (dk_at dksX7_ticksOnce_12 23 rfl rfl)
theorem dX7_ticksOnce_305 : decode cX7_ticksOnce 305 = .ok (.iaload, 1) := dk_46 (dk_at dksX7_ticksOnce_13 0 rfl rfl)
theorem dX7_ticksOnce_306 : decode cX7_ticksOnce 306 = .ok (.istore 5, 2) := dk_54 5 (dk_at dksX7_ticksOnce_13 1 rfl rfl)
theorem dX7_ticksOnce_308 : decode cX7_ticksOnce 308 = .ok (.aload_n 0, 1) := dk_42 (dk_at dksX7_ticksOnce_13 3 rfl rfl)
theorem dX7_ticksOnce_309 : decode cX7_ticksOnce 309 = .ok (.getfield 25, 3) := dk_180 0 25 (dk_at dksX7_ticksOnce_13 4 rfl rfl)
theorem dX7_ticksOnce_312 : decode cX7_ticksOnce 312 = .ok (.iload 4, 2) := dk_21 4 (dk_at dksX7_ticksOnce_13 7 rfl rfl)
theorem dX7_ticksOnce_314 : decode cX7_ticksOnce 314 = .ok (.iaload, 1) := dk_46 (dk_at dksX7_ticksOnce_13 9 rfl rfl)
theorem dX7_ticksOnce_315 : decode cX7_ticksOnce 315 = .ok (.ifCond .le 17, 3) := dk_158 0 17 (dk_at dksX7_ticksOnce_13 10 rfl rfl)
theorem dX7_ticksOnce_318 : decode cX7_ticksOnce 318 = .ok (.iload_n 2, 1) := dk_28 (dk_at dksX7_ticksOnce_13 13 rfl rfl)
theorem dX7_ticksOnce_319 : decode cX7_ticksOnce 319 = .ok (.iload 4, 2) := dk_21 4 (dk_at dksX7_ticksOnce_13 14 rfl rfl)
theorem dX7_ticksOnce_321 : decode cX7_ticksOnce 321 = .ok (.ishr, 1) := dk_122 (dk_at dksX7_ticksOnce_13 16 rfl rfl)
theorem dX7_ticksOnce_322 : decode cX7_ticksOnce 322 = .ok (.iconst 1, 1) := dk_4 (dk_at dksX7_ticksOnce_13 17 rfl rfl)
theorem dX7_ticksOnce_323 : decode cX7_ticksOnce 323 = .ok (.iand, 1) := dk_126 (dk_at dksX7_ticksOnce_13 18 rfl rfl)
theorem dX7_ticksOnce_324 : decode cX7_ticksOnce 324 = .ok (.iconst 1, 1) := dk_4 (dk_at dksX7_ticksOnce_13 19 rfl rfl)
theorem dX7_ticksOnce_325 : decode cX7_ticksOnce 325 = .ok (.if_icmp .ne 7, 3) := dk_160 0 7 (dk_at dksX7_ticksOnce_13 20 rfl rfl)
theorem dX7_ticksOnce_328 : decode cX7_ticksOnce 328 = .ok (.iconst 1, 1) := dk_4 (dk_at dksX7_ticksOnce_13 23 rfl rfl)
theorem dX7_ticksOnce_329 : decode cX7_ticksOnce 329 = .ok (.goto 4, 3) := dk_167 0 4 (dk_at dksX7_ticksOnce_14 0 rfl rfl)
theorem dX7_ticksOnce_332 : decode cX7_ticksOnce 332 = .ok (.iconst 0, 1) := dk_3 (dk_at dksX7_ticksOnce_14 3 rfl rfl)
theorem dX7_ticksOnce_333 : decode cX7_ticksOnce 333 = .ok (.istore 6, 2) := dk_54 6 (dk_at dksX7_ticksOnce_14 4 rfl rfl)
theorem dX7_ticksOnce_335 : decode cX7_ticksOnce 335 = .ok (.aload_n 1, 1) := dk_43 (dk_at dksX7_ticksOnce_14 6 rfl rfl)
theorem dX7_ticksOnce_336 : decode cX7_ticksOnce 336 = .ok (.bipush 44, 2) := dk_16 44 (dk_at dksX7_ticksOnce_14 7 rfl rfl)
theorem dX7_ticksOnce_338 : decode cX7_ticksOnce 338 = .ok (.iload 4, 2) := dk_21 4 (dk_at dksX7_ticksOnce_14 9 rfl rfl)
theorem dX7_ticksOnce_340 : decode cX7_ticksOnce 340 = .ok (.iadd, 1) := dk_96 (dk_at dksX7_ticksOnce_14 11 rfl rfl)
theorem dX7_ticksOnce_341 : decode cX7_ticksOnce 341 = .ok (.iload 6, 2) := dk_21 6 (dk_at dksX7_ticksOnce_14 12 rfl rfl)
theorem dX7_ticksOnce_343 : decode cX7_ticksOnce 343 = .ok (.ifCond .ne 7, 3) := dk_154 0 7 (dk_at dksX7_ticksOnce_14 14 rfl rfl)
theorem dX7_ticksOnce_346 : decode cX7_ticksOnce 346 = .ok (.iconst 0, 1) := dk_3 (dk_at dksX7_ticksOnce_14 17 rfl rfl)
theorem dX7_ticksOnce_347 : decode cX7_ticksOnce 347 = .ok (.goto 19, 3) := dk_167 0 19 (dk_at dksX7_ticksOnce_14 18 rfl rfl)
theorem dX7_ticksOnce_350 : decode cX7_ticksOnce 350 = .ok (.iload 5, 2) := dk_21 5 (dk_at dksX7_ticksOnce_14 21 rfl rfl)
theorem dX7_ticksOnce_352 : decode cX7_ticksOnce 352 = .ok (.bipush 60, 2) := dk_16 60 (dk_at dksX7_ticksOnce_15 0 rfl rfl)
theorem dX7_ticksOnce_354 : decode cX7_ticksOnce 354 = .ok (.if_icmp .ge 10, 3) := dk_162 0 10 (dk_at dksX7_ticksOnce_15 2 rfl rfl)
theorem dX7_ticksOnce_357 : decode cX7_ticksOnce 357 = .ok (.iload 5, 2) := dk_21 5 (dk_at dksX7_ticksOnce_15 5 rfl rfl)
theorem dX7_ticksOnce_359 : decode cX7_ticksOnce 359 = .ok (.iconst 1, 1) := dk_4 (dk_at dksX7_ticksOnce_15 7 rfl rfl)
theorem dX7_ticksOnce_360 : decode cX7_ticksOnce 360 = .ok (.iadd, 1) := dk_96 (dk_at dksX7_ticksOnce_15 8 rfl rfl)
theorem dX7_ticksOnce_361 : decode cX7_ticksOnce 361 = .ok (.goto 5, 3) := dk_167 0 5 (dk_at dksX7_ticksOnce_15 9 rfl rfl)
theorem dX7_ticksOnce_364 : decode cX7_ticksOnce 364 = .ok (.bipush 60, 2) := dk_16 60 (dk_at dksX7_ticksOnce_15 12 rfl rfl)
theorem dX7_ticksOnce_366 : decode cX7_ticksOnce 366 = .ok (.iastore, 1) := dk_79 (dk_at dksX7_ticksOnce_15 14 rfl rfl)
theorem dX7_ticksOnce_367 : decode cX7_ticksOnce 367 = .ok (.iinc 4 1, 3) := dk_132 4 1 (dk_at dksX7_ticksOnce_15 15 rfl rfl)
theorem dX7_ticksOnce_370 : decode cX7_ticksOnce 370 = .ok (.goto (-80), 3) := dk_167 255 176 (dk_at dksX7_ticksOnce_15 18 rfl rfl)
theorem dX7_ticksOnce_373 : decode cX7_ticksOnce 373 = .ok (.aload_n 1, 1) := dk_43 (dk_at dksX7_ticksOnce_15 21 rfl rfl)
theorem dX7_ticksOnce_374 : decode cX7_ticksOnce 374 = .ok (.iconst 0, 1) := dk_3 (dk_at dksX7_ticksOnce_15 22 rfl rfl)
theorem dX7_ticksOnce_375 : decode cX7_ticksOnce 375 = .ok (.dup2, 1) := dk_92 (dk_at dksX7_ticksOnce_15 23 rfl rfl)
theorem dX7_ticksOnce_376 : decode cX7_ticksOnce 376 = .ok (.iaload, 1) := dk_46 (dk_at dksX7_ticksOnce_16 0 rfl rfl)
theorem dX7_ticksOnce_377 : decode cX7_ticksOnce 377 = .ok (.iconst 1, 1) := dk_4 (dk_at dksX7_ticksOnce_16 1 rfl rfl)
theorem dX7_ticksOnce_378 : decode cX7_ticksOnce 378 = .ok (.iadd, 1) := dk_96 (dk_at dksX7_ticksOnce_16 2 rfl rfl)
theorem dX7_ticksOnce_379 : decode cX7_ticksOnce 379 = .ok (.iastore, 1) := dk_79 (dk_at dksX7_ticksOnce_16 3 rfl rfl)
theorem dX7_ticksOnce_380 : decode cX7_ticksOnce 380 = .ok (.aload_n 1, 1) := dk_43 (dk_at dksX7_ticksOnce_16 4 rfl rfl)
theorem dX7_ticksOnce_381 : decode cX7_ticksOnce 381 = .ok (.bipush 10, 2) := dk_16 10 (dk_at dksX7_ticksOnce_16 5 rfl rfl)
theorem dX7_ticksOnce_383 : decode cX7_ticksOnce 383 = .ok (.iload_n 3, 1) := dk_29 (dk_at dksX7_ticksOnce_16 7 rfl rfl)
theorem dX7_ticksOnce_384 : decode cX7_ticksOnce 384 = .ok (.ifCond .eq 7, 3) := dk_153 0 7 (dk_at dksX7_ticksOnce_16 8 rfl rfl)
theorem dX7_ticksOnce_387 : decode cX7_ticksOnce 387 = .ok (.iconst 0, 1) := dk_3 (dk_at dksX7_ticksOnce_16 11 rfl rfl)
theorem dX7_ticksOnce_388 : decode cX7_ticksOnce 388 = .ok (.goto 9, 3) := dk_167 0 9 (dk_at dksX7_ticksOnce_16 12 rfl rfl)
theorem dX7_ticksOnce_391 : decode cX7_ticksOnce 391 = .ok (.aload_n 1, 1) := dk_43 (dk_at dksX7_ticksOnce_16 15 rfl rfl)
theorem dX7_ticksOnce_392 : decode cX7_ticksOnce 392 = .ok (.bipush 10, 2) := dk_16 10 (dk_at dksX7_ticksOnce_16 16 rfl rfl)
theorem dX7_ticksOnce_394 : decode cX7_ticksOnce 394 = .ok (.iaload, 1) := dk_46 (dk_at dksX7_ticksOnce_16 18 rfl rfl)
theorem dX7_ticksOnce_395 : decode cX7_ticksOnce 395 = .ok (.iconst 1, 1) := dk_4 (dk_at dksX7_ticksOnce_16 19 rfl rfl)
theorem dX7_ticksOnce_396 : decode cX7_ticksOnce 396 = .ok (.iadd, 1) := dk_96 (dk_at dksX7_ticksOnce_16 20 rfl rfl)
theorem dX7_ticksOnce_397 : decode cX7_ticksOnce 397 = .ok (.iastore, 1) := dk_79 (dk_at dksX7_ticksOnce_16 21 rfl rfl)
theorem dX7_ticksOnce_398 : decode cX7_ticksOnce 398 = .ok (.return_, 1) := dk_177 (dk_at dksX7_ticksOnce_16 22 rfl rfl)
abbrev cX7_decides : ByteArray := prog_17_method_44_code
def yX7_decides : MethodName := ⟨RX7, "decides", "([I)I"⟩
def dkwX7_decides_12 : List UInt8 := [4, 21, 6, 120, 167, 0, 4, 3, 128, 61, 132, 6, 1, 167, 255, 179, 28, 172]
abbrev dktX7_decides_12 : List UInt8 := dkwX7_decides_12 ++ []
def dkwX7_decides_11 : List UInt8 := [167, 0, 4, 3, 54, 7, 28, 42, 21, 6, 182, 0, 139, 43, 6, 46, 160, 0, 15, 21, 7, 153, 0, 10]
abbrev dktX7_decides_11 : List UInt8 := dkwX7_decides_11 ++ dktX7_decides_12
def dkwX7_decides_10 : List UInt8 := [43, 42, 21, 6, 182, 0, 120, 182, 0, 159, 153, 0, 16, 21, 6, 157, 0, 7, 29, 153, 0, 7, 4]
abbrev dktX7_decides_10 : List UInt8 := dkwX7_decides_10 ++ dktX7_decides_11
def dkwX7_decides_9 : List UInt8 := [46, 46, 54, 5, 3, 54, 6, 21, 6, 42, 180, 0, 104, 162, 0, 74, 21, 6, 21, 5, 159, 0, 26, 42]
abbrev dktX7_decides_9 : List UInt8 := dkwX7_decides_9 ++ dktX7_decides_10
def dkwX7_decides_8 : List UInt8 := [180, 0, 28, 21, 4, 46, 157, 0, 7, 29, 153, 0, 8, 43, 6, 21, 4, 79, 42, 180, 0, 28, 43, 6]
abbrev dktX7_decides_8 : List UInt8 := dkwX7_decides_8 ++ dktX7_decides_9
def dkwX7_decides_7 : List UInt8 := [54, 4, 42, 43, 42, 42, 180, 0, 28, 21, 4, 46, 182, 0, 120, 182, 0, 159, 153, 0, 22, 42]
abbrev dktX7_decides_7 : List UInt8 := dkwX7_decides_7 ++ dktX7_decides_8
def dkwX7_decides_6 : List UInt8 := [156, 0, 7, 3, 167, 0, 8, 4, 43, 6, 46, 120, 172, 43, 6, 46, 4, 96, 42, 180, 0, 136, 112]
abbrev dktX7_decides_6 : List UInt8 := dkwX7_decides_6 ++ dktX7_decides_7
def dkwX7_decides_5 : List UInt8 := [6, 21, 4, 4, 96, 42, 180, 0, 104, 162, 0, 10, 21, 4, 4, 96, 167, 0, 4, 2, 79, 43, 6, 46]
abbrev dktX7_decides_5 : List UInt8 := dkwX7_decides_5 ++ dktX7_decides_6
def dkwX7_decides_4 : List UInt8 := [29, 153, 0, 7, 3, 167, 0, 4, 2, 79, 167, 0, 35, 42, 43, 21, 4, 182, 0, 159, 153, 0, 25, 43]
abbrev dktX7_decides_4 : List UInt8 := dkwX7_decides_4 ++ dktX7_decides_5
def dkwX7_decides_3 : List UInt8 := [167, 255, 210, 28, 172, 43, 4, 46, 5, 160, 0, 76, 43, 6, 46, 54, 4, 21, 4, 156, 0, 18, 43, 6]
abbrev dktX7_decides_3 : List UInt8 := dkwX7_decides_3 ++ dktX7_decides_4
def dkwX7_decides_2 : List UInt8 := [21, 4, 157, 0, 7, 29, 153, 0, 10, 4, 21, 4, 120, 167, 0, 4, 3, 128, 61, 132, 4, 1]
abbrev dktX7_decides_2 : List UInt8 := dkwX7_decides_2 ++ dktX7_decides_3
def dkwX7_decides_1 : List UInt8 := [21, 4, 42, 180, 0, 104, 162, 0, 43, 28, 42, 43, 42, 21, 4, 182, 0, 120, 182, 0, 159, 153, 0, 19]
abbrev dktX7_decides_1 : List UInt8 := dkwX7_decides_1 ++ dktX7_decides_2
def dkwX7_decides_0 : List UInt8 := [3, 61, 43, 5, 46, 4, 160, 0, 7, 4, 167, 0, 4, 3, 62, 43, 4, 46, 154, 0, 57, 3, 54, 4]
abbrev dktX7_decides_0 : List UInt8 := dkwX7_decides_0 ++ dktX7_decides_1
theorem dksX7_decides_0 : cX7_decides.data.toList.drop 0 = dktX7_decides_0 := by decide +kernel
theorem dksX7_decides_1 : cX7_decides.data.toList.drop 24 = dktX7_decides_1 := dk_seg dksX7_decides_0 24 rfl rfl
theorem dksX7_decides_2 : cX7_decides.data.toList.drop 48 = dktX7_decides_2 := dk_seg dksX7_decides_1 24 rfl rfl
theorem dksX7_decides_3 : cX7_decides.data.toList.drop 70 = dktX7_decides_3 := dk_seg dksX7_decides_2 22 rfl rfl
theorem dksX7_decides_4 : cX7_decides.data.toList.drop 94 = dktX7_decides_4 := dk_seg dksX7_decides_3 24 rfl rfl
theorem dksX7_decides_5 : cX7_decides.data.toList.drop 118 = dktX7_decides_5 := dk_seg dksX7_decides_4 24 rfl rfl
theorem dksX7_decides_6 : cX7_decides.data.toList.drop 142 = dktX7_decides_6 := dk_seg dksX7_decides_5 24 rfl rfl
theorem dksX7_decides_7 : cX7_decides.data.toList.drop 165 = dktX7_decides_7 := dk_seg dksX7_decides_6 23 rfl rfl
theorem dksX7_decides_8 : cX7_decides.data.toList.drop 187 = dktX7_decides_8 := dk_seg dksX7_decides_7 22 rfl rfl
theorem dksX7_decides_9 : cX7_decides.data.toList.drop 211 = dktX7_decides_9 := dk_seg dksX7_decides_8 24 rfl rfl
theorem dksX7_decides_10 : cX7_decides.data.toList.drop 235 = dktX7_decides_10 := dk_seg dksX7_decides_9 24 rfl rfl
theorem dksX7_decides_11 : cX7_decides.data.toList.drop 258 = dktX7_decides_11 := dk_seg dksX7_decides_10 23 rfl rfl
theorem dksX7_decides_12 : cX7_decides.data.toList.drop 282 = dktX7_decides_12 := dk_seg dksX7_decides_11 24 rfl rfl
theorem dX7_decides_0 : decode cX7_decides 0 = .ok (.iconst 0, 1) := dk_3 (dk_at dksX7_decides_0 0 rfl rfl)
theorem dX7_decides_1 : decode cX7_decides 1 = .ok (.istore_n 2, 1) := dk_61 (dk_at dksX7_decides_0 1 rfl rfl)
theorem dX7_decides_2 : decode cX7_decides 2 = .ok (.aload_n 1, 1) := dk_43 (dk_at dksX7_decides_0 2 rfl rfl)
theorem dX7_decides_3 : decode cX7_decides 3 = .ok (.iconst 2, 1) := dk_5 (dk_at dksX7_decides_0 3 rfl rfl)
theorem dX7_decides_4 : decode cX7_decides 4 = .ok (.iaload, 1) := dk_46 (dk_at dksX7_decides_0 4 rfl rfl)
theorem dX7_decides_5 : decode cX7_decides 5 = .ok (.iconst 1, 1) := dk_4 (dk_at dksX7_decides_0 5 rfl rfl)
theorem dX7_decides_6 : decode cX7_decides 6 = .ok (.if_icmp .ne 7, 3) := dk_160 0 7 (dk_at dksX7_decides_0 6 rfl rfl)
theorem dX7_decides_9 : decode cX7_decides 9 = .ok (.iconst 1, 1) := dk_4 (dk_at dksX7_decides_0 9 rfl rfl)
theorem dX7_decides_10 : decode cX7_decides 10 = .ok (.goto 4, 3) := dk_167 0 4 (dk_at dksX7_decides_0 10 rfl rfl)
theorem dX7_decides_13 : decode cX7_decides 13 = .ok (.iconst 0, 1) := dk_3 (dk_at dksX7_decides_0 13 rfl rfl)
theorem dX7_decides_14 : decode cX7_decides 14 = .ok (.istore_n 3, 1) := dk_62 (dk_at dksX7_decides_0 14 rfl rfl)
theorem dX7_decides_15 : decode cX7_decides 15 = .ok (.aload_n 1, 1) := dk_43 (dk_at dksX7_decides_0 15 rfl rfl)
theorem dX7_decides_16 : decode cX7_decides 16 = .ok (.iconst 1, 1) := dk_4 (dk_at dksX7_decides_0 16 rfl rfl)
theorem dX7_decides_17 : decode cX7_decides 17 = .ok (.iaload, 1) := dk_46 (dk_at dksX7_decides_0 17 rfl rfl)
theorem dX7_decides_18 : decode cX7_decides 18 = .ok (.ifCond .ne 57, 3) := dk_154 0 57 (dk_at dksX7_decides_0 18 rfl rfl)
theorem dX7_decides_21 : decode cX7_decides 21 = .ok (.iconst 0, 1) := dk_3 (dk_at dksX7_decides_0 21 rfl rfl)
theorem dX7_decides_22 : decode cX7_decides 22 = .ok (.istore 4, 2) := dk_54 4 (dk_at dksX7_decides_0 22 rfl rfl)
theorem dX7_decides_24 : decode cX7_decides 24 = .ok (.iload 4, 2) := dk_21 4 (dk_at dksX7_decides_1 0 rfl rfl)
theorem dX7_decides_26 : decode cX7_decides 26 = .ok (.aload_n 0, 1) := dk_42 (dk_at dksX7_decides_1 2 rfl rfl)
theorem dX7_decides_27 : decode cX7_decides 27 = .ok (.getfield 104, 3) := dk_180 0 104 (dk_at dksX7_decides_1 3 rfl rfl)
theorem dX7_decides_30 : decode cX7_decides 30 = .ok (.if_icmp .ge 43, 3) := dk_162 0 43 (dk_at dksX7_decides_1 6 rfl rfl)
theorem dX7_decides_33 : decode cX7_decides 33 = .ok (.iload_n 2, 1) := dk_28 (dk_at dksX7_decides_1 9 rfl rfl)
theorem dX7_decides_34 : decode cX7_decides 34 = .ok (.aload_n 0, 1) := dk_42 (dk_at dksX7_decides_1 10 rfl rfl)
theorem dX7_decides_35 : decode cX7_decides 35 = .ok (.aload_n 1, 1) := dk_43 (dk_at dksX7_decides_1 11 rfl rfl)
theorem dX7_decides_36 : decode cX7_decides 36 = .ok (.aload_n 0, 1) := dk_42 (dk_at dksX7_decides_1 12 rfl rfl)
theorem dX7_decides_37 : decode cX7_decides 37 = .ok (.iload 4, 2) := dk_21 4 (dk_at dksX7_decides_1 13 rfl rfl)
theorem dX7_decides_39 : decode cX7_decides 39 = .ok (.invokevirtual 120, 3) := dk_182 0 120 (dk_at dksX7_decides_1 15 rfl rfl)
theorem dX7_decides_42 : decode cX7_decides 42 = .ok (.invokevirtual 159, 3) := dk_182 0 159 (dk_at dksX7_decides_1 18 rfl rfl)
theorem dX7_decides_45 : decode cX7_decides 45 = .ok (.ifCond .eq 19, 3) := dk_153 0 19 (dk_at dksX7_decides_1 21 rfl rfl)
theorem dX7_decides_48 : decode cX7_decides 48 = .ok (.iload 4, 2) := dk_21 4 (dk_at dksX7_decides_2 0 rfl rfl)
theorem dX7_decides_50 : decode cX7_decides 50 = .ok (.ifCond .gt 7, 3) := dk_157 0 7 (dk_at dksX7_decides_2 2 rfl rfl)
theorem dX7_decides_53 : decode cX7_decides 53 = .ok (.iload_n 3, 1) := dk_29 (dk_at dksX7_decides_2 5 rfl rfl)
theorem dX7_decides_54 : decode cX7_decides 54 = .ok (.ifCond .eq 10, 3) := dk_153 0 10 (dk_at dksX7_decides_2 6 rfl rfl)
theorem dX7_decides_57 : decode cX7_decides 57 = .ok (.iconst 1, 1) := dk_4 (dk_at dksX7_decides_2 9 rfl rfl)
theorem dX7_decides_58 : decode cX7_decides 58 = .ok (.iload 4, 2) := dk_21 4 (dk_at dksX7_decides_2 10 rfl rfl)
theorem dX7_decides_60 : decode cX7_decides 60 = .ok (.ishl, 1) := dk_120 (dk_at dksX7_decides_2 12 rfl rfl)
theorem dX7_decides_61 : decode cX7_decides 61 = .ok (.goto 4, 3) := dk_167 0 4 (dk_at dksX7_decides_2 13 rfl rfl)
theorem dX7_decides_64 : decode cX7_decides 64 = .ok (.iconst 0, 1) := dk_3 (dk_at dksX7_decides_2 16 rfl rfl)
theorem dX7_decides_65 : decode cX7_decides 65 = .ok (.ior, 1) := dk_128 (dk_at dksX7_decides_2 17 rfl rfl)
theorem dX7_decides_66 : decode cX7_decides 66 = .ok (.istore_n 2, 1) := dk_61 (dk_at dksX7_decides_2 18 rfl rfl)
theorem dX7_decides_67 : decode cX7_decides 67 = .ok (.iinc 4 1, 3) := dk_132 4 1 (dk_at dksX7_decides_2 19 rfl rfl)
theorem dX7_decides_70 : decode cX7_decides 70 = .ok (.goto (-46), 3) := dk_167 255 210 (dk_at dksX7_decides_3 0 rfl rfl)
theorem dX7_decides_73 : decode cX7_decides 73 = .ok (.iload_n 2, 1) := dk_28 (dk_at dksX7_decides_3 3 rfl rfl)
theorem dX7_decides_74 : decode cX7_decides 74 = .ok (.ireturn, 1) := dk_172 (dk_at dksX7_decides_3 4 rfl rfl)
theorem dX7_decides_75 : decode cX7_decides 75 = .ok (.aload_n 1, 1) := dk_43 (dk_at dksX7_decides_3 5 rfl rfl)
theorem dX7_decides_76 : decode cX7_decides 76 = .ok (.iconst 1, 1) := dk_4 (dk_at dksX7_decides_3 6 rfl rfl)
theorem dX7_decides_77 : decode cX7_decides 77 = .ok (.iaload, 1) := dk_46 (dk_at dksX7_decides_3 7 rfl rfl)
theorem dX7_decides_78 : decode cX7_decides 78 = .ok (.iconst 2, 1) := dk_5 (dk_at dksX7_decides_3 8 rfl rfl)
theorem dX7_decides_79 : decode cX7_decides 79 = .ok (.if_icmp .ne 76, 3) := dk_160 0 76 (dk_at dksX7_decides_3 9 rfl rfl)
theorem dX7_decides_82 : decode cX7_decides 82 = .ok (.aload_n 1, 1) := dk_43 (dk_at dksX7_decides_3 12 rfl rfl)
theorem dX7_decides_83 : decode cX7_decides 83 = .ok (.iconst 3, 1) := dk_6 (dk_at dksX7_decides_3 13 rfl rfl)
theorem dX7_decides_84 : decode cX7_decides 84 = .ok (.iaload, 1) := dk_46 (dk_at dksX7_decides_3 14 rfl rfl)
theorem dX7_decides_85 : decode cX7_decides 85 = .ok (.istore 4, 2) := dk_54 4 (dk_at dksX7_decides_3 15 rfl rfl)
theorem dX7_decides_87 : decode cX7_decides 87 = .ok (.iload 4, 2) := dk_21 4 (dk_at dksX7_decides_3 17 rfl rfl)
theorem dX7_decides_89 : decode cX7_decides 89 = .ok (.ifCond .ge 18, 3) := dk_156 0 18 (dk_at dksX7_decides_3 19 rfl rfl)
theorem dX7_decides_92 : decode cX7_decides 92 = .ok (.aload_n 1, 1) := dk_43 (dk_at dksX7_decides_3 22 rfl rfl)
theorem dX7_decides_93 : decode cX7_decides 93 = .ok (.iconst 3, 1) := dk_6 (dk_at dksX7_decides_3 23 rfl rfl)
theorem dX7_decides_94 : decode cX7_decides 94 = .ok (.iload_n 3, 1) := dk_29 (dk_at dksX7_decides_4 0 rfl rfl)
theorem dX7_decides_95 : decode cX7_decides 95 = .ok (.ifCond .eq 7, 3) := dk_153 0 7 (dk_at dksX7_decides_4 1 rfl rfl)
theorem dX7_decides_98 : decode cX7_decides 98 = .ok (.iconst 0, 1) := dk_3 (dk_at dksX7_decides_4 4 rfl rfl)
theorem dX7_decides_99 : decode cX7_decides 99 = .ok (.goto 4, 3) := dk_167 0 4 (dk_at dksX7_decides_4 5 rfl rfl)
theorem dX7_decides_102 : decode cX7_decides 102 = .ok (.iconst (-1), 1) := dk_2 (dk_at dksX7_decides_4 8 rfl rfl)
theorem dX7_decides_103 : decode cX7_decides 103 = .ok (.iastore, 1) := dk_79 (dk_at dksX7_decides_4 9 rfl rfl)
theorem dX7_decides_104 : decode cX7_decides 104 = .ok (.goto 35, 3) := dk_167 0 35 (dk_at dksX7_decides_4 10 rfl rfl)
theorem dX7_decides_107 : decode cX7_decides 107 = .ok (.aload_n 0, 1) := dk_42 (dk_at dksX7_decides_4 13 rfl rfl)
theorem dX7_decides_108 : decode cX7_decides 108 = .ok (.aload_n 1, 1) := dk_43 (dk_at dksX7_decides_4 14 rfl rfl)
theorem dX7_decides_109 : decode cX7_decides 109 = .ok (.iload 4, 2) := dk_21 4 (dk_at dksX7_decides_4 15 rfl rfl)
theorem dX7_decides_111 : decode cX7_decides 111 = .ok (.invokevirtual 159, 3) := dk_182 0 159 (dk_at dksX7_decides_4 17 rfl rfl)
theorem dX7_decides_114 : decode cX7_decides 114 = .ok (.ifCond .eq 25, 3) := dk_153 0 25 (dk_at dksX7_decides_4 20 rfl rfl)
theorem dX7_decides_117 : decode cX7_decides 117 = .ok (.aload_n 1, 1) := dk_43 (dk_at dksX7_decides_4 23 rfl rfl)
theorem dX7_decides_118 : decode cX7_decides 118 = .ok (.iconst 3, 1) := dk_6 (dk_at dksX7_decides_5 0 rfl rfl)
theorem dX7_decides_119 : decode cX7_decides 119 = .ok (.iload 4, 2) := dk_21 4 (dk_at dksX7_decides_5 1 rfl rfl)
theorem dX7_decides_121 : decode cX7_decides 121 = .ok (.iconst 1, 1) := dk_4 (dk_at dksX7_decides_5 3 rfl rfl)
theorem dX7_decides_122 : decode cX7_decides 122 = .ok (.iadd, 1) := dk_96 (dk_at dksX7_decides_5 4 rfl rfl)
theorem dX7_decides_123 : decode cX7_decides 123 = .ok (.aload_n 0, 1) := dk_42 (dk_at dksX7_decides_5 5 rfl rfl)
theorem dX7_decides_124 : decode cX7_decides 124 = .ok (.getfield 104, 3) := dk_180 0 104 (dk_at dksX7_decides_5 6 rfl rfl)
theorem dX7_decides_127 : decode cX7_decides 127 = .ok (.if_icmp .ge 10, 3) := dk_162 0 10 (dk_at dksX7_decides_5 9 rfl rfl)
theorem dX7_decides_130 : decode cX7_decides 130 = .ok (.iload 4, 2) := dk_21 4 (dk_at dksX7_decides_5 12 rfl rfl)
theorem dX7_decides_132 : decode cX7_decides 132 = .ok (.iconst 1, 1) := dk_4 (dk_at dksX7_decides_5 14 rfl rfl)
theorem dX7_decides_133 : decode cX7_decides 133 = .ok (.iadd, 1) := dk_96 (dk_at dksX7_decides_5 15 rfl rfl)
theorem dX7_decides_134 : decode cX7_decides 134 = .ok (.goto 4, 3) := dk_167 0 4 (dk_at dksX7_decides_5 16 rfl rfl)
theorem dX7_decides_137 : decode cX7_decides 137 = .ok (.iconst (-1), 1) := dk_2 (dk_at dksX7_decides_5 19 rfl rfl)
theorem dX7_decides_138 : decode cX7_decides 138 = .ok (.iastore, 1) := dk_79 (dk_at dksX7_decides_5 20 rfl rfl)
theorem dX7_decides_139 : decode cX7_decides 139 = .ok (.aload_n 1, 1) := dk_43 (dk_at dksX7_decides_5 21 rfl rfl)
theorem dX7_decides_140 : decode cX7_decides 140 = .ok (.iconst 3, 1) := dk_6 (dk_at dksX7_decides_5 22 rfl rfl)
theorem dX7_decides_141 : decode cX7_decides 141 = .ok (.iaload, 1) := dk_46 (dk_at dksX7_decides_5 23 rfl rfl)
theorem dX7_decides_142 : decode cX7_decides 142 = .ok (.ifCond .ge 7, 3) := dk_156 0 7 (dk_at dksX7_decides_6 0 rfl rfl)
theorem dX7_decides_145 : decode cX7_decides 145 = .ok (.iconst 0, 1) := dk_3 (dk_at dksX7_decides_6 3 rfl rfl)
theorem dX7_decides_146 : decode cX7_decides 146 = .ok (.goto 8, 3) := dk_167 0 8 (dk_at dksX7_decides_6 4 rfl rfl)
theorem dX7_decides_149 : decode cX7_decides 149 = .ok (.iconst 1, 1) := dk_4 (dk_at dksX7_decides_6 7 rfl rfl)
theorem dX7_decides_150 : decode cX7_decides 150 = .ok (.aload_n 1, 1) := dk_43 (dk_at dksX7_decides_6 8 rfl rfl)
theorem dX7_decides_151 : decode cX7_decides 151 = .ok (.iconst 3, 1) := dk_6 (dk_at dksX7_decides_6 9 rfl rfl)
theorem dX7_decides_152 : decode cX7_decides 152 = .ok (.iaload, 1) := dk_46 (dk_at dksX7_decides_6 10 rfl rfl)
theorem dX7_decides_153 : decode cX7_decides 153 = .ok (.ishl, 1) := dk_120 (dk_at dksX7_decides_6 11 rfl rfl)
theorem dX7_decides_154 : decode cX7_decides 154 = .ok (.ireturn, 1) := dk_172 (dk_at dksX7_decides_6 12 rfl rfl)
theorem dX7_decides_155 : decode cX7_decides 155 = .ok (.aload_n 1, 1) := dk_43 (dk_at dksX7_decides_6 13 rfl rfl)
theorem dX7_decides_156 : decode cX7_decides 156 = .ok (.iconst 3, 1) := dk_6 (dk_at dksX7_decides_6 14 rfl rfl)
theorem dX7_decides_157 : decode cX7_decides 157 = .ok (.iaload, 1) := dk_46 (dk_at dksX7_decides_6 15 rfl rfl)
theorem dX7_decides_158 : decode cX7_decides 158 = .ok (.iconst 1, 1) := dk_4 (dk_at dksX7_decides_6 16 rfl rfl)
theorem dX7_decides_159 : decode cX7_decides 159 = .ok (.iadd, 1) := dk_96 (dk_at dksX7_decides_6 17 rfl rfl)
theorem dX7_decides_160 : decode cX7_decides 160 = .ok (.aload_n 0, 1) := dk_42 (dk_at dksX7_decides_6 18 rfl rfl)
theorem dX7_decides_161 : decode cX7_decides 161 = .ok (.getfield 136, 3) := dk_180 0 136 (dk_at dksX7_decides_6 19 rfl rfl)
theorem dX7_decides_164 : decode cX7_decides 164 = .ok (.irem, 1) := dk_112 (dk_at dksX7_decides_6 22 rfl rfl)
theorem dX7_decides_165 : decode cX7_decides 165 = .ok (.istore 4, 2) := dk_54 4 (dk_at dksX7_decides_7 0 rfl rfl)
theorem dX7_decides_167 : decode cX7_decides 167 = .ok (.aload_n 0, 1) := dk_42 (dk_at dksX7_decides_7 2 rfl rfl)
theorem dX7_decides_168 : decode cX7_decides 168 = .ok (.aload_n 1, 1) := dk_43 (dk_at dksX7_decides_7 3 rfl rfl)
theorem dX7_decides_169 : decode cX7_decides 169 = .ok (.aload_n 0, 1) := dk_42 (dk_at dksX7_decides_7 4 rfl rfl)
theorem dX7_decides_170 : decode cX7_decides 170 = .ok (.aload_n 0, 1) := dk_42 (dk_at dksX7_decides_7 5 rfl rfl)
theorem dX7_decides_171 : decode cX7_decides 171 = .ok (.getfield 28, 3) := dk_180 0 28 (dk_at dksX7_decides_7 6 rfl rfl)
theorem dX7_decides_174 : decode cX7_decides 174 = .ok (.iload 4, 2) := dk_21 4 (dk_at dksX7_decides_7 9 rfl rfl)
theorem dX7_decides_176 : decode cX7_decides 176 = .ok (.iaload, 1) := dk_46 (dk_at dksX7_decides_7 11 rfl rfl)
theorem dX7_decides_177 : decode cX7_decides 177 = .ok (.invokevirtual 120, 3) := dk_182 0 120 (dk_at dksX7_decides_7 12 rfl rfl)
theorem dX7_decides_180 : decode cX7_decides 180 = .ok (.invokevirtual 159, 3) := dk_182 0 159 (dk_at dksX7_decides_7 15 rfl rfl)
theorem dX7_decides_183 : decode cX7_decides 183 = .ok (.ifCond .eq 22, 3) := dk_153 0 22 (dk_at dksX7_decides_7 18 rfl rfl)
theorem dX7_decides_186 : decode cX7_decides 186 = .ok (.aload_n 0, 1) := dk_42 (dk_at dksX7_decides_7 21 rfl rfl)
theorem dX7_decides_187 : decode cX7_decides 187 = .ok (.getfield 28, 3) := dk_180 0 28 (dk_at dksX7_decides_8 0 rfl rfl)
theorem dX7_decides_190 : decode cX7_decides 190 = .ok (.iload 4, 2) := dk_21 4 (dk_at dksX7_decides_8 3 rfl rfl)
theorem dX7_decides_192 : decode cX7_decides 192 = .ok (.iaload, 1) := dk_46 (dk_at dksX7_decides_8 5 rfl rfl)
theorem dX7_decides_193 : decode cX7_decides 193 = .ok (.ifCond .gt 7, 3) := dk_157 0 7 (dk_at dksX7_decides_8 6 rfl rfl)
theorem dX7_decides_196 : decode cX7_decides 196 = .ok (.iload_n 3, 1) := dk_29 (dk_at dksX7_decides_8 9 rfl rfl)
theorem dX7_decides_197 : decode cX7_decides 197 = .ok (.ifCond .eq 8, 3) := dk_153 0 8 (dk_at dksX7_decides_8 10 rfl rfl)
theorem dX7_decides_200 : decode cX7_decides 200 = .ok (.aload_n 1, 1) := dk_43 (dk_at dksX7_decides_8 13 rfl rfl)
theorem dX7_decides_201 : decode cX7_decides 201 = .ok (.iconst 3, 1) := dk_6 (dk_at dksX7_decides_8 14 rfl rfl)
theorem dX7_decides_202 : decode cX7_decides 202 = .ok (.iload 4, 2) := dk_21 4 (dk_at dksX7_decides_8 15 rfl rfl)
theorem dX7_decides_204 : decode cX7_decides 204 = .ok (.iastore, 1) := dk_79 (dk_at dksX7_decides_8 17 rfl rfl)
theorem dX7_decides_205 : decode cX7_decides 205 = .ok (.aload_n 0, 1) := dk_42 (dk_at dksX7_decides_8 18 rfl rfl)
theorem dX7_decides_206 : decode cX7_decides 206 = .ok (.getfield 28, 3) := dk_180 0 28 (dk_at dksX7_decides_8 19 rfl rfl)
theorem dX7_decides_209 : decode cX7_decides 209 = .ok (.aload_n 1, 1) := dk_43 (dk_at dksX7_decides_8 22 rfl rfl)
theorem dX7_decides_210 : decode cX7_decides 210 = .ok (.iconst 3, 1) := dk_6 (dk_at dksX7_decides_8 23 rfl rfl)
theorem dX7_decides_211 : decode cX7_decides 211 = .ok (.iaload, 1) := dk_46 (dk_at dksX7_decides_9 0 rfl rfl)
theorem dX7_decides_212 : decode cX7_decides 212 = .ok (.iaload, 1) := dk_46 (dk_at dksX7_decides_9 1 rfl rfl)
theorem dX7_decides_213 : decode cX7_decides 213 = .ok (.istore 5, 2) := dk_54 5 (dk_at dksX7_decides_9 2 rfl rfl)
theorem dX7_decides_215 : decode cX7_decides 215 = .ok (.iconst 0, 1) := dk_3 (dk_at dksX7_decides_9 4 rfl rfl)
theorem dX7_decides_216 : decode cX7_decides 216 = .ok (.istore 6, 2) := dk_54 6 (dk_at dksX7_decides_9 5 rfl rfl)
theorem dX7_decides_218 : decode cX7_decides 218 = .ok (.iload 6, 2) := dk_21 6 (dk_at dksX7_decides_9 7 rfl rfl)
theorem dX7_decides_220 : decode cX7_decides 220 = .ok (.aload_n 0, 1) := dk_42 (dk_at dksX7_decides_9 9 rfl rfl)
theorem dX7_decides_221 : decode cX7_decides 221 = .ok (.getfield 104, 3) := dk_180 0 104 (dk_at dksX7_decides_9 10 rfl rfl)
theorem dX7_decides_224 : decode cX7_decides 224 = .ok (.if_icmp .ge 74, 3) := dk_162 0 74 (dk_at dksX7_decides_9 13 rfl rfl)
theorem dX7_decides_227 : decode cX7_decides 227 = .ok (.iload 6, 2) := dk_21 6 (dk_at dksX7_decides_9 16 rfl rfl)
theorem dX7_decides_229 : decode cX7_decides 229 = .ok (.iload 5, 2) := dk_21 5 (dk_at dksX7_decides_9 18 rfl rfl)
theorem dX7_decides_231 : decode cX7_decides 231 = .ok (.if_icmp .eq 26, 3) := dk_159 0 26 (dk_at dksX7_decides_9 20 rfl rfl)
theorem dX7_decides_234 : decode cX7_decides 234 = .ok (.aload_n 0, 1) := dk_42 (dk_at dksX7_decides_9 23 rfl rfl)
theorem dX7_decides_235 : decode cX7_decides 235 = .ok (.aload_n 1, 1) := dk_43 (dk_at dksX7_decides_10 0 rfl rfl)
theorem dX7_decides_236 : decode cX7_decides 236 = .ok (.aload_n 0, 1) := dk_42 (dk_at dksX7_decides_10 1 rfl rfl)
theorem dX7_decides_237 : decode cX7_decides 237 = .ok (.iload 6, 2) := dk_21 6 (dk_at dksX7_decides_10 2 rfl rfl)
theorem dX7_decides_239 : decode cX7_decides 239 = .ok (.invokevirtual 120, 3) := dk_182 0 120 (dk_at dksX7_decides_10 4 rfl rfl)
theorem dX7_decides_242 : decode cX7_decides 242 = .ok (.invokevirtual 159, 3) := dk_182 0 159 (dk_at dksX7_decides_10 7 rfl rfl)
theorem dX7_decides_245 : decode cX7_decides 245 = .ok (.ifCond .eq 16, 3) := dk_153 0 16 (dk_at dksX7_decides_10 10 rfl rfl)
theorem dX7_decides_248 : decode cX7_decides 248 = .ok (.iload 6, 2) := dk_21 6 (dk_at dksX7_decides_10 13 rfl rfl)
theorem dX7_decides_250 : decode cX7_decides 250 = .ok (.ifCond .gt 7, 3) := dk_157 0 7 (dk_at dksX7_decides_10 15 rfl rfl)
theorem dX7_decides_253 : decode cX7_decides 253 = .ok (.iload_n 3, 1) := dk_29 (dk_at dksX7_decides_10 18 rfl rfl)
theorem dX7_decides_254 : decode cX7_decides 254 = .ok (.ifCond .eq 7, 3) := dk_153 0 7 (dk_at dksX7_decides_10 19 rfl rfl)
theorem dX7_decides_257 : decode cX7_decides 257 = .ok (.iconst 1, 1) := dk_4 (dk_at dksX7_decides_10 22 rfl rfl)
theorem dX7_decides_258 : decode cX7_decides 258 = .ok (.goto 4, 3) := dk_167 0 4 (dk_at dksX7_decides_11 0 rfl rfl)
theorem dX7_decides_261 : decode cX7_decides 261 = .ok (.iconst 0, 1) := dk_3 (dk_at dksX7_decides_11 3 rfl rfl)
theorem dX7_decides_262 : decode cX7_decides 262 = .ok (.istore 7, 2) := dk_54 7 (dk_at dksX7_decides_11 4 rfl rfl)
theorem dX7_decides_264 : decode cX7_decides 264 = .ok (.iload_n 2, 1) := dk_28 (dk_at dksX7_decides_11 6 rfl rfl)
theorem dX7_decides_265 : decode cX7_decides 265 = .ok (.aload_n 0, 1) := dk_42 (dk_at dksX7_decides_11 7 rfl rfl)
theorem dX7_decides_266 : decode cX7_decides 266 = .ok (.iload 6, 2) := dk_21 6 (dk_at dksX7_decides_11 8 rfl rfl)
theorem dX7_decides_268 : decode cX7_decides 268 = .ok (.invokevirtual 139, 3) := dk_182 0 139 (dk_at dksX7_decides_11 10 rfl rfl)
theorem dX7_decides_271 : decode cX7_decides 271 = .ok (.aload_n 1, 1) := dk_43 (dk_at dksX7_decides_11 13 rfl rfl)
theorem dX7_decides_272 : decode cX7_decides 272 = .ok (.iconst 3, 1) := dk_6 (dk_at dksX7_decides_11 14 rfl rfl)
theorem dX7_decides_273 : decode cX7_decides 273 = .ok (.iaload, 1) := dk_46 (dk_at dksX7_decides_11 15 rfl rfl)
theorem dX7_decides_274 : decode cX7_decides 274 = .ok (.if_icmp .ne 15, 3) := dk_160 0 15 (dk_at dksX7_decides_11 16 rfl rfl)
theorem dX7_decides_277 : decode cX7_decides 277 = .ok (.iload 7, 2) := dk_21 7 (dk_at dksX7_decides_11 19 rfl rfl)
theorem dX7_decides_279 : decode cX7_decides 279 = .ok (.ifCond .eq 10, 3) := dk_153 0 10 (dk_at dksX7_decides_11 21 rfl rfl)
theorem dX7_decides_282 : decode cX7_decides 282 = .ok (.iconst 1, 1) := dk_4 (dk_at dksX7_decides_12 0 rfl rfl)
theorem dX7_decides_283 : decode cX7_decides 283 = .ok (.iload 6, 2) := dk_21 6 (dk_at dksX7_decides_12 1 rfl rfl)
theorem dX7_decides_285 : decode cX7_decides 285 = .ok (.ishl, 1) := dk_120 (dk_at dksX7_decides_12 3 rfl rfl)
theorem dX7_decides_286 : decode cX7_decides 286 = .ok (.goto 4, 3) := dk_167 0 4 (dk_at dksX7_decides_12 4 rfl rfl)
theorem dX7_decides_289 : decode cX7_decides 289 = .ok (.iconst 0, 1) := dk_3 (dk_at dksX7_decides_12 7 rfl rfl)
theorem dX7_decides_290 : decode cX7_decides 290 = .ok (.ior, 1) := dk_128 (dk_at dksX7_decides_12 8 rfl rfl)
theorem dX7_decides_291 : decode cX7_decides 291 = .ok (.istore_n 2, 1) := dk_61 (dk_at dksX7_decides_12 9 rfl rfl)
theorem dX7_decides_292 : decode cX7_decides 292 = .ok (.iinc 6 1, 3) := dk_132 6 1 (dk_at dksX7_decides_12 10 rfl rfl)
theorem dX7_decides_295 : decode cX7_decides 295 = .ok (.goto (-77), 3) := dk_167 255 179 (dk_at dksX7_decides_12 13 rfl rfl)
theorem dX7_decides_298 : decode cX7_decides 298 = .ok (.iload_n 2, 1) := dk_28 (dk_at dksX7_decides_12 16 rfl rfl)
theorem dX7_decides_299 : decode cX7_decides 299 = .ok (.ireturn, 1) := dk_172 (dk_at dksX7_decides_12 17 rfl rfl)
abbrev cX7_isComplete : ByteArray := prog_17_method_43_code
def yX7_isComplete : MethodName := ⟨RX7, "isComplete", "([II)Z"⟩
def dkwX7_isComplete_3 : List UInt8 := [167, 0, 4, 3, 62, 132, 4, 1, 167, 255, 202, 29, 172]
abbrev dktX7_isComplete_3 : List UInt8 := dkwX7_isComplete_3 ++ []
def dkwX7_isComplete_2 : List UInt8 := [153, 0, 23, 42, 43, 21, 4, 21, 5, 158, 0, 7, 4, 167, 0, 4, 3, 182, 0, 155, 153, 0, 7, 4]
abbrev dktX7_isComplete_2 : List UInt8 := dkwX7_isComplete_2 ++ dktX7_isComplete_3
def dkwX7_isComplete_1 : List UInt8 := [21, 4, 16, 6, 162, 0, 53, 42, 28, 21, 4, 182, 0, 113, 54, 5, 29, 153, 0, 32, 21, 5]
abbrev dktX7_isComplete_1 : List UInt8 := dkwX7_isComplete_1 ++ dktX7_isComplete_2
def dkwX7_isComplete_0 : List UInt8 := [43, 16, 44, 28, 96, 46, 42, 180, 0, 25, 28, 46, 161, 0, 7, 4, 167, 0, 4, 3, 62, 3, 54, 4]
abbrev dktX7_isComplete_0 : List UInt8 := dkwX7_isComplete_0 ++ dktX7_isComplete_1
theorem dksX7_isComplete_0 : cX7_isComplete.data.toList.drop 0 = dktX7_isComplete_0 := by decide +kernel
theorem dksX7_isComplete_1 : cX7_isComplete.data.toList.drop 24 = dktX7_isComplete_1 := dk_seg dksX7_isComplete_0 24 rfl rfl
theorem dksX7_isComplete_2 : cX7_isComplete.data.toList.drop 46 = dktX7_isComplete_2 := dk_seg dksX7_isComplete_1 22 rfl rfl
theorem dksX7_isComplete_3 : cX7_isComplete.data.toList.drop 70 = dktX7_isComplete_3 := dk_seg dksX7_isComplete_2 24 rfl rfl
theorem dX7_isComplete_0 : decode cX7_isComplete 0 = .ok (.aload_n 1, 1) := dk_43 (dk_at dksX7_isComplete_0 0 rfl rfl)
theorem dX7_isComplete_1 : decode cX7_isComplete 1 = .ok (.bipush 44, 2) := dk_16 44 (dk_at dksX7_isComplete_0 1 rfl rfl)
theorem dX7_isComplete_3 : decode cX7_isComplete 3 = .ok (.iload_n 2, 1) := dk_28 (dk_at dksX7_isComplete_0 3 rfl rfl)
theorem dX7_isComplete_4 : decode cX7_isComplete 4 = .ok (.iadd, 1) := dk_96 (dk_at dksX7_isComplete_0 4 rfl rfl)
theorem dX7_isComplete_5 : decode cX7_isComplete 5 = .ok (.iaload, 1) := dk_46 (dk_at dksX7_isComplete_0 5 rfl rfl)
theorem dX7_isComplete_6 : decode cX7_isComplete 6 = .ok (.aload_n 0, 1) := dk_42 (dk_at dksX7_isComplete_0 6 rfl rfl)
theorem dX7_isComplete_7 : decode cX7_isComplete 7 = .ok (.getfield 25, 3) := dk_180 0 25 (dk_at dksX7_isComplete_0 7 rfl rfl)
theorem dX7_isComplete_10 : decode cX7_isComplete 10 = .ok (.iload_n 2, 1) := dk_28 (dk_at dksX7_isComplete_0 10 rfl rfl)
theorem dX7_isComplete_11 : decode cX7_isComplete 11 = .ok (.iaload, 1) := dk_46 (dk_at dksX7_isComplete_0 11 rfl rfl)
theorem dX7_isComplete_12 : decode cX7_isComplete 12 = .ok (.if_icmp .lt 7, 3) := dk_161 0 7 (dk_at dksX7_isComplete_0 12 rfl rfl)
theorem dX7_isComplete_15 : decode cX7_isComplete 15 = .ok (.iconst 1, 1) := dk_4 (dk_at dksX7_isComplete_0 15 rfl rfl)
theorem dX7_isComplete_16 : decode cX7_isComplete 16 = .ok (.goto 4, 3) := dk_167 0 4 (dk_at dksX7_isComplete_0 16 rfl rfl)
theorem dX7_isComplete_19 : decode cX7_isComplete 19 = .ok (.iconst 0, 1) := dk_3 (dk_at dksX7_isComplete_0 19 rfl rfl)
theorem dX7_isComplete_20 : decode cX7_isComplete 20 = .ok (.istore_n 3, 1) := dk_62 (dk_at dksX7_isComplete_0 20 rfl rfl)
theorem dX7_isComplete_21 : decode cX7_isComplete 21 = .ok (.iconst 0, 1) := dk_3 (dk_at dksX7_isComplete_0 21 rfl rfl)
theorem dX7_isComplete_22 : decode cX7_isComplete 22 = .ok (.istore 4, 2) := dk_54 4 (dk_at dksX7_isComplete_0 22 rfl rfl)
theorem dX7_isComplete_24 : decode cX7_isComplete 24 = .ok (.iload 4, 2) := dk_21 4 (dk_at dksX7_isComplete_1 0 rfl rfl)
theorem dX7_isComplete_26 : decode cX7_isComplete 26 = .ok (.bipush 6, 2) := dk_16 6 (dk_at dksX7_isComplete_1 2 rfl rfl)
theorem dX7_isComplete_28 : decode cX7_isComplete 28 = .ok (.if_icmp .ge 53, 3) := dk_162 0 53 (dk_at dksX7_isComplete_1 4 rfl rfl)
theorem dX7_isComplete_31 : decode cX7_isComplete 31 = .ok (.aload_n 0, 1) := dk_42 (dk_at dksX7_isComplete_1 7 rfl rfl)
theorem dX7_isComplete_32 : decode cX7_isComplete 32 = .ok (.iload_n 2, 1) := dk_28 (dk_at dksX7_isComplete_1 8 rfl rfl)
theorem dX7_isComplete_33 : decode cX7_isComplete 33 = .ok (.iload 4, 2) := dk_21 4 (dk_at dksX7_isComplete_1 9 rfl rfl)
theorem dX7_isComplete_35 : decode cX7_isComplete 35 = .ok (.invokevirtual 113, 3) := dk_182 0 113 (dk_at dksX7_isComplete_1 11 rfl rfl)
theorem dX7_isComplete_38 : decode cX7_isComplete 38 = .ok (.istore 5, 2) := dk_54 5 (dk_at dksX7_isComplete_1 14 rfl rfl)
theorem dX7_isComplete_40 : decode cX7_isComplete 40 = .ok (.iload_n 3, 1) := dk_29 (dk_at dksX7_isComplete_1 16 rfl rfl)
theorem dX7_isComplete_41 : decode cX7_isComplete 41 = .ok (.ifCond .eq 32, 3) := dk_153 0 32 (dk_at dksX7_isComplete_1 17 rfl rfl)
theorem dX7_isComplete_44 : decode cX7_isComplete 44 = .ok (.iload 5, 2) := dk_21 5 (dk_at dksX7_isComplete_1 20 rfl rfl)
theorem dX7_isComplete_46 : decode cX7_isComplete 46 = .ok (.ifCond .eq 23, 3) := dk_153 0 23 (dk_at dksX7_isComplete_2 0 rfl rfl)
theorem dX7_isComplete_49 : decode cX7_isComplete 49 = .ok (.aload_n 0, 1) := dk_42 (dk_at dksX7_isComplete_2 3 rfl rfl)
theorem dX7_isComplete_50 : decode cX7_isComplete 50 = .ok (.aload_n 1, 1) := dk_43 (dk_at dksX7_isComplete_2 4 rfl rfl)
theorem dX7_isComplete_51 : decode cX7_isComplete 51 = .ok (.iload 4, 2) := dk_21 4 (dk_at dksX7_isComplete_2 5 rfl rfl)
theorem dX7_isComplete_53 : decode cX7_isComplete 53 = .ok (.iload 5, 2) := dk_21 5 (dk_at dksX7_isComplete_2 7 rfl rfl)
theorem dX7_isComplete_55 : decode cX7_isComplete 55 = .ok (.ifCond .le 7, 3) := dk_158 0 7 (dk_at dksX7_isComplete_2 9 rfl rfl)
theorem dX7_isComplete_58 : decode cX7_isComplete 58 = .ok (.iconst 1, 1) := dk_4 (dk_at dksX7_isComplete_2 12 rfl rfl)
theorem dX7_isComplete_59 : decode cX7_isComplete 59 = .ok (.goto 4, 3) := dk_167 0 4 (dk_at dksX7_isComplete_2 13 rfl rfl)
theorem dX7_isComplete_62 : decode cX7_isComplete 62 = .ok (.iconst 0, 1) := dk_3 (dk_at dksX7_isComplete_2 16 rfl rfl)
theorem dX7_isComplete_63 : decode cX7_isComplete 63 = .ok (.invokevirtual 155, 3) := dk_182 0 155 (dk_at dksX7_isComplete_2 17 rfl rfl)
theorem dX7_isComplete_66 : decode cX7_isComplete 66 = .ok (.ifCond .eq 7, 3) := dk_153 0 7 (dk_at dksX7_isComplete_2 20 rfl rfl)
theorem dX7_isComplete_69 : decode cX7_isComplete 69 = .ok (.iconst 1, 1) := dk_4 (dk_at dksX7_isComplete_2 23 rfl rfl)
theorem dX7_isComplete_70 : decode cX7_isComplete 70 = .ok (.goto 4, 3) := dk_167 0 4 (dk_at dksX7_isComplete_3 0 rfl rfl)
theorem dX7_isComplete_73 : decode cX7_isComplete 73 = .ok (.iconst 0, 1) := dk_3 (dk_at dksX7_isComplete_3 3 rfl rfl)
theorem dX7_isComplete_74 : decode cX7_isComplete 74 = .ok (.istore_n 3, 1) := dk_62 (dk_at dksX7_isComplete_3 4 rfl rfl)
theorem dX7_isComplete_75 : decode cX7_isComplete 75 = .ok (.iinc 4 1, 3) := dk_132 4 1 (dk_at dksX7_isComplete_3 5 rfl rfl)
theorem dX7_isComplete_78 : decode cX7_isComplete 78 = .ok (.goto (-54), 3) := dk_167 255 202 (dk_at dksX7_isComplete_3 8 rfl rfl)
theorem dX7_isComplete_81 : decode cX7_isComplete 81 = .ok (.iload_n 3, 1) := dk_29 (dk_at dksX7_isComplete_3 11 rfl rfl)
theorem dX7_isComplete_82 : decode cX7_isComplete 82 = .ok (.ireturn, 1) := dk_172 (dk_at dksX7_isComplete_3 12 rfl rfl)
abbrev cX7_senses : ByteArray := prog_17_method_42_code
def yX7_senses : MethodName := ⟨RX7, "senses", "([III)Z"⟩
def dkwX7_senses_2 : List UInt8 := [154, 0, 19, 21, 4, 154, 0, 10, 21, 5, 5, 126, 153, 0, 7, 4, 167, 0, 4, 3, 172]
abbrev dktX7_senses_2 : List UInt8 := dkwX7_senses_2 ++ []
def dkwX7_senses_1 : List UInt8 := [167, 0, 4, 3, 54, 4, 43, 16, 38, 28, 96, 46, 4, 5, 29, 104, 96, 122, 54, 5, 21, 5, 4, 126]
abbrev dktX7_senses_1 : List UInt8 := dkwX7_senses_1 ++ dktX7_senses_2
def dkwX7_senses_0 : List UInt8 := [43, 16, 20, 28, 96, 46, 29, 154, 0, 7, 3, 167, 0, 9, 42, 180, 0, 16, 28, 46, 160, 0, 7, 4]
abbrev dktX7_senses_0 : List UInt8 := dkwX7_senses_0 ++ dktX7_senses_1
theorem dksX7_senses_0 : cX7_senses.data.toList.drop 0 = dktX7_senses_0 := by decide +kernel
theorem dksX7_senses_1 : cX7_senses.data.toList.drop 24 = dktX7_senses_1 := dk_seg dksX7_senses_0 24 rfl rfl
theorem dksX7_senses_2 : cX7_senses.data.toList.drop 48 = dktX7_senses_2 := dk_seg dksX7_senses_1 24 rfl rfl
theorem dX7_senses_0 : decode cX7_senses 0 = .ok (.aload_n 1, 1) := dk_43 (dk_at dksX7_senses_0 0 rfl rfl)
theorem dX7_senses_1 : decode cX7_senses 1 = .ok (.bipush 20, 2) := dk_16 20 (dk_at dksX7_senses_0 1 rfl rfl)
theorem dX7_senses_3 : decode cX7_senses 3 = .ok (.iload_n 2, 1) := dk_28 (dk_at dksX7_senses_0 3 rfl rfl)
theorem dX7_senses_4 : decode cX7_senses 4 = .ok (.iadd, 1) := dk_96 (dk_at dksX7_senses_0 4 rfl rfl)
theorem dX7_senses_5 : decode cX7_senses 5 = .ok (.iaload, 1) := dk_46 (dk_at dksX7_senses_0 5 rfl rfl)
theorem dX7_senses_6 : decode cX7_senses 6 = .ok (.iload_n 3, 1) := dk_29 (dk_at dksX7_senses_0 6 rfl rfl)
theorem dX7_senses_7 : decode cX7_senses 7 = .ok (.ifCond .ne 7, 3) := dk_154 0 7 (dk_at dksX7_senses_0 7 rfl rfl)
theorem dX7_senses_10 : decode cX7_senses 10 = .ok (.iconst 0, 1) := dk_3 (dk_at dksX7_senses_0 10 rfl rfl)
theorem dX7_senses_11 : decode cX7_senses 11 = .ok (.goto 9, 3) := dk_167 0 9 (dk_at dksX7_senses_0 11 rfl rfl)
theorem dX7_senses_14 : decode cX7_senses 14 = .ok (.aload_n 0, 1) := dk_42 (dk_at dksX7_senses_0 14 rfl rfl)
theorem dX7_senses_15 : decode cX7_senses 15 = .ok (.getfield 16, 3) := dk_180 0 16 (dk_at dksX7_senses_0 15 rfl rfl)
theorem dX7_senses_18 : decode cX7_senses 18 = .ok (.iload_n 2, 1) := dk_28 (dk_at dksX7_senses_0 18 rfl rfl)
theorem dX7_senses_19 : decode cX7_senses 19 = .ok (.iaload, 1) := dk_46 (dk_at dksX7_senses_0 19 rfl rfl)
theorem dX7_senses_20 : decode cX7_senses 20 = .ok (.if_icmp .ne 7, 3) := dk_160 0 7 (dk_at dksX7_senses_0 20 rfl rfl)
theorem dX7_senses_23 : decode cX7_senses 23 = .ok (.iconst 1, 1) := dk_4 (dk_at dksX7_senses_0 23 rfl rfl)
theorem dX7_senses_24 : decode cX7_senses 24 = .ok (.goto 4, 3) := dk_167 0 4 (dk_at dksX7_senses_1 0 rfl rfl)
theorem dX7_senses_27 : decode cX7_senses 27 = .ok (.iconst 0, 1) := dk_3 (dk_at dksX7_senses_1 3 rfl rfl)
theorem dX7_senses_28 : decode cX7_senses 28 = .ok (.istore 4, 2) := dk_54 4 (dk_at dksX7_senses_1 4 rfl rfl)
theorem dX7_senses_30 : decode cX7_senses 30 = .ok (.aload_n 1, 1) := dk_43 (dk_at dksX7_senses_1 6 rfl rfl)
theorem dX7_senses_31 : decode cX7_senses 31 = .ok (.bipush 38, 2) := dk_16 38 (dk_at dksX7_senses_1 7 rfl rfl)
theorem dX7_senses_33 : decode cX7_senses 33 = .ok (.iload_n 2, 1) := dk_28 (dk_at dksX7_senses_1 9 rfl rfl)
theorem dX7_senses_34 : decode cX7_senses 34 = .ok (.iadd, 1) := dk_96 (dk_at dksX7_senses_1 10 rfl rfl)
theorem dX7_senses_35 : decode cX7_senses 35 = .ok (.iaload, 1) := dk_46 (dk_at dksX7_senses_1 11 rfl rfl)
theorem dX7_senses_36 : decode cX7_senses 36 = .ok (.iconst 1, 1) := dk_4 (dk_at dksX7_senses_1 12 rfl rfl)
theorem dX7_senses_37 : decode cX7_senses 37 = .ok (.iconst 2, 1) := dk_5 (dk_at dksX7_senses_1 13 rfl rfl)
theorem dX7_senses_38 : decode cX7_senses 38 = .ok (.iload_n 3, 1) := dk_29 (dk_at dksX7_senses_1 14 rfl rfl)
theorem dX7_senses_39 : decode cX7_senses 39 = .ok (.imul, 1) := dk_104 (dk_at dksX7_senses_1 15 rfl rfl)
theorem dX7_senses_40 : decode cX7_senses 40 = .ok (.iadd, 1) := dk_96 (dk_at dksX7_senses_1 16 rfl rfl)
theorem dX7_senses_41 : decode cX7_senses 41 = .ok (.ishr, 1) := dk_122 (dk_at dksX7_senses_1 17 rfl rfl)
theorem dX7_senses_42 : decode cX7_senses 42 = .ok (.istore 5, 2) := dk_54 5 (dk_at dksX7_senses_1 18 rfl rfl)
theorem dX7_senses_44 : decode cX7_senses 44 = .ok (.iload 5, 2) := dk_21 5 (dk_at dksX7_senses_1 20 rfl rfl)
theorem dX7_senses_46 : decode cX7_senses 46 = .ok (.iconst 1, 1) := dk_4 (dk_at dksX7_senses_1 22 rfl rfl)
theorem dX7_senses_47 : decode cX7_senses 47 = .ok (.iand, 1) := dk_126 (dk_at dksX7_senses_1 23 rfl rfl)
theorem dX7_senses_48 : decode cX7_senses 48 = .ok (.ifCond .ne 19, 3) := dk_154 0 19 (dk_at dksX7_senses_2 0 rfl rfl)
theorem dX7_senses_51 : decode cX7_senses 51 = .ok (.iload 4, 2) := dk_21 4 (dk_at dksX7_senses_2 3 rfl rfl)
theorem dX7_senses_53 : decode cX7_senses 53 = .ok (.ifCond .ne 10, 3) := dk_154 0 10 (dk_at dksX7_senses_2 5 rfl rfl)
theorem dX7_senses_56 : decode cX7_senses 56 = .ok (.iload 5, 2) := dk_21 5 (dk_at dksX7_senses_2 8 rfl rfl)
theorem dX7_senses_58 : decode cX7_senses 58 = .ok (.iconst 2, 1) := dk_5 (dk_at dksX7_senses_2 10 rfl rfl)
theorem dX7_senses_59 : decode cX7_senses 59 = .ok (.iand, 1) := dk_126 (dk_at dksX7_senses_2 11 rfl rfl)
theorem dX7_senses_60 : decode cX7_senses 60 = .ok (.ifCond .eq 7, 3) := dk_153 0 7 (dk_at dksX7_senses_2 12 rfl rfl)
theorem dX7_senses_63 : decode cX7_senses 63 = .ok (.iconst 1, 1) := dk_4 (dk_at dksX7_senses_2 15 rfl rfl)
theorem dX7_senses_64 : decode cX7_senses 64 = .ok (.goto 4, 3) := dk_167 0 4 (dk_at dksX7_senses_2 16 rfl rfl)
theorem dX7_senses_67 : decode cX7_senses 67 = .ok (.iconst 0, 1) := dk_3 (dk_at dksX7_senses_2 19 rfl rfl)
theorem dX7_senses_68 : decode cX7_senses 68 = .ok (.ireturn, 1) := dk_172 (dk_at dksX7_senses_2 20 rfl rfl)
abbrev cX7_notesEvent : ByteArray := prog_17_method_45_code
def yX7_notesEvent : MethodName := ⟨RX7, "notesEvent", "([IIZ)V"⟩
def dkwX7_notesEvent_10 : List UInt8 := [160, 0, 9, 43, 3, 46, 167, 0, 7, 43, 16, 12, 46, 79, 177]
abbrev dktX7_notesEvent_10 : List UInt8 := dkwX7_notesEvent_10 ++ []
def dkwX7_notesEvent_9 : List UInt8 := [46, 4, 160, 0, 9, 43, 3, 46, 167, 0, 7, 43, 16, 11, 46, 79, 43, 16, 12, 43, 16, 9, 46, 5]
abbrev dktX7_notesEvent_9 : List UInt8 := dkwX7_notesEvent_9 ++ dktX7_notesEvent_10
def dkwX7_notesEvent_8 : List UInt8 := [79, 21, 6, 42, 182, 0, 148, 160, 0, 55, 43, 16, 9, 92, 46, 4, 96, 79, 43, 16, 11, 43, 16, 9]
abbrev dktX7_notesEvent_8 : List UInt8 := dkwX7_notesEvent_8 ++ dktX7_notesEvent_9
def dkwX7_notesEvent_7 : List UInt8 := [167, 0, 4, 3, 54, 6, 167, 255, 225, 43, 16, 7, 21, 6, 79, 43, 16, 8, 42, 21, 6, 182, 0, 152]
abbrev dktX7_notesEvent_7 : List UInt8 := dkwX7_notesEvent_7 ++ dktX7_notesEvent_8
def dkwX7_notesEvent_6 : List UInt8 := [180, 0, 25, 21, 6, 46, 158, 0, 27, 21, 6, 4, 96, 42, 180, 0, 104, 162, 0, 10, 21, 6, 4, 96]
abbrev dktX7_notesEvent_6 : List UInt8 := dkwX7_notesEvent_6 ++ dktX7_notesEvent_7
def dkwX7_notesEvent_5 : List UInt8 := [21, 6, 4, 96, 42, 180, 0, 104, 162, 0, 10, 21, 6, 4, 96, 167, 0, 4, 3, 54, 6, 42]
abbrev dktX7_notesEvent_5 : List UInt8 := dkwX7_notesEvent_5 ++ dktX7_notesEvent_6
def dkwX7_notesEvent_4 : List UInt8 := [16, 8, 92, 46, 21, 5, 2, 130, 126, 79, 43, 16, 8, 46, 153, 0, 4, 177, 43, 16, 7, 46, 54, 6]
abbrev dktX7_notesEvent_4 : List UInt8 := dkwX7_notesEvent_4 ++ dktX7_notesEvent_5
def dkwX7_notesEvent_3 : List UInt8 := [16, 8, 46, 21, 5, 126, 154, 0, 9, 43, 16, 6, 4, 79, 177, 43, 8, 92, 46, 4, 96, 79, 43]
abbrev dktX7_notesEvent_3 : List UInt8 := dkwX7_notesEvent_3 ++ dktX7_notesEvent_4
def dkwX7_notesEvent_2 : List UInt8 := [153, 0, 7, 28, 167, 0, 7, 16, 6, 28, 96, 120, 54, 5, 43, 16, 6, 46, 4, 159, 0, 13, 43]
abbrev dktX7_notesEvent_2 : List UInt8 := dkwX7_notesEvent_2 ++ dktX7_notesEvent_3
def dkwX7_notesEvent_1 : List UInt8 := [5, 28, 104, 29, 153, 0, 7, 4, 167, 0, 4, 3, 96, 79, 43, 7, 92, 46, 4, 96, 79, 4, 29]
abbrev dktX7_notesEvent_1 : List UInt8 := dkwX7_notesEvent_1 ++ dktX7_notesEvent_2
def dkwX7_notesEvent_0 : List UInt8 := [43, 7, 46, 16, 40, 112, 54, 4, 43, 16, 60, 21, 4, 96, 43, 3, 46, 79, 43, 16, 100, 21, 4, 96]
abbrev dktX7_notesEvent_0 : List UInt8 := dkwX7_notesEvent_0 ++ dktX7_notesEvent_1
theorem dksX7_notesEvent_0 : cX7_notesEvent.data.toList.drop 0 = dktX7_notesEvent_0 := by decide +kernel
theorem dksX7_notesEvent_1 : cX7_notesEvent.data.toList.drop 24 = dktX7_notesEvent_1 := dk_seg dksX7_notesEvent_0 24 rfl rfl
theorem dksX7_notesEvent_2 : cX7_notesEvent.data.toList.drop 47 = dktX7_notesEvent_2 := dk_seg dksX7_notesEvent_1 23 rfl rfl
theorem dksX7_notesEvent_3 : cX7_notesEvent.data.toList.drop 70 = dktX7_notesEvent_3 := dk_seg dksX7_notesEvent_2 23 rfl rfl
theorem dksX7_notesEvent_4 : cX7_notesEvent.data.toList.drop 93 = dktX7_notesEvent_4 := dk_seg dksX7_notesEvent_3 23 rfl rfl
theorem dksX7_notesEvent_5 : cX7_notesEvent.data.toList.drop 117 = dktX7_notesEvent_5 := dk_seg dksX7_notesEvent_4 24 rfl rfl
theorem dksX7_notesEvent_6 : cX7_notesEvent.data.toList.drop 139 = dktX7_notesEvent_6 := dk_seg dksX7_notesEvent_5 22 rfl rfl
theorem dksX7_notesEvent_7 : cX7_notesEvent.data.toList.drop 163 = dktX7_notesEvent_7 := dk_seg dksX7_notesEvent_6 24 rfl rfl
theorem dksX7_notesEvent_8 : cX7_notesEvent.data.toList.drop 187 = dktX7_notesEvent_8 := dk_seg dksX7_notesEvent_7 24 rfl rfl
theorem dksX7_notesEvent_9 : cX7_notesEvent.data.toList.drop 211 = dktX7_notesEvent_9 := dk_seg dksX7_notesEvent_8 24 rfl rfl
theorem dksX7_notesEvent_10 : cX7_notesEvent.data.toList.drop 235 = dktX7_notesEvent_10 := dk_seg dksX7_notesEvent_9 24 rfl rfl
theorem dX7_notesEvent_0 : decode cX7_notesEvent 0 = .ok (.aload_n 1, 1) := dk_43 (dk_at dksX7_notesEvent_0 0 rfl rfl)
theorem dX7_notesEvent_1 : decode cX7_notesEvent 1 = .ok (.iconst 4, 1) := dk_7 (dk_at dksX7_notesEvent_0 1 rfl rfl)
theorem dX7_notesEvent_2 : decode cX7_notesEvent 2 = .ok (.iaload, 1) := dk_46 (dk_at dksX7_notesEvent_0 2 rfl rfl)
theorem dX7_notesEvent_3 : decode cX7_notesEvent 3 = .ok (.bipush 40, 2) := dk_16 40 (dk_at dksX7_notesEvent_0 3 rfl rfl)
theorem dX7_notesEvent_5 : decode cX7_notesEvent 5 = .ok (.irem, 1) := dk_112 (dk_at dksX7_notesEvent_0 5 rfl rfl)
theorem dX7_notesEvent_6 : decode cX7_notesEvent 6 = .ok (.istore 4, 2) := dk_54 4 (dk_at dksX7_notesEvent_0 6 rfl rfl)
theorem dX7_notesEvent_8 : decode cX7_notesEvent 8 = .ok (.aload_n 1, 1) := dk_43 (dk_at dksX7_notesEvent_0 8 rfl rfl)
theorem dX7_notesEvent_9 : decode cX7_notesEvent 9 = .ok (.bipush 60, 2) := dk_16 60 (dk_at dksX7_notesEvent_0 9 rfl rfl)
theorem dX7_notesEvent_11 : decode cX7_notesEvent 11 = .ok (.iload 4, 2) := dk_21 4 (dk_at dksX7_notesEvent_0 11 rfl rfl)
theorem dX7_notesEvent_13 : decode cX7_notesEvent 13 = .ok (.iadd, 1) := dk_96 (dk_at dksX7_notesEvent_0 13 rfl rfl)
theorem dX7_notesEvent_14 : decode cX7_notesEvent 14 = .ok (.aload_n 1, 1) := dk_43 (dk_at dksX7_notesEvent_0 14 rfl rfl)
theorem dX7_notesEvent_15 : decode cX7_notesEvent 15 = .ok (.iconst 0, 1) := dk_3 (dk_at dksX7_notesEvent_0 15 rfl rfl)
theorem dX7_notesEvent_16 : decode cX7_notesEvent 16 = .ok (.iaload, 1) := dk_46 (dk_at dksX7_notesEvent_0 16 rfl rfl)
theorem dX7_notesEvent_17 : decode cX7_notesEvent 17 = .ok (.iastore, 1) := dk_79 (dk_at dksX7_notesEvent_0 17 rfl rfl)
theorem dX7_notesEvent_18 : decode cX7_notesEvent 18 = .ok (.aload_n 1, 1) := dk_43 (dk_at dksX7_notesEvent_0 18 rfl rfl)
theorem dX7_notesEvent_19 : decode cX7_notesEvent 19 = .ok (.bipush 100, 2) := dk_16 100 (dk_at dksX7_notesEvent_0 19 rfl rfl)
theorem dX7_notesEvent_21 : decode cX7_notesEvent 21 = .ok (.iload 4, 2) := dk_21 4 (dk_at dksX7_notesEvent_0 21 rfl rfl)
theorem dX7_notesEvent_23 : decode cX7_notesEvent 23 = .ok (.iadd, 1) := dk_96 (dk_at dksX7_notesEvent_0 23 rfl rfl)
theorem dX7_notesEvent_24 : decode cX7_notesEvent 24 = .ok (.iconst 2, 1) := dk_5 (dk_at dksX7_notesEvent_1 0 rfl rfl)
theorem dX7_notesEvent_25 : decode cX7_notesEvent 25 = .ok (.iload_n 2, 1) := dk_28 (dk_at dksX7_notesEvent_1 1 rfl rfl)
theorem dX7_notesEvent_26 : decode cX7_notesEvent 26 = .ok (.imul, 1) := dk_104 (dk_at dksX7_notesEvent_1 2 rfl rfl)
theorem dX7_notesEvent_27 : decode cX7_notesEvent 27 = .ok (.iload_n 3, 1) := dk_29 (dk_at dksX7_notesEvent_1 3 rfl rfl)
theorem dX7_notesEvent_28 : decode cX7_notesEvent 28 = .ok (.ifCond .eq 7, 3) := dk_153 0 7 (dk_at dksX7_notesEvent_1 4 rfl rfl)
theorem dX7_notesEvent_31 : decode cX7_notesEvent 31 = .ok (.iconst 1, 1) := dk_4 (dk_at dksX7_notesEvent_1 7 rfl rfl)
theorem dX7_notesEvent_32 : decode cX7_notesEvent 32 = .ok (.goto 4, 3) := dk_167 0 4 (dk_at dksX7_notesEvent_1 8 rfl rfl)
theorem dX7_notesEvent_35 : decode cX7_notesEvent 35 = .ok (.iconst 0, 1) := dk_3 (dk_at dksX7_notesEvent_1 11 rfl rfl)
theorem dX7_notesEvent_36 : decode cX7_notesEvent 36 = .ok (.iadd, 1) := dk_96 (dk_at dksX7_notesEvent_1 12 rfl rfl)
theorem dX7_notesEvent_37 : decode cX7_notesEvent 37 = .ok (.iastore, 1) := dk_79 (dk_at dksX7_notesEvent_1 13 rfl rfl)
theorem dX7_notesEvent_38 : decode cX7_notesEvent 38 = .ok (.aload_n 1, 1) := dk_43 (dk_at dksX7_notesEvent_1 14 rfl rfl)
theorem dX7_notesEvent_39 : decode cX7_notesEvent 39 = .ok (.iconst 4, 1) := dk_7 (dk_at dksX7_notesEvent_1 15 rfl rfl)
theorem dX7_notesEvent_40 : decode cX7_notesEvent 40 = .ok (.dup2, 1) := dk_92 (dk_at dksX7_notesEvent_1 16 rfl rfl)
theorem dX7_notesEvent_41 : decode cX7_notesEvent 41 = .ok (.iaload, 1) := dk_46 (dk_at dksX7_notesEvent_1 17 rfl rfl)
theorem dX7_notesEvent_42 : decode cX7_notesEvent 42 = .ok (.iconst 1, 1) := dk_4 (dk_at dksX7_notesEvent_1 18 rfl rfl)
theorem dX7_notesEvent_43 : decode cX7_notesEvent 43 = .ok (.iadd, 1) := dk_96 (dk_at dksX7_notesEvent_1 19 rfl rfl)
theorem dX7_notesEvent_44 : decode cX7_notesEvent 44 = .ok (.iastore, 1) := dk_79 (dk_at dksX7_notesEvent_1 20 rfl rfl)
theorem dX7_notesEvent_45 : decode cX7_notesEvent 45 = .ok (.iconst 1, 1) := dk_4 (dk_at dksX7_notesEvent_1 21 rfl rfl)
theorem dX7_notesEvent_46 : decode cX7_notesEvent 46 = .ok (.iload_n 3, 1) := dk_29 (dk_at dksX7_notesEvent_1 22 rfl rfl)
theorem dX7_notesEvent_47 : decode cX7_notesEvent 47 = .ok (.ifCond .eq 7, 3) := dk_153 0 7 (dk_at dksX7_notesEvent_2 0 rfl rfl)
theorem dX7_notesEvent_50 : decode cX7_notesEvent 50 = .ok (.iload_n 2, 1) := dk_28 (dk_at dksX7_notesEvent_2 3 rfl rfl)
theorem dX7_notesEvent_51 : decode cX7_notesEvent 51 = .ok (.goto 7, 3) := dk_167 0 7 (dk_at dksX7_notesEvent_2 4 rfl rfl)
theorem dX7_notesEvent_54 : decode cX7_notesEvent 54 = .ok (.bipush 6, 2) := dk_16 6 (dk_at dksX7_notesEvent_2 7 rfl rfl)
theorem dX7_notesEvent_56 : decode cX7_notesEvent 56 = .ok (.iload_n 2, 1) := dk_28 (dk_at dksX7_notesEvent_2 9 rfl rfl)
theorem dX7_notesEvent_57 : decode cX7_notesEvent 57 = .ok (.iadd, 1) := dk_96 (dk_at dksX7_notesEvent_2 10 rfl rfl)
theorem dX7_notesEvent_58 : decode cX7_notesEvent 58 = .ok (.ishl, 1) := dk_120 (dk_at dksX7_notesEvent_2 11 rfl rfl)
theorem dX7_notesEvent_59 : decode cX7_notesEvent 59 = .ok (.istore 5, 2) := dk_54 5 (dk_at dksX7_notesEvent_2 12 rfl rfl)
theorem dX7_notesEvent_61 : decode cX7_notesEvent 61 = .ok (.aload_n 1, 1) := dk_43 (dk_at dksX7_notesEvent_2 14 rfl rfl)
theorem dX7_notesEvent_62 : decode cX7_notesEvent 62 = .ok (.bipush 6, 2) := dk_16 6 (dk_at dksX7_notesEvent_2 15 rfl rfl)
theorem dX7_notesEvent_64 : decode cX7_notesEvent 64 = .ok (.iaload, 1) := dk_46 (dk_at dksX7_notesEvent_2 17 rfl rfl)
theorem dX7_notesEvent_65 : decode cX7_notesEvent 65 = .ok (.iconst 1, 1) := dk_4 (dk_at dksX7_notesEvent_2 18 rfl rfl)
theorem dX7_notesEvent_66 : decode cX7_notesEvent 66 = .ok (.if_icmp .eq 13, 3) := dk_159 0 13 (dk_at dksX7_notesEvent_2 19 rfl rfl)
theorem dX7_notesEvent_69 : decode cX7_notesEvent 69 = .ok (.aload_n 1, 1) := dk_43 (dk_at dksX7_notesEvent_2 22 rfl rfl)
theorem dX7_notesEvent_70 : decode cX7_notesEvent 70 = .ok (.bipush 8, 2) := dk_16 8 (dk_at dksX7_notesEvent_3 0 rfl rfl)
theorem dX7_notesEvent_72 : decode cX7_notesEvent 72 = .ok (.iaload, 1) := dk_46 (dk_at dksX7_notesEvent_3 2 rfl rfl)
theorem dX7_notesEvent_73 : decode cX7_notesEvent 73 = .ok (.iload 5, 2) := dk_21 5 (dk_at dksX7_notesEvent_3 3 rfl rfl)
theorem dX7_notesEvent_75 : decode cX7_notesEvent 75 = .ok (.iand, 1) := dk_126 (dk_at dksX7_notesEvent_3 5 rfl rfl)
theorem dX7_notesEvent_76 : decode cX7_notesEvent 76 = .ok (.ifCond .ne 9, 3) := dk_154 0 9 (dk_at dksX7_notesEvent_3 6 rfl rfl)
theorem dX7_notesEvent_79 : decode cX7_notesEvent 79 = .ok (.aload_n 1, 1) := dk_43 (dk_at dksX7_notesEvent_3 9 rfl rfl)
theorem dX7_notesEvent_80 : decode cX7_notesEvent 80 = .ok (.bipush 6, 2) := dk_16 6 (dk_at dksX7_notesEvent_3 10 rfl rfl)
theorem dX7_notesEvent_82 : decode cX7_notesEvent 82 = .ok (.iconst 1, 1) := dk_4 (dk_at dksX7_notesEvent_3 12 rfl rfl)
theorem dX7_notesEvent_83 : decode cX7_notesEvent 83 = .ok (.iastore, 1) := dk_79 (dk_at dksX7_notesEvent_3 13 rfl rfl)
theorem dX7_notesEvent_84 : decode cX7_notesEvent 84 = .ok (.return_, 1) := dk_177 (dk_at dksX7_notesEvent_3 14 rfl rfl)
theorem dX7_notesEvent_85 : decode cX7_notesEvent 85 = .ok (.aload_n 1, 1) := dk_43 (dk_at dksX7_notesEvent_3 15 rfl rfl)
theorem dX7_notesEvent_86 : decode cX7_notesEvent 86 = .ok (.iconst 5, 1) := dk_8 (dk_at dksX7_notesEvent_3 16 rfl rfl)
theorem dX7_notesEvent_87 : decode cX7_notesEvent 87 = .ok (.dup2, 1) := dk_92 (dk_at dksX7_notesEvent_3 17 rfl rfl)
theorem dX7_notesEvent_88 : decode cX7_notesEvent 88 = .ok (.iaload, 1) := dk_46 (dk_at dksX7_notesEvent_3 18 rfl rfl)
theorem dX7_notesEvent_89 : decode cX7_notesEvent 89 = .ok (.iconst 1, 1) := dk_4 (dk_at dksX7_notesEvent_3 19 rfl rfl)
theorem dX7_notesEvent_90 : decode cX7_notesEvent 90 = .ok (.iadd, 1) := dk_96 (dk_at dksX7_notesEvent_3 20 rfl rfl)
theorem dX7_notesEvent_91 : decode cX7_notesEvent 91 = .ok (.iastore, 1) := dk_79 (dk_at dksX7_notesEvent_3 21 rfl rfl)
theorem dX7_notesEvent_92 : decode cX7_notesEvent 92 = .ok (.aload_n 1, 1) := dk_43 (dk_at dksX7_notesEvent_3 22 rfl rfl)
theorem dX7_notesEvent_93 : decode cX7_notesEvent 93 = .ok (.bipush 8, 2) := dk_16 8 (dk_at dksX7_notesEvent_4 0 rfl rfl)
theorem dX7_notesEvent_95 : decode cX7_notesEvent 95 = .ok (.dup2, 1) := dk_92 (dk_at dksX7_notesEvent_4 2 rfl rfl)
theorem dX7_notesEvent_96 : decode cX7_notesEvent 96 = .ok (.iaload, 1) := dk_46 (dk_at dksX7_notesEvent_4 3 rfl rfl)
theorem dX7_notesEvent_97 : decode cX7_notesEvent 97 = .ok (.iload 5, 2) := dk_21 5 (dk_at dksX7_notesEvent_4 4 rfl rfl)
theorem dX7_notesEvent_99 : decode cX7_notesEvent 99 = .ok (.iconst (-1), 1) := dk_2 (dk_at dksX7_notesEvent_4 6 rfl rfl)
theorem dX7_notesEvent_100 : decode cX7_notesEvent 100 = .ok (.ixor, 1) := dk_130 (dk_at dksX7_notesEvent_4 7 rfl rfl)
theorem dX7_notesEvent_101 : decode cX7_notesEvent 101 = .ok (.iand, 1) := dk_126 (dk_at dksX7_notesEvent_4 8 rfl rfl)
theorem dX7_notesEvent_102 : decode cX7_notesEvent 102 = .ok (.iastore, 1) := dk_79 (dk_at dksX7_notesEvent_4 9 rfl rfl)
theorem dX7_notesEvent_103 : decode cX7_notesEvent 103 = .ok (.aload_n 1, 1) := dk_43 (dk_at dksX7_notesEvent_4 10 rfl rfl)
theorem dX7_notesEvent_104 : decode cX7_notesEvent 104 = .ok (.bipush 8, 2) := dk_16 8 (dk_at dksX7_notesEvent_4 11 rfl rfl)
theorem dX7_notesEvent_106 : decode cX7_notesEvent 106 = .ok (.iaload, 1) := dk_46 (dk_at dksX7_notesEvent_4 13 rfl rfl)
theorem dX7_notesEvent_107 : decode cX7_notesEvent 107 = .ok (.ifCond .eq 4, 3) := dk_153 0 4 (dk_at dksX7_notesEvent_4 14 rfl rfl)
theorem dX7_notesEvent_110 : decode cX7_notesEvent 110 = .ok (.return_, 1) := dk_177 (dk_at dksX7_notesEvent_4 17 rfl rfl)
theorem dX7_notesEvent_111 : decode cX7_notesEvent 111 = .ok (.aload_n 1, 1) := dk_43 (dk_at dksX7_notesEvent_4 18 rfl rfl)
theorem dX7_notesEvent_112 : decode cX7_notesEvent 112 = .ok (.bipush 7, 2) := dk_16 7 (dk_at dksX7_notesEvent_4 19 rfl rfl)
theorem dX7_notesEvent_114 : decode cX7_notesEvent 114 = .ok (.iaload, 1) := dk_46 (dk_at dksX7_notesEvent_4 21 rfl rfl)
theorem dX7_notesEvent_115 : decode cX7_notesEvent 115 = .ok (.istore 6, 2) := dk_54 6 (dk_at dksX7_notesEvent_4 22 rfl rfl)
theorem dX7_notesEvent_117 : decode cX7_notesEvent 117 = .ok (.iload 6, 2) := dk_21 6 (dk_at dksX7_notesEvent_5 0 rfl rfl)
theorem dX7_notesEvent_119 : decode cX7_notesEvent 119 = .ok (.iconst 1, 1) := dk_4 (dk_at dksX7_notesEvent_5 2 rfl rfl)
theorem dX7_notesEvent_120 : decode cX7_notesEvent 120 = .ok (.iadd, 1) := dk_96 (dk_at dksX7_notesEvent_5 3 rfl rfl)
theorem dX7_notesEvent_121 : decode cX7_notesEvent 121 = .ok (.aload_n 0, 1) := dk_42 (dk_at dksX7_notesEvent_5 4 rfl rfl)
theorem dX7_notesEvent_122 : decode cX7_notesEvent 122 = .ok (.getfield 104, 3) := dk_180 0 104 (dk_at dksX7_notesEvent_5 5 rfl rfl)
theorem dX7_notesEvent_125 : decode cX7_notesEvent 125 = .ok (.if_icmp .ge 10, 3) := dk_162 0 10 (dk_at dksX7_notesEvent_5 8 rfl rfl)
theorem dX7_notesEvent_128 : decode cX7_notesEvent 128 = .ok (.iload 6, 2) := dk_21 6 (dk_at dksX7_notesEvent_5 11 rfl rfl)
theorem dX7_notesEvent_130 : decode cX7_notesEvent 130 = .ok (.iconst 1, 1) := dk_4 (dk_at dksX7_notesEvent_5 13 rfl rfl)
theorem dX7_notesEvent_131 : decode cX7_notesEvent 131 = .ok (.iadd, 1) := dk_96 (dk_at dksX7_notesEvent_5 14 rfl rfl)
theorem dX7_notesEvent_132 : decode cX7_notesEvent 132 = .ok (.goto 4, 3) := dk_167 0 4 (dk_at dksX7_notesEvent_5 15 rfl rfl)
theorem dX7_notesEvent_135 : decode cX7_notesEvent 135 = .ok (.iconst 0, 1) := dk_3 (dk_at dksX7_notesEvent_5 18 rfl rfl)
theorem dX7_notesEvent_136 : decode cX7_notesEvent 136 = .ok (.istore 6, 2) := dk_54 6 (dk_at dksX7_notesEvent_5 19 rfl rfl)
theorem dX7_notesEvent_138 : decode cX7_notesEvent 138 = .ok (.aload_n 0, 1) := dk_42 (dk_at dksX7_notesEvent_5 21 rfl rfl)
theorem dX7_notesEvent_139 : decode cX7_notesEvent 139 = .ok (.getfield 25, 3) := dk_180 0 25 (dk_at dksX7_notesEvent_6 0 rfl rfl)
theorem dX7_notesEvent_142 : decode cX7_notesEvent 142 = .ok (.iload 6, 2) := dk_21 6 (dk_at dksX7_notesEvent_6 3 rfl rfl)
theorem dX7_notesEvent_144 : decode cX7_notesEvent 144 = .ok (.iaload, 1) := dk_46 (dk_at dksX7_notesEvent_6 5 rfl rfl)
theorem dX7_notesEvent_145 : decode cX7_notesEvent 145 = .ok (.ifCond .le 27, 3) := dk_158 0 27 (dk_at dksX7_notesEvent_6 6 rfl rfl)
theorem dX7_notesEvent_148 : decode cX7_notesEvent 148 = .ok (.iload 6, 2) := dk_21 6 (dk_at dksX7_notesEvent_6 9 rfl rfl)
theorem dX7_notesEvent_150 : decode cX7_notesEvent 150 = .ok (.iconst 1, 1) := dk_4 (dk_at dksX7_notesEvent_6 11 rfl rfl)
theorem dX7_notesEvent_151 : decode cX7_notesEvent 151 = .ok (.iadd, 1) := dk_96 (dk_at dksX7_notesEvent_6 12 rfl rfl)
theorem dX7_notesEvent_152 : decode cX7_notesEvent 152 = .ok (.aload_n 0, 1) := dk_42 (dk_at dksX7_notesEvent_6 13 rfl rfl)
theorem dX7_notesEvent_153 : decode cX7_notesEvent 153 = .ok (.getfield 104, 3) := dk_180 0 104 (dk_at dksX7_notesEvent_6 14 rfl rfl)
theorem dX7_notesEvent_156 : decode cX7_notesEvent 156 = .ok (.if_icmp .ge 10, 3) := dk_162 0 10 (dk_at dksX7_notesEvent_6 17 rfl rfl)
theorem dX7_notesEvent_159 : decode cX7_notesEvent 159 = .ok (.iload 6, 2) := dk_21 6 (dk_at dksX7_notesEvent_6 20 rfl rfl)
theorem dX7_notesEvent_161 : decode cX7_notesEvent 161 = .ok (.iconst 1, 1) := dk_4 (dk_at dksX7_notesEvent_6 22 rfl rfl)
theorem dX7_notesEvent_162 : decode cX7_notesEvent 162 = .ok (.iadd, 1) := dk_96 (dk_at dksX7_notesEvent_6 23 rfl rfl)
theorem dX7_notesEvent_163 : decode cX7_notesEvent 163 = .ok (.goto 4, 3) := dk_167 0 4 (dk_at dksX7_notesEvent_7 0 rfl rfl)
theorem dX7_notesEvent_166 : decode cX7_notesEvent 166 = .ok (.iconst 0, 1) := dk_3 (dk_at dksX7_notesEvent_7 3 rfl rfl)
theorem dX7_notesEvent_167 : decode cX7_notesEvent 167 = .ok (.istore 6, 2) := dk_54 6 (dk_at dksX7_notesEvent_7 4 rfl rfl)
theorem dX7_notesEvent_169 : decode cX7_notesEvent 169 = .ok (.goto (-31), 3) := dk_167 255 225 (dk_at dksX7_notesEvent_7 6 rfl rfl)
theorem dX7_notesEvent_172 : decode cX7_notesEvent 172 = .ok (.aload_n 1, 1) := dk_43 (dk_at dksX7_notesEvent_7 9 rfl rfl)
theorem dX7_notesEvent_173 : decode cX7_notesEvent 173 = .ok (.bipush 7, 2) := dk_16 7 (dk_at dksX7_notesEvent_7 10 rfl rfl)
theorem dX7_notesEvent_175 : decode cX7_notesEvent 175 = .ok (.iload 6, 2) := dk_21 6 (dk_at dksX7_notesEvent_7 12 rfl rfl)
theorem dX7_notesEvent_177 : decode cX7_notesEvent 177 = .ok (.iastore, 1) := dk_79 (dk_at dksX7_notesEvent_7 14 rfl rfl)
theorem dX7_notesEvent_178 : decode cX7_notesEvent 178 = .ok (.aload_n 1, 1) := dk_43 (dk_at dksX7_notesEvent_7 15 rfl rfl)
theorem dX7_notesEvent_179 : decode cX7_notesEvent 179 = .ok (.bipush 8, 2) := dk_16 8 (dk_at dksX7_notesEvent_7 16 rfl rfl)
theorem dX7_notesEvent_181 : decode cX7_notesEvent 181 = .ok (.aload_n 0, 1) := dk_42 (dk_at dksX7_notesEvent_7 18 rfl rfl)
theorem dX7_notesEvent_182 : decode cX7_notesEvent 182 = .ok (.iload 6, 2) := dk_21 6 (dk_at dksX7_notesEvent_7 19 rfl rfl)
theorem dX7_notesEvent_184 : decode cX7_notesEvent 184 = .ok (.invokevirtual 152, 3) := dk_182 0 152 (dk_at dksX7_notesEvent_7 21 rfl rfl)
theorem dX7_notesEvent_187 : decode cX7_notesEvent 187 = .ok (.iastore, 1) := dk_79 (dk_at dksX7_notesEvent_8 0 rfl rfl)
theorem dX7_notesEvent_188 : decode cX7_notesEvent 188 = .ok (.iload 6, 2) := dk_21 6 (dk_at dksX7_notesEvent_8 1 rfl rfl)
theorem dX7_notesEvent_190 : decode cX7_notesEvent 190 = .ok (.aload_n 0, 1) := dk_42 (dk_at dksX7_notesEvent_8 3 rfl rfl)
theorem dX7_notesEvent_191 : decode cX7_notesEvent 191 = .ok (.invokevirtual 148, 3) := dk_182 0 148 (dk_at dksX7_notesEvent_8 4 rfl rfl)
theorem dX7_notesEvent_194 : decode cX7_notesEvent 194 = .ok (.if_icmp .ne 55, 3) := dk_160 0 55 (dk_at dksX7_notesEvent_8 7 rfl rfl)
theorem dX7_notesEvent_197 : decode cX7_notesEvent 197 = .ok (.aload_n 1, 1) := dk_43 (dk_at dksX7_notesEvent_8 10 rfl rfl)
theorem dX7_notesEvent_198 : decode cX7_notesEvent 198 = .ok (.bipush 9, 2) := dk_16 9 (dk_at dksX7_notesEvent_8 11 rfl rfl)
theorem dX7_notesEvent_200 : decode cX7_notesEvent 200 = .ok (.dup2, 1) := dk_92 (dk_at dksX7_notesEvent_8 13 rfl rfl)
theorem dX7_notesEvent_201 : decode cX7_notesEvent 201 = .ok (.iaload, 1) := dk_46 (dk_at dksX7_notesEvent_8 14 rfl rfl)
theorem dX7_notesEvent_202 : decode cX7_notesEvent 202 = .ok (.iconst 1, 1) := dk_4 (dk_at dksX7_notesEvent_8 15 rfl rfl)
theorem dX7_notesEvent_203 : decode cX7_notesEvent 203 = .ok (.iadd, 1) := dk_96 (dk_at dksX7_notesEvent_8 16 rfl rfl)
theorem dX7_notesEvent_204 : decode cX7_notesEvent 204 = .ok (.iastore, 1) := dk_79 (dk_at dksX7_notesEvent_8 17 rfl rfl)
theorem dX7_notesEvent_205 : decode cX7_notesEvent 205 = .ok (.aload_n 1, 1) := dk_43 (dk_at dksX7_notesEvent_8 18 rfl rfl)
theorem dX7_notesEvent_206 : decode cX7_notesEvent 206 = .ok (.bipush 11, 2) := dk_16 11 (dk_at dksX7_notesEvent_8 19 rfl rfl)
theorem dX7_notesEvent_208 : decode cX7_notesEvent 208 = .ok (.aload_n 1, 1) := dk_43 (dk_at dksX7_notesEvent_8 21 rfl rfl)
theorem dX7_notesEvent_209 : decode cX7_notesEvent 209 = .ok (.bipush 9, 2) := dk_16 9 (dk_at dksX7_notesEvent_8 22 rfl rfl)
theorem dX7_notesEvent_211 : decode cX7_notesEvent 211 = .ok (.iaload, 1) := dk_46 (dk_at dksX7_notesEvent_9 0 rfl rfl)
theorem dX7_notesEvent_212 : decode cX7_notesEvent 212 = .ok (.iconst 1, 1) := dk_4 (dk_at dksX7_notesEvent_9 1 rfl rfl)
theorem dX7_notesEvent_213 : decode cX7_notesEvent 213 = .ok (.if_icmp .ne 9, 3) := dk_160 0 9 (dk_at dksX7_notesEvent_9 2 rfl rfl)
theorem dX7_notesEvent_216 : decode cX7_notesEvent 216 = .ok (.aload_n 1, 1) := dk_43 (dk_at dksX7_notesEvent_9 5 rfl rfl)
theorem dX7_notesEvent_217 : decode cX7_notesEvent 217 = .ok (.iconst 0, 1) := dk_3 (dk_at dksX7_notesEvent_9 6 rfl rfl)
theorem dX7_notesEvent_218 : decode cX7_notesEvent 218 = .ok (.iaload, 1) := dk_46 (dk_at dksX7_notesEvent_9 7 rfl rfl)
theorem dX7_notesEvent_219 : decode cX7_notesEvent 219 = .ok (.goto 7, 3) := dk_167 0 7 (dk_at dksX7_notesEvent_9 8 rfl rfl)
theorem dX7_notesEvent_222 : decode cX7_notesEvent 222 = .ok (.aload_n 1, 1) := dk_43 (dk_at dksX7_notesEvent_9 11 rfl rfl)
theorem dX7_notesEvent_223 : decode cX7_notesEvent 223 = .ok (.bipush 11, 2) := dk_16 11 (dk_at dksX7_notesEvent_9 12 rfl rfl)
theorem dX7_notesEvent_225 : decode cX7_notesEvent 225 = .ok (.iaload, 1) := dk_46 (dk_at dksX7_notesEvent_9 14 rfl rfl)
theorem dX7_notesEvent_226 : decode cX7_notesEvent 226 = .ok (.iastore, 1) := dk_79 (dk_at dksX7_notesEvent_9 15 rfl rfl)
theorem dX7_notesEvent_227 : decode cX7_notesEvent 227 = .ok (.aload_n 1, 1) := dk_43 (dk_at dksX7_notesEvent_9 16 rfl rfl)
theorem dX7_notesEvent_228 : decode cX7_notesEvent 228 = .ok (.bipush 12, 2) := dk_16 12 (dk_at dksX7_notesEvent_9 17 rfl rfl)
theorem dX7_notesEvent_230 : decode cX7_notesEvent 230 = .ok (.aload_n 1, 1) := dk_43 (dk_at dksX7_notesEvent_9 19 rfl rfl)
theorem dX7_notesEvent_231 : decode cX7_notesEvent 231 = .ok (.bipush 9, 2) := dk_16 9 (dk_at dksX7_notesEvent_9 20 rfl rfl)
theorem dX7_notesEvent_233 : decode cX7_notesEvent 233 = .ok (.iaload, 1) := dk_46 (dk_at dksX7_notesEvent_9 22 rfl rfl)
theorem dX7_notesEvent_234 : decode cX7_notesEvent 234 = .ok (.iconst 2, 1) := dk_5 (dk_at dksX7_notesEvent_9 23 rfl rfl)
theorem dX7_notesEvent_235 : decode cX7_notesEvent 235 = .ok (.if_icmp .ne 9, 3) := dk_160 0 9 (dk_at dksX7_notesEvent_10 0 rfl rfl)
theorem dX7_notesEvent_238 : decode cX7_notesEvent 238 = .ok (.aload_n 1, 1) := dk_43 (dk_at dksX7_notesEvent_10 3 rfl rfl)
theorem dX7_notesEvent_239 : decode cX7_notesEvent 239 = .ok (.iconst 0, 1) := dk_3 (dk_at dksX7_notesEvent_10 4 rfl rfl)
theorem dX7_notesEvent_240 : decode cX7_notesEvent 240 = .ok (.iaload, 1) := dk_46 (dk_at dksX7_notesEvent_10 5 rfl rfl)
theorem dX7_notesEvent_241 : decode cX7_notesEvent 241 = .ok (.goto 7, 3) := dk_167 0 7 (dk_at dksX7_notesEvent_10 6 rfl rfl)
theorem dX7_notesEvent_244 : decode cX7_notesEvent 244 = .ok (.aload_n 1, 1) := dk_43 (dk_at dksX7_notesEvent_10 9 rfl rfl)
theorem dX7_notesEvent_245 : decode cX7_notesEvent 245 = .ok (.bipush 12, 2) := dk_16 12 (dk_at dksX7_notesEvent_10 10 rfl rfl)
theorem dX7_notesEvent_247 : decode cX7_notesEvent 247 = .ok (.iaload, 1) := dk_46 (dk_at dksX7_notesEvent_10 12 rfl rfl)
theorem dX7_notesEvent_248 : decode cX7_notesEvent 248 = .ok (.iastore, 1) := dk_79 (dk_at dksX7_notesEvent_10 13 rfl rfl)
theorem dX7_notesEvent_249 : decode cX7_notesEvent 249 = .ok (.return_, 1) := dk_177 (dk_at dksX7_notesEvent_10 14 rfl rfl)
abbrev cX7_time : ByteArray := prog_17_method_53_code
def yX7_time : MethodName := ⟨RX7, "time", "()I"⟩
def dkwX7_time_0 : List UInt8 := [42, 3, 181, 0, 47, 42, 180, 0, 7, 3, 46, 172]
abbrev dktX7_time_0 : List UInt8 := dkwX7_time_0 ++ []
theorem dksX7_time_0 : cX7_time.data.toList.drop 0 = dktX7_time_0 := by decide +kernel
theorem dX7_time_0 : decode cX7_time 0 = .ok (.aload_n 0, 1) := dk_42 (dk_at dksX7_time_0 0 rfl rfl)
theorem dX7_time_1 : decode cX7_time 1 = .ok (.iconst 0, 1) := dk_3 (dk_at dksX7_time_0 1 rfl rfl)
theorem dX7_time_2 : decode cX7_time 2 = .ok (.putfield 47, 3) := dk_181 0 47 (dk_at dksX7_time_0 2 rfl rfl)
theorem dX7_time_5 : decode cX7_time 5 = .ok (.aload_n 0, 1) := dk_42 (dk_at dksX7_time_0 5 rfl rfl)
theorem dX7_time_6 : decode cX7_time 6 = .ok (.getfield 7, 3) := dk_180 0 7 (dk_at dksX7_time_0 6 rfl rfl)
theorem dX7_time_9 : decode cX7_time 9 = .ok (.iconst 0, 1) := dk_3 (dk_at dksX7_time_0 9 rfl rfl)
theorem dX7_time_10 : decode cX7_time 10 = .ok (.iaload, 1) := dk_46 (dk_at dksX7_time_0 10 rfl rfl)
theorem dX7_time_11 : decode cX7_time 11 = .ok (.ireturn, 1) := dk_172 (dk_at dksX7_time_0 11 rfl rfl)
abbrev cX7_position : ByteArray := prog_17_method_55_code
def yX7_position : MethodName := ⟨RX7, "position", "(I)I"⟩
def dkwX7_position_0 : List UInt8 := [42, 27, 16, 20, 182, 0, 174, 172]
abbrev dktX7_position_0 : List UInt8 := dkwX7_position_0 ++ []
theorem dksX7_position_0 : cX7_position.data.toList.drop 0 = dktX7_position_0 := by decide +kernel
theorem dX7_position_0 : decode cX7_position 0 = .ok (.aload_n 0, 1) := dk_42 (dk_at dksX7_position_0 0 rfl rfl)
theorem dX7_position_1 : decode cX7_position 1 = .ok (.iload_n 1, 1) := dk_27 (dk_at dksX7_position_0 1 rfl rfl)
theorem dX7_position_2 : decode cX7_position 2 = .ok (.bipush 20, 2) := dk_16 20 (dk_at dksX7_position_0 2 rfl rfl)
theorem dX7_position_4 : decode cX7_position 4 = .ok (.invokevirtual 174, 3) := dk_182 0 174 (dk_at dksX7_position_0 4 rfl rfl)
theorem dX7_position_7 : decode cX7_position 7 = .ok (.ireturn, 1) := dk_172 (dk_at dksX7_position_0 7 rfl rfl)
abbrev cX7_ofCylinder : ByteArray := prog_17_method_54_code
def yX7_ofCylinder : MethodName := ⟨RX7, "ofCylinder", "(II)I"⟩
def dkwX7_ofCylinder_1 : List UInt8 := [154, 0, 14, 42, 180, 0, 7, 28, 27, 96, 46, 167, 0, 4, 3, 172]
abbrev dktX7_ofCylinder_1 : List UInt8 := dkwX7_ofCylinder_1 ++ []
def dkwX7_ofCylinder_0 : List UInt8 := [42, 27, 3, 8, 184, 0, 51, 153, 0, 7, 3, 167, 0, 4, 4, 181, 0, 47, 42, 180, 0, 47]
abbrev dktX7_ofCylinder_0 : List UInt8 := dkwX7_ofCylinder_0 ++ dktX7_ofCylinder_1
theorem dksX7_ofCylinder_0 : cX7_ofCylinder.data.toList.drop 0 = dktX7_ofCylinder_0 := by decide +kernel
theorem dksX7_ofCylinder_1 : cX7_ofCylinder.data.toList.drop 22 = dktX7_ofCylinder_1 := dk_seg dksX7_ofCylinder_0 22 rfl rfl
theorem dX7_ofCylinder_0 : decode cX7_ofCylinder 0 = .ok (.aload_n 0, 1) := dk_42 (dk_at dksX7_ofCylinder_0 0 rfl rfl)
theorem dX7_ofCylinder_1 : decode cX7_ofCylinder 1 = .ok (.iload_n 1, 1) := dk_27 (dk_at dksX7_ofCylinder_0 1 rfl rfl)
theorem dX7_ofCylinder_2 : decode cX7_ofCylinder 2 = .ok (.iconst 0, 1) := dk_3 (dk_at dksX7_ofCylinder_0 2 rfl rfl)
theorem dX7_ofCylinder_3 : decode cX7_ofCylinder 3 = .ok (.iconst 5, 1) := dk_8 (dk_at dksX7_ofCylinder_0 3 rfl rfl)
theorem dX7_ofCylinder_4 : decode cX7_ofCylinder 4 = .ok (.invokestatic 51, 3) := dk_184 0 51 (dk_at dksX7_ofCylinder_0 4 rfl rfl)
theorem dX7_ofCylinder_7 : decode cX7_ofCylinder 7 = .ok (.ifCond .eq 7, 3) := dk_153 0 7 (dk_at dksX7_ofCylinder_0 7 rfl rfl)
theorem dX7_ofCylinder_10 : decode cX7_ofCylinder 10 = .ok (.iconst 0, 1) := dk_3 (dk_at dksX7_ofCylinder_0 10 rfl rfl)
theorem dX7_ofCylinder_11 : decode cX7_ofCylinder 11 = .ok (.goto 4, 3) := dk_167 0 4 (dk_at dksX7_ofCylinder_0 11 rfl rfl)
theorem dX7_ofCylinder_14 : decode cX7_ofCylinder 14 = .ok (.iconst 1, 1) := dk_4 (dk_at dksX7_ofCylinder_0 14 rfl rfl)
theorem dX7_ofCylinder_15 : decode cX7_ofCylinder 15 = .ok (.putfield 47, 3) := dk_181 0 47 (dk_at dksX7_ofCylinder_0 15 rfl rfl)
theorem dX7_ofCylinder_18 : decode cX7_ofCylinder 18 = .ok (.aload_n 0, 1) := dk_42 (dk_at dksX7_ofCylinder_0 18 rfl rfl)
theorem dX7_ofCylinder_19 : decode cX7_ofCylinder 19 = .ok (.getfield 47, 3) := dk_180 0 47 (dk_at dksX7_ofCylinder_0 19 rfl rfl)
theorem dX7_ofCylinder_22 : decode cX7_ofCylinder 22 = .ok (.ifCond .ne 14, 3) := dk_154 0 14 (dk_at dksX7_ofCylinder_1 0 rfl rfl)
theorem dX7_ofCylinder_25 : decode cX7_ofCylinder 25 = .ok (.aload_n 0, 1) := dk_42 (dk_at dksX7_ofCylinder_1 3 rfl rfl)
theorem dX7_ofCylinder_26 : decode cX7_ofCylinder 26 = .ok (.getfield 7, 3) := dk_180 0 7 (dk_at dksX7_ofCylinder_1 4 rfl rfl)
theorem dX7_ofCylinder_29 : decode cX7_ofCylinder 29 = .ok (.iload_n 2, 1) := dk_28 (dk_at dksX7_ofCylinder_1 7 rfl rfl)
theorem dX7_ofCylinder_30 : decode cX7_ofCylinder 30 = .ok (.iload_n 1, 1) := dk_27 (dk_at dksX7_ofCylinder_1 8 rfl rfl)
theorem dX7_ofCylinder_31 : decode cX7_ofCylinder 31 = .ok (.iadd, 1) := dk_96 (dk_at dksX7_ofCylinder_1 9 rfl rfl)
theorem dX7_ofCylinder_32 : decode cX7_ofCylinder 32 = .ok (.iaload, 1) := dk_46 (dk_at dksX7_ofCylinder_1 10 rfl rfl)
theorem dX7_ofCylinder_33 : decode cX7_ofCylinder 33 = .ok (.goto 4, 3) := dk_167 0 4 (dk_at dksX7_ofCylinder_1 11 rfl rfl)
theorem dX7_ofCylinder_36 : decode cX7_ofCylinder 36 = .ok (.iconst 0, 1) := dk_3 (dk_at dksX7_ofCylinder_1 14 rfl rfl)
theorem dX7_ofCylinder_37 : decode cX7_ofCylinder 37 = .ok (.ireturn, 1) := dk_172 (dk_at dksX7_ofCylinder_1 15 rfl rfl)
abbrev cX7_isOut : ByteArray := prog_17_method_56_code
def yX7_isOut : MethodName := ⟨RX7, "isOut", "(I)Z"⟩
def dkwX7_isOut_0 : List UInt8 := [42, 27, 16, 26, 182, 0, 174, 4, 160, 0, 7, 4, 167, 0, 4, 3, 172]
abbrev dktX7_isOut_0 : List UInt8 := dkwX7_isOut_0 ++ []
theorem dksX7_isOut_0 : cX7_isOut.data.toList.drop 0 = dktX7_isOut_0 := by decide +kernel
theorem dX7_isOut_0 : decode cX7_isOut 0 = .ok (.aload_n 0, 1) := dk_42 (dk_at dksX7_isOut_0 0 rfl rfl)
theorem dX7_isOut_1 : decode cX7_isOut 1 = .ok (.iload_n 1, 1) := dk_27 (dk_at dksX7_isOut_0 1 rfl rfl)
theorem dX7_isOut_2 : decode cX7_isOut 2 = .ok (.bipush 26, 2) := dk_16 26 (dk_at dksX7_isOut_0 2 rfl rfl)
theorem dX7_isOut_4 : decode cX7_isOut 4 = .ok (.invokevirtual 174, 3) := dk_182 0 174 (dk_at dksX7_isOut_0 4 rfl rfl)
theorem dX7_isOut_7 : decode cX7_isOut 7 = .ok (.iconst 1, 1) := dk_4 (dk_at dksX7_isOut_0 7 rfl rfl)
theorem dX7_isOut_8 : decode cX7_isOut 8 = .ok (.if_icmp .ne 7, 3) := dk_160 0 7 (dk_at dksX7_isOut_0 8 rfl rfl)
theorem dX7_isOut_11 : decode cX7_isOut 11 = .ok (.iconst 1, 1) := dk_4 (dk_at dksX7_isOut_0 11 rfl rfl)
theorem dX7_isOut_12 : decode cX7_isOut 12 = .ok (.goto 4, 3) := dk_167 0 4 (dk_at dksX7_isOut_0 12 rfl rfl)
theorem dX7_isOut_15 : decode cX7_isOut 15 = .ok (.iconst 0, 1) := dk_3 (dk_at dksX7_isOut_0 15 rfl rfl)
theorem dX7_isOut_16 : decode cX7_isOut 16 = .ok (.ireturn, 1) := dk_172 (dk_at dksX7_isOut_0 16 rfl rfl)
abbrev cX7_sensor : ByteArray := prog_17_method_57_code
def yX7_sensor : MethodName := ⟨RX7, "sensor", "(II)Z"⟩
def dkwX7_sensor_2 : List UInt8 := [167, 0, 4, 3, 172]
abbrev dktX7_sensor_2 : List UInt8 := dkwX7_sensor_2 ++ []
def dkwX7_sensor_1 : List UInt8 := [181, 0, 47, 42, 180, 0, 47, 154, 0, 20, 42, 42, 180, 0, 7, 27, 28, 182, 0, 155, 153, 0, 7, 4]
abbrev dktX7_sensor_1 : List UInt8 := dkwX7_sensor_1 ++ dktX7_sensor_2
def dkwX7_sensor_0 : List UInt8 := [42, 27, 3, 8, 184, 0, 51, 153, 0, 16, 28, 3, 4, 184, 0, 51, 153, 0, 7, 3, 167, 0, 4, 4]
abbrev dktX7_sensor_0 : List UInt8 := dkwX7_sensor_0 ++ dktX7_sensor_1
theorem dksX7_sensor_0 : cX7_sensor.data.toList.drop 0 = dktX7_sensor_0 := by decide +kernel
theorem dksX7_sensor_1 : cX7_sensor.data.toList.drop 24 = dktX7_sensor_1 := dk_seg dksX7_sensor_0 24 rfl rfl
theorem dksX7_sensor_2 : cX7_sensor.data.toList.drop 48 = dktX7_sensor_2 := dk_seg dksX7_sensor_1 24 rfl rfl
theorem dX7_sensor_0 : decode cX7_sensor 0 = .ok (.aload_n 0, 1) := dk_42 (dk_at dksX7_sensor_0 0 rfl rfl)
theorem dX7_sensor_1 : decode cX7_sensor 1 = .ok (.iload_n 1, 1) := dk_27 (dk_at dksX7_sensor_0 1 rfl rfl)
theorem dX7_sensor_2 : decode cX7_sensor 2 = .ok (.iconst 0, 1) := dk_3 (dk_at dksX7_sensor_0 2 rfl rfl)
theorem dX7_sensor_3 : decode cX7_sensor 3 = .ok (.iconst 5, 1) := dk_8 (dk_at dksX7_sensor_0 3 rfl rfl)
theorem dX7_sensor_4 : decode cX7_sensor 4 = .ok (.invokestatic 51, 3) := dk_184 0 51 (dk_at dksX7_sensor_0 4 rfl rfl)
theorem dX7_sensor_7 : decode cX7_sensor 7 = .ok (.ifCond .eq 16, 3) := dk_153 0 16 (dk_at dksX7_sensor_0 7 rfl rfl)
theorem dX7_sensor_10 : decode cX7_sensor 10 = .ok (.iload_n 2, 1) := dk_28 (dk_at dksX7_sensor_0 10 rfl rfl)
theorem dX7_sensor_11 : decode cX7_sensor 11 = .ok (.iconst 0, 1) := dk_3 (dk_at dksX7_sensor_0 11 rfl rfl)
theorem dX7_sensor_12 : decode cX7_sensor 12 = .ok (.iconst 1, 1) := dk_4 (dk_at dksX7_sensor_0 12 rfl rfl)
theorem dX7_sensor_13 : decode cX7_sensor 13 = .ok (.invokestatic 51, 3) := dk_184 0 51 (dk_at dksX7_sensor_0 13 rfl rfl)
theorem dX7_sensor_16 : decode cX7_sensor 16 = .ok (.ifCond .eq 7, 3) := dk_153 0 7 (dk_at dksX7_sensor_0 16 rfl rfl)
theorem dX7_sensor_19 : decode cX7_sensor 19 = .ok (.iconst 0, 1) := dk_3 (dk_at dksX7_sensor_0 19 rfl rfl)
theorem dX7_sensor_20 : decode cX7_sensor 20 = .ok (.goto 4, 3) := dk_167 0 4 (dk_at dksX7_sensor_0 20 rfl rfl)
theorem dX7_sensor_23 : decode cX7_sensor 23 = .ok (.iconst 1, 1) := dk_4 (dk_at dksX7_sensor_0 23 rfl rfl)
theorem dX7_sensor_24 : decode cX7_sensor 24 = .ok (.putfield 47, 3) := dk_181 0 47 (dk_at dksX7_sensor_1 0 rfl rfl)
theorem dX7_sensor_27 : decode cX7_sensor 27 = .ok (.aload_n 0, 1) := dk_42 (dk_at dksX7_sensor_1 3 rfl rfl)
theorem dX7_sensor_28 : decode cX7_sensor 28 = .ok (.getfield 47, 3) := dk_180 0 47 (dk_at dksX7_sensor_1 4 rfl rfl)
theorem dX7_sensor_31 : decode cX7_sensor 31 = .ok (.ifCond .ne 20, 3) := dk_154 0 20 (dk_at dksX7_sensor_1 7 rfl rfl)
theorem dX7_sensor_34 : decode cX7_sensor 34 = .ok (.aload_n 0, 1) := dk_42 (dk_at dksX7_sensor_1 10 rfl rfl)
theorem dX7_sensor_35 : decode cX7_sensor 35 = .ok (.aload_n 0, 1) := dk_42 (dk_at dksX7_sensor_1 11 rfl rfl)
theorem dX7_sensor_36 : decode cX7_sensor 36 = .ok (.getfield 7, 3) := dk_180 0 7 (dk_at dksX7_sensor_1 12 rfl rfl)
theorem dX7_sensor_39 : decode cX7_sensor 39 = .ok (.iload_n 1, 1) := dk_27 (dk_at dksX7_sensor_1 15 rfl rfl)
theorem dX7_sensor_40 : decode cX7_sensor 40 = .ok (.iload_n 2, 1) := dk_28 (dk_at dksX7_sensor_1 16 rfl rfl)
theorem dX7_sensor_41 : decode cX7_sensor 41 = .ok (.invokevirtual 155, 3) := dk_182 0 155 (dk_at dksX7_sensor_1 17 rfl rfl)
theorem dX7_sensor_44 : decode cX7_sensor 44 = .ok (.ifCond .eq 7, 3) := dk_153 0 7 (dk_at dksX7_sensor_1 20 rfl rfl)
theorem dX7_sensor_47 : decode cX7_sensor 47 = .ok (.iconst 1, 1) := dk_4 (dk_at dksX7_sensor_1 23 rfl rfl)
theorem dX7_sensor_48 : decode cX7_sensor 48 = .ok (.goto 4, 3) := dk_167 0 4 (dk_at dksX7_sensor_2 0 rfl rfl)
theorem dX7_sensor_51 : decode cX7_sensor 51 = .ok (.iconst 0, 1) := dk_3 (dk_at dksX7_sensor_2 3 rfl rfl)
theorem dX7_sensor_52 : decode cX7_sensor 52 = .ok (.ireturn, 1) := dk_172 (dk_at dksX7_sensor_2 4 rfl rfl)
abbrev cX7_timer : ByteArray := prog_17_method_58_code
def yX7_timer : MethodName := ⟨RX7, "timer", "(I)I"⟩
def dkwX7_timer_1 : List UInt8 := [167, 0, 8, 42, 4, 182, 0, 55, 172]
abbrev dktX7_timer_1 : List UInt8 := dkwX7_timer_1 ++ []
def dkwX7_timer_0 : List UInt8 := [42, 3, 181, 0, 47, 42, 27, 182, 0, 110, 153, 0, 15, 42, 180, 0, 7, 16, 44, 27, 96, 46]
abbrev dktX7_timer_0 : List UInt8 := dkwX7_timer_0 ++ dktX7_timer_1
theorem dksX7_timer_0 : cX7_timer.data.toList.drop 0 = dktX7_timer_0 := by decide +kernel
theorem dksX7_timer_1 : cX7_timer.data.toList.drop 22 = dktX7_timer_1 := dk_seg dksX7_timer_0 22 rfl rfl
theorem dX7_timer_0 : decode cX7_timer 0 = .ok (.aload_n 0, 1) := dk_42 (dk_at dksX7_timer_0 0 rfl rfl)
theorem dX7_timer_1 : decode cX7_timer 1 = .ok (.iconst 0, 1) := dk_3 (dk_at dksX7_timer_0 1 rfl rfl)
theorem dX7_timer_2 : decode cX7_timer 2 = .ok (.putfield 47, 3) := dk_181 0 47 (dk_at dksX7_timer_0 2 rfl rfl)
theorem dX7_timer_5 : decode cX7_timer 5 = .ok (.aload_n 0, 1) := dk_42 (dk_at dksX7_timer_0 5 rfl rfl)
theorem dX7_timer_6 : decode cX7_timer 6 = .ok (.iload_n 1, 1) := dk_27 (dk_at dksX7_timer_0 6 rfl rfl)
theorem dX7_timer_7 : decode cX7_timer 7 = .ok (.invokevirtual 110, 3) := dk_182 0 110 (dk_at dksX7_timer_0 7 rfl rfl)
theorem dX7_timer_10 : decode cX7_timer 10 = .ok (.ifCond .eq 15, 3) := dk_153 0 15 (dk_at dksX7_timer_0 10 rfl rfl)
theorem dX7_timer_13 : decode cX7_timer 13 = .ok (.aload_n 0, 1) := dk_42 (dk_at dksX7_timer_0 13 rfl rfl)
theorem dX7_timer_14 : decode cX7_timer 14 = .ok (.getfield 7, 3) := dk_180 0 7 (dk_at dksX7_timer_0 14 rfl rfl)
theorem dX7_timer_17 : decode cX7_timer 17 = .ok (.bipush 44, 2) := dk_16 44 (dk_at dksX7_timer_0 17 rfl rfl)
theorem dX7_timer_19 : decode cX7_timer 19 = .ok (.iload_n 1, 1) := dk_27 (dk_at dksX7_timer_0 19 rfl rfl)
theorem dX7_timer_20 : decode cX7_timer 20 = .ok (.iadd, 1) := dk_96 (dk_at dksX7_timer_0 20 rfl rfl)
theorem dX7_timer_21 : decode cX7_timer 21 = .ok (.iaload, 1) := dk_46 (dk_at dksX7_timer_0 21 rfl rfl)
theorem dX7_timer_22 : decode cX7_timer 22 = .ok (.goto 8, 3) := dk_167 0 8 (dk_at dksX7_timer_1 0 rfl rfl)
theorem dX7_timer_25 : decode cX7_timer 25 = .ok (.aload_n 0, 1) := dk_42 (dk_at dksX7_timer_1 3 rfl rfl)
theorem dX7_timer_26 : decode cX7_timer 26 = .ok (.iconst 1, 1) := dk_4 (dk_at dksX7_timer_1 4 rfl rfl)
theorem dX7_timer_27 : decode cX7_timer 27 = .ok (.invokevirtual 55, 3) := dk_182 0 55 (dk_at dksX7_timer_1 5 rfl rfl)
theorem dX7_timer_30 : decode cX7_timer 30 = .ok (.ireturn, 1) := dk_172 (dk_at dksX7_timer_1 8 rfl rfl)
abbrev cX7_active : ByteArray := prog_17_method_59_code
def yX7_active : MethodName := ⟨RX7, "active", "()I"⟩
def dkwX7_active_0 : List UInt8 := [42, 3, 181, 0, 47, 42, 180, 0, 7, 6, 46, 172]
abbrev dktX7_active_0 : List UInt8 := dkwX7_active_0 ++ []
theorem dksX7_active_0 : cX7_active.data.toList.drop 0 = dktX7_active_0 := by decide +kernel
theorem dX7_active_0 : decode cX7_active 0 = .ok (.aload_n 0, 1) := dk_42 (dk_at dksX7_active_0 0 rfl rfl)
theorem dX7_active_1 : decode cX7_active 1 = .ok (.iconst 0, 1) := dk_3 (dk_at dksX7_active_0 1 rfl rfl)
theorem dX7_active_2 : decode cX7_active 2 = .ok (.putfield 47, 3) := dk_181 0 47 (dk_at dksX7_active_0 2 rfl rfl)
theorem dX7_active_5 : decode cX7_active 5 = .ok (.aload_n 0, 1) := dk_42 (dk_at dksX7_active_0 5 rfl rfl)
theorem dX7_active_6 : decode cX7_active 6 = .ok (.getfield 7, 3) := dk_180 0 7 (dk_at dksX7_active_0 6 rfl rfl)
theorem dX7_active_9 : decode cX7_active 9 = .ok (.iconst 3, 1) := dk_6 (dk_at dksX7_active_0 9 rfl rfl)
theorem dX7_active_10 : decode cX7_active 10 = .ok (.iaload, 1) := dk_46 (dk_at dksX7_active_0 10 rfl rfl)
theorem dX7_active_11 : decode cX7_active 11 = .ok (.ireturn, 1) := dk_172 (dk_at dksX7_active_0 11 rfl rfl)
abbrev cX7_commands : ByteArray := prog_17_method_60_code
def yX7_commands : MethodName := ⟨RX7, "commands", "(I)I"⟩
def dkwX7_commands_0 : List UInt8 := [42, 27, 16, 32, 182, 0, 174, 172]
abbrev dktX7_commands_0 : List UInt8 := dkwX7_commands_0 ++ []
theorem dksX7_commands_0 : cX7_commands.data.toList.drop 0 = dktX7_commands_0 := by decide +kernel
theorem dX7_commands_0 : decode cX7_commands 0 = .ok (.aload_n 0, 1) := dk_42 (dk_at dksX7_commands_0 0 rfl rfl)
theorem dX7_commands_1 : decode cX7_commands 1 = .ok (.iload_n 1, 1) := dk_27 (dk_at dksX7_commands_0 1 rfl rfl)
theorem dX7_commands_2 : decode cX7_commands 2 = .ok (.bipush 32, 2) := dk_16 32 (dk_at dksX7_commands_0 2 rfl rfl)
theorem dX7_commands_4 : decode cX7_commands 4 = .ok (.invokevirtual 174, 3) := dk_182 0 174 (dk_at dksX7_commands_0 4 rfl rfl)
theorem dX7_commands_7 : decode cX7_commands 7 = .ok (.ireturn, 1) := dk_172 (dk_at dksX7_commands_0 7 rfl rfl)
abbrev cX7_events : ByteArray := prog_17_method_61_code
def yX7_events : MethodName := ⟨RX7, "events", "()I"⟩
def dkwX7_events_0 : List UInt8 := [42, 3, 181, 0, 47, 42, 180, 0, 7, 7, 46, 172]
abbrev dktX7_events_0 : List UInt8 := dkwX7_events_0 ++ []
theorem dksX7_events_0 : cX7_events.data.toList.drop 0 = dktX7_events_0 := by decide +kernel
theorem dX7_events_0 : decode cX7_events 0 = .ok (.aload_n 0, 1) := dk_42 (dk_at dksX7_events_0 0 rfl rfl)
theorem dX7_events_1 : decode cX7_events 1 = .ok (.iconst 0, 1) := dk_3 (dk_at dksX7_events_0 1 rfl rfl)
theorem dX7_events_2 : decode cX7_events 2 = .ok (.putfield 47, 3) := dk_181 0 47 (dk_at dksX7_events_0 2 rfl rfl)
theorem dX7_events_5 : decode cX7_events 5 = .ok (.aload_n 0, 1) := dk_42 (dk_at dksX7_events_0 5 rfl rfl)
theorem dX7_events_6 : decode cX7_events 6 = .ok (.getfield 7, 3) := dk_180 0 7 (dk_at dksX7_events_0 6 rfl rfl)
theorem dX7_events_9 : decode cX7_events 9 = .ok (.iconst 4, 1) := dk_7 (dk_at dksX7_events_0 9 rfl rfl)
theorem dX7_events_10 : decode cX7_events 10 = .ok (.iaload, 1) := dk_46 (dk_at dksX7_events_0 10 rfl rfl)
theorem dX7_events_11 : decode cX7_events 11 = .ok (.ireturn, 1) := dk_172 (dk_at dksX7_events_0 11 rfl rfl)
abbrev cX7_eventTime : ByteArray := prog_17_method_63_code
def yX7_eventTime : MethodName := ⟨RX7, "eventTime", "(I)I"⟩
def dkwX7_eventTime_0 : List UInt8 := [42, 27, 16, 60, 182, 0, 177, 172]
abbrev dktX7_eventTime_0 : List UInt8 := dkwX7_eventTime_0 ++ []
theorem dksX7_eventTime_0 : cX7_eventTime.data.toList.drop 0 = dktX7_eventTime_0 := by decide +kernel
theorem dX7_eventTime_0 : decode cX7_eventTime 0 = .ok (.aload_n 0, 1) := dk_42 (dk_at dksX7_eventTime_0 0 rfl rfl)
theorem dX7_eventTime_1 : decode cX7_eventTime 1 = .ok (.iload_n 1, 1) := dk_27 (dk_at dksX7_eventTime_0 1 rfl rfl)
theorem dX7_eventTime_2 : decode cX7_eventTime 2 = .ok (.bipush 60, 2) := dk_16 60 (dk_at dksX7_eventTime_0 2 rfl rfl)
theorem dX7_eventTime_4 : decode cX7_eventTime 4 = .ok (.invokevirtual 177, 3) := dk_182 0 177 (dk_at dksX7_eventTime_0 4 rfl rfl)
theorem dX7_eventTime_7 : decode cX7_eventTime 7 = .ok (.ireturn, 1) := dk_172 (dk_at dksX7_eventTime_0 7 rfl rfl)
abbrev cX7_ofEvent : ByteArray := prog_17_method_62_code
def yX7_ofEvent : MethodName := ⟨RX7, "ofEvent", "(II)I"⟩
def dkwX7_ofEvent_2 : List UInt8 := [16, 40, 112, 96, 46, 167, 0, 4, 2, 172]
abbrev dktX7_ofEvent_2 : List UInt8 := dkwX7_ofEvent_2 ++ []
def dkwX7_ofEvent_1 : List UInt8 := [180, 0, 7, 7, 46, 162, 0, 26, 42, 180, 0, 7, 28, 42, 180, 0, 7, 7, 46, 4, 100, 27, 100]
abbrev dktX7_ofEvent_1 : List UInt8 := dkwX7_ofEvent_1 ++ dktX7_ofEvent_2
def dkwX7_ofEvent_0 : List UInt8 := [42, 3, 181, 0, 47, 27, 156, 0, 9, 42, 4, 182, 0, 55, 172, 27, 16, 40, 162, 0, 36, 27, 42]
abbrev dktX7_ofEvent_0 : List UInt8 := dkwX7_ofEvent_0 ++ dktX7_ofEvent_1
theorem dksX7_ofEvent_0 : cX7_ofEvent.data.toList.drop 0 = dktX7_ofEvent_0 := by decide +kernel
theorem dksX7_ofEvent_1 : cX7_ofEvent.data.toList.drop 23 = dktX7_ofEvent_1 := dk_seg dksX7_ofEvent_0 23 rfl rfl
theorem dksX7_ofEvent_2 : cX7_ofEvent.data.toList.drop 46 = dktX7_ofEvent_2 := dk_seg dksX7_ofEvent_1 23 rfl rfl
theorem dX7_ofEvent_0 : decode cX7_ofEvent 0 = .ok (.aload_n 0, 1) := dk_42 (dk_at dksX7_ofEvent_0 0 rfl rfl)
theorem dX7_ofEvent_1 : decode cX7_ofEvent 1 = .ok (.iconst 0, 1) := dk_3 (dk_at dksX7_ofEvent_0 1 rfl rfl)
theorem dX7_ofEvent_2 : decode cX7_ofEvent 2 = .ok (.putfield 47, 3) := dk_181 0 47 (dk_at dksX7_ofEvent_0 2 rfl rfl)
theorem dX7_ofEvent_5 : decode cX7_ofEvent 5 = .ok (.iload_n 1, 1) := dk_27 (dk_at dksX7_ofEvent_0 5 rfl rfl)
theorem dX7_ofEvent_6 : decode cX7_ofEvent 6 = .ok (.ifCond .ge 9, 3) := dk_156 0 9 (dk_at dksX7_ofEvent_0 6 rfl rfl)
theorem dX7_ofEvent_9 : decode cX7_ofEvent 9 = .ok (.aload_n 0, 1) := dk_42 (dk_at dksX7_ofEvent_0 9 rfl rfl)
theorem dX7_ofEvent_10 : decode cX7_ofEvent 10 = .ok (.iconst 1, 1) := dk_4 (dk_at dksX7_ofEvent_0 10 rfl rfl)
theorem dX7_ofEvent_11 : decode cX7_ofEvent 11 = .ok (.invokevirtual 55, 3) := dk_182 0 55 (dk_at dksX7_ofEvent_0 11 rfl rfl)
theorem dX7_ofEvent_14 : decode cX7_ofEvent 14 = .ok (.ireturn, 1) := dk_172 (dk_at dksX7_ofEvent_0 14 rfl rfl)
theorem dX7_ofEvent_15 : decode cX7_ofEvent 15 = .ok (.iload_n 1, 1) := dk_27 (dk_at dksX7_ofEvent_0 15 rfl rfl)
theorem dX7_ofEvent_16 : decode cX7_ofEvent 16 = .ok (.bipush 40, 2) := dk_16 40 (dk_at dksX7_ofEvent_0 16 rfl rfl)
theorem dX7_ofEvent_18 : decode cX7_ofEvent 18 = .ok (.if_icmp .ge 36, 3) := dk_162 0 36 (dk_at dksX7_ofEvent_0 18 rfl rfl)
theorem dX7_ofEvent_21 : decode cX7_ofEvent 21 = .ok (.iload_n 1, 1) := dk_27 (dk_at dksX7_ofEvent_0 21 rfl rfl)
theorem dX7_ofEvent_22 : decode cX7_ofEvent 22 = .ok (.aload_n 0, 1) := dk_42 (dk_at dksX7_ofEvent_0 22 rfl rfl)
theorem dX7_ofEvent_23 : decode cX7_ofEvent 23 = .ok (.getfield 7, 3) := dk_180 0 7 (dk_at dksX7_ofEvent_1 0 rfl rfl)
theorem dX7_ofEvent_26 : decode cX7_ofEvent 26 = .ok (.iconst 4, 1) := dk_7 (dk_at dksX7_ofEvent_1 3 rfl rfl)
theorem dX7_ofEvent_27 : decode cX7_ofEvent 27 = .ok (.iaload, 1) := dk_46 (dk_at dksX7_ofEvent_1 4 rfl rfl)
theorem dX7_ofEvent_28 : decode cX7_ofEvent 28 = .ok (.if_icmp .ge 26, 3) := dk_162 0 26 (dk_at dksX7_ofEvent_1 5 rfl rfl)
theorem dX7_ofEvent_31 : decode cX7_ofEvent 31 = .ok (.aload_n 0, 1) := dk_42 (dk_at dksX7_ofEvent_1 8 rfl rfl)
theorem dX7_ofEvent_32 : decode cX7_ofEvent 32 = .ok (.getfield 7, 3) := dk_180 0 7 (dk_at dksX7_ofEvent_1 9 rfl rfl)
theorem dX7_ofEvent_35 : decode cX7_ofEvent 35 = .ok (.iload_n 2, 1) := dk_28 (dk_at dksX7_ofEvent_1 12 rfl rfl)
theorem dX7_ofEvent_36 : decode cX7_ofEvent 36 = .ok (.aload_n 0, 1) := dk_42 (dk_at dksX7_ofEvent_1 13 rfl rfl)
theorem dX7_ofEvent_37 : decode cX7_ofEvent 37 = .ok (.getfield 7, 3) := dk_180 0 7 (dk_at dksX7_ofEvent_1 14 rfl rfl)
theorem dX7_ofEvent_40 : decode cX7_ofEvent 40 = .ok (.iconst 4, 1) := dk_7 (dk_at dksX7_ofEvent_1 17 rfl rfl)
theorem dX7_ofEvent_41 : decode cX7_ofEvent 41 = .ok (.iaload, 1) := dk_46 (dk_at dksX7_ofEvent_1 18 rfl rfl)
theorem dX7_ofEvent_42 : decode cX7_ofEvent 42 = .ok (.iconst 1, 1) := dk_4 (dk_at dksX7_ofEvent_1 19 rfl rfl)
theorem dX7_ofEvent_43 : decode cX7_ofEvent 43 = .ok (.isub, 1) := dk_100 (dk_at dksX7_ofEvent_1 20 rfl rfl)
theorem dX7_ofEvent_44 : decode cX7_ofEvent 44 = .ok (.iload_n 1, 1) := dk_27 (dk_at dksX7_ofEvent_1 21 rfl rfl)
theorem dX7_ofEvent_45 : decode cX7_ofEvent 45 = .ok (.isub, 1) := dk_100 (dk_at dksX7_ofEvent_1 22 rfl rfl)
theorem dX7_ofEvent_46 : decode cX7_ofEvent 46 = .ok (.bipush 40, 2) := dk_16 40 (dk_at dksX7_ofEvent_2 0 rfl rfl)
theorem dX7_ofEvent_48 : decode cX7_ofEvent 48 = .ok (.irem, 1) := dk_112 (dk_at dksX7_ofEvent_2 2 rfl rfl)
theorem dX7_ofEvent_49 : decode cX7_ofEvent 49 = .ok (.iadd, 1) := dk_96 (dk_at dksX7_ofEvent_2 3 rfl rfl)
theorem dX7_ofEvent_50 : decode cX7_ofEvent 50 = .ok (.iaload, 1) := dk_46 (dk_at dksX7_ofEvent_2 4 rfl rfl)
theorem dX7_ofEvent_51 : decode cX7_ofEvent 51 = .ok (.goto 4, 3) := dk_167 0 4 (dk_at dksX7_ofEvent_2 5 rfl rfl)
theorem dX7_ofEvent_54 : decode cX7_ofEvent 54 = .ok (.iconst (-1), 1) := dk_2 (dk_at dksX7_ofEvent_2 8 rfl rfl)
theorem dX7_ofEvent_55 : decode cX7_ofEvent 55 = .ok (.ireturn, 1) := dk_172 (dk_at dksX7_ofEvent_2 9 rfl rfl)
abbrev cX7_eventMove : ByteArray := prog_17_method_64_code
def yX7_eventMove : MethodName := ⟨RX7, "eventMove", "(I)I"⟩
def dkwX7_eventMove_0 : List UInt8 := [42, 27, 16, 100, 182, 0, 177, 172]
abbrev dktX7_eventMove_0 : List UInt8 := dkwX7_eventMove_0 ++ []
theorem dksX7_eventMove_0 : cX7_eventMove.data.toList.drop 0 = dktX7_eventMove_0 := by decide +kernel
theorem dX7_eventMove_0 : decode cX7_eventMove 0 = .ok (.aload_n 0, 1) := dk_42 (dk_at dksX7_eventMove_0 0 rfl rfl)
theorem dX7_eventMove_1 : decode cX7_eventMove 1 = .ok (.iload_n 1, 1) := dk_27 (dk_at dksX7_eventMove_0 1 rfl rfl)
theorem dX7_eventMove_2 : decode cX7_eventMove 2 = .ok (.bipush 100, 2) := dk_16 100 (dk_at dksX7_eventMove_0 2 rfl rfl)
theorem dX7_eventMove_4 : decode cX7_eventMove 4 = .ok (.invokevirtual 177, 3) := dk_182 0 177 (dk_at dksX7_eventMove_0 4 rfl rfl)
theorem dX7_eventMove_7 : decode cX7_eventMove 7 = .ok (.ireturn, 1) := dk_172 (dk_at dksX7_eventMove_0 7 rfl rfl)
abbrev cX7_rightEvents : ByteArray := prog_17_method_65_code
def yX7_rightEvents : MethodName := ⟨RX7, "rightEvents", "()I"⟩
def dkwX7_rightEvents_0 : List UInt8 := [42, 3, 181, 0, 47, 42, 180, 0, 7, 8, 46, 172]
abbrev dktX7_rightEvents_0 : List UInt8 := dkwX7_rightEvents_0 ++ []
theorem dksX7_rightEvents_0 : cX7_rightEvents.data.toList.drop 0 = dktX7_rightEvents_0 := by decide +kernel
theorem dX7_rightEvents_0 : decode cX7_rightEvents 0 = .ok (.aload_n 0, 1) := dk_42 (dk_at dksX7_rightEvents_0 0 rfl rfl)
theorem dX7_rightEvents_1 : decode cX7_rightEvents 1 = .ok (.iconst 0, 1) := dk_3 (dk_at dksX7_rightEvents_0 1 rfl rfl)
theorem dX7_rightEvents_2 : decode cX7_rightEvents 2 = .ok (.putfield 47, 3) := dk_181 0 47 (dk_at dksX7_rightEvents_0 2 rfl rfl)
theorem dX7_rightEvents_5 : decode cX7_rightEvents 5 = .ok (.aload_n 0, 1) := dk_42 (dk_at dksX7_rightEvents_0 5 rfl rfl)
theorem dX7_rightEvents_6 : decode cX7_rightEvents 6 = .ok (.getfield 7, 3) := dk_180 0 7 (dk_at dksX7_rightEvents_0 6 rfl rfl)
theorem dX7_rightEvents_9 : decode cX7_rightEvents 9 = .ok (.iconst 5, 1) := dk_8 (dk_at dksX7_rightEvents_0 9 rfl rfl)
theorem dX7_rightEvents_10 : decode cX7_rightEvents 10 = .ok (.iaload, 1) := dk_46 (dk_at dksX7_rightEvents_0 10 rfl rfl)
theorem dX7_rightEvents_11 : decode cX7_rightEvents 11 = .ok (.ireturn, 1) := dk_172 (dk_at dksX7_rightEvents_0 11 rfl rfl)
abbrev cX7_cycles : ByteArray := prog_17_method_66_code
def yX7_cycles : MethodName := ⟨RX7, "cycles", "()I"⟩
def dkwX7_cycles_0 : List UInt8 := [42, 3, 181, 0, 47, 42, 180, 0, 7, 16, 9, 46, 172]
abbrev dktX7_cycles_0 : List UInt8 := dkwX7_cycles_0 ++ []
theorem dksX7_cycles_0 : cX7_cycles.data.toList.drop 0 = dktX7_cycles_0 := by decide +kernel
theorem dX7_cycles_0 : decode cX7_cycles 0 = .ok (.aload_n 0, 1) := dk_42 (dk_at dksX7_cycles_0 0 rfl rfl)
theorem dX7_cycles_1 : decode cX7_cycles 1 = .ok (.iconst 0, 1) := dk_3 (dk_at dksX7_cycles_0 1 rfl rfl)
theorem dX7_cycles_2 : decode cX7_cycles 2 = .ok (.putfield 47, 3) := dk_181 0 47 (dk_at dksX7_cycles_0 2 rfl rfl)
theorem dX7_cycles_5 : decode cX7_cycles 5 = .ok (.aload_n 0, 1) := dk_42 (dk_at dksX7_cycles_0 5 rfl rfl)
theorem dX7_cycles_6 : decode cX7_cycles 6 = .ok (.getfield 7, 3) := dk_180 0 7 (dk_at dksX7_cycles_0 6 rfl rfl)
theorem dX7_cycles_9 : decode cX7_cycles 9 = .ok (.bipush 9, 2) := dk_16 9 (dk_at dksX7_cycles_0 9 rfl rfl)
theorem dX7_cycles_11 : decode cX7_cycles 11 = .ok (.iaload, 1) := dk_46 (dk_at dksX7_cycles_0 11 rfl rfl)
theorem dX7_cycles_12 : decode cX7_cycles 12 = .ok (.ireturn, 1) := dk_172 (dk_at dksX7_cycles_0 12 rfl rfl)
abbrev cX7_quiet : ByteArray := prog_17_method_67_code
def yX7_quiet : MethodName := ⟨RX7, "quiet", "()I"⟩
def dkwX7_quiet_0 : List UInt8 := [42, 3, 181, 0, 47, 42, 180, 0, 7, 16, 10, 46, 172]
abbrev dktX7_quiet_0 : List UInt8 := dkwX7_quiet_0 ++ []
theorem dksX7_quiet_0 : cX7_quiet.data.toList.drop 0 = dktX7_quiet_0 := by decide +kernel
theorem dX7_quiet_0 : decode cX7_quiet 0 = .ok (.aload_n 0, 1) := dk_42 (dk_at dksX7_quiet_0 0 rfl rfl)
theorem dX7_quiet_1 : decode cX7_quiet 1 = .ok (.iconst 0, 1) := dk_3 (dk_at dksX7_quiet_0 1 rfl rfl)
theorem dX7_quiet_2 : decode cX7_quiet 2 = .ok (.putfield 47, 3) := dk_181 0 47 (dk_at dksX7_quiet_0 2 rfl rfl)
theorem dX7_quiet_5 : decode cX7_quiet 5 = .ok (.aload_n 0, 1) := dk_42 (dk_at dksX7_quiet_0 5 rfl rfl)
theorem dX7_quiet_6 : decode cX7_quiet 6 = .ok (.getfield 7, 3) := dk_180 0 7 (dk_at dksX7_quiet_0 6 rfl rfl)
theorem dX7_quiet_9 : decode cX7_quiet 9 = .ok (.bipush 10, 2) := dk_16 10 (dk_at dksX7_quiet_0 9 rfl rfl)
theorem dX7_quiet_11 : decode cX7_quiet 11 = .ok (.iaload, 1) := dk_46 (dk_at dksX7_quiet_0 11 rfl rfl)
theorem dX7_quiet_12 : decode cX7_quiet 12 = .ok (.ireturn, 1) := dk_172 (dk_at dksX7_quiet_0 12 rfl rfl)
abbrev cX7_works : ByteArray := prog_17_method_70_code
def yX7_works : MethodName := ⟨RX7, "works", "(I)Z"⟩
def dkwX7_works_0 : List UInt8 := [42, 27, 182, 0, 142, 154, 0, 15, 42, 27, 182, 0, 184, 155, 0, 7, 4, 167, 0, 4, 3, 172]
abbrev dktX7_works_0 : List UInt8 := dkwX7_works_0 ++ []
theorem dksX7_works_0 : cX7_works.data.toList.drop 0 = dktX7_works_0 := by decide +kernel
theorem dX7_works_0 : decode cX7_works 0 = .ok (.aload_n 0, 1) := dk_42 (dk_at dksX7_works_0 0 rfl rfl)
theorem dX7_works_1 : decode cX7_works 1 = .ok (.iload_n 1, 1) := dk_27 (dk_at dksX7_works_0 1 rfl rfl)
theorem dX7_works_2 : decode cX7_works 2 = .ok (.invokevirtual 142, 3) := dk_182 0 142 (dk_at dksX7_works_0 2 rfl rfl)
theorem dX7_works_5 : decode cX7_works 5 = .ok (.ifCond .ne 15, 3) := dk_154 0 15 (dk_at dksX7_works_0 5 rfl rfl)
theorem dX7_works_8 : decode cX7_works 8 = .ok (.aload_n 0, 1) := dk_42 (dk_at dksX7_works_0 8 rfl rfl)
theorem dX7_works_9 : decode cX7_works 9 = .ok (.iload_n 1, 1) := dk_27 (dk_at dksX7_works_0 9 rfl rfl)
theorem dX7_works_10 : decode cX7_works 10 = .ok (.invokevirtual 184, 3) := dk_182 0 184 (dk_at dksX7_works_0 10 rfl rfl)
theorem dX7_works_13 : decode cX7_works 13 = .ok (.ifCond .lt 7, 3) := dk_155 0 7 (dk_at dksX7_works_0 13 rfl rfl)
theorem dX7_works_16 : decode cX7_works 16 = .ok (.iconst 1, 1) := dk_4 (dk_at dksX7_works_0 16 rfl rfl)
theorem dX7_works_17 : decode cX7_works 17 = .ok (.goto 4, 3) := dk_167 0 4 (dk_at dksX7_works_0 17 rfl rfl)
theorem dX7_works_20 : decode cX7_works 20 = .ok (.iconst 0, 1) := dk_3 (dk_at dksX7_works_0 20 rfl rfl)
theorem dX7_works_21 : decode cX7_works 21 = .ok (.ireturn, 1) := dk_172 (dk_at dksX7_works_0 21 rfl rfl)
abbrev cX7_cycleOf : ByteArray := prog_17_method_69_code
def yX7_cycleOf : MethodName := ⟨RX7, "cycleOf", "(I)I"⟩
def dkwX7_cycleOf_1 : List UInt8 := [180, 0, 13, 16, 12, 46, 42, 180, 0, 13, 16, 11, 46, 100, 167, 0, 4, 2, 172]
abbrev dktX7_cycleOf_1 : List UInt8 := dkwX7_cycleOf_1 ++ []
def dkwX7_cycleOf_0 : List UInt8 := [42, 27, 2, 3, 17, 15, 160, 4, 182, 0, 180, 42, 180, 0, 13, 16, 12, 46, 155, 0, 21, 42]
abbrev dktX7_cycleOf_0 : List UInt8 := dkwX7_cycleOf_0 ++ dktX7_cycleOf_1
theorem dksX7_cycleOf_0 : cX7_cycleOf.data.toList.drop 0 = dktX7_cycleOf_0 := by decide +kernel
theorem dksX7_cycleOf_1 : cX7_cycleOf.data.toList.drop 22 = dktX7_cycleOf_1 := dk_seg dksX7_cycleOf_0 22 rfl rfl
theorem dX7_cycleOf_0 : decode cX7_cycleOf 0 = .ok (.aload_n 0, 1) := dk_42 (dk_at dksX7_cycleOf_0 0 rfl rfl)
theorem dX7_cycleOf_1 : decode cX7_cycleOf 1 = .ok (.iload_n 1, 1) := dk_27 (dk_at dksX7_cycleOf_0 1 rfl rfl)
theorem dX7_cycleOf_2 : decode cX7_cycleOf 2 = .ok (.iconst (-1), 1) := dk_2 (dk_at dksX7_cycleOf_0 2 rfl rfl)
theorem dX7_cycleOf_3 : decode cX7_cycleOf 3 = .ok (.iconst 0, 1) := dk_3 (dk_at dksX7_cycleOf_0 3 rfl rfl)
theorem dX7_cycleOf_4 : decode cX7_cycleOf 4 = .ok (.sipush 4000, 3) := dk_17 15 160 (dk_at dksX7_cycleOf_0 4 rfl rfl)
theorem dX7_cycleOf_7 : decode cX7_cycleOf 7 = .ok (.iconst 1, 1) := dk_4 (dk_at dksX7_cycleOf_0 7 rfl rfl)
theorem dX7_cycleOf_8 : decode cX7_cycleOf 8 = .ok (.invokevirtual 180, 3) := dk_182 0 180 (dk_at dksX7_cycleOf_0 8 rfl rfl)
theorem dX7_cycleOf_11 : decode cX7_cycleOf 11 = .ok (.aload_n 0, 1) := dk_42 (dk_at dksX7_cycleOf_0 11 rfl rfl)
theorem dX7_cycleOf_12 : decode cX7_cycleOf 12 = .ok (.getfield 13, 3) := dk_180 0 13 (dk_at dksX7_cycleOf_0 12 rfl rfl)
theorem dX7_cycleOf_15 : decode cX7_cycleOf 15 = .ok (.bipush 12, 2) := dk_16 12 (dk_at dksX7_cycleOf_0 15 rfl rfl)
theorem dX7_cycleOf_17 : decode cX7_cycleOf 17 = .ok (.iaload, 1) := dk_46 (dk_at dksX7_cycleOf_0 17 rfl rfl)
theorem dX7_cycleOf_18 : decode cX7_cycleOf 18 = .ok (.ifCond .lt 21, 3) := dk_155 0 21 (dk_at dksX7_cycleOf_0 18 rfl rfl)
theorem dX7_cycleOf_21 : decode cX7_cycleOf 21 = .ok (.aload_n 0, 1) := dk_42 (dk_at dksX7_cycleOf_0 21 rfl rfl)
theorem dX7_cycleOf_22 : decode cX7_cycleOf 22 = .ok (.getfield 13, 3) := dk_180 0 13 (dk_at dksX7_cycleOf_1 0 rfl rfl)
theorem dX7_cycleOf_25 : decode cX7_cycleOf 25 = .ok (.bipush 12, 2) := dk_16 12 (dk_at dksX7_cycleOf_1 3 rfl rfl)
theorem dX7_cycleOf_27 : decode cX7_cycleOf 27 = .ok (.iaload, 1) := dk_46 (dk_at dksX7_cycleOf_1 5 rfl rfl)
theorem dX7_cycleOf_28 : decode cX7_cycleOf 28 = .ok (.aload_n 0, 1) := dk_42 (dk_at dksX7_cycleOf_1 6 rfl rfl)
theorem dX7_cycleOf_29 : decode cX7_cycleOf 29 = .ok (.getfield 13, 3) := dk_180 0 13 (dk_at dksX7_cycleOf_1 7 rfl rfl)
theorem dX7_cycleOf_32 : decode cX7_cycleOf 32 = .ok (.bipush 11, 2) := dk_16 11 (dk_at dksX7_cycleOf_1 10 rfl rfl)
theorem dX7_cycleOf_34 : decode cX7_cycleOf 34 = .ok (.iaload, 1) := dk_46 (dk_at dksX7_cycleOf_1 12 rfl rfl)
theorem dX7_cycleOf_35 : decode cX7_cycleOf 35 = .ok (.isub, 1) := dk_100 (dk_at dksX7_cycleOf_1 13 rfl rfl)
theorem dX7_cycleOf_36 : decode cX7_cycleOf 36 = .ok (.goto 4, 3) := dk_167 0 4 (dk_at dksX7_cycleOf_1 14 rfl rfl)
theorem dX7_cycleOf_39 : decode cX7_cycleOf 39 = .ok (.iconst (-1), 1) := dk_2 (dk_at dksX7_cycleOf_1 17 rfl rfl)
theorem dX7_cycleOf_40 : decode cX7_cycleOf 40 = .ok (.ireturn, 1) := dk_172 (dk_at dksX7_cycleOf_1 18 rfl rfl)
abbrev cX7_tries : ByteArray := prog_17_method_68_code
def yX7_tries : MethodName := ⟨RX7, "tries", "(IIIIZ)V"⟩
def dkwX7_tries_4 : List UInt8 := [180, 0, 13, 182, 0, 171, 132, 6, 1, 167, 255, 222, 177]
abbrev dktX7_tries_4 : List UInt8 := dkwX7_tries_4 ++ []
def dkwX7_tries_3 : List UInt8 := [21, 4, 162, 0, 33, 21, 5, 153, 0, 14, 42, 180, 0, 13, 16, 9, 46, 5, 162, 0, 17, 42, 42]
abbrev dktX7_tries_3 : List UInt8 := dkwX7_tries_3 ++ dktX7_tries_4
def dkwX7_tries_2 : List UInt8 := [180, 0, 13, 16, 38, 28, 96, 4, 29, 120, 79, 42, 42, 180, 0, 13, 182, 0, 43, 3, 54, 6, 21, 6]
abbrev dktX7_tries_2 : List UInt8 := dkwX7_tries_2 ++ dktX7_tries_3
def dkwX7_tries_1 : List UInt8 := [167, 255, 237, 42, 180, 0, 13, 4, 27, 79, 42, 180, 0, 13, 5, 4, 79, 28, 155, 0, 15, 42]
abbrev dktX7_tries_1 : List UInt8 := dkwX7_tries_1 ++ dktX7_tries_2
def dkwX7_tries_0 : List UInt8 := [3, 54, 6, 21, 6, 17, 0, 140, 162, 0, 17, 42, 180, 0, 13, 21, 6, 3, 79, 132, 6, 1]
abbrev dktX7_tries_0 : List UInt8 := dkwX7_tries_0 ++ dktX7_tries_1
theorem dksX7_tries_0 : cX7_tries.data.toList.drop 0 = dktX7_tries_0 := by decide +kernel
theorem dksX7_tries_1 : cX7_tries.data.toList.drop 22 = dktX7_tries_1 := dk_seg dksX7_tries_0 22 rfl rfl
theorem dksX7_tries_2 : cX7_tries.data.toList.drop 44 = dktX7_tries_2 := dk_seg dksX7_tries_1 22 rfl rfl
theorem dksX7_tries_3 : cX7_tries.data.toList.drop 68 = dktX7_tries_3 := dk_seg dksX7_tries_2 24 rfl rfl
theorem dksX7_tries_4 : cX7_tries.data.toList.drop 91 = dktX7_tries_4 := dk_seg dksX7_tries_3 23 rfl rfl
theorem dX7_tries_0 : decode cX7_tries 0 = .ok (.iconst 0, 1) := dk_3 (dk_at dksX7_tries_0 0 rfl rfl)
theorem dX7_tries_1 : decode cX7_tries 1 = .ok (.istore 6, 2) := dk_54 6 (dk_at dksX7_tries_0 1 rfl rfl)
theorem dX7_tries_3 : decode cX7_tries 3 = .ok (.iload 6, 2) := dk_21 6 (dk_at dksX7_tries_0 3 rfl rfl)
theorem dX7_tries_5 : decode cX7_tries 5 = .ok (.sipush 140, 3) := dk_17 0 140 (dk_at dksX7_tries_0 5 rfl rfl)
theorem dX7_tries_8 : decode cX7_tries 8 = .ok (.if_icmp .ge 17, 3) := dk_162 0 17 (dk_at dksX7_tries_0 8 rfl rfl)
theorem dX7_tries_11 : decode cX7_tries 11 = .ok (.aload_n 0, 1) := dk_42 (dk_at dksX7_tries_0 11 rfl rfl)
theorem dX7_tries_12 : decode cX7_tries 12 = .ok (.getfield 13, 3) := dk_180 0 13 (dk_at dksX7_tries_0 12 rfl rfl)
theorem dX7_tries_15 : decode cX7_tries 15 = .ok (.iload 6, 2) := dk_21 6 (dk_at dksX7_tries_0 15 rfl rfl)
theorem dX7_tries_17 : decode cX7_tries 17 = .ok (.iconst 0, 1) := dk_3 (dk_at dksX7_tries_0 17 rfl rfl)
theorem dX7_tries_18 : decode cX7_tries 18 = .ok (.iastore, 1) := dk_79 (dk_at dksX7_tries_0 18 rfl rfl)
theorem dX7_tries_19 : decode cX7_tries 19 = .ok (.iinc 6 1, 3) := dk_132 6 1 (dk_at dksX7_tries_0 19 rfl rfl)
theorem dX7_tries_22 : decode cX7_tries 22 = .ok (.goto (-19), 3) := dk_167 255 237 (dk_at dksX7_tries_1 0 rfl rfl)
theorem dX7_tries_25 : decode cX7_tries 25 = .ok (.aload_n 0, 1) := dk_42 (dk_at dksX7_tries_1 3 rfl rfl)
theorem dX7_tries_26 : decode cX7_tries 26 = .ok (.getfield 13, 3) := dk_180 0 13 (dk_at dksX7_tries_1 4 rfl rfl)
theorem dX7_tries_29 : decode cX7_tries 29 = .ok (.iconst 1, 1) := dk_4 (dk_at dksX7_tries_1 7 rfl rfl)
theorem dX7_tries_30 : decode cX7_tries 30 = .ok (.iload_n 1, 1) := dk_27 (dk_at dksX7_tries_1 8 rfl rfl)
theorem dX7_tries_31 : decode cX7_tries 31 = .ok (.iastore, 1) := dk_79 (dk_at dksX7_tries_1 9 rfl rfl)
theorem dX7_tries_32 : decode cX7_tries 32 = .ok (.aload_n 0, 1) := dk_42 (dk_at dksX7_tries_1 10 rfl rfl)
theorem dX7_tries_33 : decode cX7_tries 33 = .ok (.getfield 13, 3) := dk_180 0 13 (dk_at dksX7_tries_1 11 rfl rfl)
theorem dX7_tries_36 : decode cX7_tries 36 = .ok (.iconst 2, 1) := dk_5 (dk_at dksX7_tries_1 14 rfl rfl)
theorem dX7_tries_37 : decode cX7_tries 37 = .ok (.iconst 1, 1) := dk_4 (dk_at dksX7_tries_1 15 rfl rfl)
theorem dX7_tries_38 : decode cX7_tries 38 = .ok (.iastore, 1) := dk_79 (dk_at dksX7_tries_1 16 rfl rfl)
theorem dX7_tries_39 : decode cX7_tries 39 = .ok (.iload_n 2, 1) := dk_28 (dk_at dksX7_tries_1 17 rfl rfl)
theorem dX7_tries_40 : decode cX7_tries 40 = .ok (.ifCond .lt 15, 3) := dk_155 0 15 (dk_at dksX7_tries_1 18 rfl rfl)
theorem dX7_tries_43 : decode cX7_tries 43 = .ok (.aload_n 0, 1) := dk_42 (dk_at dksX7_tries_1 21 rfl rfl)
theorem dX7_tries_44 : decode cX7_tries 44 = .ok (.getfield 13, 3) := dk_180 0 13 (dk_at dksX7_tries_2 0 rfl rfl)
theorem dX7_tries_47 : decode cX7_tries 47 = .ok (.bipush 38, 2) := dk_16 38 (dk_at dksX7_tries_2 3 rfl rfl)
theorem dX7_tries_49 : decode cX7_tries 49 = .ok (.iload_n 2, 1) := dk_28 (dk_at dksX7_tries_2 5 rfl rfl)
theorem dX7_tries_50 : decode cX7_tries 50 = .ok (.iadd, 1) := dk_96 (dk_at dksX7_tries_2 6 rfl rfl)
theorem dX7_tries_51 : decode cX7_tries 51 = .ok (.iconst 1, 1) := dk_4 (dk_at dksX7_tries_2 7 rfl rfl)
theorem dX7_tries_52 : decode cX7_tries 52 = .ok (.iload_n 3, 1) := dk_29 (dk_at dksX7_tries_2 8 rfl rfl)
theorem dX7_tries_53 : decode cX7_tries 53 = .ok (.ishl, 1) := dk_120 (dk_at dksX7_tries_2 9 rfl rfl)
theorem dX7_tries_54 : decode cX7_tries 54 = .ok (.iastore, 1) := dk_79 (dk_at dksX7_tries_2 10 rfl rfl)
theorem dX7_tries_55 : decode cX7_tries 55 = .ok (.aload_n 0, 1) := dk_42 (dk_at dksX7_tries_2 11 rfl rfl)
theorem dX7_tries_56 : decode cX7_tries 56 = .ok (.aload_n 0, 1) := dk_42 (dk_at dksX7_tries_2 12 rfl rfl)
theorem dX7_tries_57 : decode cX7_tries 57 = .ok (.getfield 13, 3) := dk_180 0 13 (dk_at dksX7_tries_2 13 rfl rfl)
theorem dX7_tries_60 : decode cX7_tries 60 = .ok (.invokevirtual 43, 3) := dk_182 0 43 (dk_at dksX7_tries_2 16 rfl rfl)
theorem dX7_tries_63 : decode cX7_tries 63 = .ok (.iconst 0, 1) := dk_3 (dk_at dksX7_tries_2 19 rfl rfl)
theorem dX7_tries_64 : decode cX7_tries 64 = .ok (.istore 6, 2) := dk_54 6 (dk_at dksX7_tries_2 20 rfl rfl)
theorem dX7_tries_66 : decode cX7_tries 66 = .ok (.iload 6, 2) := dk_21 6 (dk_at dksX7_tries_2 22 rfl rfl)
theorem dX7_tries_68 : decode cX7_tries 68 = .ok (.iload 4, 2) := dk_21 4 (dk_at dksX7_tries_3 0 rfl rfl)
theorem dX7_tries_70 : decode cX7_tries 70 = .ok (.if_icmp .ge 33, 3) := dk_162 0 33 (dk_at dksX7_tries_3 2 rfl rfl)
theorem dX7_tries_73 : decode cX7_tries 73 = .ok (.iload 5, 2) := dk_21 5 (dk_at dksX7_tries_3 5 rfl rfl)
theorem dX7_tries_75 : decode cX7_tries 75 = .ok (.ifCond .eq 14, 3) := dk_153 0 14 (dk_at dksX7_tries_3 7 rfl rfl)
theorem dX7_tries_78 : decode cX7_tries 78 = .ok (.aload_n 0, 1) := dk_42 (dk_at dksX7_tries_3 10 rfl rfl)
theorem dX7_tries_79 : decode cX7_tries 79 = .ok (.getfield 13, 3) := dk_180 0 13 (dk_at dksX7_tries_3 11 rfl rfl)
theorem dX7_tries_82 : decode cX7_tries 82 = .ok (.bipush 9, 2) := dk_16 9 (dk_at dksX7_tries_3 14 rfl rfl)
theorem dX7_tries_84 : decode cX7_tries 84 = .ok (.iaload, 1) := dk_46 (dk_at dksX7_tries_3 16 rfl rfl)
theorem dX7_tries_85 : decode cX7_tries 85 = .ok (.iconst 2, 1) := dk_5 (dk_at dksX7_tries_3 17 rfl rfl)
theorem dX7_tries_86 : decode cX7_tries 86 = .ok (.if_icmp .ge 17, 3) := dk_162 0 17 (dk_at dksX7_tries_3 18 rfl rfl)
theorem dX7_tries_89 : decode cX7_tries 89 = .ok (.aload_n 0, 1) := dk_42 (dk_at dksX7_tries_3 21 rfl rfl)
theorem dX7_tries_90 : decode cX7_tries 90 = .ok (.aload_n 0, 1) := dk_42 (dk_at dksX7_tries_3 22 rfl rfl)
theorem dX7_tries_91 : decode cX7_tries 91 = .ok (.getfield 13, 3) := dk_180 0 13 (dk_at dksX7_tries_4 0 rfl rfl)
theorem dX7_tries_94 : decode cX7_tries 94 = .ok (.invokevirtual 171, 3) := dk_182 0 171 (dk_at dksX7_tries_4 3 rfl rfl)
theorem dX7_tries_97 : decode cX7_tries 97 = .ok (.iinc 6 1, 3) := dk_132 6 1 (dk_at dksX7_tries_4 6 rfl rfl)
theorem dX7_tries_100 : decode cX7_tries 100 = .ok (.goto (-34), 3) := dk_167 255 222 (dk_at dksX7_tries_4 9 rfl rfl)
theorem dX7_tries_103 : decode cX7_tries 103 = .ok (.return_, 1) := dk_177 (dk_at dksX7_tries_4 12 rfl rfl)
abbrev cX7_cycleTime : ByteArray := prog_17_method_71_code
def yX7_cycleTime : MethodName := ⟨RX7, "cycleTime", "(I)I"⟩
def dkwX7_cycleTime_0 : List UInt8 := [42, 27, 182, 0, 142, 153, 0, 7, 3, 167, 0, 8, 42, 27, 182, 0, 184, 172]
abbrev dktX7_cycleTime_0 : List UInt8 := dkwX7_cycleTime_0 ++ []
theorem dksX7_cycleTime_0 : cX7_cycleTime.data.toList.drop 0 = dktX7_cycleTime_0 := by decide +kernel
theorem dX7_cycleTime_0 : decode cX7_cycleTime 0 = .ok (.aload_n 0, 1) := dk_42 (dk_at dksX7_cycleTime_0 0 rfl rfl)
theorem dX7_cycleTime_1 : decode cX7_cycleTime 1 = .ok (.iload_n 1, 1) := dk_27 (dk_at dksX7_cycleTime_0 1 rfl rfl)
theorem dX7_cycleTime_2 : decode cX7_cycleTime 2 = .ok (.invokevirtual 142, 3) := dk_182 0 142 (dk_at dksX7_cycleTime_0 2 rfl rfl)
theorem dX7_cycleTime_5 : decode cX7_cycleTime 5 = .ok (.ifCond .eq 7, 3) := dk_153 0 7 (dk_at dksX7_cycleTime_0 5 rfl rfl)
theorem dX7_cycleTime_8 : decode cX7_cycleTime 8 = .ok (.iconst 0, 1) := dk_3 (dk_at dksX7_cycleTime_0 8 rfl rfl)
theorem dX7_cycleTime_9 : decode cX7_cycleTime 9 = .ok (.goto 8, 3) := dk_167 0 8 (dk_at dksX7_cycleTime_0 9 rfl rfl)
theorem dX7_cycleTime_12 : decode cX7_cycleTime 12 = .ok (.aload_n 0, 1) := dk_42 (dk_at dksX7_cycleTime_0 12 rfl rfl)
theorem dX7_cycleTime_13 : decode cX7_cycleTime 13 = .ok (.iload_n 1, 1) := dk_27 (dk_at dksX7_cycleTime_0 13 rfl rfl)
theorem dX7_cycleTime_14 : decode cX7_cycleTime 14 = .ok (.invokevirtual 184, 3) := dk_182 0 184 (dk_at dksX7_cycleTime_0 14 rfl rfl)
theorem dX7_cycleTime_17 : decode cX7_cycleTime 17 = .ok (.ireturn, 1) := dk_172 (dk_at dksX7_cycleTime_0 17 rfl rfl)
abbrev cX7_cheapest : ByteArray := prog_17_method_72_code
def yX7_cheapest : MethodName := ⟨RX7, "cheapest", "()I"⟩
def dkwX7_cheapest_2 : List UInt8 := [182, 0, 145, 162, 0, 7, 28, 167, 0, 4, 27, 60, 132, 2, 1, 167, 255, 217, 27, 172]
abbrev dktX7_cheapest_2 : List UInt8 := dkwX7_cheapest_2 ++ []
def dkwX7_cheapest_1 : List UInt8 := [162, 0, 40, 42, 28, 182, 0, 184, 155, 0, 24, 27, 155, 0, 16, 42, 28, 182, 0, 145, 42, 27]
abbrev dktX7_cheapest_1 : List UInt8 := dkwX7_cheapest_1 ++ dktX7_cheapest_2
def dkwX7_cheapest_0 : List UInt8 := [42, 3, 181, 0, 47, 42, 180, 0, 104, 154, 0, 9, 42, 4, 182, 0, 55, 172, 2, 60, 3, 61, 28, 6]
abbrev dktX7_cheapest_0 : List UInt8 := dkwX7_cheapest_0 ++ dktX7_cheapest_1
theorem dksX7_cheapest_0 : cX7_cheapest.data.toList.drop 0 = dktX7_cheapest_0 := by decide +kernel
theorem dksX7_cheapest_1 : cX7_cheapest.data.toList.drop 24 = dktX7_cheapest_1 := dk_seg dksX7_cheapest_0 24 rfl rfl
theorem dksX7_cheapest_2 : cX7_cheapest.data.toList.drop 46 = dktX7_cheapest_2 := dk_seg dksX7_cheapest_1 22 rfl rfl
theorem dX7_cheapest_0 : decode cX7_cheapest 0 = .ok (.aload_n 0, 1) := dk_42 (dk_at dksX7_cheapest_0 0 rfl rfl)
theorem dX7_cheapest_1 : decode cX7_cheapest 1 = .ok (.iconst 0, 1) := dk_3 (dk_at dksX7_cheapest_0 1 rfl rfl)
theorem dX7_cheapest_2 : decode cX7_cheapest 2 = .ok (.putfield 47, 3) := dk_181 0 47 (dk_at dksX7_cheapest_0 2 rfl rfl)
theorem dX7_cheapest_5 : decode cX7_cheapest 5 = .ok (.aload_n 0, 1) := dk_42 (dk_at dksX7_cheapest_0 5 rfl rfl)
theorem dX7_cheapest_6 : decode cX7_cheapest 6 = .ok (.getfield 104, 3) := dk_180 0 104 (dk_at dksX7_cheapest_0 6 rfl rfl)
theorem dX7_cheapest_9 : decode cX7_cheapest 9 = .ok (.ifCond .ne 9, 3) := dk_154 0 9 (dk_at dksX7_cheapest_0 9 rfl rfl)
theorem dX7_cheapest_12 : decode cX7_cheapest 12 = .ok (.aload_n 0, 1) := dk_42 (dk_at dksX7_cheapest_0 12 rfl rfl)
theorem dX7_cheapest_13 : decode cX7_cheapest 13 = .ok (.iconst 1, 1) := dk_4 (dk_at dksX7_cheapest_0 13 rfl rfl)
theorem dX7_cheapest_14 : decode cX7_cheapest 14 = .ok (.invokevirtual 55, 3) := dk_182 0 55 (dk_at dksX7_cheapest_0 14 rfl rfl)
theorem dX7_cheapest_17 : decode cX7_cheapest 17 = .ok (.ireturn, 1) := dk_172 (dk_at dksX7_cheapest_0 17 rfl rfl)
theorem dX7_cheapest_18 : decode cX7_cheapest 18 = .ok (.iconst (-1), 1) := dk_2 (dk_at dksX7_cheapest_0 18 rfl rfl)
theorem dX7_cheapest_19 : decode cX7_cheapest 19 = .ok (.istore_n 1, 1) := dk_60 (dk_at dksX7_cheapest_0 19 rfl rfl)
theorem dX7_cheapest_20 : decode cX7_cheapest 20 = .ok (.iconst 0, 1) := dk_3 (dk_at dksX7_cheapest_0 20 rfl rfl)
theorem dX7_cheapest_21 : decode cX7_cheapest 21 = .ok (.istore_n 2, 1) := dk_61 (dk_at dksX7_cheapest_0 21 rfl rfl)
theorem dX7_cheapest_22 : decode cX7_cheapest 22 = .ok (.iload_n 2, 1) := dk_28 (dk_at dksX7_cheapest_0 22 rfl rfl)
theorem dX7_cheapest_23 : decode cX7_cheapest 23 = .ok (.iconst 3, 1) := dk_6 (dk_at dksX7_cheapest_0 23 rfl rfl)
theorem dX7_cheapest_24 : decode cX7_cheapest 24 = .ok (.if_icmp .ge 40, 3) := dk_162 0 40 (dk_at dksX7_cheapest_1 0 rfl rfl)
theorem dX7_cheapest_27 : decode cX7_cheapest 27 = .ok (.aload_n 0, 1) := dk_42 (dk_at dksX7_cheapest_1 3 rfl rfl)
theorem dX7_cheapest_28 : decode cX7_cheapest 28 = .ok (.iload_n 2, 1) := dk_28 (dk_at dksX7_cheapest_1 4 rfl rfl)
theorem dX7_cheapest_29 : decode cX7_cheapest 29 = .ok (.invokevirtual 184, 3) := dk_182 0 184 (dk_at dksX7_cheapest_1 5 rfl rfl)
theorem dX7_cheapest_32 : decode cX7_cheapest 32 = .ok (.ifCond .lt 24, 3) := dk_155 0 24 (dk_at dksX7_cheapest_1 8 rfl rfl)
theorem dX7_cheapest_35 : decode cX7_cheapest 35 = .ok (.iload_n 1, 1) := dk_27 (dk_at dksX7_cheapest_1 11 rfl rfl)
theorem dX7_cheapest_36 : decode cX7_cheapest 36 = .ok (.ifCond .lt 16, 3) := dk_155 0 16 (dk_at dksX7_cheapest_1 12 rfl rfl)
theorem dX7_cheapest_39 : decode cX7_cheapest 39 = .ok (.aload_n 0, 1) := dk_42 (dk_at dksX7_cheapest_1 15 rfl rfl)
theorem dX7_cheapest_40 : decode cX7_cheapest 40 = .ok (.iload_n 2, 1) := dk_28 (dk_at dksX7_cheapest_1 16 rfl rfl)
theorem dX7_cheapest_41 : decode cX7_cheapest 41 = .ok (.invokevirtual 145, 3) := dk_182 0 145 (dk_at dksX7_cheapest_1 17 rfl rfl)
theorem dX7_cheapest_44 : decode cX7_cheapest 44 = .ok (.aload_n 0, 1) := dk_42 (dk_at dksX7_cheapest_1 20 rfl rfl)
theorem dX7_cheapest_45 : decode cX7_cheapest 45 = .ok (.iload_n 1, 1) := dk_27 (dk_at dksX7_cheapest_1 21 rfl rfl)
theorem dX7_cheapest_46 : decode cX7_cheapest 46 = .ok (.invokevirtual 145, 3) := dk_182 0 145 (dk_at dksX7_cheapest_2 0 rfl rfl)
theorem dX7_cheapest_49 : decode cX7_cheapest 49 = .ok (.if_icmp .ge 7, 3) := dk_162 0 7 (dk_at dksX7_cheapest_2 3 rfl rfl)
theorem dX7_cheapest_52 : decode cX7_cheapest 52 = .ok (.iload_n 2, 1) := dk_28 (dk_at dksX7_cheapest_2 6 rfl rfl)
theorem dX7_cheapest_53 : decode cX7_cheapest 53 = .ok (.goto 4, 3) := dk_167 0 4 (dk_at dksX7_cheapest_2 7 rfl rfl)
theorem dX7_cheapest_56 : decode cX7_cheapest 56 = .ok (.iload_n 1, 1) := dk_27 (dk_at dksX7_cheapest_2 10 rfl rfl)
theorem dX7_cheapest_57 : decode cX7_cheapest 57 = .ok (.istore_n 1, 1) := dk_60 (dk_at dksX7_cheapest_2 11 rfl rfl)
theorem dX7_cheapest_58 : decode cX7_cheapest 58 = .ok (.iinc 2 1, 3) := dk_132 2 1 (dk_at dksX7_cheapest_2 12 rfl rfl)
theorem dX7_cheapest_61 : decode cX7_cheapest 61 = .ok (.goto (-39), 3) := dk_167 255 217 (dk_at dksX7_cheapest_2 15 rfl rfl)
theorem dX7_cheapest_64 : decode cX7_cheapest 64 = .ok (.iload_n 1, 1) := dk_27 (dk_at dksX7_cheapest_2 18 rfl rfl)
theorem dX7_cheapest_65 : decode cX7_cheapest 65 = .ok (.ireturn, 1) := dk_172 (dk_at dksX7_cheapest_2 19 rfl rfl)
abbrev cX7_effect : ByteArray := prog_17_method_73_code
def yX7_effect : MethodName := ⟨RX7, "effect", "(III)I"⟩
def dkwX7_effect_3 : List UInt8 := [182, 0, 180, 42, 180, 0, 13, 8, 46, 172]
abbrev dktX7_effect_3 : List UInt8 := dkwX7_effect_3 ++ []
def dkwX7_effect_2 : List UInt8 := [180, 0, 104, 154, 0, 9, 42, 6, 182, 0, 55, 172, 42, 42, 180, 0, 7, 4, 46, 27, 28, 29, 3]
abbrev dktX7_effect_2 : List UInt8 := dkwX7_effect_2 ++ dktX7_effect_3
def dkwX7_effect_1 : List UInt8 := [184, 0, 51, 153, 0, 14, 29, 3, 17, 7, 208, 184, 0, 51, 154, 0, 9, 42, 5, 182, 0, 55, 172, 42]
abbrev dktX7_effect_1 : List UInt8 := dkwX7_effect_1 ++ dktX7_effect_2
def dkwX7_effect_0 : List UInt8 := [42, 3, 181, 0, 47, 27, 3, 8, 184, 0, 51, 154, 0, 9, 42, 4, 182, 0, 55, 172, 28, 3, 7]
abbrev dktX7_effect_0 : List UInt8 := dkwX7_effect_0 ++ dktX7_effect_1
theorem dksX7_effect_0 : cX7_effect.data.toList.drop 0 = dktX7_effect_0 := by decide +kernel
theorem dksX7_effect_1 : cX7_effect.data.toList.drop 23 = dktX7_effect_1 := dk_seg dksX7_effect_0 23 rfl rfl
theorem dksX7_effect_2 : cX7_effect.data.toList.drop 47 = dktX7_effect_2 := dk_seg dksX7_effect_1 24 rfl rfl
theorem dksX7_effect_3 : cX7_effect.data.toList.drop 70 = dktX7_effect_3 := dk_seg dksX7_effect_2 23 rfl rfl
theorem dX7_effect_0 : decode cX7_effect 0 = .ok (.aload_n 0, 1) := dk_42 (dk_at dksX7_effect_0 0 rfl rfl)
theorem dX7_effect_1 : decode cX7_effect 1 = .ok (.iconst 0, 1) := dk_3 (dk_at dksX7_effect_0 1 rfl rfl)
theorem dX7_effect_2 : decode cX7_effect 2 = .ok (.putfield 47, 3) := dk_181 0 47 (dk_at dksX7_effect_0 2 rfl rfl)
theorem dX7_effect_5 : decode cX7_effect 5 = .ok (.iload_n 1, 1) := dk_27 (dk_at dksX7_effect_0 5 rfl rfl)
theorem dX7_effect_6 : decode cX7_effect 6 = .ok (.iconst 0, 1) := dk_3 (dk_at dksX7_effect_0 6 rfl rfl)
theorem dX7_effect_7 : decode cX7_effect 7 = .ok (.iconst 5, 1) := dk_8 (dk_at dksX7_effect_0 7 rfl rfl)
theorem dX7_effect_8 : decode cX7_effect 8 = .ok (.invokestatic 51, 3) := dk_184 0 51 (dk_at dksX7_effect_0 8 rfl rfl)
theorem dX7_effect_11 : decode cX7_effect 11 = .ok (.ifCond .ne 9, 3) := dk_154 0 9 (dk_at dksX7_effect_0 11 rfl rfl)
theorem dX7_effect_14 : decode cX7_effect 14 = .ok (.aload_n 0, 1) := dk_42 (dk_at dksX7_effect_0 14 rfl rfl)
theorem dX7_effect_15 : decode cX7_effect 15 = .ok (.iconst 1, 1) := dk_4 (dk_at dksX7_effect_0 15 rfl rfl)
theorem dX7_effect_16 : decode cX7_effect 16 = .ok (.invokevirtual 55, 3) := dk_182 0 55 (dk_at dksX7_effect_0 16 rfl rfl)
theorem dX7_effect_19 : decode cX7_effect 19 = .ok (.ireturn, 1) := dk_172 (dk_at dksX7_effect_0 19 rfl rfl)
theorem dX7_effect_20 : decode cX7_effect 20 = .ok (.iload_n 2, 1) := dk_28 (dk_at dksX7_effect_0 20 rfl rfl)
theorem dX7_effect_21 : decode cX7_effect 21 = .ok (.iconst 0, 1) := dk_3 (dk_at dksX7_effect_0 21 rfl rfl)
theorem dX7_effect_22 : decode cX7_effect 22 = .ok (.iconst 4, 1) := dk_7 (dk_at dksX7_effect_0 22 rfl rfl)
theorem dX7_effect_23 : decode cX7_effect 23 = .ok (.invokestatic 51, 3) := dk_184 0 51 (dk_at dksX7_effect_1 0 rfl rfl)
theorem dX7_effect_26 : decode cX7_effect 26 = .ok (.ifCond .eq 14, 3) := dk_153 0 14 (dk_at dksX7_effect_1 3 rfl rfl)
theorem dX7_effect_29 : decode cX7_effect 29 = .ok (.iload_n 3, 1) := dk_29 (dk_at dksX7_effect_1 6 rfl rfl)
theorem dX7_effect_30 : decode cX7_effect 30 = .ok (.iconst 0, 1) := dk_3 (dk_at dksX7_effect_1 7 rfl rfl)
theorem dX7_effect_31 : decode cX7_effect 31 = .ok (.sipush 2000, 3) := dk_17 7 208 (dk_at dksX7_effect_1 8 rfl rfl)
theorem dX7_effect_34 : decode cX7_effect 34 = .ok (.invokestatic 51, 3) := dk_184 0 51 (dk_at dksX7_effect_1 11 rfl rfl)
theorem dX7_effect_37 : decode cX7_effect 37 = .ok (.ifCond .ne 9, 3) := dk_154 0 9 (dk_at dksX7_effect_1 14 rfl rfl)
theorem dX7_effect_40 : decode cX7_effect 40 = .ok (.aload_n 0, 1) := dk_42 (dk_at dksX7_effect_1 17 rfl rfl)
theorem dX7_effect_41 : decode cX7_effect 41 = .ok (.iconst 2, 1) := dk_5 (dk_at dksX7_effect_1 18 rfl rfl)
theorem dX7_effect_42 : decode cX7_effect 42 = .ok (.invokevirtual 55, 3) := dk_182 0 55 (dk_at dksX7_effect_1 19 rfl rfl)
theorem dX7_effect_45 : decode cX7_effect 45 = .ok (.ireturn, 1) := dk_172 (dk_at dksX7_effect_1 22 rfl rfl)
theorem dX7_effect_46 : decode cX7_effect 46 = .ok (.aload_n 0, 1) := dk_42 (dk_at dksX7_effect_1 23 rfl rfl)
theorem dX7_effect_47 : decode cX7_effect 47 = .ok (.getfield 104, 3) := dk_180 0 104 (dk_at dksX7_effect_2 0 rfl rfl)
theorem dX7_effect_50 : decode cX7_effect 50 = .ok (.ifCond .ne 9, 3) := dk_154 0 9 (dk_at dksX7_effect_2 3 rfl rfl)
theorem dX7_effect_53 : decode cX7_effect 53 = .ok (.aload_n 0, 1) := dk_42 (dk_at dksX7_effect_2 6 rfl rfl)
theorem dX7_effect_54 : decode cX7_effect 54 = .ok (.iconst 3, 1) := dk_6 (dk_at dksX7_effect_2 7 rfl rfl)
theorem dX7_effect_55 : decode cX7_effect 55 = .ok (.invokevirtual 55, 3) := dk_182 0 55 (dk_at dksX7_effect_2 8 rfl rfl)
theorem dX7_effect_58 : decode cX7_effect 58 = .ok (.ireturn, 1) := dk_172 (dk_at dksX7_effect_2 11 rfl rfl)
theorem dX7_effect_59 : decode cX7_effect 59 = .ok (.aload_n 0, 1) := dk_42 (dk_at dksX7_effect_2 12 rfl rfl)
theorem dX7_effect_60 : decode cX7_effect 60 = .ok (.aload_n 0, 1) := dk_42 (dk_at dksX7_effect_2 13 rfl rfl)
theorem dX7_effect_61 : decode cX7_effect 61 = .ok (.getfield 7, 3) := dk_180 0 7 (dk_at dksX7_effect_2 14 rfl rfl)
theorem dX7_effect_64 : decode cX7_effect 64 = .ok (.iconst 1, 1) := dk_4 (dk_at dksX7_effect_2 17 rfl rfl)
theorem dX7_effect_65 : decode cX7_effect 65 = .ok (.iaload, 1) := dk_46 (dk_at dksX7_effect_2 18 rfl rfl)
theorem dX7_effect_66 : decode cX7_effect 66 = .ok (.iload_n 1, 1) := dk_27 (dk_at dksX7_effect_2 19 rfl rfl)
theorem dX7_effect_67 : decode cX7_effect 67 = .ok (.iload_n 2, 1) := dk_28 (dk_at dksX7_effect_2 20 rfl rfl)
theorem dX7_effect_68 : decode cX7_effect 68 = .ok (.iload_n 3, 1) := dk_29 (dk_at dksX7_effect_2 21 rfl rfl)
theorem dX7_effect_69 : decode cX7_effect 69 = .ok (.iconst 0, 1) := dk_3 (dk_at dksX7_effect_2 22 rfl rfl)
theorem dX7_effect_70 : decode cX7_effect 70 = .ok (.invokevirtual 180, 3) := dk_182 0 180 (dk_at dksX7_effect_3 0 rfl rfl)
theorem dX7_effect_73 : decode cX7_effect 73 = .ok (.aload_n 0, 1) := dk_42 (dk_at dksX7_effect_3 3 rfl rfl)
theorem dX7_effect_74 : decode cX7_effect 74 = .ok (.getfield 13, 3) := dk_180 0 13 (dk_at dksX7_effect_3 4 rfl rfl)
theorem dX7_effect_77 : decode cX7_effect 77 = .ok (.iconst 5, 1) := dk_8 (dk_at dksX7_effect_3 7 rfl rfl)
theorem dX7_effect_78 : decode cX7_effect 78 = .ok (.iaload, 1) := dk_46 (dk_at dksX7_effect_3 8 rfl rfl)
theorem dX7_effect_79 : decode cX7_effect 79 = .ok (.ireturn, 1) := dk_172 (dk_at dksX7_effect_3 9 rfl rfl)
abbrev cX7_suspect : ByteArray := prog_17_method_75_code
def yX7_suspect : MethodName := ⟨RX7, "suspect", "(I)I"⟩
def dkwX7_suspect_3 : List UInt8 := [132, 2, 255, 132, 3, 1, 167, 255, 212, 2, 172]
abbrev dktX7_suspect_3 : List UInt8 := dkwX7_suspect_3 ++ []
def dkwX7_suspect_2 : List UInt8 := [112, 182, 0, 187, 153, 0, 21, 28, 154, 0, 14, 16, 10, 29, 8, 108, 104, 29, 8, 112, 96, 172]
abbrev dktX7_suspect_2 : List UInt8 := dkwX7_suspect_2 ++ dktX7_suspect_3
def dkwX7_suspect_1 : List UInt8 := [182, 0, 55, 172, 27, 61, 3, 62, 29, 16, 30, 162, 0, 44, 28, 155, 0, 40, 42, 29, 8, 108, 29, 8]
abbrev dktX7_suspect_1 : List UInt8 := dkwX7_suspect_1 ++ dktX7_suspect_2
def dkwX7_suspect_0 : List UInt8 := [42, 3, 181, 0, 47, 27, 156, 0, 9, 42, 4, 182, 0, 55, 172, 42, 180, 0, 104, 154, 0, 9, 42, 5]
abbrev dktX7_suspect_0 : List UInt8 := dkwX7_suspect_0 ++ dktX7_suspect_1
theorem dksX7_suspect_0 : cX7_suspect.data.toList.drop 0 = dktX7_suspect_0 := by decide +kernel
theorem dksX7_suspect_1 : cX7_suspect.data.toList.drop 24 = dktX7_suspect_1 := dk_seg dksX7_suspect_0 24 rfl rfl
theorem dksX7_suspect_2 : cX7_suspect.data.toList.drop 48 = dktX7_suspect_2 := dk_seg dksX7_suspect_1 24 rfl rfl
theorem dksX7_suspect_3 : cX7_suspect.data.toList.drop 70 = dktX7_suspect_3 := dk_seg dksX7_suspect_2 22 rfl rfl
theorem dX7_suspect_0 : decode cX7_suspect 0 = .ok (.aload_n 0, 1) := dk_42 (dk_at dksX7_suspect_0 0 rfl rfl)
theorem dX7_suspect_1 : decode cX7_suspect 1 = .ok (.iconst 0, 1) := dk_3 (dk_at dksX7_suspect_0 1 rfl rfl)
theorem dX7_suspect_2 : decode cX7_suspect 2 = .ok (.putfield 47, 3) := dk_181 0 47 (dk_at dksX7_suspect_0 2 rfl rfl)
theorem dX7_suspect_5 : decode cX7_suspect 5 = .ok (.iload_n 1, 1) := dk_27 (dk_at dksX7_suspect_0 5 rfl rfl)
theorem dX7_suspect_6 : decode cX7_suspect 6 = .ok (.ifCond .ge 9, 3) := dk_156 0 9 (dk_at dksX7_suspect_0 6 rfl rfl)
theorem dX7_suspect_9 : decode cX7_suspect 9 = .ok (.aload_n 0, 1) := dk_42 (dk_at dksX7_suspect_0 9 rfl rfl)
theorem dX7_suspect_10 : decode cX7_suspect 10 = .ok (.iconst 1, 1) := dk_4 (dk_at dksX7_suspect_0 10 rfl rfl)
theorem dX7_suspect_11 : decode cX7_suspect 11 = .ok (.invokevirtual 55, 3) := dk_182 0 55 (dk_at dksX7_suspect_0 11 rfl rfl)
theorem dX7_suspect_14 : decode cX7_suspect 14 = .ok (.ireturn, 1) := dk_172 (dk_at dksX7_suspect_0 14 rfl rfl)
theorem dX7_suspect_15 : decode cX7_suspect 15 = .ok (.aload_n 0, 1) := dk_42 (dk_at dksX7_suspect_0 15 rfl rfl)
theorem dX7_suspect_16 : decode cX7_suspect 16 = .ok (.getfield 104, 3) := dk_180 0 104 (dk_at dksX7_suspect_0 16 rfl rfl)
theorem dX7_suspect_19 : decode cX7_suspect 19 = .ok (.ifCond .ne 9, 3) := dk_154 0 9 (dk_at dksX7_suspect_0 19 rfl rfl)
theorem dX7_suspect_22 : decode cX7_suspect 22 = .ok (.aload_n 0, 1) := dk_42 (dk_at dksX7_suspect_0 22 rfl rfl)
theorem dX7_suspect_23 : decode cX7_suspect 23 = .ok (.iconst 2, 1) := dk_5 (dk_at dksX7_suspect_0 23 rfl rfl)
theorem dX7_suspect_24 : decode cX7_suspect 24 = .ok (.invokevirtual 55, 3) := dk_182 0 55 (dk_at dksX7_suspect_1 0 rfl rfl)
theorem dX7_suspect_27 : decode cX7_suspect 27 = .ok (.ireturn, 1) := dk_172 (dk_at dksX7_suspect_1 3 rfl rfl)
theorem dX7_suspect_28 : decode cX7_suspect 28 = .ok (.iload_n 1, 1) := dk_27 (dk_at dksX7_suspect_1 4 rfl rfl)
theorem dX7_suspect_29 : decode cX7_suspect 29 = .ok (.istore_n 2, 1) := dk_61 (dk_at dksX7_suspect_1 5 rfl rfl)
theorem dX7_suspect_30 : decode cX7_suspect 30 = .ok (.iconst 0, 1) := dk_3 (dk_at dksX7_suspect_1 6 rfl rfl)
theorem dX7_suspect_31 : decode cX7_suspect 31 = .ok (.istore_n 3, 1) := dk_62 (dk_at dksX7_suspect_1 7 rfl rfl)
theorem dX7_suspect_32 : decode cX7_suspect 32 = .ok (.iload_n 3, 1) := dk_29 (dk_at dksX7_suspect_1 8 rfl rfl)
theorem dX7_suspect_33 : decode cX7_suspect 33 = .ok (.bipush 30, 2) := dk_16 30 (dk_at dksX7_suspect_1 9 rfl rfl)
theorem dX7_suspect_35 : decode cX7_suspect 35 = .ok (.if_icmp .ge 44, 3) := dk_162 0 44 (dk_at dksX7_suspect_1 11 rfl rfl)
theorem dX7_suspect_38 : decode cX7_suspect 38 = .ok (.iload_n 2, 1) := dk_28 (dk_at dksX7_suspect_1 14 rfl rfl)
theorem dX7_suspect_39 : decode cX7_suspect 39 = .ok (.ifCond .lt 40, 3) := dk_155 0 40 (dk_at dksX7_suspect_1 15 rfl rfl)
theorem dX7_suspect_42 : decode cX7_suspect 42 = .ok (.aload_n 0, 1) := dk_42 (dk_at dksX7_suspect_1 18 rfl rfl)
theorem dX7_suspect_43 : decode cX7_suspect 43 = .ok (.iload_n 3, 1) := dk_29 (dk_at dksX7_suspect_1 19 rfl rfl)
theorem dX7_suspect_44 : decode cX7_suspect 44 = .ok (.iconst 5, 1) := dk_8 (dk_at dksX7_suspect_1 20 rfl rfl)
theorem dX7_suspect_45 : decode cX7_suspect 45 = .ok (.idiv, 1) := dk_108 (dk_at dksX7_suspect_1 21 rfl rfl)
theorem dX7_suspect_46 : decode cX7_suspect 46 = .ok (.iload_n 3, 1) := dk_29 (dk_at dksX7_suspect_1 22 rfl rfl)
theorem dX7_suspect_47 : decode cX7_suspect 47 = .ok (.iconst 5, 1) := dk_8 (dk_at dksX7_suspect_1 23 rfl rfl)
theorem dX7_suspect_48 : decode cX7_suspect 48 = .ok (.irem, 1) := dk_112 (dk_at dksX7_suspect_2 0 rfl rfl)
theorem dX7_suspect_49 : decode cX7_suspect 49 = .ok (.invokevirtual 187, 3) := dk_182 0 187 (dk_at dksX7_suspect_2 1 rfl rfl)
theorem dX7_suspect_52 : decode cX7_suspect 52 = .ok (.ifCond .eq 21, 3) := dk_153 0 21 (dk_at dksX7_suspect_2 4 rfl rfl)
theorem dX7_suspect_55 : decode cX7_suspect 55 = .ok (.iload_n 2, 1) := dk_28 (dk_at dksX7_suspect_2 7 rfl rfl)
theorem dX7_suspect_56 : decode cX7_suspect 56 = .ok (.ifCond .ne 14, 3) := dk_154 0 14 (dk_at dksX7_suspect_2 8 rfl rfl)
theorem dX7_suspect_59 : decode cX7_suspect 59 = .ok (.bipush 10, 2) := dk_16 10 (dk_at dksX7_suspect_2 11 rfl rfl)
theorem dX7_suspect_61 : decode cX7_suspect 61 = .ok (.iload_n 3, 1) := dk_29 (dk_at dksX7_suspect_2 13 rfl rfl)
theorem dX7_suspect_62 : decode cX7_suspect 62 = .ok (.iconst 5, 1) := dk_8 (dk_at dksX7_suspect_2 14 rfl rfl)
theorem dX7_suspect_63 : decode cX7_suspect 63 = .ok (.idiv, 1) := dk_108 (dk_at dksX7_suspect_2 15 rfl rfl)
theorem dX7_suspect_64 : decode cX7_suspect 64 = .ok (.imul, 1) := dk_104 (dk_at dksX7_suspect_2 16 rfl rfl)
theorem dX7_suspect_65 : decode cX7_suspect 65 = .ok (.iload_n 3, 1) := dk_29 (dk_at dksX7_suspect_2 17 rfl rfl)
theorem dX7_suspect_66 : decode cX7_suspect 66 = .ok (.iconst 5, 1) := dk_8 (dk_at dksX7_suspect_2 18 rfl rfl)
theorem dX7_suspect_67 : decode cX7_suspect 67 = .ok (.irem, 1) := dk_112 (dk_at dksX7_suspect_2 19 rfl rfl)
theorem dX7_suspect_68 : decode cX7_suspect 68 = .ok (.iadd, 1) := dk_96 (dk_at dksX7_suspect_2 20 rfl rfl)
theorem dX7_suspect_69 : decode cX7_suspect 69 = .ok (.ireturn, 1) := dk_172 (dk_at dksX7_suspect_2 21 rfl rfl)
theorem dX7_suspect_70 : decode cX7_suspect 70 = .ok (.iinc 2 (-1), 3) := dk_132 2 255 (dk_at dksX7_suspect_3 0 rfl rfl)
theorem dX7_suspect_73 : decode cX7_suspect 73 = .ok (.iinc 3 1, 3) := dk_132 3 1 (dk_at dksX7_suspect_3 3 rfl rfl)
theorem dX7_suspect_76 : decode cX7_suspect 76 = .ok (.goto (-44), 3) := dk_167 255 212 (dk_at dksX7_suspect_3 6 rfl rfl)
theorem dX7_suspect_79 : decode cX7_suspect 79 = .ok (.iconst (-1), 1) := dk_2 (dk_at dksX7_suspect_3 9 rfl rfl)
theorem dX7_suspect_80 : decode cX7_suspect 80 = .ok (.ireturn, 1) := dk_172 (dk_at dksX7_suspect_3 10 rfl rfl)
abbrev cX7_explains : ByteArray := prog_17_method_74_code
def yX7_explains : MethodName := ⟨RX7, "explains", "(II)Z"⟩
def dkwX7_explains_3 : List UInt8 := [160, 0, 7, 4, 167, 0, 4, 3, 62, 132, 4, 1, 167, 255, 219, 29, 172]
abbrev dktX7_explains_3 : List UInt8 := dkwX7_explains_3 ++ []
def dkwX7_explains_2 : List UInt8 := [16, 32, 162, 0, 36, 29, 153, 0, 24, 42, 180, 0, 13, 21, 4, 46, 42, 180, 0, 7, 21, 4, 46]
abbrev dktX7_explains_2 : List UInt8 := dkwX7_explains_2 ++ dktX7_explains_3
def dkwX7_explains_1 : List UInt8 := [180, 0, 7, 3, 46, 167, 0, 6, 17, 19, 136, 3, 182, 0, 180, 4, 62, 16, 20, 54, 4, 21, 4]
abbrev dktX7_explains_1 : List UInt8 := dkwX7_explains_1 ++ dktX7_explains_2
def dkwX7_explains_0 : List UInt8 := [42, 42, 180, 0, 7, 4, 46, 27, 28, 42, 180, 0, 7, 3, 46, 17, 19, 136, 162, 0, 12, 42]
abbrev dktX7_explains_0 : List UInt8 := dkwX7_explains_0 ++ dktX7_explains_1
theorem dksX7_explains_0 : cX7_explains.data.toList.drop 0 = dktX7_explains_0 := by decide +kernel
theorem dksX7_explains_1 : cX7_explains.data.toList.drop 22 = dktX7_explains_1 := dk_seg dksX7_explains_0 22 rfl rfl
theorem dksX7_explains_2 : cX7_explains.data.toList.drop 45 = dktX7_explains_2 := dk_seg dksX7_explains_1 23 rfl rfl
theorem dksX7_explains_3 : cX7_explains.data.toList.drop 68 = dktX7_explains_3 := dk_seg dksX7_explains_2 23 rfl rfl
theorem dX7_explains_0 : decode cX7_explains 0 = .ok (.aload_n 0, 1) := dk_42 (dk_at dksX7_explains_0 0 rfl rfl)
theorem dX7_explains_1 : decode cX7_explains 1 = .ok (.aload_n 0, 1) := dk_42 (dk_at dksX7_explains_0 1 rfl rfl)
theorem dX7_explains_2 : decode cX7_explains 2 = .ok (.getfield 7, 3) := dk_180 0 7 (dk_at dksX7_explains_0 2 rfl rfl)
theorem dX7_explains_5 : decode cX7_explains 5 = .ok (.iconst 1, 1) := dk_4 (dk_at dksX7_explains_0 5 rfl rfl)
theorem dX7_explains_6 : decode cX7_explains 6 = .ok (.iaload, 1) := dk_46 (dk_at dksX7_explains_0 6 rfl rfl)
theorem dX7_explains_7 : decode cX7_explains 7 = .ok (.iload_n 1, 1) := dk_27 (dk_at dksX7_explains_0 7 rfl rfl)
theorem dX7_explains_8 : decode cX7_explains 8 = .ok (.iload_n 2, 1) := dk_28 (dk_at dksX7_explains_0 8 rfl rfl)
theorem dX7_explains_9 : decode cX7_explains 9 = .ok (.aload_n 0, 1) := dk_42 (dk_at dksX7_explains_0 9 rfl rfl)
theorem dX7_explains_10 : decode cX7_explains 10 = .ok (.getfield 7, 3) := dk_180 0 7 (dk_at dksX7_explains_0 10 rfl rfl)
theorem dX7_explains_13 : decode cX7_explains 13 = .ok (.iconst 0, 1) := dk_3 (dk_at dksX7_explains_0 13 rfl rfl)
theorem dX7_explains_14 : decode cX7_explains 14 = .ok (.iaload, 1) := dk_46 (dk_at dksX7_explains_0 14 rfl rfl)
theorem dX7_explains_15 : decode cX7_explains 15 = .ok (.sipush 5000, 3) := dk_17 19 136 (dk_at dksX7_explains_0 15 rfl rfl)
theorem dX7_explains_18 : decode cX7_explains 18 = .ok (.if_icmp .ge 12, 3) := dk_162 0 12 (dk_at dksX7_explains_0 18 rfl rfl)
theorem dX7_explains_21 : decode cX7_explains 21 = .ok (.aload_n 0, 1) := dk_42 (dk_at dksX7_explains_0 21 rfl rfl)
theorem dX7_explains_22 : decode cX7_explains 22 = .ok (.getfield 7, 3) := dk_180 0 7 (dk_at dksX7_explains_1 0 rfl rfl)
theorem dX7_explains_25 : decode cX7_explains 25 = .ok (.iconst 0, 1) := dk_3 (dk_at dksX7_explains_1 3 rfl rfl)
theorem dX7_explains_26 : decode cX7_explains 26 = .ok (.iaload, 1) := dk_46 (dk_at dksX7_explains_1 4 rfl rfl)
theorem dX7_explains_27 : decode cX7_explains 27 = .ok (.goto 6, 3) := dk_167 0 6 (dk_at dksX7_explains_1 5 rfl rfl)
theorem dX7_explains_30 : decode cX7_explains 30 = .ok (.sipush 5000, 3) := dk_17 19 136 (dk_at dksX7_explains_1 8 rfl rfl)
theorem dX7_explains_33 : decode cX7_explains 33 = .ok (.iconst 0, 1) := dk_3 (dk_at dksX7_explains_1 11 rfl rfl)
theorem dX7_explains_34 : decode cX7_explains 34 = .ok (.invokevirtual 180, 3) := dk_182 0 180 (dk_at dksX7_explains_1 12 rfl rfl)
theorem dX7_explains_37 : decode cX7_explains 37 = .ok (.iconst 1, 1) := dk_4 (dk_at dksX7_explains_1 15 rfl rfl)
theorem dX7_explains_38 : decode cX7_explains 38 = .ok (.istore_n 3, 1) := dk_62 (dk_at dksX7_explains_1 16 rfl rfl)
theorem dX7_explains_39 : decode cX7_explains 39 = .ok (.bipush 20, 2) := dk_16 20 (dk_at dksX7_explains_1 17 rfl rfl)
theorem dX7_explains_41 : decode cX7_explains 41 = .ok (.istore 4, 2) := dk_54 4 (dk_at dksX7_explains_1 19 rfl rfl)
theorem dX7_explains_43 : decode cX7_explains 43 = .ok (.iload 4, 2) := dk_21 4 (dk_at dksX7_explains_1 21 rfl rfl)
theorem dX7_explains_45 : decode cX7_explains 45 = .ok (.bipush 32, 2) := dk_16 32 (dk_at dksX7_explains_2 0 rfl rfl)
theorem dX7_explains_47 : decode cX7_explains 47 = .ok (.if_icmp .ge 36, 3) := dk_162 0 36 (dk_at dksX7_explains_2 2 rfl rfl)
theorem dX7_explains_50 : decode cX7_explains 50 = .ok (.iload_n 3, 1) := dk_29 (dk_at dksX7_explains_2 5 rfl rfl)
theorem dX7_explains_51 : decode cX7_explains 51 = .ok (.ifCond .eq 24, 3) := dk_153 0 24 (dk_at dksX7_explains_2 6 rfl rfl)
theorem dX7_explains_54 : decode cX7_explains 54 = .ok (.aload_n 0, 1) := dk_42 (dk_at dksX7_explains_2 9 rfl rfl)
theorem dX7_explains_55 : decode cX7_explains 55 = .ok (.getfield 13, 3) := dk_180 0 13 (dk_at dksX7_explains_2 10 rfl rfl)
theorem dX7_explains_58 : decode cX7_explains 58 = .ok (.iload 4, 2) := dk_21 4 (dk_at dksX7_explains_2 13 rfl rfl)
theorem dX7_explains_60 : decode cX7_explains 60 = .ok (.iaload, 1) := dk_46 (dk_at dksX7_explains_2 15 rfl rfl)
theorem dX7_explains_61 : decode cX7_explains 61 = .ok (.aload_n 0, 1) := dk_42 (dk_at dksX7_explains_2 16 rfl rfl)
theorem dX7_explains_62 : decode cX7_explains 62 = .ok (.getfield 7, 3) := dk_180 0 7 (dk_at dksX7_explains_2 17 rfl rfl)
theorem dX7_explains_65 : decode cX7_explains 65 = .ok (.iload 4, 2) := dk_21 4 (dk_at dksX7_explains_2 20 rfl rfl)
theorem dX7_explains_67 : decode cX7_explains 67 = .ok (.iaload, 1) := dk_46 (dk_at dksX7_explains_2 22 rfl rfl)
theorem dX7_explains_68 : decode cX7_explains 68 = .ok (.if_icmp .ne 7, 3) := dk_160 0 7 (dk_at dksX7_explains_3 0 rfl rfl)
theorem dX7_explains_71 : decode cX7_explains 71 = .ok (.iconst 1, 1) := dk_4 (dk_at dksX7_explains_3 3 rfl rfl)
theorem dX7_explains_72 : decode cX7_explains 72 = .ok (.goto 4, 3) := dk_167 0 4 (dk_at dksX7_explains_3 4 rfl rfl)
theorem dX7_explains_75 : decode cX7_explains 75 = .ok (.iconst 0, 1) := dk_3 (dk_at dksX7_explains_3 7 rfl rfl)
theorem dX7_explains_76 : decode cX7_explains 76 = .ok (.istore_n 3, 1) := dk_62 (dk_at dksX7_explains_3 8 rfl rfl)
theorem dX7_explains_77 : decode cX7_explains 77 = .ok (.iinc 4 1, 3) := dk_132 4 1 (dk_at dksX7_explains_3 9 rfl rfl)
theorem dX7_explains_80 : decode cX7_explains 80 = .ok (.goto (-37), 3) := dk_167 255 219 (dk_at dksX7_explains_3 12 rfl rfl)
theorem dX7_explains_83 : decode cX7_explains 83 = .ok (.iload_n 3, 1) := dk_29 (dk_at dksX7_explains_3 15 rfl rfl)
theorem dX7_explains_84 : decode cX7_explains 84 = .ok (.ireturn, 1) := dk_172 (dk_at dksX7_explains_3 16 rfl rfl)
abbrev cX7_fingerprint : ByteArray := prog_17_method_76_code
def yX7_fingerprint : MethodName := ⟨RX7, "fingerprint", "()J"⟩
def dkwX7_fingerprint_8 : List UInt8 := [167, 255, 228, 31, 173]
abbrev dktX7_fingerprint_8 : List UInt8 := dkwX7_fingerprint_8 ++ []
def dkwX7_fingerprint_7 : List UInt8 := [162, 0, 26, 20, 0, 192, 31, 105, 42, 180, 0, 7, 16, 44, 29, 96, 46, 133, 97, 64, 132, 3, 1]
abbrev dktX7_fingerprint_7 : List UInt8 := dkwX7_fingerprint_7 ++ dktX7_fingerprint_8
def dkwX7_fingerprint_6 : List UInt8 := [180, 0, 7, 16, 32, 29, 96, 46, 133, 97, 64, 132, 3, 1, 167, 255, 196, 3, 62, 29, 42, 180, 0, 104]
abbrev dktX7_fingerprint_6 : List UInt8 := dkwX7_fingerprint_6 ++ dktX7_fingerprint_7
def dkwX7_fingerprint_5 : List UInt8 := [20, 0, 192, 31, 105, 42, 180, 0, 7, 16, 26, 29, 96, 46, 133, 97, 64, 20, 0, 192, 31, 105, 42]
abbrev dktX7_fingerprint_5 : List UInt8 := dkwX7_fingerprint_5 ++ dktX7_fingerprint_6
def dkwX7_fingerprint_4 : List UInt8 := [16, 6, 162, 0, 60, 20, 0, 192, 31, 105, 42, 180, 0, 7, 16, 20, 29, 96, 46, 133, 97, 64]
abbrev dktX7_fingerprint_4 : List UInt8 := dkwX7_fingerprint_4 ++ dktX7_fingerprint_5
def dkwX7_fingerprint_3 : List UInt8 := [16, 9, 46, 133, 97, 64, 20, 0, 192, 31, 105, 42, 180, 0, 7, 16, 10, 46, 133, 97, 64, 3, 62, 29]
abbrev dktX7_fingerprint_3 : List UInt8 := dkwX7_fingerprint_3 ++ dktX7_fingerprint_4
def dkwX7_fingerprint_2 : List UInt8 := [20, 0, 192, 31, 105, 42, 180, 0, 7, 8, 46, 133, 97, 64, 20, 0, 192, 31, 105, 42, 180, 0, 7]
abbrev dktX7_fingerprint_2 : List UInt8 := dkwX7_fingerprint_2 ++ dktX7_fingerprint_3
def dkwX7_fingerprint_1 : List UInt8 := [180, 0, 7, 6, 46, 133, 97, 64, 20, 0, 192, 31, 105, 42, 180, 0, 7, 7, 46, 133, 97, 64]
abbrev dktX7_fingerprint_1 : List UInt8 := dkwX7_fingerprint_1 ++ dktX7_fingerprint_2
def dkwX7_fingerprint_0 : List UInt8 := [42, 3, 181, 0, 47, 20, 0, 190, 42, 180, 0, 7, 3, 46, 133, 97, 64, 20, 0, 192, 31, 105, 42]
abbrev dktX7_fingerprint_0 : List UInt8 := dkwX7_fingerprint_0 ++ dktX7_fingerprint_1
theorem dksX7_fingerprint_0 : cX7_fingerprint.data.toList.drop 0 = dktX7_fingerprint_0 := by decide +kernel
theorem dksX7_fingerprint_1 : cX7_fingerprint.data.toList.drop 23 = dktX7_fingerprint_1 := dk_seg dksX7_fingerprint_0 23 rfl rfl
theorem dksX7_fingerprint_2 : cX7_fingerprint.data.toList.drop 45 = dktX7_fingerprint_2 := dk_seg dksX7_fingerprint_1 22 rfl rfl
theorem dksX7_fingerprint_3 : cX7_fingerprint.data.toList.drop 68 = dktX7_fingerprint_3 := dk_seg dksX7_fingerprint_2 23 rfl rfl
theorem dksX7_fingerprint_4 : cX7_fingerprint.data.toList.drop 92 = dktX7_fingerprint_4 := dk_seg dksX7_fingerprint_3 24 rfl rfl
theorem dksX7_fingerprint_5 : cX7_fingerprint.data.toList.drop 114 = dktX7_fingerprint_5 := dk_seg dksX7_fingerprint_4 22 rfl rfl
theorem dksX7_fingerprint_6 : cX7_fingerprint.data.toList.drop 137 = dktX7_fingerprint_6 := dk_seg dksX7_fingerprint_5 23 rfl rfl
theorem dksX7_fingerprint_7 : cX7_fingerprint.data.toList.drop 161 = dktX7_fingerprint_7 := dk_seg dksX7_fingerprint_6 24 rfl rfl
theorem dksX7_fingerprint_8 : cX7_fingerprint.data.toList.drop 184 = dktX7_fingerprint_8 := dk_seg dksX7_fingerprint_7 23 rfl rfl
theorem dX7_fingerprint_0 : decode cX7_fingerprint 0 = .ok (.aload_n 0, 1) := dk_42 (dk_at dksX7_fingerprint_0 0 rfl rfl)
theorem dX7_fingerprint_1 : decode cX7_fingerprint 1 = .ok (.iconst 0, 1) := dk_3 (dk_at dksX7_fingerprint_0 1 rfl rfl)
theorem dX7_fingerprint_2 : decode cX7_fingerprint 2 = .ok (.putfield 47, 3) := dk_181 0 47 (dk_at dksX7_fingerprint_0 2 rfl rfl)
theorem dX7_fingerprint_5 : decode cX7_fingerprint 5 = .ok (.ldc2_w 190, 3) := dk_20 0 190 (dk_at dksX7_fingerprint_0 5 rfl rfl)
theorem dX7_fingerprint_8 : decode cX7_fingerprint 8 = .ok (.aload_n 0, 1) := dk_42 (dk_at dksX7_fingerprint_0 8 rfl rfl)
theorem dX7_fingerprint_9 : decode cX7_fingerprint 9 = .ok (.getfield 7, 3) := dk_180 0 7 (dk_at dksX7_fingerprint_0 9 rfl rfl)
theorem dX7_fingerprint_12 : decode cX7_fingerprint 12 = .ok (.iconst 0, 1) := dk_3 (dk_at dksX7_fingerprint_0 12 rfl rfl)
theorem dX7_fingerprint_13 : decode cX7_fingerprint 13 = .ok (.iaload, 1) := dk_46 (dk_at dksX7_fingerprint_0 13 rfl rfl)
theorem dX7_fingerprint_14 : decode cX7_fingerprint 14 = .ok (.i2l, 1) := dk_133 (dk_at dksX7_fingerprint_0 14 rfl rfl)
theorem dX7_fingerprint_15 : decode cX7_fingerprint 15 = .ok (.ladd, 1) := dk_97 (dk_at dksX7_fingerprint_0 15 rfl rfl)
theorem dX7_fingerprint_16 : decode cX7_fingerprint 16 = .ok (.lstore_n 1, 1) := dk_64 (dk_at dksX7_fingerprint_0 16 rfl rfl)
theorem dX7_fingerprint_17 : decode cX7_fingerprint 17 = .ok (.ldc2_w 192, 3) := dk_20 0 192 (dk_at dksX7_fingerprint_0 17 rfl rfl)
theorem dX7_fingerprint_20 : decode cX7_fingerprint 20 = .ok (.lload_n 1, 1) := dk_31 (dk_at dksX7_fingerprint_0 20 rfl rfl)
theorem dX7_fingerprint_21 : decode cX7_fingerprint 21 = .ok (.lmul, 1) := dk_105 (dk_at dksX7_fingerprint_0 21 rfl rfl)
theorem dX7_fingerprint_22 : decode cX7_fingerprint 22 = .ok (.aload_n 0, 1) := dk_42 (dk_at dksX7_fingerprint_0 22 rfl rfl)
theorem dX7_fingerprint_23 : decode cX7_fingerprint 23 = .ok (.getfield 7, 3) := dk_180 0 7 (dk_at dksX7_fingerprint_1 0 rfl rfl)
theorem dX7_fingerprint_26 : decode cX7_fingerprint 26 = .ok (.iconst 3, 1) := dk_6 (dk_at dksX7_fingerprint_1 3 rfl rfl)
theorem dX7_fingerprint_27 : decode cX7_fingerprint 27 = .ok (.iaload, 1) := dk_46 (dk_at dksX7_fingerprint_1 4 rfl rfl)
theorem dX7_fingerprint_28 : decode cX7_fingerprint 28 = .ok (.i2l, 1) := dk_133 (dk_at dksX7_fingerprint_1 5 rfl rfl)
theorem dX7_fingerprint_29 : decode cX7_fingerprint 29 = .ok (.ladd, 1) := dk_97 (dk_at dksX7_fingerprint_1 6 rfl rfl)
theorem dX7_fingerprint_30 : decode cX7_fingerprint 30 = .ok (.lstore_n 1, 1) := dk_64 (dk_at dksX7_fingerprint_1 7 rfl rfl)
theorem dX7_fingerprint_31 : decode cX7_fingerprint 31 = .ok (.ldc2_w 192, 3) := dk_20 0 192 (dk_at dksX7_fingerprint_1 8 rfl rfl)
theorem dX7_fingerprint_34 : decode cX7_fingerprint 34 = .ok (.lload_n 1, 1) := dk_31 (dk_at dksX7_fingerprint_1 11 rfl rfl)
theorem dX7_fingerprint_35 : decode cX7_fingerprint 35 = .ok (.lmul, 1) := dk_105 (dk_at dksX7_fingerprint_1 12 rfl rfl)
theorem dX7_fingerprint_36 : decode cX7_fingerprint 36 = .ok (.aload_n 0, 1) := dk_42 (dk_at dksX7_fingerprint_1 13 rfl rfl)
theorem dX7_fingerprint_37 : decode cX7_fingerprint 37 = .ok (.getfield 7, 3) := dk_180 0 7 (dk_at dksX7_fingerprint_1 14 rfl rfl)
theorem dX7_fingerprint_40 : decode cX7_fingerprint 40 = .ok (.iconst 4, 1) := dk_7 (dk_at dksX7_fingerprint_1 17 rfl rfl)
theorem dX7_fingerprint_41 : decode cX7_fingerprint 41 = .ok (.iaload, 1) := dk_46 (dk_at dksX7_fingerprint_1 18 rfl rfl)
theorem dX7_fingerprint_42 : decode cX7_fingerprint 42 = .ok (.i2l, 1) := dk_133 (dk_at dksX7_fingerprint_1 19 rfl rfl)
theorem dX7_fingerprint_43 : decode cX7_fingerprint 43 = .ok (.ladd, 1) := dk_97 (dk_at dksX7_fingerprint_1 20 rfl rfl)
theorem dX7_fingerprint_44 : decode cX7_fingerprint 44 = .ok (.lstore_n 1, 1) := dk_64 (dk_at dksX7_fingerprint_1 21 rfl rfl)
theorem dX7_fingerprint_45 : decode cX7_fingerprint 45 = .ok (.ldc2_w 192, 3) := dk_20 0 192 (dk_at dksX7_fingerprint_2 0 rfl rfl)
theorem dX7_fingerprint_48 : decode cX7_fingerprint 48 = .ok (.lload_n 1, 1) := dk_31 (dk_at dksX7_fingerprint_2 3 rfl rfl)
theorem dX7_fingerprint_49 : decode cX7_fingerprint 49 = .ok (.lmul, 1) := dk_105 (dk_at dksX7_fingerprint_2 4 rfl rfl)
theorem dX7_fingerprint_50 : decode cX7_fingerprint 50 = .ok (.aload_n 0, 1) := dk_42 (dk_at dksX7_fingerprint_2 5 rfl rfl)
theorem dX7_fingerprint_51 : decode cX7_fingerprint 51 = .ok (.getfield 7, 3) := dk_180 0 7 (dk_at dksX7_fingerprint_2 6 rfl rfl)
theorem dX7_fingerprint_54 : decode cX7_fingerprint 54 = .ok (.iconst 5, 1) := dk_8 (dk_at dksX7_fingerprint_2 9 rfl rfl)
theorem dX7_fingerprint_55 : decode cX7_fingerprint 55 = .ok (.iaload, 1) := dk_46 (dk_at dksX7_fingerprint_2 10 rfl rfl)
theorem dX7_fingerprint_56 : decode cX7_fingerprint 56 = .ok (.i2l, 1) := dk_133 (dk_at dksX7_fingerprint_2 11 rfl rfl)
theorem dX7_fingerprint_57 : decode cX7_fingerprint 57 = .ok (.ladd, 1) := dk_97 (dk_at dksX7_fingerprint_2 12 rfl rfl)
theorem dX7_fingerprint_58 : decode cX7_fingerprint 58 = .ok (.lstore_n 1, 1) := dk_64 (dk_at dksX7_fingerprint_2 13 rfl rfl)
theorem dX7_fingerprint_59 : decode cX7_fingerprint 59 = .ok (.ldc2_w 192, 3) := dk_20 0 192 (dk_at dksX7_fingerprint_2 14 rfl rfl)
theorem dX7_fingerprint_62 : decode cX7_fingerprint 62 = .ok (.lload_n 1, 1) := dk_31 (dk_at dksX7_fingerprint_2 17 rfl rfl)
theorem dX7_fingerprint_63 : decode cX7_fingerprint 63 = .ok (.lmul, 1) := dk_105 (dk_at dksX7_fingerprint_2 18 rfl rfl)
theorem dX7_fingerprint_64 : decode cX7_fingerprint 64 = .ok (.aload_n 0, 1) := dk_42 (dk_at dksX7_fingerprint_2 19 rfl rfl)
theorem dX7_fingerprint_65 : decode cX7_fingerprint 65 = .ok (.getfield 7, 3) := dk_180 0 7 (dk_at dksX7_fingerprint_2 20 rfl rfl)
theorem dX7_fingerprint_68 : decode cX7_fingerprint 68 = .ok (.bipush 9, 2) := dk_16 9 (dk_at dksX7_fingerprint_3 0 rfl rfl)
theorem dX7_fingerprint_70 : decode cX7_fingerprint 70 = .ok (.iaload, 1) := dk_46 (dk_at dksX7_fingerprint_3 2 rfl rfl)
theorem dX7_fingerprint_71 : decode cX7_fingerprint 71 = .ok (.i2l, 1) := dk_133 (dk_at dksX7_fingerprint_3 3 rfl rfl)
theorem dX7_fingerprint_72 : decode cX7_fingerprint 72 = .ok (.ladd, 1) := dk_97 (dk_at dksX7_fingerprint_3 4 rfl rfl)
theorem dX7_fingerprint_73 : decode cX7_fingerprint 73 = .ok (.lstore_n 1, 1) := dk_64 (dk_at dksX7_fingerprint_3 5 rfl rfl)
theorem dX7_fingerprint_74 : decode cX7_fingerprint 74 = .ok (.ldc2_w 192, 3) := dk_20 0 192 (dk_at dksX7_fingerprint_3 6 rfl rfl)
theorem dX7_fingerprint_77 : decode cX7_fingerprint 77 = .ok (.lload_n 1, 1) := dk_31 (dk_at dksX7_fingerprint_3 9 rfl rfl)
theorem dX7_fingerprint_78 : decode cX7_fingerprint 78 = .ok (.lmul, 1) := dk_105 (dk_at dksX7_fingerprint_3 10 rfl rfl)
theorem dX7_fingerprint_79 : decode cX7_fingerprint 79 = .ok (.aload_n 0, 1) := dk_42 (dk_at dksX7_fingerprint_3 11 rfl rfl)
theorem dX7_fingerprint_80 : decode cX7_fingerprint 80 = .ok (.getfield 7, 3) := dk_180 0 7 (dk_at dksX7_fingerprint_3 12 rfl rfl)
theorem dX7_fingerprint_83 : decode cX7_fingerprint 83 = .ok (.bipush 10, 2) := dk_16 10 (dk_at dksX7_fingerprint_3 15 rfl rfl)
theorem dX7_fingerprint_85 : decode cX7_fingerprint 85 = .ok (.iaload, 1) := dk_46 (dk_at dksX7_fingerprint_3 17 rfl rfl)
theorem dX7_fingerprint_86 : decode cX7_fingerprint 86 = .ok (.i2l, 1) := dk_133 (dk_at dksX7_fingerprint_3 18 rfl rfl)
theorem dX7_fingerprint_87 : decode cX7_fingerprint 87 = .ok (.ladd, 1) := dk_97 (dk_at dksX7_fingerprint_3 19 rfl rfl)
theorem dX7_fingerprint_88 : decode cX7_fingerprint 88 = .ok (.lstore_n 1, 1) := dk_64 (dk_at dksX7_fingerprint_3 20 rfl rfl)
theorem dX7_fingerprint_89 : decode cX7_fingerprint 89 = .ok (.iconst 0, 1) := dk_3 (dk_at dksX7_fingerprint_3 21 rfl rfl)
theorem dX7_fingerprint_90 : decode cX7_fingerprint 90 = .ok (.istore_n 3, 1) := dk_62 (dk_at dksX7_fingerprint_3 22 rfl rfl)
theorem dX7_fingerprint_91 : decode cX7_fingerprint 91 = .ok (.iload_n 3, 1) := dk_29 (dk_at dksX7_fingerprint_3 23 rfl rfl)
theorem dX7_fingerprint_92 : decode cX7_fingerprint 92 = .ok (.bipush 6, 2) := dk_16 6 (dk_at dksX7_fingerprint_4 0 rfl rfl)
theorem dX7_fingerprint_94 : decode cX7_fingerprint 94 = .ok (.if_icmp .ge 60, 3) := dk_162 0 60 (dk_at dksX7_fingerprint_4 2 rfl rfl)
theorem dX7_fingerprint_97 : decode cX7_fingerprint 97 = .ok (.ldc2_w 192, 3) := dk_20 0 192 (dk_at dksX7_fingerprint_4 5 rfl rfl)
theorem dX7_fingerprint_100 : decode cX7_fingerprint 100 = .ok (.lload_n 1, 1) := dk_31 (dk_at dksX7_fingerprint_4 8 rfl rfl)
theorem dX7_fingerprint_101 : decode cX7_fingerprint 101 = .ok (.lmul, 1) := dk_105 (dk_at dksX7_fingerprint_4 9 rfl rfl)
theorem dX7_fingerprint_102 : decode cX7_fingerprint 102 = .ok (.aload_n 0, 1) := dk_42 (dk_at dksX7_fingerprint_4 10 rfl rfl)
theorem dX7_fingerprint_103 : decode cX7_fingerprint 103 = .ok (.getfield 7, 3) := dk_180 0 7 (dk_at dksX7_fingerprint_4 11 rfl rfl)
theorem dX7_fingerprint_106 : decode cX7_fingerprint 106 = .ok (.bipush 20, 2) := dk_16 20 (dk_at dksX7_fingerprint_4 14 rfl rfl)
theorem dX7_fingerprint_108 : decode cX7_fingerprint 108 = .ok (.iload_n 3, 1) := dk_29 (dk_at dksX7_fingerprint_4 16 rfl rfl)
theorem dX7_fingerprint_109 : decode cX7_fingerprint 109 = .ok (.iadd, 1) := dk_96 (dk_at dksX7_fingerprint_4 17 rfl rfl)
theorem dX7_fingerprint_110 : decode cX7_fingerprint 110 = .ok (.iaload, 1) := dk_46 (dk_at dksX7_fingerprint_4 18 rfl rfl)
theorem dX7_fingerprint_111 : decode cX7_fingerprint 111 = .ok (.i2l, 1) := dk_133 (dk_at dksX7_fingerprint_4 19 rfl rfl)
theorem dX7_fingerprint_112 : decode cX7_fingerprint 112 = .ok (.ladd, 1) := dk_97 (dk_at dksX7_fingerprint_4 20 rfl rfl)
theorem dX7_fingerprint_113 : decode cX7_fingerprint 113 = .ok (.lstore_n 1, 1) := dk_64 (dk_at dksX7_fingerprint_4 21 rfl rfl)
theorem dX7_fingerprint_114 : decode cX7_fingerprint 114 = .ok (.ldc2_w 192, 3) := dk_20 0 192 (dk_at dksX7_fingerprint_5 0 rfl rfl)
theorem dX7_fingerprint_117 : decode cX7_fingerprint 117 = .ok (.lload_n 1, 1) := dk_31 (dk_at dksX7_fingerprint_5 3 rfl rfl)
theorem dX7_fingerprint_118 : decode cX7_fingerprint 118 = .ok (.lmul, 1) := dk_105 (dk_at dksX7_fingerprint_5 4 rfl rfl)
theorem dX7_fingerprint_119 : decode cX7_fingerprint 119 = .ok (.aload_n 0, 1) := dk_42 (dk_at dksX7_fingerprint_5 5 rfl rfl)
theorem dX7_fingerprint_120 : decode cX7_fingerprint 120 = .ok (.getfield 7, 3) := dk_180 0 7 (dk_at dksX7_fingerprint_5 6 rfl rfl)
theorem dX7_fingerprint_123 : decode cX7_fingerprint 123 = .ok (.bipush 26, 2) := dk_16 26 (dk_at dksX7_fingerprint_5 9 rfl rfl)
theorem dX7_fingerprint_125 : decode cX7_fingerprint 125 = .ok (.iload_n 3, 1) := dk_29 (dk_at dksX7_fingerprint_5 11 rfl rfl)
theorem dX7_fingerprint_126 : decode cX7_fingerprint 126 = .ok (.iadd, 1) := dk_96 (dk_at dksX7_fingerprint_5 12 rfl rfl)
theorem dX7_fingerprint_127 : decode cX7_fingerprint 127 = .ok (.iaload, 1) := dk_46 (dk_at dksX7_fingerprint_5 13 rfl rfl)
theorem dX7_fingerprint_128 : decode cX7_fingerprint 128 = .ok (.i2l, 1) := dk_133 (dk_at dksX7_fingerprint_5 14 rfl rfl)
theorem dX7_fingerprint_129 : decode cX7_fingerprint 129 = .ok (.ladd, 1) := dk_97 (dk_at dksX7_fingerprint_5 15 rfl rfl)
theorem dX7_fingerprint_130 : decode cX7_fingerprint 130 = .ok (.lstore_n 1, 1) := dk_64 (dk_at dksX7_fingerprint_5 16 rfl rfl)
theorem dX7_fingerprint_131 : decode cX7_fingerprint 131 = .ok (.ldc2_w 192, 3) := dk_20 0 192 (dk_at dksX7_fingerprint_5 17 rfl rfl)
theorem dX7_fingerprint_134 : decode cX7_fingerprint 134 = .ok (.lload_n 1, 1) := dk_31 (dk_at dksX7_fingerprint_5 20 rfl rfl)
theorem dX7_fingerprint_135 : decode cX7_fingerprint 135 = .ok (.lmul, 1) := dk_105 (dk_at dksX7_fingerprint_5 21 rfl rfl)
theorem dX7_fingerprint_136 : decode cX7_fingerprint 136 = .ok (.aload_n 0, 1) := dk_42 (dk_at dksX7_fingerprint_5 22 rfl rfl)
theorem dX7_fingerprint_137 : decode cX7_fingerprint 137 = .ok (.getfield 7, 3) := dk_180 0 7 (dk_at dksX7_fingerprint_6 0 rfl rfl)
theorem dX7_fingerprint_140 : decode cX7_fingerprint 140 = .ok (.bipush 32, 2) := dk_16 32 (dk_at dksX7_fingerprint_6 3 rfl rfl)
theorem dX7_fingerprint_142 : decode cX7_fingerprint 142 = .ok (.iload_n 3, 1) := dk_29 (dk_at dksX7_fingerprint_6 5 rfl rfl)
theorem dX7_fingerprint_143 : decode cX7_fingerprint 143 = .ok (.iadd, 1) := dk_96 (dk_at dksX7_fingerprint_6 6 rfl rfl)
theorem dX7_fingerprint_144 : decode cX7_fingerprint 144 = .ok (.iaload, 1) := dk_46 (dk_at dksX7_fingerprint_6 7 rfl rfl)
theorem dX7_fingerprint_145 : decode cX7_fingerprint 145 = .ok (.i2l, 1) := dk_133 (dk_at dksX7_fingerprint_6 8 rfl rfl)
theorem dX7_fingerprint_146 : decode cX7_fingerprint 146 = .ok (.ladd, 1) := dk_97 (dk_at dksX7_fingerprint_6 9 rfl rfl)
theorem dX7_fingerprint_147 : decode cX7_fingerprint 147 = .ok (.lstore_n 1, 1) := dk_64 (dk_at dksX7_fingerprint_6 10 rfl rfl)
theorem dX7_fingerprint_148 : decode cX7_fingerprint 148 = .ok (.iinc 3 1, 3) := dk_132 3 1 (dk_at dksX7_fingerprint_6 11 rfl rfl)
theorem dX7_fingerprint_151 : decode cX7_fingerprint 151 = .ok (.goto (-60), 3) := dk_167 255 196 (dk_at dksX7_fingerprint_6 14 rfl rfl)
theorem dX7_fingerprint_154 : decode cX7_fingerprint 154 = .ok (.iconst 0, 1) := dk_3 (dk_at dksX7_fingerprint_6 17 rfl rfl)
theorem dX7_fingerprint_155 : decode cX7_fingerprint 155 = .ok (.istore_n 3, 1) := dk_62 (dk_at dksX7_fingerprint_6 18 rfl rfl)
theorem dX7_fingerprint_156 : decode cX7_fingerprint 156 = .ok (.iload_n 3, 1) := dk_29 (dk_at dksX7_fingerprint_6 19 rfl rfl)
theorem dX7_fingerprint_157 : decode cX7_fingerprint 157 = .ok (.aload_n 0, 1) := dk_42 (dk_at dksX7_fingerprint_6 20 rfl rfl)
theorem dX7_fingerprint_158 : decode cX7_fingerprint 158 = .ok (.getfield 104, 3) := dk_180 0 104 (dk_at dksX7_fingerprint_6 21 rfl rfl)
theorem dX7_fingerprint_161 : decode cX7_fingerprint 161 = .ok (.if_icmp .ge 26, 3) := dk_162 0 26 (dk_at dksX7_fingerprint_7 0 rfl rfl)
theorem dX7_fingerprint_164 : decode cX7_fingerprint 164 = .ok (.ldc2_w 192, 3) := dk_20 0 192 (dk_at dksX7_fingerprint_7 3 rfl rfl)
theorem dX7_fingerprint_167 : decode cX7_fingerprint 167 = .ok (.lload_n 1, 1) := dk_31 (dk_at dksX7_fingerprint_7 6 rfl rfl)
theorem dX7_fingerprint_168 : decode cX7_fingerprint 168 = .ok (.lmul, 1) := dk_105 (dk_at dksX7_fingerprint_7 7 rfl rfl)
theorem dX7_fingerprint_169 : decode cX7_fingerprint 169 = .ok (.aload_n 0, 1) := dk_42 (dk_at dksX7_fingerprint_7 8 rfl rfl)
theorem dX7_fingerprint_170 : decode cX7_fingerprint 170 = .ok (.getfield 7, 3) := dk_180 0 7 (dk_at dksX7_fingerprint_7 9 rfl rfl)
theorem dX7_fingerprint_173 : decode cX7_fingerprint 173 = .ok (.bipush 44, 2) := dk_16 44 (dk_at dksX7_fingerprint_7 12 rfl rfl)
theorem dX7_fingerprint_175 : decode cX7_fingerprint 175 = .ok (.iload_n 3, 1) := dk_29 (dk_at dksX7_fingerprint_7 14 rfl rfl)
theorem dX7_fingerprint_176 : decode cX7_fingerprint 176 = .ok (.iadd, 1) := dk_96 (dk_at dksX7_fingerprint_7 15 rfl rfl)
theorem dX7_fingerprint_177 : decode cX7_fingerprint 177 = .ok (.iaload, 1) := dk_46 (dk_at dksX7_fingerprint_7 16 rfl rfl)
theorem dX7_fingerprint_178 : decode cX7_fingerprint 178 = .ok (.i2l, 1) := dk_133 (dk_at dksX7_fingerprint_7 17 rfl rfl)
theorem dX7_fingerprint_179 : decode cX7_fingerprint 179 = .ok (.ladd, 1) := dk_97 (dk_at dksX7_fingerprint_7 18 rfl rfl)
theorem dX7_fingerprint_180 : decode cX7_fingerprint 180 = .ok (.lstore_n 1, 1) := dk_64 (dk_at dksX7_fingerprint_7 19 rfl rfl)
theorem dX7_fingerprint_181 : decode cX7_fingerprint 181 = .ok (.iinc 3 1, 3) := dk_132 3 1 (dk_at dksX7_fingerprint_7 20 rfl rfl)
theorem dX7_fingerprint_184 : decode cX7_fingerprint 184 = .ok (.goto (-28), 3) := dk_167 255 228 (dk_at dksX7_fingerprint_8 0 rfl rfl)
theorem dX7_fingerprint_187 : decode cX7_fingerprint 187 = .ok (.lload_n 1, 1) := dk_31 (dk_at dksX7_fingerprint_8 3 rfl rfl)
theorem dX7_fingerprint_188 : decode cX7_fingerprint 188 = .ok (.lreturn, 1) := dk_173 (dk_at dksX7_fingerprint_8 4 rfl rfl)
theorem q69 : (Jvm.Cond.initialized "SequenceBenchModel") ∈ lw_all := lw_g (lw_at lw_m1 8 rfl) rfl
theorem q859 : (Jvm.Cond.selects "SequenceBenchModel" ({ cls := "java/lang/Object", name := "getClass", desc := "()Ljava/lang/Class;" } : Jvm.MethodName) ({ cls := "java/lang/Object", name := "getClass", desc := "()Ljava/lang/Class;" } : Jvm.MethodName)) ∈ lw_all := lw_g (lw_at lw_m4 78 rfl) rfl
theorem q1428 : (Jvm.Cond.instantiable "SequenceBenchModel" (20 : Nat)) ∈ lw_all := lw_g (lw_at lw_m6 167 rfl) rfl
theorem q1430 : (Jvm.Cond.instanceMethod ({ cls := "SequenceBenchModel", name := "<init>", desc := "()V" } : Jvm.MethodName)) ∈ lw_all := lw_g (lw_at lw_m6 169 rfl) rfl
theorem q1431 : (Jvm.Cond.code ({ cls := "SequenceBenchModel", name := "<init>", desc := "()V" } : Jvm.MethodName) prog_17_method_1_code (2 : Nat) (Option.none : Option Jvm.ClassFile.FieldType)) ∈ lw_all := lw_g (lw_at lw_m6 170 rfl) rfl
theorem q1432 : (Jvm.Cond.methodLink "SequenceBenchModel" (1 : Nat) ({ cls := "java/lang/Object", name := "<init>", desc := "()V" } : Jvm.MethodName)) ∈ lw_all := lw_g (lw_at lw_m6 171 rfl) rfl
theorem q1433 : (Jvm.Cond.methodLink "SequenceBenchModel" (43 : Nat) ({ cls := "SequenceBenchModel", name := "rests", desc := "([I)V" } : Jvm.MethodName)) ∈ lw_all := lw_g (lw_at lw_m6 172 rfl) rfl
theorem q1434 : (Jvm.Cond.privateMethod ({ cls := "SequenceBenchModel", name := "rests", desc := "([I)V" } : Jvm.MethodName)) ∈ lw_tbl := lw_at lw_m6 173 rfl
theorem q1435 : (Jvm.Cond.instanceMethod ({ cls := "SequenceBenchModel", name := "rests", desc := "([I)V" } : Jvm.MethodName)) ∈ lw_all := lw_g (lw_at lw_m6 174 rfl) rfl
theorem q1436 : (Jvm.Cond.code ({ cls := "SequenceBenchModel", name := "rests", desc := "([I)V" } : Jvm.MethodName) prog_17_method_41_code (4 : Nat) (Option.none : Option Jvm.ClassFile.FieldType)) ∈ lw_all := lw_g (lw_at lw_m6 175 rfl) rfl
theorem q1437 : (Jvm.Cond.methodLink "SequenceBenchModel" (51 : Nat) ({ cls := "SequenceBenchModel", name := "in", desc := "(III)Z" } : Jvm.MethodName)) ∈ lw_all := lw_g (lw_at lw_m6 176 rfl) rfl
theorem q1438 : (Jvm.Cond.static ({ cls := "SequenceBenchModel", name := "in", desc := "(III)Z" } : Jvm.MethodName)) ∈ lw_all := lw_g (lw_at lw_m6 177 rfl) rfl
theorem q1439 : (Jvm.Cond.code ({ cls := "SequenceBenchModel", name := "in", desc := "(III)Z" } : Jvm.MethodName) prog_17_method_3_code (3 : Nat) (Option.some Jvm.ClassFile.FieldType.boolean)) ∈ lw_all := lw_g (lw_at lw_m6 178 rfl) rfl
theorem q1440 : (Jvm.Cond.methodLink "SequenceBenchModel" (148 : Nat) ({ cls := "SequenceBenchModel", name := "firstWithMoves", desc := "()I" } : Jvm.MethodName)) ∈ lw_all := lw_g (lw_at lw_m6 179 rfl) rfl
theorem q1441 : (Jvm.Cond.privateMethod ({ cls := "SequenceBenchModel", name := "firstWithMoves", desc := "()I" } : Jvm.MethodName)) ∈ lw_tbl := lw_at lw_m6 180 rfl
theorem q1442 : (Jvm.Cond.instanceMethod ({ cls := "SequenceBenchModel", name := "firstWithMoves", desc := "()I" } : Jvm.MethodName)) ∈ lw_all := lw_g (lw_at lw_m6 181 rfl) rfl
theorem q1443 : (Jvm.Cond.code ({ cls := "SequenceBenchModel", name := "firstWithMoves", desc := "()I" } : Jvm.MethodName) prog_17_method_39_code (2 : Nat) (Option.some Jvm.ClassFile.FieldType.int)) ∈ lw_all := lw_g (lw_at lw_m6 182 rfl) rfl
theorem q1444 : (Jvm.Cond.methodLink "SequenceBenchModel" (152 : Nat) ({ cls := "SequenceBenchModel", name := "movesOf", desc := "(I)I" } : Jvm.MethodName)) ∈ lw_all := lw_g (lw_at lw_m6 183 rfl) rfl
theorem q1445 : (Jvm.Cond.privateMethod ({ cls := "SequenceBenchModel", name := "movesOf", desc := "(I)I" } : Jvm.MethodName)) ∈ lw_tbl := lw_at lw_m6 184 rfl
theorem q1446 : (Jvm.Cond.instanceMethod ({ cls := "SequenceBenchModel", name := "movesOf", desc := "(I)I" } : Jvm.MethodName)) ∈ lw_all := lw_g (lw_at lw_m6 185 rfl) rfl
theorem q1447 : (Jvm.Cond.code ({ cls := "SequenceBenchModel", name := "movesOf", desc := "(I)I" } : Jvm.MethodName) prog_17_method_40_code (2 : Nat) (Option.some Jvm.ClassFile.FieldType.int)) ∈ lw_all := lw_g (lw_at lw_m6 186 rfl) rfl
theorem q1448 : (Jvm.Cond.fieldLink "SequenceBenchModel" (7 : Nat) "SequenceBenchModel" "rig" "[I") ∈ lw_all := lw_g (lw_at lw_m6 187 rfl) rfl
theorem q1449 : (Jvm.Cond.fieldLink "SequenceBenchModel" (13 : Nat) "SequenceBenchModel" "trial" "[I") ∈ lw_all := lw_g (lw_at lw_m6 188 rfl) rfl
theorem q1450 : (Jvm.Cond.fieldLink "SequenceBenchModel" (16 : Nat) "SequenceBenchModel" "strokes" "[I") ∈ lw_all := lw_g (lw_at lw_m6 189 rfl) rfl
theorem q1451 : (Jvm.Cond.fieldLink "SequenceBenchModel" (47 : Nat) "SequenceBenchModel" "thrown" "I") ∈ lw_all := lw_g (lw_at lw_m6 190 rfl) rfl
theorem q1452 : (Jvm.Cond.fieldLink "SequenceBenchModel" (104 : Nat) "SequenceBenchModel" "steps" "I") ∈ lw_all := lw_g (lw_at lw_m6 191 rfl) rfl
theorem q1453 : (Jvm.Cond.fieldLink "SequenceBenchModel" (19 : Nat) "SequenceBenchModel" "outs" "[I") ∈ lw_all := lw_g (lw_at lw_m6 192 rfl) rfl
theorem q1454 : (Jvm.Cond.fieldLink "SequenceBenchModel" (22 : Nat) "SequenceBenchModel" "backs" "[I") ∈ lw_all := lw_g (lw_at lw_m6 193 rfl) rfl
theorem q1455 : (Jvm.Cond.fieldLink "SequenceBenchModel" (25 : Nat) "SequenceBenchModel" "pauses" "[I") ∈ lw_all := lw_g (lw_at lw_m6 194 rfl) rfl
theorem q1456 : (Jvm.Cond.fieldLink "SequenceBenchModel" (136 : Nat) "SequenceBenchModel" "groups" "I") ∈ lw_all := lw_g (lw_at lw_m6 195 rfl) rfl
theorem q1457 : (Jvm.Cond.fieldLink "SequenceBenchModel" (28 : Nat) "SequenceBenchModel" "cuts" "[I") ∈ lw_all := lw_g (lw_at lw_m6 196 rfl) rfl
theorem q1458 : (Jvm.Cond.fieldLink "SequenceBenchModel" (31 : Nat) "SequenceBenchModel" "text" "[I") ∈ lw_all := lw_g (lw_at lw_m6 197 rfl) rfl
theorem q1459 : (Jvm.Cond.fieldLink "SequenceBenchModel" (59 : Nat) "SequenceBenchModel" "typed" "I") ∈ lw_all := lw_g (lw_at lw_m6 198 rfl) rfl
theorem q1460 : (Jvm.Cond.fieldLink "SequenceBenchModel" (94 : Nat) "SequenceBenchModel" "errorKind" "I") ∈ lw_all := lw_g (lw_at lw_m6 199 rfl) rfl
theorem q1461 : (Jvm.Cond.fieldLink "SequenceBenchModel" (97 : Nat) "SequenceBenchModel" "errorPlace" "I") ∈ lw_all := lw_g (lw_at lw_m6 200 rfl) rfl
theorem q1462 : (Jvm.Cond.fieldLink "SequenceBenchModel" (65 : Nat) "SequenceBenchModel" "readSteps" "I") ∈ lw_all := lw_g (lw_at lw_m6 201 rfl) rfl
theorem q1463 : (Jvm.Cond.fieldLink "SequenceBenchModel" (34 : Nat) "SequenceBenchModel" "readOuts" "[I") ∈ lw_all := lw_g (lw_at lw_m6 202 rfl) rfl
theorem q1464 : (Jvm.Cond.fieldLink "SequenceBenchModel" (37 : Nat) "SequenceBenchModel" "readBacks" "[I") ∈ lw_all := lw_g (lw_at lw_m6 203 rfl) rfl
theorem q1465 : (Jvm.Cond.fieldLink "SequenceBenchModel" (40 : Nat) "SequenceBenchModel" "readPauses" "[I") ∈ lw_all := lw_g (lw_at lw_m6 204 rfl) rfl
theorem q1466 : (Jvm.Cond.fieldLink "SequenceBenchModel" (71 : Nat) "SequenceBenchModel" "out" "I") ∈ lw_all := lw_g (lw_at lw_m6 205 rfl) rfl
theorem q1467 : (Jvm.Cond.fieldLink "SequenceBenchModel" (68 : Nat) "SequenceBenchModel" "wrongMove" "I") ∈ lw_all := lw_g (lw_at lw_m6 206 rfl) rfl
theorem q1468 : (Jvm.Cond.laysFinal "SequenceBenchModel" "SequenceBenchModel" "rig" "[I") ∈ lw_all := lw_g (lw_at lw_m6 207 rfl) rfl
theorem q1469 : (Jvm.Cond.soleField "SequenceBenchModel" "rig") ∈ lw_all := lw_g (lw_at lw_m6 208 rfl) rfl
theorem q1470 : (Jvm.Cond.laysFinal "SequenceBenchModel" "SequenceBenchModel" "trial" "[I") ∈ lw_all := lw_g (lw_at lw_m6 209 rfl) rfl
theorem q1471 : (Jvm.Cond.soleField "SequenceBenchModel" "trial") ∈ lw_all := lw_g (lw_at lw_m6 210 rfl) rfl
theorem q1472 : (Jvm.Cond.laysFinal "SequenceBenchModel" "SequenceBenchModel" "strokes" "[I") ∈ lw_all := lw_g (lw_at lw_m6 211 rfl) rfl
theorem q1473 : (Jvm.Cond.soleField "SequenceBenchModel" "strokes") ∈ lw_all := lw_g (lw_at lw_m6 212 rfl) rfl
theorem q1474 : (Jvm.Cond.lays "SequenceBenchModel" "SequenceBenchModel" "thrown" "I") ∈ lw_all := lw_g (lw_at lw_m6 213 rfl) rfl
theorem q1475 : (Jvm.Cond.soleField "SequenceBenchModel" "thrown") ∈ lw_all := lw_g (lw_at lw_m6 214 rfl) rfl
theorem q1476 : (Jvm.Cond.lays "SequenceBenchModel" "SequenceBenchModel" "steps" "I") ∈ lw_all := lw_g (lw_at lw_m6 215 rfl) rfl
theorem q1477 : (Jvm.Cond.soleField "SequenceBenchModel" "steps") ∈ lw_all := lw_g (lw_at lw_m6 216 rfl) rfl
theorem q1478 : (Jvm.Cond.laysFinal "SequenceBenchModel" "SequenceBenchModel" "outs" "[I") ∈ lw_all := lw_g (lw_at lw_m6 217 rfl) rfl
theorem q1479 : (Jvm.Cond.soleField "SequenceBenchModel" "outs") ∈ lw_all := lw_g (lw_at lw_m6 218 rfl) rfl
theorem q1480 : (Jvm.Cond.laysFinal "SequenceBenchModel" "SequenceBenchModel" "backs" "[I") ∈ lw_all := lw_g (lw_at lw_m6 219 rfl) rfl
theorem q1481 : (Jvm.Cond.soleField "SequenceBenchModel" "backs") ∈ lw_all := lw_g (lw_at lw_m6 220 rfl) rfl
theorem q1482 : (Jvm.Cond.laysFinal "SequenceBenchModel" "SequenceBenchModel" "pauses" "[I") ∈ lw_all := lw_g (lw_at lw_m6 221 rfl) rfl
theorem q1483 : (Jvm.Cond.soleField "SequenceBenchModel" "pauses") ∈ lw_all := lw_g (lw_at lw_m6 222 rfl) rfl
theorem q1484 : (Jvm.Cond.lays "SequenceBenchModel" "SequenceBenchModel" "groups" "I") ∈ lw_all := lw_g (lw_at lw_m6 223 rfl) rfl
theorem q1485 : (Jvm.Cond.soleField "SequenceBenchModel" "groups") ∈ lw_all := lw_g (lw_at lw_m6 224 rfl) rfl
theorem q1486 : (Jvm.Cond.laysFinal "SequenceBenchModel" "SequenceBenchModel" "cuts" "[I") ∈ lw_all := lw_g (lw_at lw_m6 225 rfl) rfl
theorem q1487 : (Jvm.Cond.soleField "SequenceBenchModel" "cuts") ∈ lw_all := lw_g (lw_at lw_m6 226 rfl) rfl
theorem q1488 : (Jvm.Cond.laysFinal "SequenceBenchModel" "SequenceBenchModel" "text" "[I") ∈ lw_all := lw_g (lw_at lw_m6 227 rfl) rfl
theorem q1489 : (Jvm.Cond.soleField "SequenceBenchModel" "text") ∈ lw_all := lw_g (lw_at lw_m6 228 rfl) rfl
theorem q1490 : (Jvm.Cond.lays "SequenceBenchModel" "SequenceBenchModel" "typed" "I") ∈ lw_all := lw_g (lw_at lw_m6 229 rfl) rfl
theorem q1491 : (Jvm.Cond.soleField "SequenceBenchModel" "typed") ∈ lw_all := lw_g (lw_at lw_m6 230 rfl) rfl
theorem q1492 : (Jvm.Cond.lays "SequenceBenchModel" "SequenceBenchModel" "errorKind" "I") ∈ lw_all := lw_g (lw_at lw_m6 231 rfl) rfl
theorem q1493 : (Jvm.Cond.soleField "SequenceBenchModel" "errorKind") ∈ lw_all := lw_g (lw_at lw_m6 232 rfl) rfl
theorem q1494 : (Jvm.Cond.lays "SequenceBenchModel" "SequenceBenchModel" "errorPlace" "I") ∈ lw_all := lw_g (lw_at lw_m6 233 rfl) rfl
theorem q1495 : (Jvm.Cond.soleField "SequenceBenchModel" "errorPlace") ∈ lw_all := lw_g (lw_at lw_m6 234 rfl) rfl
theorem q1496 : (Jvm.Cond.lays "SequenceBenchModel" "SequenceBenchModel" "readSteps" "I") ∈ lw_all := lw_g (lw_at lw_m6 235 rfl) rfl
theorem q1497 : (Jvm.Cond.soleField "SequenceBenchModel" "readSteps") ∈ lw_all := lw_g (lw_at lw_m6 236 rfl) rfl
theorem q1498 : (Jvm.Cond.laysFinal "SequenceBenchModel" "SequenceBenchModel" "readOuts" "[I") ∈ lw_all := lw_g (lw_at lw_m6 237 rfl) rfl
theorem q1499 : (Jvm.Cond.soleField "SequenceBenchModel" "readOuts") ∈ lw_all := lw_g (lw_at lw_m6 238 rfl) rfl
theorem q1500 : (Jvm.Cond.laysFinal "SequenceBenchModel" "SequenceBenchModel" "readBacks" "[I") ∈ lw_all := lw_g (lw_at lw_m6 239 rfl) rfl
theorem q1501 : (Jvm.Cond.soleField "SequenceBenchModel" "readBacks") ∈ lw_all := lw_g (lw_at lw_m7 0 rfl) rfl
theorem q1502 : (Jvm.Cond.laysFinal "SequenceBenchModel" "SequenceBenchModel" "readPauses" "[I") ∈ lw_all := lw_g (lw_at lw_m7 1 rfl) rfl
theorem q1503 : (Jvm.Cond.soleField "SequenceBenchModel" "readPauses") ∈ lw_all := lw_g (lw_at lw_m7 2 rfl) rfl
theorem q1504 : (Jvm.Cond.lays "SequenceBenchModel" "SequenceBenchModel" "out" "I") ∈ lw_all := lw_g (lw_at lw_m7 3 rfl) rfl
theorem q1505 : (Jvm.Cond.soleField "SequenceBenchModel" "out") ∈ lw_all := lw_g (lw_at lw_m7 4 rfl) rfl
theorem q1506 : (Jvm.Cond.lays "SequenceBenchModel" "SequenceBenchModel" "wrongMove" "I") ∈ lw_all := lw_g (lw_at lw_m7 5 rfl) rfl
theorem q1507 : (Jvm.Cond.soleField "SequenceBenchModel" "wrongMove") ∈ lw_all := lw_g (lw_at lw_m7 6 rfl) rfl
theorem q1508 : (Jvm.Cond.superclass "SequenceBenchModel" "java/lang/Object") ∈ lw_all := lw_g (lw_at lw_m7 7 rfl) rfl
theorem q1510 : (Jvm.Cond.instanceMethod ({ cls := "SequenceBenchModel", name := "thrown", desc := "()I" } : Jvm.MethodName)) ∈ lw_all := lw_g (lw_at lw_m7 9 rfl) rfl
theorem q1511 : (Jvm.Cond.selects "SequenceBenchModel" ({ cls := "SequenceBenchModel", name := "thrown", desc := "()I" } : Jvm.MethodName) ({ cls := "SequenceBenchModel", name := "thrown", desc := "()I" } : Jvm.MethodName)) ∈ lw_all := lw_g (lw_at lw_m7 10 rfl) rfl
theorem q1512 : (Jvm.Cond.code ({ cls := "SequenceBenchModel", name := "thrown", desc := "()I" } : Jvm.MethodName) prog_17_method_2_code (1 : Nat) (Option.some Jvm.ClassFile.FieldType.int)) ∈ lw_all := lw_g (lw_at lw_m7 11 rfl) rfl
theorem q1514 : (Jvm.Cond.instanceMethod ({ cls := "SequenceBenchModel", name := "type", desc := "(I)I" } : Jvm.MethodName)) ∈ lw_all := lw_g (lw_at lw_m7 13 rfl) rfl
theorem q1515 : (Jvm.Cond.selects "SequenceBenchModel" ({ cls := "SequenceBenchModel", name := "type", desc := "(I)I" } : Jvm.MethodName) ({ cls := "SequenceBenchModel", name := "type", desc := "(I)I" } : Jvm.MethodName)) ∈ lw_all := lw_g (lw_at lw_m7 14 rfl) rfl
theorem q1516 : (Jvm.Cond.code ({ cls := "SequenceBenchModel", name := "type", desc := "(I)I" } : Jvm.MethodName) prog_17_method_5_code (2 : Nat) (Option.some Jvm.ClassFile.FieldType.int)) ∈ lw_all := lw_g (lw_at lw_m7 15 rfl) rfl
theorem q1517 : (Jvm.Cond.methodLink "SequenceBenchModel" (55 : Nat) ({ cls := "SequenceBenchModel", name := "fails", desc := "(I)I" } : Jvm.MethodName)) ∈ lw_all := lw_g (lw_at lw_m7 16 rfl) rfl
theorem q1518 : (Jvm.Cond.privateMethod ({ cls := "SequenceBenchModel", name := "fails", desc := "(I)I" } : Jvm.MethodName)) ∈ lw_tbl := lw_at lw_m7 17 rfl
theorem q1519 : (Jvm.Cond.instanceMethod ({ cls := "SequenceBenchModel", name := "fails", desc := "(I)I" } : Jvm.MethodName)) ∈ lw_all := lw_g (lw_at lw_m7 18 rfl) rfl
theorem q1520 : (Jvm.Cond.code ({ cls := "SequenceBenchModel", name := "fails", desc := "(I)I" } : Jvm.MethodName) prog_17_method_4_code (2 : Nat) (Option.some Jvm.ClassFile.FieldType.int)) ∈ lw_all := lw_g (lw_at lw_m7 19 rfl) rfl
theorem q1522 : (Jvm.Cond.instanceMethod ({ cls := "SequenceBenchModel", name := "clearText", desc := "()I" } : Jvm.MethodName)) ∈ lw_all := lw_g (lw_at lw_m7 21 rfl) rfl
theorem q1523 : (Jvm.Cond.selects "SequenceBenchModel" ({ cls := "SequenceBenchModel", name := "clearText", desc := "()I" } : Jvm.MethodName) ({ cls := "SequenceBenchModel", name := "clearText", desc := "()I" } : Jvm.MethodName)) ∈ lw_all := lw_g (lw_at lw_m7 22 rfl) rfl
theorem q1524 : (Jvm.Cond.code ({ cls := "SequenceBenchModel", name := "clearText", desc := "()I" } : Jvm.MethodName) prog_17_method_6_code (2 : Nat) (Option.some Jvm.ClassFile.FieldType.int)) ∈ lw_all := lw_g (lw_at lw_m7 23 rfl) rfl
theorem q1526 : (Jvm.Cond.instanceMethod ({ cls := "SequenceBenchModel", name := "readSequence", desc := "()I" } : Jvm.MethodName)) ∈ lw_all := lw_g (lw_at lw_m7 25 rfl) rfl
theorem q1527 : (Jvm.Cond.selects "SequenceBenchModel" ({ cls := "SequenceBenchModel", name := "readSequence", desc := "()I" } : Jvm.MethodName) ({ cls := "SequenceBenchModel", name := "readSequence", desc := "()I" } : Jvm.MethodName)) ∈ lw_all := lw_g (lw_at lw_m7 26 rfl) rfl
theorem q1528 : (Jvm.Cond.code ({ cls := "SequenceBenchModel", name := "readSequence", desc := "()I" } : Jvm.MethodName) prog_17_method_15_code (2 : Nat) (Option.some Jvm.ClassFile.FieldType.int)) ∈ lw_all := lw_g (lw_at lw_m7 27 rfl) rfl
theorem q1529 : (Jvm.Cond.methodLink "SequenceBenchModel" (100 : Nat) ({ cls := "SequenceBenchModel", name := "reads", desc := "()Z" } : Jvm.MethodName)) ∈ lw_all := lw_g (lw_at lw_m7 28 rfl) rfl
theorem q1530 : (Jvm.Cond.privateMethod ({ cls := "SequenceBenchModel", name := "reads", desc := "()Z" } : Jvm.MethodName)) ∈ lw_tbl := lw_at lw_m7 29 rfl
theorem q1531 : (Jvm.Cond.instanceMethod ({ cls := "SequenceBenchModel", name := "reads", desc := "()Z" } : Jvm.MethodName)) ∈ lw_all := lw_g (lw_at lw_m7 30 rfl) rfl
theorem q1532 : (Jvm.Cond.code ({ cls := "SequenceBenchModel", name := "reads", desc := "()Z" } : Jvm.MethodName) prog_17_method_14_code (4 : Nat) (Option.some Jvm.ClassFile.FieldType.boolean)) ∈ lw_all := lw_g (lw_at lw_m7 31 rfl) rfl
theorem q1533 : (Jvm.Cond.methodLink "SequenceBenchModel" (91 : Nat) ({ cls := "SequenceBenchModel", name := "readsStep", desc := "(I)I" } : Jvm.MethodName)) ∈ lw_all := lw_g (lw_at lw_m7 32 rfl) rfl
theorem q1534 : (Jvm.Cond.privateMethod ({ cls := "SequenceBenchModel", name := "readsStep", desc := "(I)I" } : Jvm.MethodName)) ∈ lw_tbl := lw_at lw_m7 33 rfl
theorem q1535 : (Jvm.Cond.instanceMethod ({ cls := "SequenceBenchModel", name := "readsStep", desc := "(I)I" } : Jvm.MethodName)) ∈ lw_all := lw_g (lw_at lw_m7 34 rfl) rfl
theorem q1536 : (Jvm.Cond.code ({ cls := "SequenceBenchModel", name := "readsStep", desc := "(I)I" } : Jvm.MethodName) prog_17_method_12_code (5 : Nat) (Option.some Jvm.ClassFile.FieldType.int)) ∈ lw_all := lw_g (lw_at lw_m7 35 rfl) rfl
theorem q1537 : (Jvm.Cond.methodLink "SequenceBenchModel" (62 : Nat) ({ cls := "SequenceBenchModel", name := "letter", desc := "(I)I" } : Jvm.MethodName)) ∈ lw_all := lw_g (lw_at lw_m7 36 rfl) rfl
theorem q1538 : (Jvm.Cond.privateMethod ({ cls := "SequenceBenchModel", name := "letter", desc := "(I)I" } : Jvm.MethodName)) ∈ lw_tbl := lw_at lw_m7 37 rfl
theorem q1539 : (Jvm.Cond.instanceMethod ({ cls := "SequenceBenchModel", name := "letter", desc := "(I)I" } : Jvm.MethodName)) ∈ lw_all := lw_g (lw_at lw_m7 38 rfl) rfl
theorem q1540 : (Jvm.Cond.code ({ cls := "SequenceBenchModel", name := "letter", desc := "(I)I" } : Jvm.MethodName) prog_17_method_7_code (2 : Nat) (Option.some Jvm.ClassFile.FieldType.int)) ∈ lw_all := lw_g (lw_at lw_m7 39 rfl) rfl
theorem q1541 : (Jvm.Cond.methodLink "SequenceBenchModel" (74 : Nat) ({ cls := "SequenceBenchModel", name := "readsPause", desc := "(I)I" } : Jvm.MethodName)) ∈ lw_all := lw_g (lw_at lw_m7 40 rfl) rfl
theorem q1542 : (Jvm.Cond.privateMethod ({ cls := "SequenceBenchModel", name := "readsPause", desc := "(I)I" } : Jvm.MethodName)) ∈ lw_tbl := lw_at lw_m7 41 rfl
theorem q1543 : (Jvm.Cond.instanceMethod ({ cls := "SequenceBenchModel", name := "readsPause", desc := "(I)I" } : Jvm.MethodName)) ∈ lw_all := lw_g (lw_at lw_m7 42 rfl) rfl
theorem q1544 : (Jvm.Cond.code ({ cls := "SequenceBenchModel", name := "readsPause", desc := "(I)I" } : Jvm.MethodName) prog_17_method_13_code (4 : Nat) (Option.some Jvm.ClassFile.FieldType.int)) ∈ lw_all := lw_g (lw_at lw_m7 43 rfl) rfl
theorem q1545 : (Jvm.Cond.methodLink "SequenceBenchModel" (88 : Nat) ({ cls := "SequenceBenchModel", name := "isDigit", desc := "(I)Z" } : Jvm.MethodName)) ∈ lw_all := lw_g (lw_at lw_m7 44 rfl) rfl
theorem q1546 : (Jvm.Cond.privateMethod ({ cls := "SequenceBenchModel", name := "isDigit", desc := "(I)Z" } : Jvm.MethodName)) ∈ lw_tbl := lw_at lw_m7 45 rfl
theorem q1547 : (Jvm.Cond.instanceMethod ({ cls := "SequenceBenchModel", name := "isDigit", desc := "(I)Z" } : Jvm.MethodName)) ∈ lw_all := lw_g (lw_at lw_m7 46 rfl) rfl
theorem q1548 : (Jvm.Cond.code ({ cls := "SequenceBenchModel", name := "isDigit", desc := "(I)Z" } : Jvm.MethodName) prog_17_method_8_code (2 : Nat) (Option.some Jvm.ClassFile.FieldType.boolean)) ∈ lw_all := lw_g (lw_at lw_m7 47 rfl) rfl
theorem q1549 : (Jvm.Cond.methodLink "SequenceBenchModel" (77 : Nat) ({ cls := "SequenceBenchModel", name := "isMove", desc := "(I)Z" } : Jvm.MethodName)) ∈ lw_all := lw_g (lw_at lw_m7 48 rfl) rfl
theorem q1550 : (Jvm.Cond.privateMethod ({ cls := "SequenceBenchModel", name := "isMove", desc := "(I)Z" } : Jvm.MethodName)) ∈ lw_tbl := lw_at lw_m7 49 rfl
theorem q1551 : (Jvm.Cond.instanceMethod ({ cls := "SequenceBenchModel", name := "isMove", desc := "(I)Z" } : Jvm.MethodName)) ∈ lw_all := lw_g (lw_at lw_m7 50 rfl) rfl
theorem q1552 : (Jvm.Cond.code ({ cls := "SequenceBenchModel", name := "isMove", desc := "(I)Z" } : Jvm.MethodName) prog_17_method_9_code (2 : Nat) (Option.some Jvm.ClassFile.FieldType.boolean)) ∈ lw_all := lw_g (lw_at lw_m7 51 rfl) rfl
theorem q1553 : (Jvm.Cond.methodLink "SequenceBenchModel" (81 : Nat) ({ cls := "SequenceBenchModel", name := "failsAt", desc := "(I)I" } : Jvm.MethodName)) ∈ lw_all := lw_g (lw_at lw_m7 52 rfl) rfl
theorem q1554 : (Jvm.Cond.privateMethod ({ cls := "SequenceBenchModel", name := "failsAt", desc := "(I)I" } : Jvm.MethodName)) ∈ lw_tbl := lw_at lw_m7 53 rfl
theorem q1555 : (Jvm.Cond.instanceMethod ({ cls := "SequenceBenchModel", name := "failsAt", desc := "(I)I" } : Jvm.MethodName)) ∈ lw_all := lw_g (lw_at lw_m7 54 rfl) rfl
theorem q1556 : (Jvm.Cond.code ({ cls := "SequenceBenchModel", name := "failsAt", desc := "(I)I" } : Jvm.MethodName) prog_17_method_10_code (2 : Nat) (Option.some Jvm.ClassFile.FieldType.int)) ∈ lw_all := lw_g (lw_at lw_m7 55 rfl) rfl
theorem q1557 : (Jvm.Cond.methodLink "SequenceBenchModel" (84 : Nat) ({ cls := "SequenceBenchModel", name := "notes", desc := "(II)V" } : Jvm.MethodName)) ∈ lw_all := lw_g (lw_at lw_m7 56 rfl) rfl
theorem q1558 : (Jvm.Cond.privateMethod ({ cls := "SequenceBenchModel", name := "notes", desc := "(II)V" } : Jvm.MethodName)) ∈ lw_tbl := lw_at lw_m7 57 rfl
theorem q1559 : (Jvm.Cond.instanceMethod ({ cls := "SequenceBenchModel", name := "notes", desc := "(II)V" } : Jvm.MethodName)) ∈ lw_all := lw_g (lw_at lw_m7 58 rfl) rfl
theorem q1560 : (Jvm.Cond.code ({ cls := "SequenceBenchModel", name := "notes", desc := "(II)V" } : Jvm.MethodName) prog_17_method_11_code (7 : Nat) (Option.none : Option Jvm.ClassFile.FieldType)) ∈ lw_all := lw_g (lw_at lw_m7 59 rfl) rfl
theorem q1561 : (Jvm.Cond.methodLink "SequenceBenchModel" (107 : Nat) ({ cls := "SequenceBenchModel", name := "divides", desc := "()V" } : Jvm.MethodName)) ∈ lw_all := lw_g (lw_at lw_m7 60 rfl) rfl
theorem q1562 : (Jvm.Cond.privateMethod ({ cls := "SequenceBenchModel", name := "divides", desc := "()V" } : Jvm.MethodName)) ∈ lw_tbl := lw_at lw_m7 61 rfl
theorem q1563 : (Jvm.Cond.instanceMethod ({ cls := "SequenceBenchModel", name := "divides", desc := "()V" } : Jvm.MethodName)) ∈ lw_all := lw_g (lw_at lw_m7 62 rfl) rfl
theorem q1564 : (Jvm.Cond.code ({ cls := "SequenceBenchModel", name := "divides", desc := "()V" } : Jvm.MethodName) prog_17_method_31_code (5 : Nat) (Option.none : Option Jvm.ClassFile.FieldType)) ∈ lw_all := lw_g (lw_at lw_m7 63 rfl) rfl
theorem q1565 : (Jvm.Cond.methodLink "SequenceBenchModel" (126 : Nat) ({ cls := "SequenceBenchModel", name := "countOf", desc := "(I)I" } : Jvm.MethodName)) ∈ lw_all := lw_g (lw_at lw_m7 64 rfl) rfl
theorem q1566 : (Jvm.Cond.static ({ cls := "SequenceBenchModel", name := "countOf", desc := "(I)I" } : Jvm.MethodName)) ∈ lw_all := lw_g (lw_at lw_m7 65 rfl) rfl
theorem q1567 : (Jvm.Cond.code ({ cls := "SequenceBenchModel", name := "countOf", desc := "(I)I" } : Jvm.MethodName) prog_17_method_28_code (3 : Nat) (Option.some Jvm.ClassFile.FieldType.int)) ∈ lw_all := lw_g (lw_at lw_m7 66 rfl) rfl
theorem q1568 : (Jvm.Cond.methodLink "SequenceBenchModel" (129 : Nat) ({ cls := "SequenceBenchModel", name := "isAhead", desc := "(II)Z" } : Jvm.MethodName)) ∈ lw_all := lw_g (lw_at lw_m7 67 rfl) rfl
theorem q1569 : (Jvm.Cond.static ({ cls := "SequenceBenchModel", name := "isAhead", desc := "(II)Z" } : Jvm.MethodName)) ∈ lw_all := lw_g (lw_at lw_m7 68 rfl) rfl
theorem q1570 : (Jvm.Cond.code ({ cls := "SequenceBenchModel", name := "isAhead", desc := "(II)Z" } : Jvm.MethodName) prog_17_method_30_code (3 : Nat) (Option.some Jvm.ClassFile.FieldType.boolean)) ∈ lw_all := lw_g (lw_at lw_m7 69 rfl) rfl
theorem q1571 : (Jvm.Cond.methodLink "SequenceBenchModel" (133 : Nat) ({ cls := "SequenceBenchModel", name := "areGroups", desc := "(I)Z" } : Jvm.MethodName)) ∈ lw_all := lw_g (lw_at lw_m7 70 rfl) rfl
theorem q1572 : (Jvm.Cond.privateMethod ({ cls := "SequenceBenchModel", name := "areGroups", desc := "(I)Z" } : Jvm.MethodName)) ∈ lw_tbl := lw_at lw_m7 71 rfl
theorem q1573 : (Jvm.Cond.instanceMethod ({ cls := "SequenceBenchModel", name := "areGroups", desc := "(I)Z" } : Jvm.MethodName)) ∈ lw_all := lw_g (lw_at lw_m7 72 rfl) rfl
theorem q1574 : (Jvm.Cond.code ({ cls := "SequenceBenchModel", name := "areGroups", desc := "(I)Z" } : Jvm.MethodName) prog_17_method_29_code (7 : Nat) (Option.some Jvm.ClassFile.FieldType.boolean)) ∈ lw_all := lw_g (lw_at lw_m7 73 rfl) rfl
theorem q1576 : (Jvm.Cond.instanceMethod ({ cls := "SequenceBenchModel", name := "errorKind", desc := "()I" } : Jvm.MethodName)) ∈ lw_all := lw_g (lw_at lw_m7 75 rfl) rfl
theorem q1577 : (Jvm.Cond.selects "SequenceBenchModel" ({ cls := "SequenceBenchModel", name := "errorKind", desc := "()I" } : Jvm.MethodName) ({ cls := "SequenceBenchModel", name := "errorKind", desc := "()I" } : Jvm.MethodName)) ∈ lw_all := lw_g (lw_at lw_m7 76 rfl) rfl
theorem q1578 : (Jvm.Cond.code ({ cls := "SequenceBenchModel", name := "errorKind", desc := "()I" } : Jvm.MethodName) prog_17_method_16_code (1 : Nat) (Option.some Jvm.ClassFile.FieldType.int)) ∈ lw_all := lw_g (lw_at lw_m7 77 rfl) rfl
theorem q1580 : (Jvm.Cond.instanceMethod ({ cls := "SequenceBenchModel", name := "steps", desc := "()I" } : Jvm.MethodName)) ∈ lw_all := lw_g (lw_at lw_m7 79 rfl) rfl
theorem q1581 : (Jvm.Cond.selects "SequenceBenchModel" ({ cls := "SequenceBenchModel", name := "steps", desc := "()I" } : Jvm.MethodName) ({ cls := "SequenceBenchModel", name := "steps", desc := "()I" } : Jvm.MethodName)) ∈ lw_all := lw_g (lw_at lw_m7 80 rfl) rfl
theorem q1582 : (Jvm.Cond.code ({ cls := "SequenceBenchModel", name := "steps", desc := "()I" } : Jvm.MethodName) prog_17_method_18_code (1 : Nat) (Option.some Jvm.ClassFile.FieldType.int)) ∈ lw_all := lw_g (lw_at lw_m7 81 rfl) rfl
theorem q1584 : (Jvm.Cond.instanceMethod ({ cls := "SequenceBenchModel", name := "moves", desc := "(I)I" } : Jvm.MethodName)) ∈ lw_all := lw_g (lw_at lw_m7 83 rfl) rfl
theorem q1585 : (Jvm.Cond.selects "SequenceBenchModel" ({ cls := "SequenceBenchModel", name := "moves", desc := "(I)I" } : Jvm.MethodName) ({ cls := "SequenceBenchModel", name := "moves", desc := "(I)I" } : Jvm.MethodName)) ∈ lw_all := lw_g (lw_at lw_m7 84 rfl) rfl
theorem q1586 : (Jvm.Cond.code ({ cls := "SequenceBenchModel", name := "moves", desc := "(I)I" } : Jvm.MethodName) prog_17_method_19_code (2 : Nat) (Option.some Jvm.ClassFile.FieldType.int)) ∈ lw_all := lw_g (lw_at lw_m7 85 rfl) rfl
theorem q1587 : (Jvm.Cond.methodLink "SequenceBenchModel" (110 : Nat) ({ cls := "SequenceBenchModel", name := "isStep", desc := "(I)Z" } : Jvm.MethodName)) ∈ lw_all := lw_g (lw_at lw_m7 86 rfl) rfl
theorem q1588 : (Jvm.Cond.privateMethod ({ cls := "SequenceBenchModel", name := "isStep", desc := "(I)Z" } : Jvm.MethodName)) ∈ lw_tbl := lw_at lw_m7 87 rfl
theorem q1589 : (Jvm.Cond.instanceMethod ({ cls := "SequenceBenchModel", name := "isStep", desc := "(I)Z" } : Jvm.MethodName)) ∈ lw_all := lw_g (lw_at lw_m7 88 rfl) rfl
theorem q1590 : (Jvm.Cond.code ({ cls := "SequenceBenchModel", name := "isStep", desc := "(I)Z" } : Jvm.MethodName) prog_17_method_17_code (2 : Nat) (Option.some Jvm.ClassFile.FieldType.boolean)) ∈ lw_all := lw_g (lw_at lw_m7 89 rfl) rfl
theorem q1592 : (Jvm.Cond.instanceMethod ({ cls := "SequenceBenchModel", name := "direction", desc := "(II)I" } : Jvm.MethodName)) ∈ lw_all := lw_g (lw_at lw_m7 91 rfl) rfl
theorem q1593 : (Jvm.Cond.selects "SequenceBenchModel" ({ cls := "SequenceBenchModel", name := "direction", desc := "(II)I" } : Jvm.MethodName) ({ cls := "SequenceBenchModel", name := "direction", desc := "(II)I" } : Jvm.MethodName)) ∈ lw_all := lw_g (lw_at lw_m7 92 rfl) rfl
theorem q1594 : (Jvm.Cond.code ({ cls := "SequenceBenchModel", name := "direction", desc := "(II)I" } : Jvm.MethodName) prog_17_method_21_code (3 : Nat) (Option.some Jvm.ClassFile.FieldType.int)) ∈ lw_all := lw_g (lw_at lw_m7 93 rfl) rfl
theorem q1595 : (Jvm.Cond.methodLink "SequenceBenchModel" (113 : Nat) ({ cls := "SequenceBenchModel", name := "directionOf", desc := "(II)I" } : Jvm.MethodName)) ∈ lw_all := lw_g (lw_at lw_m7 94 rfl) rfl
theorem q1596 : (Jvm.Cond.privateMethod ({ cls := "SequenceBenchModel", name := "directionOf", desc := "(II)I" } : Jvm.MethodName)) ∈ lw_tbl := lw_at lw_m7 95 rfl
theorem q1597 : (Jvm.Cond.instanceMethod ({ cls := "SequenceBenchModel", name := "directionOf", desc := "(II)I" } : Jvm.MethodName)) ∈ lw_all := lw_g (lw_at lw_m7 96 rfl) rfl
theorem q1598 : (Jvm.Cond.code ({ cls := "SequenceBenchModel", name := "directionOf", desc := "(II)I" } : Jvm.MethodName) prog_17_method_20_code (3 : Nat) (Option.some Jvm.ClassFile.FieldType.int)) ∈ lw_all := lw_g (lw_at lw_m7 97 rfl) rfl
theorem q1600 : (Jvm.Cond.instanceMethod ({ cls := "SequenceBenchModel", name := "pause", desc := "(I)I" } : Jvm.MethodName)) ∈ lw_all := lw_g (lw_at lw_m7 99 rfl) rfl
theorem q1601 : (Jvm.Cond.selects "SequenceBenchModel" ({ cls := "SequenceBenchModel", name := "pause", desc := "(I)I" } : Jvm.MethodName) ({ cls := "SequenceBenchModel", name := "pause", desc := "(I)I" } : Jvm.MethodName)) ∈ lw_all := lw_g (lw_at lw_m7 100 rfl) rfl
theorem q1602 : (Jvm.Cond.code ({ cls := "SequenceBenchModel", name := "pause", desc := "(I)I" } : Jvm.MethodName) prog_17_method_22_code (2 : Nat) (Option.some Jvm.ClassFile.FieldType.int)) ∈ lw_all := lw_g (lw_at lw_m7 101 rfl) rfl
theorem q1604 : (Jvm.Cond.instanceMethod ({ cls := "SequenceBenchModel", name := "clashes", desc := "()I" } : Jvm.MethodName)) ∈ lw_all := lw_g (lw_at lw_m7 103 rfl) rfl
theorem q1605 : (Jvm.Cond.selects "SequenceBenchModel" ({ cls := "SequenceBenchModel", name := "clashes", desc := "()I" } : Jvm.MethodName) ({ cls := "SequenceBenchModel", name := "clashes", desc := "()I" } : Jvm.MethodName)) ∈ lw_all := lw_g (lw_at lw_m7 104 rfl) rfl
theorem q1606 : (Jvm.Cond.code ({ cls := "SequenceBenchModel", name := "clashes", desc := "()I" } : Jvm.MethodName) prog_17_method_26_code (4 : Nat) (Option.some Jvm.ClassFile.FieldType.int)) ∈ lw_all := lw_g (lw_at lw_m7 105 rfl) rfl
theorem q1607 : (Jvm.Cond.methodLink "SequenceBenchModel" (123 : Nat) ({ cls := "SequenceBenchModel", name := "clashOf", desc := "(II)I" } : Jvm.MethodName)) ∈ lw_all := lw_g (lw_at lw_m7 106 rfl) rfl
theorem q1608 : (Jvm.Cond.privateMethod ({ cls := "SequenceBenchModel", name := "clashOf", desc := "(II)I" } : Jvm.MethodName)) ∈ lw_tbl := lw_at lw_m7 107 rfl
theorem q1609 : (Jvm.Cond.instanceMethod ({ cls := "SequenceBenchModel", name := "clashOf", desc := "(II)I" } : Jvm.MethodName)) ∈ lw_all := lw_g (lw_at lw_m7 108 rfl) rfl
theorem q1610 : (Jvm.Cond.code ({ cls := "SequenceBenchModel", name := "clashOf", desc := "(II)I" } : Jvm.MethodName) prog_17_method_25_code (7 : Nat) (Option.some Jvm.ClassFile.FieldType.int)) ∈ lw_all := lw_g (lw_at lw_m7 109 rfl) rfl
theorem q1611 : (Jvm.Cond.methodLink "SequenceBenchModel" (117 : Nat) ({ cls := "SequenceBenchModel", name := "outBehind", desc := "(I)I" } : Jvm.MethodName)) ∈ lw_all := lw_g (lw_at lw_m7 110 rfl) rfl
theorem q1612 : (Jvm.Cond.privateMethod ({ cls := "SequenceBenchModel", name := "outBehind", desc := "(I)I" } : Jvm.MethodName)) ∈ lw_tbl := lw_at lw_m7 111 rfl
theorem q1613 : (Jvm.Cond.instanceMethod ({ cls := "SequenceBenchModel", name := "outBehind", desc := "(I)I" } : Jvm.MethodName)) ∈ lw_all := lw_g (lw_at lw_m7 112 rfl) rfl
theorem q1614 : (Jvm.Cond.code ({ cls := "SequenceBenchModel", name := "outBehind", desc := "(I)I" } : Jvm.MethodName) prog_17_method_24_code (4 : Nat) (Option.some Jvm.ClassFile.FieldType.int)) ∈ lw_all := lw_g (lw_at lw_m7 113 rfl) rfl
theorem q1615 : (Jvm.Cond.methodLink "SequenceBenchModel" (120 : Nat) ({ cls := "SequenceBenchModel", name := "before", desc := "(I)I" } : Jvm.MethodName)) ∈ lw_all := lw_g (lw_at lw_m7 114 rfl) rfl
theorem q1616 : (Jvm.Cond.privateMethod ({ cls := "SequenceBenchModel", name := "before", desc := "(I)I" } : Jvm.MethodName)) ∈ lw_tbl := lw_at lw_m7 115 rfl
theorem q1617 : (Jvm.Cond.instanceMethod ({ cls := "SequenceBenchModel", name := "before", desc := "(I)I" } : Jvm.MethodName)) ∈ lw_all := lw_g (lw_at lw_m7 116 rfl) rfl
theorem q1618 : (Jvm.Cond.code ({ cls := "SequenceBenchModel", name := "before", desc := "(I)I" } : Jvm.MethodName) prog_17_method_23_code (2 : Nat) (Option.some Jvm.ClassFile.FieldType.int)) ∈ lw_all := lw_g (lw_at lw_m7 117 rfl) rfl
theorem q1620 : (Jvm.Cond.instanceMethod ({ cls := "SequenceBenchModel", name := "clash", desc := "(II)I" } : Jvm.MethodName)) ∈ lw_all := lw_g (lw_at lw_m7 119 rfl) rfl
theorem q1621 : (Jvm.Cond.selects "SequenceBenchModel" ({ cls := "SequenceBenchModel", name := "clash", desc := "(II)I" } : Jvm.MethodName) ({ cls := "SequenceBenchModel", name := "clash", desc := "(II)I" } : Jvm.MethodName)) ∈ lw_all := lw_g (lw_at lw_m7 120 rfl) rfl
theorem q1622 : (Jvm.Cond.code ({ cls := "SequenceBenchModel", name := "clash", desc := "(II)I" } : Jvm.MethodName) prog_17_method_27_code (3 : Nat) (Option.some Jvm.ClassFile.FieldType.int)) ∈ lw_all := lw_g (lw_at lw_m7 121 rfl) rfl
theorem q1624 : (Jvm.Cond.instanceMethod ({ cls := "SequenceBenchModel", name := "groups", desc := "()I" } : Jvm.MethodName)) ∈ lw_all := lw_g (lw_at lw_m7 123 rfl) rfl
theorem q1625 : (Jvm.Cond.selects "SequenceBenchModel" ({ cls := "SequenceBenchModel", name := "groups", desc := "()I" } : Jvm.MethodName) ({ cls := "SequenceBenchModel", name := "groups", desc := "()I" } : Jvm.MethodName)) ∈ lw_all := lw_g (lw_at lw_m7 124 rfl) rfl
theorem q1626 : (Jvm.Cond.code ({ cls := "SequenceBenchModel", name := "groups", desc := "()I" } : Jvm.MethodName) prog_17_method_33_code (1 : Nat) (Option.some Jvm.ClassFile.FieldType.int)) ∈ lw_all := lw_g (lw_at lw_m7 125 rfl) rfl
theorem q1628 : (Jvm.Cond.instanceMethod ({ cls := "SequenceBenchModel", name := "cut", desc := "(I)I" } : Jvm.MethodName)) ∈ lw_all := lw_g (lw_at lw_m7 127 rfl) rfl
theorem q1629 : (Jvm.Cond.selects "SequenceBenchModel" ({ cls := "SequenceBenchModel", name := "cut", desc := "(I)I" } : Jvm.MethodName) ({ cls := "SequenceBenchModel", name := "cut", desc := "(I)I" } : Jvm.MethodName)) ∈ lw_all := lw_g (lw_at lw_m7 128 rfl) rfl
theorem q1630 : (Jvm.Cond.code ({ cls := "SequenceBenchModel", name := "cut", desc := "(I)I" } : Jvm.MethodName) prog_17_method_34_code (2 : Nat) (Option.some Jvm.ClassFile.FieldType.int)) ∈ lw_all := lw_g (lw_at lw_m7 129 rfl) rfl
theorem q1632 : (Jvm.Cond.instanceMethod ({ cls := "SequenceBenchModel", name := "groupOf", desc := "(I)I" } : Jvm.MethodName)) ∈ lw_all := lw_g (lw_at lw_m7 131 rfl) rfl
theorem q1633 : (Jvm.Cond.selects "SequenceBenchModel" ({ cls := "SequenceBenchModel", name := "groupOf", desc := "(I)I" } : Jvm.MethodName) ({ cls := "SequenceBenchModel", name := "groupOf", desc := "(I)I" } : Jvm.MethodName)) ∈ lw_all := lw_g (lw_at lw_m7 132 rfl) rfl
theorem q1634 : (Jvm.Cond.code ({ cls := "SequenceBenchModel", name := "groupOf", desc := "(I)I" } : Jvm.MethodName) prog_17_method_35_code (2 : Nat) (Option.some Jvm.ClassFile.FieldType.int)) ∈ lw_all := lw_g (lw_at lw_m7 133 rfl) rfl
theorem q1635 : (Jvm.Cond.methodLink "SequenceBenchModel" (139 : Nat) ({ cls := "SequenceBenchModel", name := "groupFor", desc := "(I)I" } : Jvm.MethodName)) ∈ lw_all := lw_g (lw_at lw_m7 134 rfl) rfl
theorem q1636 : (Jvm.Cond.privateMethod ({ cls := "SequenceBenchModel", name := "groupFor", desc := "(I)I" } : Jvm.MethodName)) ∈ lw_tbl := lw_at lw_m7 135 rfl
theorem q1637 : (Jvm.Cond.instanceMethod ({ cls := "SequenceBenchModel", name := "groupFor", desc := "(I)I" } : Jvm.MethodName)) ∈ lw_all := lw_g (lw_at lw_m7 136 rfl) rfl
theorem q1638 : (Jvm.Cond.code ({ cls := "SequenceBenchModel", name := "groupFor", desc := "(I)I" } : Jvm.MethodName) prog_17_method_32_code (4 : Nat) (Option.some Jvm.ClassFile.FieldType.int)) ∈ lw_all := lw_g (lw_at lw_m7 137 rfl) rfl
theorem q1640 : (Jvm.Cond.instanceMethod ({ cls := "SequenceBenchModel", name := "valves", desc := "(I)I" } : Jvm.MethodName)) ∈ lw_all := lw_g (lw_at lw_m7 139 rfl) rfl
theorem q1641 : (Jvm.Cond.selects "SequenceBenchModel" ({ cls := "SequenceBenchModel", name := "valves", desc := "(I)I" } : Jvm.MethodName) ({ cls := "SequenceBenchModel", name := "valves", desc := "(I)I" } : Jvm.MethodName)) ∈ lw_all := lw_g (lw_at lw_m7 140 rfl) rfl
theorem q1642 : (Jvm.Cond.code ({ cls := "SequenceBenchModel", name := "valves", desc := "(I)I" } : Jvm.MethodName) prog_17_method_38_code (2 : Nat) (Option.some Jvm.ClassFile.FieldType.int)) ∈ lw_all := lw_g (lw_at lw_m7 141 rfl) rfl
theorem q1643 : (Jvm.Cond.methodLink "SequenceBenchModel" (142 : Nat) ({ cls := "SequenceBenchModel", name := "lacks", desc := "(I)Z" } : Jvm.MethodName)) ∈ lw_all := lw_g (lw_at lw_m7 142 rfl) rfl
theorem q1644 : (Jvm.Cond.privateMethod ({ cls := "SequenceBenchModel", name := "lacks", desc := "(I)Z" } : Jvm.MethodName)) ∈ lw_tbl := lw_at lw_m7 143 rfl
theorem q1645 : (Jvm.Cond.instanceMethod ({ cls := "SequenceBenchModel", name := "lacks", desc := "(I)Z" } : Jvm.MethodName)) ∈ lw_all := lw_g (lw_at lw_m7 144 rfl) rfl
theorem q1646 : (Jvm.Cond.code ({ cls := "SequenceBenchModel", name := "lacks", desc := "(I)Z" } : Jvm.MethodName) prog_17_method_37_code (2 : Nat) (Option.some Jvm.ClassFile.FieldType.boolean)) ∈ lw_all := lw_g (lw_at lw_m7 145 rfl) rfl
theorem q1647 : (Jvm.Cond.methodLink "SequenceBenchModel" (145 : Nat) ({ cls := "SequenceBenchModel", name := "valvesOf", desc := "(I)I" } : Jvm.MethodName)) ∈ lw_all := lw_g (lw_at lw_m7 146 rfl) rfl
theorem q1648 : (Jvm.Cond.privateMethod ({ cls := "SequenceBenchModel", name := "valvesOf", desc := "(I)I" } : Jvm.MethodName)) ∈ lw_tbl := lw_at lw_m7 147 rfl
theorem q1649 : (Jvm.Cond.instanceMethod ({ cls := "SequenceBenchModel", name := "valvesOf", desc := "(I)I" } : Jvm.MethodName)) ∈ lw_all := lw_g (lw_at lw_m7 148 rfl) rfl
theorem q1650 : (Jvm.Cond.code ({ cls := "SequenceBenchModel", name := "valvesOf", desc := "(I)I" } : Jvm.MethodName) prog_17_method_36_code (4 : Nat) (Option.some Jvm.ClassFile.FieldType.int)) ∈ lw_all := lw_g (lw_at lw_m7 149 rfl) rfl
theorem q1652 : (Jvm.Cond.instanceMethod ({ cls := "SequenceBenchModel", name := "setMethod", desc := "(I)I" } : Jvm.MethodName)) ∈ lw_all := lw_g (lw_at lw_m7 151 rfl) rfl
theorem q1653 : (Jvm.Cond.selects "SequenceBenchModel" ({ cls := "SequenceBenchModel", name := "setMethod", desc := "(I)I" } : Jvm.MethodName) ({ cls := "SequenceBenchModel", name := "setMethod", desc := "(I)I" } : Jvm.MethodName)) ∈ lw_all := lw_g (lw_at lw_m7 152 rfl) rfl
theorem q1654 : (Jvm.Cond.code ({ cls := "SequenceBenchModel", name := "setMethod", desc := "(I)I" } : Jvm.MethodName) prog_17_method_47_code (3 : Nat) (Option.some Jvm.ClassFile.FieldType.int)) ∈ lw_all := lw_g (lw_at lw_m7 153 rfl) rfl
theorem q1656 : (Jvm.Cond.instanceMethod ({ cls := "SequenceBenchModel", name := "setStroke", desc := "(II)I" } : Jvm.MethodName)) ∈ lw_all := lw_g (lw_at lw_m7 155 rfl) rfl
theorem q1657 : (Jvm.Cond.selects "SequenceBenchModel" ({ cls := "SequenceBenchModel", name := "setStroke", desc := "(II)I" } : Jvm.MethodName) ({ cls := "SequenceBenchModel", name := "setStroke", desc := "(II)I" } : Jvm.MethodName)) ∈ lw_all := lw_g (lw_at lw_m7 156 rfl) rfl
theorem q1658 : (Jvm.Cond.code ({ cls := "SequenceBenchModel", name := "setStroke", desc := "(II)I" } : Jvm.MethodName) prog_17_method_48_code (4 : Nat) (Option.some Jvm.ClassFile.FieldType.int)) ∈ lw_all := lw_g (lw_at lw_m7 157 rfl) rfl
theorem q1660 : (Jvm.Cond.instanceMethod ({ cls := "SequenceBenchModel", name := "setStart", desc := "(Z)Z" } : Jvm.MethodName)) ∈ lw_all := lw_g (lw_at lw_m7 159 rfl) rfl
theorem q1661 : (Jvm.Cond.selects "SequenceBenchModel" ({ cls := "SequenceBenchModel", name := "setStart", desc := "(Z)Z" } : Jvm.MethodName) ({ cls := "SequenceBenchModel", name := "setStart", desc := "(Z)Z" } : Jvm.MethodName)) ∈ lw_all := lw_g (lw_at lw_m7 160 rfl) rfl
theorem q1662 : (Jvm.Cond.code ({ cls := "SequenceBenchModel", name := "setStart", desc := "(Z)Z" } : Jvm.MethodName) prog_17_method_49_code (3 : Nat) (Option.some Jvm.ClassFile.FieldType.boolean)) ∈ lw_all := lw_g (lw_at lw_m7 161 rfl) rfl
theorem q1664 : (Jvm.Cond.instanceMethod ({ cls := "SequenceBenchModel", name := "setFault", desc := "(IIZ)Z" } : Jvm.MethodName)) ∈ lw_all := lw_g (lw_at lw_m7 163 rfl) rfl
theorem q1665 : (Jvm.Cond.selects "SequenceBenchModel" ({ cls := "SequenceBenchModel", name := "setFault", desc := "(IIZ)Z" } : Jvm.MethodName) ({ cls := "SequenceBenchModel", name := "setFault", desc := "(IIZ)Z" } : Jvm.MethodName)) ∈ lw_all := lw_g (lw_at lw_m7 164 rfl) rfl
theorem q1666 : (Jvm.Cond.code ({ cls := "SequenceBenchModel", name := "setFault", desc := "(IIZ)Z" } : Jvm.MethodName) prog_17_method_50_code (5 : Nat) (Option.some Jvm.ClassFile.FieldType.boolean)) ∈ lw_all := lw_g (lw_at lw_m7 165 rfl) rfl
theorem q1668 : (Jvm.Cond.instanceMethod ({ cls := "SequenceBenchModel", name := "rest", desc := "()I" } : Jvm.MethodName)) ∈ lw_all := lw_g (lw_at lw_m7 167 rfl) rfl
theorem q1669 : (Jvm.Cond.selects "SequenceBenchModel" ({ cls := "SequenceBenchModel", name := "rest", desc := "()I" } : Jvm.MethodName) ({ cls := "SequenceBenchModel", name := "rest", desc := "()I" } : Jvm.MethodName)) ∈ lw_all := lw_g (lw_at lw_m7 168 rfl) rfl
theorem q1670 : (Jvm.Cond.code ({ cls := "SequenceBenchModel", name := "rest", desc := "()I" } : Jvm.MethodName) prog_17_method_51_code (2 : Nat) (Option.some Jvm.ClassFile.FieldType.int)) ∈ lw_all := lw_g (lw_at lw_m7 169 rfl) rfl
theorem q1672 : (Jvm.Cond.instanceMethod ({ cls := "SequenceBenchModel", name := "ticks", desc := "(I)I" } : Jvm.MethodName)) ∈ lw_all := lw_g (lw_at lw_m7 171 rfl) rfl
theorem q1673 : (Jvm.Cond.selects "SequenceBenchModel" ({ cls := "SequenceBenchModel", name := "ticks", desc := "(I)I" } : Jvm.MethodName) ({ cls := "SequenceBenchModel", name := "ticks", desc := "(I)I" } : Jvm.MethodName)) ∈ lw_all := lw_g (lw_at lw_m7 172 rfl) rfl
theorem q1674 : (Jvm.Cond.code ({ cls := "SequenceBenchModel", name := "ticks", desc := "(I)I" } : Jvm.MethodName) prog_17_method_52_code (4 : Nat) (Option.some Jvm.ClassFile.FieldType.int)) ∈ lw_all := lw_g (lw_at lw_m7 173 rfl) rfl
theorem q1675 : (Jvm.Cond.methodLink "SequenceBenchModel" (171 : Nat) ({ cls := "SequenceBenchModel", name := "ticksOnce", desc := "([I)V" } : Jvm.MethodName)) ∈ lw_all := lw_g (lw_at lw_m7 174 rfl) rfl
theorem q1676 : (Jvm.Cond.privateMethod ({ cls := "SequenceBenchModel", name := "ticksOnce", desc := "([I)V" } : Jvm.MethodName)) ∈ lw_tbl := lw_at lw_m7 175 rfl
theorem q1677 : (Jvm.Cond.instanceMethod ({ cls := "SequenceBenchModel", name := "ticksOnce", desc := "([I)V" } : Jvm.MethodName)) ∈ lw_all := lw_g (lw_at lw_m7 176 rfl) rfl
theorem q1678 : (Jvm.Cond.code ({ cls := "SequenceBenchModel", name := "ticksOnce", desc := "([I)V" } : Jvm.MethodName) prog_17_method_46_code (8 : Nat) (Option.none : Option Jvm.ClassFile.FieldType)) ∈ lw_all := lw_g (lw_at lw_m7 177 rfl) rfl
theorem q1679 : (Jvm.Cond.methodLink "SequenceBenchModel" (163 : Nat) ({ cls := "SequenceBenchModel", name := "decides", desc := "([I)I" } : Jvm.MethodName)) ∈ lw_all := lw_g (lw_at lw_m7 178 rfl) rfl
theorem q1680 : (Jvm.Cond.privateMethod ({ cls := "SequenceBenchModel", name := "decides", desc := "([I)I" } : Jvm.MethodName)) ∈ lw_tbl := lw_at lw_m7 179 rfl
theorem q1681 : (Jvm.Cond.instanceMethod ({ cls := "SequenceBenchModel", name := "decides", desc := "([I)I" } : Jvm.MethodName)) ∈ lw_all := lw_g (lw_at lw_m7 180 rfl) rfl
theorem q1682 : (Jvm.Cond.code ({ cls := "SequenceBenchModel", name := "decides", desc := "([I)I" } : Jvm.MethodName) prog_17_method_44_code (8 : Nat) (Option.some Jvm.ClassFile.FieldType.int)) ∈ lw_all := lw_g (lw_at lw_m7 181 rfl) rfl
theorem q1683 : (Jvm.Cond.methodLink "SequenceBenchModel" (159 : Nat) ({ cls := "SequenceBenchModel", name := "isComplete", desc := "([II)Z" } : Jvm.MethodName)) ∈ lw_all := lw_g (lw_at lw_m7 182 rfl) rfl
theorem q1684 : (Jvm.Cond.privateMethod ({ cls := "SequenceBenchModel", name := "isComplete", desc := "([II)Z" } : Jvm.MethodName)) ∈ lw_tbl := lw_at lw_m7 183 rfl
theorem q1685 : (Jvm.Cond.instanceMethod ({ cls := "SequenceBenchModel", name := "isComplete", desc := "([II)Z" } : Jvm.MethodName)) ∈ lw_all := lw_g (lw_at lw_m7 184 rfl) rfl
theorem q1686 : (Jvm.Cond.code ({ cls := "SequenceBenchModel", name := "isComplete", desc := "([II)Z" } : Jvm.MethodName) prog_17_method_43_code (6 : Nat) (Option.some Jvm.ClassFile.FieldType.boolean)) ∈ lw_all := lw_g (lw_at lw_m7 185 rfl) rfl
theorem q1687 : (Jvm.Cond.methodLink "SequenceBenchModel" (155 : Nat) ({ cls := "SequenceBenchModel", name := "senses", desc := "([III)Z" } : Jvm.MethodName)) ∈ lw_all := lw_g (lw_at lw_m7 186 rfl) rfl
theorem q1688 : (Jvm.Cond.privateMethod ({ cls := "SequenceBenchModel", name := "senses", desc := "([III)Z" } : Jvm.MethodName)) ∈ lw_tbl := lw_at lw_m7 187 rfl
theorem q1689 : (Jvm.Cond.instanceMethod ({ cls := "SequenceBenchModel", name := "senses", desc := "([III)Z" } : Jvm.MethodName)) ∈ lw_all := lw_g (lw_at lw_m7 188 rfl) rfl
theorem q1690 : (Jvm.Cond.code ({ cls := "SequenceBenchModel", name := "senses", desc := "([III)Z" } : Jvm.MethodName) prog_17_method_42_code (6 : Nat) (Option.some Jvm.ClassFile.FieldType.boolean)) ∈ lw_all := lw_g (lw_at lw_m7 189 rfl) rfl
theorem q1691 : (Jvm.Cond.methodLink "SequenceBenchModel" (167 : Nat) ({ cls := "SequenceBenchModel", name := "notesEvent", desc := "([IIZ)V" } : Jvm.MethodName)) ∈ lw_all := lw_g (lw_at lw_m7 190 rfl) rfl
theorem q1692 : (Jvm.Cond.privateMethod ({ cls := "SequenceBenchModel", name := "notesEvent", desc := "([IIZ)V" } : Jvm.MethodName)) ∈ lw_tbl := lw_at lw_m7 191 rfl
theorem q1693 : (Jvm.Cond.instanceMethod ({ cls := "SequenceBenchModel", name := "notesEvent", desc := "([IIZ)V" } : Jvm.MethodName)) ∈ lw_all := lw_g (lw_at lw_m7 192 rfl) rfl
theorem q1694 : (Jvm.Cond.code ({ cls := "SequenceBenchModel", name := "notesEvent", desc := "([IIZ)V" } : Jvm.MethodName) prog_17_method_45_code (7 : Nat) (Option.none : Option Jvm.ClassFile.FieldType)) ∈ lw_all := lw_g (lw_at lw_m7 193 rfl) rfl
theorem q1696 : (Jvm.Cond.instanceMethod ({ cls := "SequenceBenchModel", name := "time", desc := "()I" } : Jvm.MethodName)) ∈ lw_all := lw_g (lw_at lw_m7 195 rfl) rfl
theorem q1697 : (Jvm.Cond.selects "SequenceBenchModel" ({ cls := "SequenceBenchModel", name := "time", desc := "()I" } : Jvm.MethodName) ({ cls := "SequenceBenchModel", name := "time", desc := "()I" } : Jvm.MethodName)) ∈ lw_all := lw_g (lw_at lw_m7 196 rfl) rfl
theorem q1698 : (Jvm.Cond.code ({ cls := "SequenceBenchModel", name := "time", desc := "()I" } : Jvm.MethodName) prog_17_method_53_code (1 : Nat) (Option.some Jvm.ClassFile.FieldType.int)) ∈ lw_all := lw_g (lw_at lw_m7 197 rfl) rfl
theorem q1700 : (Jvm.Cond.instanceMethod ({ cls := "SequenceBenchModel", name := "position", desc := "(I)I" } : Jvm.MethodName)) ∈ lw_all := lw_g (lw_at lw_m7 199 rfl) rfl
theorem q1701 : (Jvm.Cond.selects "SequenceBenchModel" ({ cls := "SequenceBenchModel", name := "position", desc := "(I)I" } : Jvm.MethodName) ({ cls := "SequenceBenchModel", name := "position", desc := "(I)I" } : Jvm.MethodName)) ∈ lw_all := lw_g (lw_at lw_m7 200 rfl) rfl
theorem q1702 : (Jvm.Cond.code ({ cls := "SequenceBenchModel", name := "position", desc := "(I)I" } : Jvm.MethodName) prog_17_method_55_code (2 : Nat) (Option.some Jvm.ClassFile.FieldType.int)) ∈ lw_all := lw_g (lw_at lw_m7 201 rfl) rfl
theorem q1703 : (Jvm.Cond.methodLink "SequenceBenchModel" (174 : Nat) ({ cls := "SequenceBenchModel", name := "ofCylinder", desc := "(II)I" } : Jvm.MethodName)) ∈ lw_all := lw_g (lw_at lw_m7 202 rfl) rfl
theorem q1704 : (Jvm.Cond.privateMethod ({ cls := "SequenceBenchModel", name := "ofCylinder", desc := "(II)I" } : Jvm.MethodName)) ∈ lw_tbl := lw_at lw_m7 203 rfl
theorem q1705 : (Jvm.Cond.instanceMethod ({ cls := "SequenceBenchModel", name := "ofCylinder", desc := "(II)I" } : Jvm.MethodName)) ∈ lw_all := lw_g (lw_at lw_m7 204 rfl) rfl
theorem q1706 : (Jvm.Cond.code ({ cls := "SequenceBenchModel", name := "ofCylinder", desc := "(II)I" } : Jvm.MethodName) prog_17_method_54_code (3 : Nat) (Option.some Jvm.ClassFile.FieldType.int)) ∈ lw_all := lw_g (lw_at lw_m7 205 rfl) rfl
theorem q1708 : (Jvm.Cond.instanceMethod ({ cls := "SequenceBenchModel", name := "isOut", desc := "(I)Z" } : Jvm.MethodName)) ∈ lw_all := lw_g (lw_at lw_m7 207 rfl) rfl
theorem q1709 : (Jvm.Cond.selects "SequenceBenchModel" ({ cls := "SequenceBenchModel", name := "isOut", desc := "(I)Z" } : Jvm.MethodName) ({ cls := "SequenceBenchModel", name := "isOut", desc := "(I)Z" } : Jvm.MethodName)) ∈ lw_all := lw_g (lw_at lw_m7 208 rfl) rfl
theorem q1710 : (Jvm.Cond.code ({ cls := "SequenceBenchModel", name := "isOut", desc := "(I)Z" } : Jvm.MethodName) prog_17_method_56_code (2 : Nat) (Option.some Jvm.ClassFile.FieldType.boolean)) ∈ lw_all := lw_g (lw_at lw_m7 209 rfl) rfl
theorem q1712 : (Jvm.Cond.instanceMethod ({ cls := "SequenceBenchModel", name := "sensor", desc := "(II)Z" } : Jvm.MethodName)) ∈ lw_all := lw_g (lw_at lw_m7 211 rfl) rfl
theorem q1713 : (Jvm.Cond.selects "SequenceBenchModel" ({ cls := "SequenceBenchModel", name := "sensor", desc := "(II)Z" } : Jvm.MethodName) ({ cls := "SequenceBenchModel", name := "sensor", desc := "(II)Z" } : Jvm.MethodName)) ∈ lw_all := lw_g (lw_at lw_m7 212 rfl) rfl
theorem q1714 : (Jvm.Cond.code ({ cls := "SequenceBenchModel", name := "sensor", desc := "(II)Z" } : Jvm.MethodName) prog_17_method_57_code (3 : Nat) (Option.some Jvm.ClassFile.FieldType.boolean)) ∈ lw_all := lw_g (lw_at lw_m7 213 rfl) rfl
theorem q1716 : (Jvm.Cond.instanceMethod ({ cls := "SequenceBenchModel", name := "timer", desc := "(I)I" } : Jvm.MethodName)) ∈ lw_all := lw_g (lw_at lw_m7 215 rfl) rfl
theorem q1717 : (Jvm.Cond.selects "SequenceBenchModel" ({ cls := "SequenceBenchModel", name := "timer", desc := "(I)I" } : Jvm.MethodName) ({ cls := "SequenceBenchModel", name := "timer", desc := "(I)I" } : Jvm.MethodName)) ∈ lw_all := lw_g (lw_at lw_m7 216 rfl) rfl
theorem q1718 : (Jvm.Cond.code ({ cls := "SequenceBenchModel", name := "timer", desc := "(I)I" } : Jvm.MethodName) prog_17_method_58_code (2 : Nat) (Option.some Jvm.ClassFile.FieldType.int)) ∈ lw_all := lw_g (lw_at lw_m7 217 rfl) rfl
theorem q1720 : (Jvm.Cond.instanceMethod ({ cls := "SequenceBenchModel", name := "active", desc := "()I" } : Jvm.MethodName)) ∈ lw_all := lw_g (lw_at lw_m7 219 rfl) rfl
theorem q1721 : (Jvm.Cond.selects "SequenceBenchModel" ({ cls := "SequenceBenchModel", name := "active", desc := "()I" } : Jvm.MethodName) ({ cls := "SequenceBenchModel", name := "active", desc := "()I" } : Jvm.MethodName)) ∈ lw_all := lw_g (lw_at lw_m7 220 rfl) rfl
theorem q1722 : (Jvm.Cond.code ({ cls := "SequenceBenchModel", name := "active", desc := "()I" } : Jvm.MethodName) prog_17_method_59_code (1 : Nat) (Option.some Jvm.ClassFile.FieldType.int)) ∈ lw_all := lw_g (lw_at lw_m7 221 rfl) rfl
theorem q1724 : (Jvm.Cond.instanceMethod ({ cls := "SequenceBenchModel", name := "commands", desc := "(I)I" } : Jvm.MethodName)) ∈ lw_all := lw_g (lw_at lw_m7 223 rfl) rfl
theorem q1725 : (Jvm.Cond.selects "SequenceBenchModel" ({ cls := "SequenceBenchModel", name := "commands", desc := "(I)I" } : Jvm.MethodName) ({ cls := "SequenceBenchModel", name := "commands", desc := "(I)I" } : Jvm.MethodName)) ∈ lw_all := lw_g (lw_at lw_m7 224 rfl) rfl
theorem q1726 : (Jvm.Cond.code ({ cls := "SequenceBenchModel", name := "commands", desc := "(I)I" } : Jvm.MethodName) prog_17_method_60_code (2 : Nat) (Option.some Jvm.ClassFile.FieldType.int)) ∈ lw_all := lw_g (lw_at lw_m7 225 rfl) rfl
theorem q1728 : (Jvm.Cond.instanceMethod ({ cls := "SequenceBenchModel", name := "events", desc := "()I" } : Jvm.MethodName)) ∈ lw_all := lw_g (lw_at lw_m7 227 rfl) rfl
theorem q1729 : (Jvm.Cond.selects "SequenceBenchModel" ({ cls := "SequenceBenchModel", name := "events", desc := "()I" } : Jvm.MethodName) ({ cls := "SequenceBenchModel", name := "events", desc := "()I" } : Jvm.MethodName)) ∈ lw_all := lw_g (lw_at lw_m7 228 rfl) rfl
theorem q1730 : (Jvm.Cond.code ({ cls := "SequenceBenchModel", name := "events", desc := "()I" } : Jvm.MethodName) prog_17_method_61_code (1 : Nat) (Option.some Jvm.ClassFile.FieldType.int)) ∈ lw_all := lw_g (lw_at lw_m7 229 rfl) rfl
theorem q1732 : (Jvm.Cond.instanceMethod ({ cls := "SequenceBenchModel", name := "eventTime", desc := "(I)I" } : Jvm.MethodName)) ∈ lw_all := lw_g (lw_at lw_m7 231 rfl) rfl
theorem q1733 : (Jvm.Cond.selects "SequenceBenchModel" ({ cls := "SequenceBenchModel", name := "eventTime", desc := "(I)I" } : Jvm.MethodName) ({ cls := "SequenceBenchModel", name := "eventTime", desc := "(I)I" } : Jvm.MethodName)) ∈ lw_all := lw_g (lw_at lw_m7 232 rfl) rfl
theorem q1734 : (Jvm.Cond.code ({ cls := "SequenceBenchModel", name := "eventTime", desc := "(I)I" } : Jvm.MethodName) prog_17_method_63_code (2 : Nat) (Option.some Jvm.ClassFile.FieldType.int)) ∈ lw_all := lw_g (lw_at lw_m7 233 rfl) rfl
theorem q1735 : (Jvm.Cond.methodLink "SequenceBenchModel" (177 : Nat) ({ cls := "SequenceBenchModel", name := "ofEvent", desc := "(II)I" } : Jvm.MethodName)) ∈ lw_all := lw_g (lw_at lw_m7 234 rfl) rfl
theorem q1736 : (Jvm.Cond.privateMethod ({ cls := "SequenceBenchModel", name := "ofEvent", desc := "(II)I" } : Jvm.MethodName)) ∈ lw_tbl := lw_at lw_m7 235 rfl
theorem q1737 : (Jvm.Cond.instanceMethod ({ cls := "SequenceBenchModel", name := "ofEvent", desc := "(II)I" } : Jvm.MethodName)) ∈ lw_all := lw_g (lw_at lw_m7 236 rfl) rfl
theorem q1738 : (Jvm.Cond.code ({ cls := "SequenceBenchModel", name := "ofEvent", desc := "(II)I" } : Jvm.MethodName) prog_17_method_62_code (3 : Nat) (Option.some Jvm.ClassFile.FieldType.int)) ∈ lw_all := lw_g (lw_at lw_m7 237 rfl) rfl
theorem q1740 : (Jvm.Cond.instanceMethod ({ cls := "SequenceBenchModel", name := "eventMove", desc := "(I)I" } : Jvm.MethodName)) ∈ lw_all := lw_g (lw_at lw_m7 239 rfl) rfl
theorem q1741 : (Jvm.Cond.selects "SequenceBenchModel" ({ cls := "SequenceBenchModel", name := "eventMove", desc := "(I)I" } : Jvm.MethodName) ({ cls := "SequenceBenchModel", name := "eventMove", desc := "(I)I" } : Jvm.MethodName)) ∈ lw_all := lw_g (lw_at lw_m8 0 rfl) rfl
theorem q1742 : (Jvm.Cond.code ({ cls := "SequenceBenchModel", name := "eventMove", desc := "(I)I" } : Jvm.MethodName) prog_17_method_64_code (2 : Nat) (Option.some Jvm.ClassFile.FieldType.int)) ∈ lw_all := lw_g (lw_at lw_m8 1 rfl) rfl
theorem q1744 : (Jvm.Cond.instanceMethod ({ cls := "SequenceBenchModel", name := "rightEvents", desc := "()I" } : Jvm.MethodName)) ∈ lw_all := lw_g (lw_at lw_m8 3 rfl) rfl
theorem q1745 : (Jvm.Cond.selects "SequenceBenchModel" ({ cls := "SequenceBenchModel", name := "rightEvents", desc := "()I" } : Jvm.MethodName) ({ cls := "SequenceBenchModel", name := "rightEvents", desc := "()I" } : Jvm.MethodName)) ∈ lw_all := lw_g (lw_at lw_m8 4 rfl) rfl
theorem q1746 : (Jvm.Cond.code ({ cls := "SequenceBenchModel", name := "rightEvents", desc := "()I" } : Jvm.MethodName) prog_17_method_65_code (1 : Nat) (Option.some Jvm.ClassFile.FieldType.int)) ∈ lw_all := lw_g (lw_at lw_m8 5 rfl) rfl
theorem q1748 : (Jvm.Cond.instanceMethod ({ cls := "SequenceBenchModel", name := "cycles", desc := "()I" } : Jvm.MethodName)) ∈ lw_all := lw_g (lw_at lw_m8 7 rfl) rfl
theorem q1749 : (Jvm.Cond.selects "SequenceBenchModel" ({ cls := "SequenceBenchModel", name := "cycles", desc := "()I" } : Jvm.MethodName) ({ cls := "SequenceBenchModel", name := "cycles", desc := "()I" } : Jvm.MethodName)) ∈ lw_all := lw_g (lw_at lw_m8 8 rfl) rfl
theorem q1750 : (Jvm.Cond.code ({ cls := "SequenceBenchModel", name := "cycles", desc := "()I" } : Jvm.MethodName) prog_17_method_66_code (1 : Nat) (Option.some Jvm.ClassFile.FieldType.int)) ∈ lw_all := lw_g (lw_at lw_m8 9 rfl) rfl
theorem q1752 : (Jvm.Cond.instanceMethod ({ cls := "SequenceBenchModel", name := "quiet", desc := "()I" } : Jvm.MethodName)) ∈ lw_all := lw_g (lw_at lw_m8 11 rfl) rfl
theorem q1753 : (Jvm.Cond.selects "SequenceBenchModel" ({ cls := "SequenceBenchModel", name := "quiet", desc := "()I" } : Jvm.MethodName) ({ cls := "SequenceBenchModel", name := "quiet", desc := "()I" } : Jvm.MethodName)) ∈ lw_all := lw_g (lw_at lw_m8 12 rfl) rfl
theorem q1754 : (Jvm.Cond.code ({ cls := "SequenceBenchModel", name := "quiet", desc := "()I" } : Jvm.MethodName) prog_17_method_67_code (1 : Nat) (Option.some Jvm.ClassFile.FieldType.int)) ∈ lw_all := lw_g (lw_at lw_m8 13 rfl) rfl
theorem q1756 : (Jvm.Cond.instanceMethod ({ cls := "SequenceBenchModel", name := "works", desc := "(I)Z" } : Jvm.MethodName)) ∈ lw_all := lw_g (lw_at lw_m8 15 rfl) rfl
theorem q1757 : (Jvm.Cond.selects "SequenceBenchModel" ({ cls := "SequenceBenchModel", name := "works", desc := "(I)Z" } : Jvm.MethodName) ({ cls := "SequenceBenchModel", name := "works", desc := "(I)Z" } : Jvm.MethodName)) ∈ lw_all := lw_g (lw_at lw_m8 16 rfl) rfl
theorem q1758 : (Jvm.Cond.code ({ cls := "SequenceBenchModel", name := "works", desc := "(I)Z" } : Jvm.MethodName) prog_17_method_70_code (2 : Nat) (Option.some Jvm.ClassFile.FieldType.boolean)) ∈ lw_all := lw_g (lw_at lw_m8 17 rfl) rfl
theorem q1759 : (Jvm.Cond.methodLink "SequenceBenchModel" (184 : Nat) ({ cls := "SequenceBenchModel", name := "cycleOf", desc := "(I)I" } : Jvm.MethodName)) ∈ lw_all := lw_g (lw_at lw_m8 18 rfl) rfl
theorem q1760 : (Jvm.Cond.privateMethod ({ cls := "SequenceBenchModel", name := "cycleOf", desc := "(I)I" } : Jvm.MethodName)) ∈ lw_tbl := lw_at lw_m8 19 rfl
theorem q1761 : (Jvm.Cond.instanceMethod ({ cls := "SequenceBenchModel", name := "cycleOf", desc := "(I)I" } : Jvm.MethodName)) ∈ lw_all := lw_g (lw_at lw_m8 20 rfl) rfl
theorem q1762 : (Jvm.Cond.code ({ cls := "SequenceBenchModel", name := "cycleOf", desc := "(I)I" } : Jvm.MethodName) prog_17_method_69_code (2 : Nat) (Option.some Jvm.ClassFile.FieldType.int)) ∈ lw_all := lw_g (lw_at lw_m8 21 rfl) rfl
theorem q1763 : (Jvm.Cond.methodLink "SequenceBenchModel" (180 : Nat) ({ cls := "SequenceBenchModel", name := "tries", desc := "(IIIIZ)V" } : Jvm.MethodName)) ∈ lw_all := lw_g (lw_at lw_m8 22 rfl) rfl
theorem q1764 : (Jvm.Cond.privateMethod ({ cls := "SequenceBenchModel", name := "tries", desc := "(IIIIZ)V" } : Jvm.MethodName)) ∈ lw_tbl := lw_at lw_m8 23 rfl
theorem q1765 : (Jvm.Cond.instanceMethod ({ cls := "SequenceBenchModel", name := "tries", desc := "(IIIIZ)V" } : Jvm.MethodName)) ∈ lw_all := lw_g (lw_at lw_m8 24 rfl) rfl
theorem q1766 : (Jvm.Cond.code ({ cls := "SequenceBenchModel", name := "tries", desc := "(IIIIZ)V" } : Jvm.MethodName) prog_17_method_68_code (7 : Nat) (Option.none : Option Jvm.ClassFile.FieldType)) ∈ lw_all := lw_g (lw_at lw_m8 25 rfl) rfl
theorem q1768 : (Jvm.Cond.instanceMethod ({ cls := "SequenceBenchModel", name := "cycleTime", desc := "(I)I" } : Jvm.MethodName)) ∈ lw_all := lw_g (lw_at lw_m8 27 rfl) rfl
theorem q1769 : (Jvm.Cond.selects "SequenceBenchModel" ({ cls := "SequenceBenchModel", name := "cycleTime", desc := "(I)I" } : Jvm.MethodName) ({ cls := "SequenceBenchModel", name := "cycleTime", desc := "(I)I" } : Jvm.MethodName)) ∈ lw_all := lw_g (lw_at lw_m8 28 rfl) rfl
theorem q1770 : (Jvm.Cond.code ({ cls := "SequenceBenchModel", name := "cycleTime", desc := "(I)I" } : Jvm.MethodName) prog_17_method_71_code (2 : Nat) (Option.some Jvm.ClassFile.FieldType.int)) ∈ lw_all := lw_g (lw_at lw_m8 29 rfl) rfl
theorem q1772 : (Jvm.Cond.instanceMethod ({ cls := "SequenceBenchModel", name := "cheapest", desc := "()I" } : Jvm.MethodName)) ∈ lw_all := lw_g (lw_at lw_m8 31 rfl) rfl
theorem q1773 : (Jvm.Cond.selects "SequenceBenchModel" ({ cls := "SequenceBenchModel", name := "cheapest", desc := "()I" } : Jvm.MethodName) ({ cls := "SequenceBenchModel", name := "cheapest", desc := "()I" } : Jvm.MethodName)) ∈ lw_all := lw_g (lw_at lw_m8 32 rfl) rfl
theorem q1774 : (Jvm.Cond.code ({ cls := "SequenceBenchModel", name := "cheapest", desc := "()I" } : Jvm.MethodName) prog_17_method_72_code (3 : Nat) (Option.some Jvm.ClassFile.FieldType.int)) ∈ lw_all := lw_g (lw_at lw_m8 33 rfl) rfl
theorem q1776 : (Jvm.Cond.instanceMethod ({ cls := "SequenceBenchModel", name := "effect", desc := "(III)I" } : Jvm.MethodName)) ∈ lw_all := lw_g (lw_at lw_m8 35 rfl) rfl
theorem q1777 : (Jvm.Cond.selects "SequenceBenchModel" ({ cls := "SequenceBenchModel", name := "effect", desc := "(III)I" } : Jvm.MethodName) ({ cls := "SequenceBenchModel", name := "effect", desc := "(III)I" } : Jvm.MethodName)) ∈ lw_all := lw_g (lw_at lw_m8 36 rfl) rfl
theorem q1778 : (Jvm.Cond.code ({ cls := "SequenceBenchModel", name := "effect", desc := "(III)I" } : Jvm.MethodName) prog_17_method_73_code (4 : Nat) (Option.some Jvm.ClassFile.FieldType.int)) ∈ lw_all := lw_g (lw_at lw_m8 37 rfl) rfl
theorem q1780 : (Jvm.Cond.instanceMethod ({ cls := "SequenceBenchModel", name := "suspect", desc := "(I)I" } : Jvm.MethodName)) ∈ lw_all := lw_g (lw_at lw_m8 39 rfl) rfl
theorem q1781 : (Jvm.Cond.selects "SequenceBenchModel" ({ cls := "SequenceBenchModel", name := "suspect", desc := "(I)I" } : Jvm.MethodName) ({ cls := "SequenceBenchModel", name := "suspect", desc := "(I)I" } : Jvm.MethodName)) ∈ lw_all := lw_g (lw_at lw_m8 40 rfl) rfl
theorem q1782 : (Jvm.Cond.code ({ cls := "SequenceBenchModel", name := "suspect", desc := "(I)I" } : Jvm.MethodName) prog_17_method_75_code (4 : Nat) (Option.some Jvm.ClassFile.FieldType.int)) ∈ lw_all := lw_g (lw_at lw_m8 41 rfl) rfl
theorem q1783 : (Jvm.Cond.methodLink "SequenceBenchModel" (187 : Nat) ({ cls := "SequenceBenchModel", name := "explains", desc := "(II)Z" } : Jvm.MethodName)) ∈ lw_all := lw_g (lw_at lw_m8 42 rfl) rfl
theorem q1784 : (Jvm.Cond.privateMethod ({ cls := "SequenceBenchModel", name := "explains", desc := "(II)Z" } : Jvm.MethodName)) ∈ lw_tbl := lw_at lw_m8 43 rfl
theorem q1785 : (Jvm.Cond.instanceMethod ({ cls := "SequenceBenchModel", name := "explains", desc := "(II)Z" } : Jvm.MethodName)) ∈ lw_all := lw_g (lw_at lw_m8 44 rfl) rfl
theorem q1786 : (Jvm.Cond.code ({ cls := "SequenceBenchModel", name := "explains", desc := "(II)Z" } : Jvm.MethodName) prog_17_method_74_code (5 : Nat) (Option.some Jvm.ClassFile.FieldType.boolean)) ∈ lw_all := lw_g (lw_at lw_m8 45 rfl) rfl
theorem q1788 : (Jvm.Cond.instanceMethod ({ cls := "SequenceBenchModel", name := "fingerprint", desc := "()J" } : Jvm.MethodName)) ∈ lw_all := lw_g (lw_at lw_m8 47 rfl) rfl
theorem q1789 : (Jvm.Cond.selects "SequenceBenchModel" ({ cls := "SequenceBenchModel", name := "fingerprint", desc := "()J" } : Jvm.MethodName) ({ cls := "SequenceBenchModel", name := "fingerprint", desc := "()J" } : Jvm.MethodName)) ∈ lw_all := lw_g (lw_at lw_m8 48 rfl) rfl
theorem q1790 : (Jvm.Cond.code ({ cls := "SequenceBenchModel", name := "fingerprint", desc := "()J" } : Jvm.MethodName) prog_17_method_76_code (4 : Nat) (Option.some Jvm.ClassFile.FieldType.long)) ∈ lw_all := lw_g (lw_at lw_m8 49 rfl) rfl
theorem q1791 : (Jvm.Cond.constantLong "SequenceBenchModel" (190 : Nat) (589 : Int64)) ∈ lw_all := lw_g (lw_at lw_m8 50 rfl) rfl
theorem q1792 : (Jvm.Cond.constantLong "SequenceBenchModel" (192 : Nat) (31 : Int64)) ∈ lw_all := lw_g (lw_at lw_m8 51 rfl) rfl
theorem q1810 : (Jvm.Cond.castable "SequenceBenchModel" "java/lang/Object") ∈ lw_tbl := lw_at lw_m8 69 rfl
theorem in_X7 : ∀ w ∈ wsX70, w ∈ lw_all := lw_in wsX70 [1468, 1470, 1472, 1474, 1476, 1478, 1480, 1482, 1484, 1486, 1488, 1490, 1492, 1494, 1496, 1498, 1500, 1502, 1504, 1506] (by decide +kernel) (by decide +kernel)

