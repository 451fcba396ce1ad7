/-! SequenceBenchLaw -/
set_option maxRecDepth 100000
def RX0 : String := "SequenceBenchLaw"
abbrev cX0_type : ByteArray := method_3_code
def yX0_type : MethodName := ⟨RX0, "type", "(LSequenceBench;I[J)I"⟩
def dkwX0_type_0 : List UInt8 := [44, 3, 42, 27, 182, 0, 7, 133, 80, 167, 0, 9, 78, 4, 172, 78, 5, 172, 3, 172]
abbrev dktX0_type_0 : List UInt8 := dkwX0_type_0 ++ []
theorem dksX0_type_0 : cX0_type.data.toList.drop 0 = dktX0_type_0 := by decide +kernel
theorem dX0_type_0 : decode cX0_type 0 = .ok (.aload_n 2, 1) := dk_44 (dk_at dksX0_type_0 0 rfl rfl)
theorem dX0_type_1 : decode cX0_type 1 = .ok (.iconst 0, 1) := dk_3 (dk_at dksX0_type_0 1 rfl rfl)
theorem dX0_type_2 : decode cX0_type 2 = .ok (.aload_n 0, 1) := dk_42 (dk_at dksX0_type_0 2 rfl rfl)
theorem dX0_type_3 : decode cX0_type 3 = .ok (.iload_n 1, 1) := dk_27 (dk_at dksX0_type_0 3 rfl rfl)
theorem dX0_type_4 : decode cX0_type 4 = .ok (.invokevirtual 7, 3) := dk_182 0 7 (dk_at dksX0_type_0 4 rfl rfl)
theorem dX0_type_7 : decode cX0_type 7 = .ok (.i2l, 1) := dk_133 (dk_at dksX0_type_0 7 rfl rfl)
theorem dX0_type_8 : decode cX0_type 8 = .ok (.lastore, 1) := dk_80 (dk_at dksX0_type_0 8 rfl rfl)
theorem dX0_type_9 : decode cX0_type 9 = .ok (.goto 9, 3) := dk_167 0 9 (dk_at dksX0_type_0 9 rfl rfl)
theorem dX0_type_12 : decode cX0_type 12 = .ok (.astore_n 3, 1) := dk_78 (dk_at dksX0_type_0 12 rfl rfl)
theorem dX0_type_13 : decode cX0_type 13 = .ok (.iconst 1, 1) := dk_4 (dk_at dksX0_type_0 13 rfl rfl)
theorem dX0_type_14 : decode cX0_type 14 = .ok (.ireturn, 1) := dk_172 (dk_at dksX0_type_0 14 rfl rfl)
theorem dX0_type_15 : decode cX0_type 15 = .ok (.astore_n 3, 1) := dk_78 (dk_at dksX0_type_0 15 rfl rfl)
theorem dX0_type_16 : decode cX0_type 16 = .ok (.iconst 2, 1) := dk_5 (dk_at dksX0_type_0 16 rfl rfl)
theorem dX0_type_17 : decode cX0_type 17 = .ok (.ireturn, 1) := dk_172 (dk_at dksX0_type_0 17 rfl rfl)
theorem dX0_type_18 : decode cX0_type 18 = .ok (.iconst 0, 1) := dk_3 (dk_at dksX0_type_0 18 rfl rfl)
theorem dX0_type_19 : decode cX0_type 19 = .ok (.ireturn, 1) := dk_172 (dk_at dksX0_type_0 19 rfl rfl)
abbrev cX0_moves : ByteArray := method_4_code
def yX0_moves : MethodName := ⟨RX0, "moves", "(LSequenceBench;I[J)I"⟩
def dkwX0_moves_0 : List UInt8 := [44, 3, 42, 27, 182, 0, 17, 133, 80, 167, 0, 6, 78, 4, 172, 3, 172]
abbrev dktX0_moves_0 : List UInt8 := dkwX0_moves_0 ++ []
theorem dksX0_moves_0 : cX0_moves.data.toList.drop 0 = dktX0_moves_0 := by decide +kernel
theorem dX0_moves_0 : decode cX0_moves 0 = .ok (.aload_n 2, 1) := dk_44 (dk_at dksX0_moves_0 0 rfl rfl)
theorem dX0_moves_1 : decode cX0_moves 1 = .ok (.iconst 0, 1) := dk_3 (dk_at dksX0_moves_0 1 rfl rfl)
theorem dX0_moves_2 : decode cX0_moves 2 = .ok (.aload_n 0, 1) := dk_42 (dk_at dksX0_moves_0 2 rfl rfl)
theorem dX0_moves_3 : decode cX0_moves 3 = .ok (.iload_n 1, 1) := dk_27 (dk_at dksX0_moves_0 3 rfl rfl)
theorem dX0_moves_4 : decode cX0_moves 4 = .ok (.invokevirtual 17, 3) := dk_182 0 17 (dk_at dksX0_moves_0 4 rfl rfl)
theorem dX0_moves_7 : decode cX0_moves 7 = .ok (.i2l, 1) := dk_133 (dk_at dksX0_moves_0 7 rfl rfl)
theorem dX0_moves_8 : decode cX0_moves 8 = .ok (.lastore, 1) := dk_80 (dk_at dksX0_moves_0 8 rfl rfl)
theorem dX0_moves_9 : decode cX0_moves 9 = .ok (.goto 6, 3) := dk_167 0 6 (dk_at dksX0_moves_0 9 rfl rfl)
theorem dX0_moves_12 : decode cX0_moves 12 = .ok (.astore_n 3, 1) := dk_78 (dk_at dksX0_moves_0 12 rfl rfl)
theorem dX0_moves_13 : decode cX0_moves 13 = .ok (.iconst 1, 1) := dk_4 (dk_at dksX0_moves_0 13 rfl rfl)
theorem dX0_moves_14 : decode cX0_moves 14 = .ok (.ireturn, 1) := dk_172 (dk_at dksX0_moves_0 14 rfl rfl)
theorem dX0_moves_15 : decode cX0_moves 15 = .ok (.iconst 0, 1) := dk_3 (dk_at dksX0_moves_0 15 rfl rfl)
theorem dX0_moves_16 : decode cX0_moves 16 = .ok (.ireturn, 1) := dk_172 (dk_at dksX0_moves_0 16 rfl rfl)
abbrev cX0_direction : ByteArray := method_5_code
def yX0_direction : MethodName := ⟨RX0, "direction", "(LSequenceBench;II[J)I"⟩
def dkwX0_direction_0 : List UInt8 := [45, 3, 42, 27, 28, 182, 0, 22, 133, 80, 167, 0, 7, 58, 4, 4, 172, 3, 172]
abbrev dktX0_direction_0 : List UInt8 := dkwX0_direction_0 ++ []
theorem dksX0_direction_0 : cX0_direction.data.toList.drop 0 = dktX0_direction_0 := by decide +kernel
theorem dX0_direction_0 : decode cX0_direction 0 = .ok (.aload_n 3, 1) := dk_45 (dk_at dksX0_direction_0 0 rfl rfl)
theorem dX0_direction_1 : decode cX0_direction 1 = .ok (.iconst 0, 1) := dk_3 (dk_at dksX0_direction_0 1 rfl rfl)
theorem dX0_direction_2 : decode cX0_direction 2 = .ok (.aload_n 0, 1) := dk_42 (dk_at dksX0_direction_0 2 rfl rfl)
theorem dX0_direction_3 : decode cX0_direction 3 = .ok (.iload_n 1, 1) := dk_27 (dk_at dksX0_direction_0 3 rfl rfl)
theorem dX0_direction_4 : decode cX0_direction 4 = .ok (.iload_n 2, 1) := dk_28 (dk_at dksX0_direction_0 4 rfl rfl)
theorem dX0_direction_5 : decode cX0_direction 5 = .ok (.invokevirtual 22, 3) := dk_182 0 22 (dk_at dksX0_direction_0 5 rfl rfl)
theorem dX0_direction_8 : decode cX0_direction 8 = .ok (.i2l, 1) := dk_133 (dk_at dksX0_direction_0 8 rfl rfl)
theorem dX0_direction_9 : decode cX0_direction 9 = .ok (.lastore, 1) := dk_80 (dk_at dksX0_direction_0 9 rfl rfl)
theorem dX0_direction_10 : decode cX0_direction 10 = .ok (.goto 7, 3) := dk_167 0 7 (dk_at dksX0_direction_0 10 rfl rfl)
theorem dX0_direction_13 : decode cX0_direction 13 = .ok (.astore 4, 2) := dk_58 4 (dk_at dksX0_direction_0 13 rfl rfl)
theorem dX0_direction_15 : decode cX0_direction 15 = .ok (.iconst 1, 1) := dk_4 (dk_at dksX0_direction_0 15 rfl rfl)
theorem dX0_direction_16 : decode cX0_direction 16 = .ok (.ireturn, 1) := dk_172 (dk_at dksX0_direction_0 16 rfl rfl)
theorem dX0_direction_17 : decode cX0_direction 17 = .ok (.iconst 0, 1) := dk_3 (dk_at dksX0_direction_0 17 rfl rfl)
theorem dX0_direction_18 : decode cX0_direction 18 = .ok (.ireturn, 1) := dk_172 (dk_at dksX0_direction_0 18 rfl rfl)
abbrev cX0_pause : ByteArray := method_6_code
def yX0_pause : MethodName := ⟨RX0, "pause", "(LSequenceBench;I[J)I"⟩
def dkwX0_pause_0 : List UInt8 := [44, 3, 42, 27, 182, 0, 26, 133, 80, 167, 0, 6, 78, 4, 172, 3, 172]
abbrev dktX0_pause_0 : List UInt8 := dkwX0_pause_0 ++ []
theorem dksX0_pause_0 : cX0_pause.data.toList.drop 0 = dktX0_pause_0 := by decide +kernel
theorem dX0_pause_0 : decode cX0_pause 0 = .ok (.aload_n 2, 1) := dk_44 (dk_at dksX0_pause_0 0 rfl rfl)
theorem dX0_pause_1 : decode cX0_pause 1 = .ok (.iconst 0, 1) := dk_3 (dk_at dksX0_pause_0 1 rfl rfl)
theorem dX0_pause_2 : decode cX0_pause 2 = .ok (.aload_n 0, 1) := dk_42 (dk_at dksX0_pause_0 2 rfl rfl)
theorem dX0_pause_3 : decode cX0_pause 3 = .ok (.iload_n 1, 1) := dk_27 (dk_at dksX0_pause_0 3 rfl rfl)
theorem dX0_pause_4 : decode cX0_pause 4 = .ok (.invokevirtual 26, 3) := dk_182 0 26 (dk_at dksX0_pause_0 4 rfl rfl)
theorem dX0_pause_7 : decode cX0_pause 7 = .ok (.i2l, 1) := dk_133 (dk_at dksX0_pause_0 7 rfl rfl)
theorem dX0_pause_8 : decode cX0_pause 8 = .ok (.lastore, 1) := dk_80 (dk_at dksX0_pause_0 8 rfl rfl)
theorem dX0_pause_9 : decode cX0_pause 9 = .ok (.goto 6, 3) := dk_167 0 6 (dk_at dksX0_pause_0 9 rfl rfl)
theorem dX0_pause_12 : decode cX0_pause 12 = .ok (.astore_n 3, 1) := dk_78 (dk_at dksX0_pause_0 12 rfl rfl)
theorem dX0_pause_13 : decode cX0_pause 13 = .ok (.iconst 1, 1) := dk_4 (dk_at dksX0_pause_0 13 rfl rfl)
theorem dX0_pause_14 : decode cX0_pause 14 = .ok (.ireturn, 1) := dk_172 (dk_at dksX0_pause_0 14 rfl rfl)
theorem dX0_pause_15 : decode cX0_pause 15 = .ok (.iconst 0, 1) := dk_3 (dk_at dksX0_pause_0 15 rfl rfl)
theorem dX0_pause_16 : decode cX0_pause 16 = .ok (.ireturn, 1) := dk_172 (dk_at dksX0_pause_0 16 rfl rfl)
abbrev cX0_clashes : ByteArray := method_7_code
def yX0_clashes : MethodName := ⟨RX0, "clashes", "(LSequenceBench;[J)I"⟩
def dkwX0_clashes_0 : List UInt8 := [43, 3, 42, 182, 0, 29, 133, 80, 167, 0, 6, 77, 4, 172, 3, 172]
abbrev dktX0_clashes_0 : List UInt8 := dkwX0_clashes_0 ++ []
theorem dksX0_clashes_0 : cX0_clashes.data.toList.drop 0 = dktX0_clashes_0 := by decide +kernel
theorem dX0_clashes_0 : decode cX0_clashes 0 = .ok (.aload_n 1, 1) := dk_43 (dk_at dksX0_clashes_0 0 rfl rfl)
theorem dX0_clashes_1 : decode cX0_clashes 1 = .ok (.iconst 0, 1) := dk_3 (dk_at dksX0_clashes_0 1 rfl rfl)
theorem dX0_clashes_2 : decode cX0_clashes 2 = .ok (.aload_n 0, 1) := dk_42 (dk_at dksX0_clashes_0 2 rfl rfl)
theorem dX0_clashes_3 : decode cX0_clashes 3 = .ok (.invokevirtual 29, 3) := dk_182 0 29 (dk_at dksX0_clashes_0 3 rfl rfl)
theorem dX0_clashes_6 : decode cX0_clashes 6 = .ok (.i2l, 1) := dk_133 (dk_at dksX0_clashes_0 6 rfl rfl)
theorem dX0_clashes_7 : decode cX0_clashes 7 = .ok (.lastore, 1) := dk_80 (dk_at dksX0_clashes_0 7 rfl rfl)
theorem dX0_clashes_8 : decode cX0_clashes 8 = .ok (.goto 6, 3) := dk_167 0 6 (dk_at dksX0_clashes_0 8 rfl rfl)
theorem dX0_clashes_11 : decode cX0_clashes 11 = .ok (.astore_n 2, 1) := dk_77 (dk_at dksX0_clashes_0 11 rfl rfl)
theorem dX0_clashes_12 : decode cX0_clashes 12 = .ok (.iconst 1, 1) := dk_4 (dk_at dksX0_clashes_0 12 rfl rfl)
theorem dX0_clashes_13 : decode cX0_clashes 13 = .ok (.ireturn, 1) := dk_172 (dk_at dksX0_clashes_0 13 rfl rfl)
theorem dX0_clashes_14 : decode cX0_clashes 14 = .ok (.iconst 0, 1) := dk_3 (dk_at dksX0_clashes_0 14 rfl rfl)
theorem dX0_clashes_15 : decode cX0_clashes 15 = .ok (.ireturn, 1) := dk_172 (dk_at dksX0_clashes_0 15 rfl rfl)
abbrev cX0_clash : ByteArray := method_8_code
def yX0_clash : MethodName := ⟨RX0, "clash", "(LSequenceBench;II[J)I"⟩
def dkwX0_clash_0 : List UInt8 := [45, 3, 42, 27, 28, 182, 0, 33, 133, 80, 167, 0, 7, 58, 4, 4, 172, 3, 172]
abbrev dktX0_clash_0 : List UInt8 := dkwX0_clash_0 ++ []
theorem dksX0_clash_0 : cX0_clash.data.toList.drop 0 = dktX0_clash_0 := by decide +kernel
theorem dX0_clash_0 : decode cX0_clash 0 = .ok (.aload_n 3, 1) := dk_45 (dk_at dksX0_clash_0 0 rfl rfl)
theorem dX0_clash_1 : decode cX0_clash 1 = .ok (.iconst 0, 1) := dk_3 (dk_at dksX0_clash_0 1 rfl rfl)
theorem dX0_clash_2 : decode cX0_clash 2 = .ok (.aload_n 0, 1) := dk_42 (dk_at dksX0_clash_0 2 rfl rfl)
theorem dX0_clash_3 : decode cX0_clash 3 = .ok (.iload_n 1, 1) := dk_27 (dk_at dksX0_clash_0 3 rfl rfl)
theorem dX0_clash_4 : decode cX0_clash 4 = .ok (.iload_n 2, 1) := dk_28 (dk_at dksX0_clash_0 4 rfl rfl)
theorem dX0_clash_5 : decode cX0_clash 5 = .ok (.invokevirtual 33, 3) := dk_182 0 33 (dk_at dksX0_clash_0 5 rfl rfl)
theorem dX0_clash_8 : decode cX0_clash 8 = .ok (.i2l, 1) := dk_133 (dk_at dksX0_clash_0 8 rfl rfl)
theorem dX0_clash_9 : decode cX0_clash 9 = .ok (.lastore, 1) := dk_80 (dk_at dksX0_clash_0 9 rfl rfl)
theorem dX0_clash_10 : decode cX0_clash 10 = .ok (.goto 7, 3) := dk_167 0 7 (dk_at dksX0_clash_0 10 rfl rfl)
theorem dX0_clash_13 : decode cX0_clash 13 = .ok (.astore 4, 2) := dk_58 4 (dk_at dksX0_clash_0 13 rfl rfl)
theorem dX0_clash_15 : decode cX0_clash 15 = .ok (.iconst 1, 1) := dk_4 (dk_at dksX0_clash_0 15 rfl rfl)
theorem dX0_clash_16 : decode cX0_clash 16 = .ok (.ireturn, 1) := dk_172 (dk_at dksX0_clash_0 16 rfl rfl)
theorem dX0_clash_17 : decode cX0_clash 17 = .ok (.iconst 0, 1) := dk_3 (dk_at dksX0_clash_0 17 rfl rfl)
theorem dX0_clash_18 : decode cX0_clash 18 = .ok (.ireturn, 1) := dk_172 (dk_at dksX0_clash_0 18 rfl rfl)
abbrev cX0_groups : ByteArray := method_9_code
def yX0_groups : MethodName := ⟨RX0, "groups", "(LSequenceBench;[J)I"⟩
def dkwX0_groups_0 : List UInt8 := [43, 3, 42, 182, 0, 36, 133, 80, 167, 0, 6, 77, 4, 172, 3, 172]
abbrev dktX0_groups_0 : List UInt8 := dkwX0_groups_0 ++ []
theorem dksX0_groups_0 : cX0_groups.data.toList.drop 0 = dktX0_groups_0 := by decide +kernel
theorem dX0_groups_0 : decode cX0_groups 0 = .ok (.aload_n 1, 1) := dk_43 (dk_at dksX0_groups_0 0 rfl rfl)
theorem dX0_groups_1 : decode cX0_groups 1 = .ok (.iconst 0, 1) := dk_3 (dk_at dksX0_groups_0 1 rfl rfl)
theorem dX0_groups_2 : decode cX0_groups 2 = .ok (.aload_n 0, 1) := dk_42 (dk_at dksX0_groups_0 2 rfl rfl)
theorem dX0_groups_3 : decode cX0_groups 3 = .ok (.invokevirtual 36, 3) := dk_182 0 36 (dk_at dksX0_groups_0 3 rfl rfl)
theorem dX0_groups_6 : decode cX0_groups 6 = .ok (.i2l, 1) := dk_133 (dk_at dksX0_groups_0 6 rfl rfl)
theorem dX0_groups_7 : decode cX0_groups 7 = .ok (.lastore, 1) := dk_80 (dk_at dksX0_groups_0 7 rfl rfl)
theorem dX0_groups_8 : decode cX0_groups 8 = .ok (.goto 6, 3) := dk_167 0 6 (dk_at dksX0_groups_0 8 rfl rfl)
theorem dX0_groups_11 : decode cX0_groups 11 = .ok (.astore_n 2, 1) := dk_77 (dk_at dksX0_groups_0 11 rfl rfl)
theorem dX0_groups_12 : decode cX0_groups 12 = .ok (.iconst 1, 1) := dk_4 (dk_at dksX0_groups_0 12 rfl rfl)
theorem dX0_groups_13 : decode cX0_groups 13 = .ok (.ireturn, 1) := dk_172 (dk_at dksX0_groups_0 13 rfl rfl)
theorem dX0_groups_14 : decode cX0_groups 14 = .ok (.iconst 0, 1) := dk_3 (dk_at dksX0_groups_0 14 rfl rfl)
theorem dX0_groups_15 : decode cX0_groups 15 = .ok (.ireturn, 1) := dk_172 (dk_at dksX0_groups_0 15 rfl rfl)
abbrev cX0_cut : ByteArray := method_10_code
def yX0_cut : MethodName := ⟨RX0, "cut", "(LSequenceBench;I[J)I"⟩
def dkwX0_cut_0 : List UInt8 := [44, 3, 42, 27, 182, 0, 39, 133, 80, 167, 0, 6, 78, 4, 172, 3, 172]
abbrev dktX0_cut_0 : List UInt8 := dkwX0_cut_0 ++ []
theorem dksX0_cut_0 : cX0_cut.data.toList.drop 0 = dktX0_cut_0 := by decide +kernel
theorem dX0_cut_0 : decode cX0_cut 0 = .ok (.aload_n 2, 1) := dk_44 (dk_at dksX0_cut_0 0 rfl rfl)
theorem dX0_cut_1 : decode cX0_cut 1 = .ok (.iconst 0, 1) := dk_3 (dk_at dksX0_cut_0 1 rfl rfl)
theorem dX0_cut_2 : decode cX0_cut 2 = .ok (.aload_n 0, 1) := dk_42 (dk_at dksX0_cut_0 2 rfl rfl)
theorem dX0_cut_3 : decode cX0_cut 3 = .ok (.iload_n 1, 1) := dk_27 (dk_at dksX0_cut_0 3 rfl rfl)
theorem dX0_cut_4 : decode cX0_cut 4 = .ok (.invokevirtual 39, 3) := dk_182 0 39 (dk_at dksX0_cut_0 4 rfl rfl)
theorem dX0_cut_7 : decode cX0_cut 7 = .ok (.i2l, 1) := dk_133 (dk_at dksX0_cut_0 7 rfl rfl)
theorem dX0_cut_8 : decode cX0_cut 8 = .ok (.lastore, 1) := dk_80 (dk_at dksX0_cut_0 8 rfl rfl)
theorem dX0_cut_9 : decode cX0_cut 9 = .ok (.goto 6, 3) := dk_167 0 6 (dk_at dksX0_cut_0 9 rfl rfl)
theorem dX0_cut_12 : decode cX0_cut 12 = .ok (.astore_n 3, 1) := dk_78 (dk_at dksX0_cut_0 12 rfl rfl)
theorem dX0_cut_13 : decode cX0_cut 13 = .ok (.iconst 1, 1) := dk_4 (dk_at dksX0_cut_0 13 rfl rfl)
theorem dX0_cut_14 : decode cX0_cut 14 = .ok (.ireturn, 1) := dk_172 (dk_at dksX0_cut_0 14 rfl rfl)
theorem dX0_cut_15 : decode cX0_cut 15 = .ok (.iconst 0, 1) := dk_3 (dk_at dksX0_cut_0 15 rfl rfl)
theorem dX0_cut_16 : decode cX0_cut 16 = .ok (.ireturn, 1) := dk_172 (dk_at dksX0_cut_0 16 rfl rfl)
abbrev cX0_groupOf : ByteArray := method_11_code
def yX0_groupOf : MethodName := ⟨RX0, "groupOf", "(LSequenceBench;I[J)I"⟩
def dkwX0_groupOf_0 : List UInt8 := [44, 3, 42, 27, 182, 0, 42, 133, 80, 167, 0, 6, 78, 4, 172, 3, 172]
abbrev dktX0_groupOf_0 : List UInt8 := dkwX0_groupOf_0 ++ []
theorem dksX0_groupOf_0 : cX0_groupOf.data.toList.drop 0 = dktX0_groupOf_0 := by decide +kernel
theorem dX0_groupOf_0 : decode cX0_groupOf 0 = .ok (.aload_n 2, 1) := dk_44 (dk_at dksX0_groupOf_0 0 rfl rfl)
theorem dX0_groupOf_1 : decode cX0_groupOf 1 = .ok (.iconst 0, 1) := dk_3 (dk_at dksX0_groupOf_0 1 rfl rfl)
theorem dX0_groupOf_2 : decode cX0_groupOf 2 = .ok (.aload_n 0, 1) := dk_42 (dk_at dksX0_groupOf_0 2 rfl rfl)
theorem dX0_groupOf_3 : decode cX0_groupOf 3 = .ok (.iload_n 1, 1) := dk_27 (dk_at dksX0_groupOf_0 3 rfl rfl)
theorem dX0_groupOf_4 : decode cX0_groupOf 4 = .ok (.invokevirtual 42, 3) := dk_182 0 42 (dk_at dksX0_groupOf_0 4 rfl rfl)
theorem dX0_groupOf_7 : decode cX0_groupOf 7 = .ok (.i2l, 1) := dk_133 (dk_at dksX0_groupOf_0 7 rfl rfl)
theorem dX0_groupOf_8 : decode cX0_groupOf 8 = .ok (.lastore, 1) := dk_80 (dk_at dksX0_groupOf_0 8 rfl rfl)
theorem dX0_groupOf_9 : decode cX0_groupOf 9 = .ok (.goto 6, 3) := dk_167 0 6 (dk_at dksX0_groupOf_0 9 rfl rfl)
theorem dX0_groupOf_12 : decode cX0_groupOf 12 = .ok (.astore_n 3, 1) := dk_78 (dk_at dksX0_groupOf_0 12 rfl rfl)
theorem dX0_groupOf_13 : decode cX0_groupOf 13 = .ok (.iconst 1, 1) := dk_4 (dk_at dksX0_groupOf_0 13 rfl rfl)
theorem dX0_groupOf_14 : decode cX0_groupOf 14 = .ok (.ireturn, 1) := dk_172 (dk_at dksX0_groupOf_0 14 rfl rfl)
theorem dX0_groupOf_15 : decode cX0_groupOf 15 = .ok (.iconst 0, 1) := dk_3 (dk_at dksX0_groupOf_0 15 rfl rfl)
theorem dX0_groupOf_16 : decode cX0_groupOf 16 = .ok (.ireturn, 1) := dk_172 (dk_at dksX0_groupOf_0 16 rfl rfl)
abbrev cX0_valves : ByteArray := method_12_code
def yX0_valves : MethodName := ⟨RX0, "valves", "(LSequenceBench;I[J)I"⟩
def dkwX0_valves_0 : List UInt8 := [44, 3, 42, 27, 182, 0, 45, 133, 80, 167, 0, 9, 78, 4, 172, 78, 5, 172, 3, 172]
abbrev dktX0_valves_0 : List UInt8 := dkwX0_valves_0 ++ []
theorem dksX0_valves_0 : cX0_valves.data.toList.drop 0 = dktX0_valves_0 := by decide +kernel
theorem dX0_valves_0 : decode cX0_valves 0 = .ok (.aload_n 2, 1) := dk_44 (dk_at dksX0_valves_0 0 rfl rfl)
theorem dX0_valves_1 : decode cX0_valves 1 = .ok (.iconst 0, 1) := dk_3 (dk_at dksX0_valves_0 1 rfl rfl)
theorem dX0_valves_2 : decode cX0_valves 2 = .ok (.aload_n 0, 1) := dk_42 (dk_at dksX0_valves_0 2 rfl rfl)
theorem dX0_valves_3 : decode cX0_valves 3 = .ok (.iload_n 1, 1) := dk_27 (dk_at dksX0_valves_0 3 rfl rfl)
theorem dX0_valves_4 : decode cX0_valves 4 = .ok (.invokevirtual 45, 3) := dk_182 0 45 (dk_at dksX0_valves_0 4 rfl rfl)
theorem dX0_valves_7 : decode cX0_valves 7 = .ok (.i2l, 1) := dk_133 (dk_at dksX0_valves_0 7 rfl rfl)
theorem dX0_valves_8 : decode cX0_valves 8 = .ok (.lastore, 1) := dk_80 (dk_at dksX0_valves_0 8 rfl rfl)
theorem dX0_valves_9 : decode cX0_valves 9 = .ok (.goto 9, 3) := dk_167 0 9 (dk_at dksX0_valves_0 9 rfl rfl)
theorem dX0_valves_12 : decode cX0_valves 12 = .ok (.astore_n 3, 1) := dk_78 (dk_at dksX0_valves_0 12 rfl rfl)
theorem dX0_valves_13 : decode cX0_valves 13 = .ok (.iconst 1, 1) := dk_4 (dk_at dksX0_valves_0 13 rfl rfl)
theorem dX0_valves_14 : decode cX0_valves 14 = .ok (.ireturn, 1) := dk_172 (dk_at dksX0_valves_0 14 rfl rfl)
theorem dX0_valves_15 : decode cX0_valves 15 = .ok (.astore_n 3, 1) := dk_78 (dk_at dksX0_valves_0 15 rfl rfl)
theorem dX0_valves_16 : decode cX0_valves 16 = .ok (.iconst 2, 1) := dk_5 (dk_at dksX0_valves_0 16 rfl rfl)
theorem dX0_valves_17 : decode cX0_valves 17 = .ok (.ireturn, 1) := dk_172 (dk_at dksX0_valves_0 17 rfl rfl)
theorem dX0_valves_18 : decode cX0_valves 18 = .ok (.iconst 0, 1) := dk_3 (dk_at dksX0_valves_0 18 rfl rfl)
theorem dX0_valves_19 : decode cX0_valves 19 = .ok (.ireturn, 1) := dk_172 (dk_at dksX0_valves_0 19 rfl rfl)
abbrev cX0_setMethod : ByteArray := method_13_code
def yX0_setMethod : MethodName := ⟨RX0, "setMethod", "(LSequenceBench;I[J)I"⟩
def dkwX0_setMethod_0 : List UInt8 := [44, 3, 42, 27, 182, 0, 48, 133, 80, 167, 0, 6, 78, 4, 172, 3, 172]
abbrev dktX0_setMethod_0 : List UInt8 := dkwX0_setMethod_0 ++ []
theorem dksX0_setMethod_0 : cX0_setMethod.data.toList.drop 0 = dktX0_setMethod_0 := by decide +kernel
theorem dX0_setMethod_0 : decode cX0_setMethod 0 = .ok (.aload_n 2, 1) := dk_44 (dk_at dksX0_setMethod_0 0 rfl rfl)
theorem dX0_setMethod_1 : decode cX0_setMethod 1 = .ok (.iconst 0, 1) := dk_3 (dk_at dksX0_setMethod_0 1 rfl rfl)
theorem dX0_setMethod_2 : decode cX0_setMethod 2 = .ok (.aload_n 0, 1) := dk_42 (dk_at dksX0_setMethod_0 2 rfl rfl)
theorem dX0_setMethod_3 : decode cX0_setMethod 3 = .ok (.iload_n 1, 1) := dk_27 (dk_at dksX0_setMethod_0 3 rfl rfl)
theorem dX0_setMethod_4 : decode cX0_setMethod 4 = .ok (.invokevirtual 48, 3) := dk_182 0 48 (dk_at dksX0_setMethod_0 4 rfl rfl)
theorem dX0_setMethod_7 : decode cX0_setMethod 7 = .ok (.i2l, 1) := dk_133 (dk_at dksX0_setMethod_0 7 rfl rfl)
theorem dX0_setMethod_8 : decode cX0_setMethod 8 = .ok (.lastore, 1) := dk_80 (dk_at dksX0_setMethod_0 8 rfl rfl)
theorem dX0_setMethod_9 : decode cX0_setMethod 9 = .ok (.goto 6, 3) := dk_167 0 6 (dk_at dksX0_setMethod_0 9 rfl rfl)
theorem dX0_setMethod_12 : decode cX0_setMethod 12 = .ok (.astore_n 3, 1) := dk_78 (dk_at dksX0_setMethod_0 12 rfl rfl)
theorem dX0_setMethod_13 : decode cX0_setMethod 13 = .ok (.iconst 1, 1) := dk_4 (dk_at dksX0_setMethod_0 13 rfl rfl)
theorem dX0_setMethod_14 : decode cX0_setMethod 14 = .ok (.ireturn, 1) := dk_172 (dk_at dksX0_setMethod_0 14 rfl rfl)
theorem dX0_setMethod_15 : decode cX0_setMethod 15 = .ok (.iconst 0, 1) := dk_3 (dk_at dksX0_setMethod_0 15 rfl rfl)
theorem dX0_setMethod_16 : decode cX0_setMethod 16 = .ok (.ireturn, 1) := dk_172 (dk_at dksX0_setMethod_0 16 rfl rfl)
abbrev cX0_setStroke : ByteArray := method_14_code
def yX0_setStroke : MethodName := ⟨RX0, "setStroke", "(LSequenceBench;II[J)I"⟩
def dkwX0_setStroke_0 : List UInt8 := [45, 3, 42, 27, 28, 182, 0, 51, 133, 80, 167, 0, 11, 58, 4, 4, 172, 58, 4, 5, 172, 3, 172]
abbrev dktX0_setStroke_0 : List UInt8 := dkwX0_setStroke_0 ++ []
theorem dksX0_setStroke_0 : cX0_setStroke.data.toList.drop 0 = dktX0_setStroke_0 := by decide +kernel
theorem dX0_setStroke_0 : decode cX0_setStroke 0 = .ok (.aload_n 3, 1) := dk_45 (dk_at dksX0_setStroke_0 0 rfl rfl)
theorem dX0_setStroke_1 : decode cX0_setStroke 1 = .ok (.iconst 0, 1) := dk_3 (dk_at dksX0_setStroke_0 1 rfl rfl)
theorem dX0_setStroke_2 : decode cX0_setStroke 2 = .ok (.aload_n 0, 1) := dk_42 (dk_at dksX0_setStroke_0 2 rfl rfl)
theorem dX0_setStroke_3 : decode cX0_setStroke 3 = .ok (.iload_n 1, 1) := dk_27 (dk_at dksX0_setStroke_0 3 rfl rfl)
theorem dX0_setStroke_4 : decode cX0_setStroke 4 = .ok (.iload_n 2, 1) := dk_28 (dk_at dksX0_setStroke_0 4 rfl rfl)
theorem dX0_setStroke_5 : decode cX0_setStroke 5 = .ok (.invokevirtual 51, 3) := dk_182 0 51 (dk_at dksX0_setStroke_0 5 rfl rfl)
theorem dX0_setStroke_8 : decode cX0_setStroke 8 = .ok (.i2l, 1) := dk_133 (dk_at dksX0_setStroke_0 8 rfl rfl)
theorem dX0_setStroke_9 : decode cX0_setStroke 9 = .ok (.lastore, 1) := dk_80 (dk_at dksX0_setStroke_0 9 rfl rfl)
theorem dX0_setStroke_10 : decode cX0_setStroke 10 = .ok (.goto 11, 3) := dk_167 0 11 (dk_at dksX0_setStroke_0 10 rfl rfl)
theorem dX0_setStroke_13 : decode cX0_setStroke 13 = .ok (.astore 4, 2) := dk_58 4 (dk_at dksX0_setStroke_0 13 rfl rfl)
theorem dX0_setStroke_15 : decode cX0_setStroke 15 = .ok (.iconst 1, 1) := dk_4 (dk_at dksX0_setStroke_0 15 rfl rfl)
theorem dX0_setStroke_16 : decode cX0_setStroke 16 = .ok (.ireturn, 1) := dk_172 (dk_at dksX0_setStroke_0 16 rfl rfl)
theorem dX0_setStroke_17 : decode cX0_setStroke 17 = .ok (.astore 4, 2) := dk_58 4 (dk_at dksX0_setStroke_0 17 rfl rfl)
theorem dX0_setStroke_19 : decode cX0_setStroke 19 = .ok (.iconst 2, 1) := dk_5 (dk_at dksX0_setStroke_0 19 rfl rfl)
theorem dX0_setStroke_20 : decode cX0_setStroke 20 = .ok (.ireturn, 1) := dk_172 (dk_at dksX0_setStroke_0 20 rfl rfl)
theorem dX0_setStroke_21 : decode cX0_setStroke 21 = .ok (.iconst 0, 1) := dk_3 (dk_at dksX0_setStroke_0 21 rfl rfl)
theorem dX0_setStroke_22 : decode cX0_setStroke 22 = .ok (.ireturn, 1) := dk_172 (dk_at dksX0_setStroke_0 22 rfl rfl)
abbrev cX0_setFault : ByteArray := method_15_code
def yX0_setFault : MethodName := ⟨RX0, "setFault", "(LSequenceBench;IIZ[J)I"⟩
def dkwX0_setFault_1 : List UInt8 := [4, 172, 58, 5, 5, 172, 3, 172]
abbrev dktX0_setFault_1 : List UInt8 := dkwX0_setFault_1 ++ []
def dkwX0_setFault_0 : List UInt8 := [25, 4, 3, 42, 27, 28, 29, 182, 0, 54, 153, 0, 7, 10, 167, 0, 4, 9, 80, 167, 0, 11, 58, 5]
abbrev dktX0_setFault_0 : List UInt8 := dkwX0_setFault_0 ++ dktX0_setFault_1
theorem dksX0_setFault_0 : cX0_setFault.data.toList.drop 0 = dktX0_setFault_0 := by decide +kernel
theorem dksX0_setFault_1 : cX0_setFault.data.toList.drop 24 = dktX0_setFault_1 := dk_seg dksX0_setFault_0 24 rfl rfl
theorem dX0_setFault_0 : decode cX0_setFault 0 = .ok (.aload 4, 2) := dk_25 4 (dk_at dksX0_setFault_0 0 rfl rfl)
theorem dX0_setFault_2 : decode cX0_setFault 2 = .ok (.iconst 0, 1) := dk_3 (dk_at dksX0_setFault_0 2 rfl rfl)
theorem dX0_setFault_3 : decode cX0_setFault 3 = .ok (.aload_n 0, 1) := dk_42 (dk_at dksX0_setFault_0 3 rfl rfl)
theorem dX0_setFault_4 : decode cX0_setFault 4 = .ok (.iload_n 1, 1) := dk_27 (dk_at dksX0_setFault_0 4 rfl rfl)
theorem dX0_setFault_5 : decode cX0_setFault 5 = .ok (.iload_n 2, 1) := dk_28 (dk_at dksX0_setFault_0 5 rfl rfl)
theorem dX0_setFault_6 : decode cX0_setFault 6 = .ok (.iload_n 3, 1) := dk_29 (dk_at dksX0_setFault_0 6 rfl rfl)
theorem dX0_setFault_7 : decode cX0_setFault 7 = .ok (.invokevirtual 54, 3) := dk_182 0 54 (dk_at dksX0_setFault_0 7 rfl rfl)
theorem dX0_setFault_10 : decode cX0_setFault 10 = .ok (.ifCond .eq 7, 3) := dk_153 0 7 (dk_at dksX0_setFault_0 10 rfl rfl)
theorem dX0_setFault_13 : decode cX0_setFault 13 = .ok (.lconst 1, 1) := dk_10 (dk_at dksX0_setFault_0 13 rfl rfl)
theorem dX0_setFault_14 : decode cX0_setFault 14 = .ok (.goto 4, 3) := dk_167 0 4 (dk_at dksX0_setFault_0 14 rfl rfl)
theorem dX0_setFault_17 : decode cX0_setFault 17 = .ok (.lconst 0, 1) := dk_9 (dk_at dksX0_setFault_0 17 rfl rfl)
theorem dX0_setFault_18 : decode cX0_setFault 18 = .ok (.lastore, 1) := dk_80 (dk_at dksX0_setFault_0 18 rfl rfl)
theorem dX0_setFault_19 : decode cX0_setFault 19 = .ok (.goto 11, 3) := dk_167 0 11 (dk_at dksX0_setFault_0 19 rfl rfl)
theorem dX0_setFault_22 : decode cX0_setFault 22 = .ok (.astore 5, 2) := dk_58 5 (dk_at dksX0_setFault_0 22 rfl rfl)
theorem dX0_setFault_24 : decode cX0_setFault 24 = .ok (.iconst 1, 1) := dk_4 (dk_at dksX0_setFault_1 0 rfl rfl)
theorem dX0_setFault_25 : decode cX0_setFault 25 = .ok (.ireturn, 1) := dk_172 (dk_at dksX0_setFault_1 1 rfl rfl)
theorem dX0_setFault_26 : decode cX0_setFault 26 = .ok (.astore 5, 2) := dk_58 5 (dk_at dksX0_setFault_1 2 rfl rfl)
theorem dX0_setFault_28 : decode cX0_setFault 28 = .ok (.iconst 2, 1) := dk_5 (dk_at dksX0_setFault_1 4 rfl rfl)
theorem dX0_setFault_29 : decode cX0_setFault 29 = .ok (.ireturn, 1) := dk_172 (dk_at dksX0_setFault_1 5 rfl rfl)
theorem dX0_setFault_30 : decode cX0_setFault 30 = .ok (.iconst 0, 1) := dk_3 (dk_at dksX0_setFault_1 6 rfl rfl)
theorem dX0_setFault_31 : decode cX0_setFault 31 = .ok (.ireturn, 1) := dk_172 (dk_at dksX0_setFault_1 7 rfl rfl)
abbrev cX0_ticks : ByteArray := method_16_code
def yX0_ticks : MethodName := ⟨RX0, "ticks", "(LSequenceBench;I[J)I"⟩
def dkwX0_ticks_0 : List UInt8 := [44, 3, 42, 27, 182, 0, 58, 133, 80, 167, 0, 9, 78, 4, 172, 78, 5, 172, 3, 172]
abbrev dktX0_ticks_0 : List UInt8 := dkwX0_ticks_0 ++ []
theorem dksX0_ticks_0 : cX0_ticks.data.toList.drop 0 = dktX0_ticks_0 := by decide +kernel
theorem dX0_ticks_0 : decode cX0_ticks 0 = .ok (.aload_n 2, 1) := dk_44 (dk_at dksX0_ticks_0 0 rfl rfl)
theorem dX0_ticks_1 : decode cX0_ticks 1 = .ok (.iconst 0, 1) := dk_3 (dk_at dksX0_ticks_0 1 rfl rfl)
theorem dX0_ticks_2 : decode cX0_ticks 2 = .ok (.aload_n 0, 1) := dk_42 (dk_at dksX0_ticks_0 2 rfl rfl)
theorem dX0_ticks_3 : decode cX0_ticks 3 = .ok (.iload_n 1, 1) := dk_27 (dk_at dksX0_ticks_0 3 rfl rfl)
theorem dX0_ticks_4 : decode cX0_ticks 4 = .ok (.invokevirtual 58, 3) := dk_182 0 58 (dk_at dksX0_ticks_0 4 rfl rfl)
theorem dX0_ticks_7 : decode cX0_ticks 7 = .ok (.i2l, 1) := dk_133 (dk_at dksX0_ticks_0 7 rfl rfl)
theorem dX0_ticks_8 : decode cX0_ticks 8 = .ok (.lastore, 1) := dk_80 (dk_at dksX0_ticks_0 8 rfl rfl)
theorem dX0_ticks_9 : decode cX0_ticks 9 = .ok (.goto 9, 3) := dk_167 0 9 (dk_at dksX0_ticks_0 9 rfl rfl)
theorem dX0_ticks_12 : decode cX0_ticks 12 = .ok (.astore_n 3, 1) := dk_78 (dk_at dksX0_ticks_0 12 rfl rfl)
theorem dX0_ticks_13 : decode cX0_ticks 13 = .ok (.iconst 1, 1) := dk_4 (dk_at dksX0_ticks_0 13 rfl rfl)
theorem dX0_ticks_14 : decode cX0_ticks 14 = .ok (.ireturn, 1) := dk_172 (dk_at dksX0_ticks_0 14 rfl rfl)
theorem dX0_ticks_15 : decode cX0_ticks 15 = .ok (.astore_n 3, 1) := dk_78 (dk_at dksX0_ticks_0 15 rfl rfl)
theorem dX0_ticks_16 : decode cX0_ticks 16 = .ok (.iconst 2, 1) := dk_5 (dk_at dksX0_ticks_0 16 rfl rfl)
theorem dX0_ticks_17 : decode cX0_ticks 17 = .ok (.ireturn, 1) := dk_172 (dk_at dksX0_ticks_0 17 rfl rfl)
theorem dX0_ticks_18 : decode cX0_ticks 18 = .ok (.iconst 0, 1) := dk_3 (dk_at dksX0_ticks_0 18 rfl rfl)
theorem dX0_ticks_19 : decode cX0_ticks 19 = .ok (.ireturn, 1) := dk_172 (dk_at dksX0_ticks_0 19 rfl rfl)
abbrev cX0_position : ByteArray := method_17_code
def yX0_position : MethodName := ⟨RX0, "position", "(LSequenceBench;I[J)I"⟩
def dkwX0_position_0 : List UInt8 := [44, 3, 42, 27, 182, 0, 61, 133, 80, 167, 0, 6, 78, 4, 172, 3, 172]
abbrev dktX0_position_0 : List UInt8 := dkwX0_position_0 ++ []
theorem dksX0_position_0 : cX0_position.data.toList.drop 0 = dktX0_position_0 := by decide +kernel
theorem dX0_position_0 : decode cX0_position 0 = .ok (.aload_n 2, 1) := dk_44 (dk_at dksX0_position_0 0 rfl rfl)
theorem dX0_position_1 : decode cX0_position 1 = .ok (.iconst 0, 1) := dk_3 (dk_at dksX0_position_0 1 rfl rfl)
theorem dX0_position_2 : decode cX0_position 2 = .ok (.aload_n 0, 1) := dk_42 (dk_at dksX0_position_0 2 rfl rfl)
theorem dX0_position_3 : decode cX0_position 3 = .ok (.iload_n 1, 1) := dk_27 (dk_at dksX0_position_0 3 rfl rfl)
theorem dX0_position_4 : decode cX0_position 4 = .ok (.invokevirtual 61, 3) := dk_182 0 61 (dk_at dksX0_position_0 4 rfl rfl)
theorem dX0_position_7 : decode cX0_position 7 = .ok (.i2l, 1) := dk_133 (dk_at dksX0_position_0 7 rfl rfl)
theorem dX0_position_8 : decode cX0_position 8 = .ok (.lastore, 1) := dk_80 (dk_at dksX0_position_0 8 rfl rfl)
theorem dX0_position_9 : decode cX0_position 9 = .ok (.goto 6, 3) := dk_167 0 6 (dk_at dksX0_position_0 9 rfl rfl)
theorem dX0_position_12 : decode cX0_position 12 = .ok (.astore_n 3, 1) := dk_78 (dk_at dksX0_position_0 12 rfl rfl)
theorem dX0_position_13 : decode cX0_position 13 = .ok (.iconst 1, 1) := dk_4 (dk_at dksX0_position_0 13 rfl rfl)
theorem dX0_position_14 : decode cX0_position 14 = .ok (.ireturn, 1) := dk_172 (dk_at dksX0_position_0 14 rfl rfl)
theorem dX0_position_15 : decode cX0_position 15 = .ok (.iconst 0, 1) := dk_3 (dk_at dksX0_position_0 15 rfl rfl)
theorem dX0_position_16 : decode cX0_position 16 = .ok (.ireturn, 1) := dk_172 (dk_at dksX0_position_0 16 rfl rfl)
abbrev cX0_isOut : ByteArray := method_18_code
def yX0_isOut : MethodName := ⟨RX0, "isOut", "(LSequenceBench;I[J)I"⟩
def dkwX0_isOut_0 : List UInt8 := [44, 3, 42, 27, 182, 0, 64, 153, 0, 7, 10, 167, 0, 4, 9, 80, 167, 0, 6, 78, 4, 172, 3, 172]
abbrev dktX0_isOut_0 : List UInt8 := dkwX0_isOut_0 ++ []
theorem dksX0_isOut_0 : cX0_isOut.data.toList.drop 0 = dktX0_isOut_0 := by decide +kernel
theorem dX0_isOut_0 : decode cX0_isOut 0 = .ok (.aload_n 2, 1) := dk_44 (dk_at dksX0_isOut_0 0 rfl rfl)
theorem dX0_isOut_1 : decode cX0_isOut 1 = .ok (.iconst 0, 1) := dk_3 (dk_at dksX0_isOut_0 1 rfl rfl)
theorem dX0_isOut_2 : decode cX0_isOut 2 = .ok (.aload_n 0, 1) := dk_42 (dk_at dksX0_isOut_0 2 rfl rfl)
theorem dX0_isOut_3 : decode cX0_isOut 3 = .ok (.iload_n 1, 1) := dk_27 (dk_at dksX0_isOut_0 3 rfl rfl)
theorem dX0_isOut_4 : decode cX0_isOut 4 = .ok (.invokevirtual 64, 3) := dk_182 0 64 (dk_at dksX0_isOut_0 4 rfl rfl)
theorem dX0_isOut_7 : decode cX0_isOut 7 = .ok (.ifCond .eq 7, 3) := dk_153 0 7 (dk_at dksX0_isOut_0 7 rfl rfl)
theorem dX0_isOut_10 : decode cX0_isOut 10 = .ok (.lconst 1, 1) := dk_10 (dk_at dksX0_isOut_0 10 rfl rfl)
theorem dX0_isOut_11 : decode cX0_isOut 11 = .ok (.goto 4, 3) := dk_167 0 4 (dk_at dksX0_isOut_0 11 rfl rfl)
theorem dX0_isOut_14 : decode cX0_isOut 14 = .ok (.lconst 0, 1) := dk_9 (dk_at dksX0_isOut_0 14 rfl rfl)
theorem dX0_isOut_15 : decode cX0_isOut 15 = .ok (.lastore, 1) := dk_80 (dk_at dksX0_isOut_0 15 rfl rfl)
theorem dX0_isOut_16 : decode cX0_isOut 16 = .ok (.goto 6, 3) := dk_167 0 6 (dk_at dksX0_isOut_0 16 rfl rfl)
theorem dX0_isOut_19 : decode cX0_isOut 19 = .ok (.astore_n 3, 1) := dk_78 (dk_at dksX0_isOut_0 19 rfl rfl)
theorem dX0_isOut_20 : decode cX0_isOut 20 = .ok (.iconst 1, 1) := dk_4 (dk_at dksX0_isOut_0 20 rfl rfl)
theorem dX0_isOut_21 : decode cX0_isOut 21 = .ok (.ireturn, 1) := dk_172 (dk_at dksX0_isOut_0 21 rfl rfl)
theorem dX0_isOut_22 : decode cX0_isOut 22 = .ok (.iconst 0, 1) := dk_3 (dk_at dksX0_isOut_0 22 rfl rfl)
theorem dX0_isOut_23 : decode cX0_isOut 23 = .ok (.ireturn, 1) := dk_172 (dk_at dksX0_isOut_0 23 rfl rfl)
abbrev cX0_sensor : ByteArray := method_19_code
def yX0_sensor : MethodName := ⟨RX0, "sensor", "(LSequenceBench;II[J)I"⟩
def dkwX0_sensor_1 : List UInt8 := [3, 172]
abbrev dktX0_sensor_1 : List UInt8 := dkwX0_sensor_1 ++ []
def dkwX0_sensor_0 : List UInt8 := [45, 3, 42, 27, 28, 182, 0, 68, 153, 0, 7, 10, 167, 0, 4, 9, 80, 167, 0, 7, 58, 4, 4, 172]
abbrev dktX0_sensor_0 : List UInt8 := dkwX0_sensor_0 ++ dktX0_sensor_1
theorem dksX0_sensor_0 : cX0_sensor.data.toList.drop 0 = dktX0_sensor_0 := by decide +kernel
theorem dksX0_sensor_1 : cX0_sensor.data.toList.drop 24 = dktX0_sensor_1 := dk_seg dksX0_sensor_0 24 rfl rfl
theorem dX0_sensor_0 : decode cX0_sensor 0 = .ok (.aload_n 3, 1) := dk_45 (dk_at dksX0_sensor_0 0 rfl rfl)
theorem dX0_sensor_1 : decode cX0_sensor 1 = .ok (.iconst 0, 1) := dk_3 (dk_at dksX0_sensor_0 1 rfl rfl)
theorem dX0_sensor_2 : decode cX0_sensor 2 = .ok (.aload_n 0, 1) := dk_42 (dk_at dksX0_sensor_0 2 rfl rfl)
theorem dX0_sensor_3 : decode cX0_sensor 3 = .ok (.iload_n 1, 1) := dk_27 (dk_at dksX0_sensor_0 3 rfl rfl)
theorem dX0_sensor_4 : decode cX0_sensor 4 = .ok (.iload_n 2, 1) := dk_28 (dk_at dksX0_sensor_0 4 rfl rfl)
theorem dX0_sensor_5 : decode cX0_sensor 5 = .ok (.invokevirtual 68, 3) := dk_182 0 68 (dk_at dksX0_sensor_0 5 rfl rfl)
theorem dX0_sensor_8 : decode cX0_sensor 8 = .ok (.ifCond .eq 7, 3) := dk_153 0 7 (dk_at dksX0_sensor_0 8 rfl rfl)
theorem dX0_sensor_11 : decode cX0_sensor 11 = .ok (.lconst 1, 1) := dk_10 (dk_at dksX0_sensor_0 11 rfl rfl)
theorem dX0_sensor_12 : decode cX0_sensor 12 = .ok (.goto 4, 3) := dk_167 0 4 (dk_at dksX0_sensor_0 12 rfl rfl)
theorem dX0_sensor_15 : decode cX0_sensor 15 = .ok (.lconst 0, 1) := dk_9 (dk_at dksX0_sensor_0 15 rfl rfl)
theorem dX0_sensor_16 : decode cX0_sensor 16 = .ok (.lastore, 1) := dk_80 (dk_at dksX0_sensor_0 16 rfl rfl)
theorem dX0_sensor_17 : decode cX0_sensor 17 = .ok (.goto 7, 3) := dk_167 0 7 (dk_at dksX0_sensor_0 17 rfl rfl)
theorem dX0_sensor_20 : decode cX0_sensor 20 = .ok (.astore 4, 2) := dk_58 4 (dk_at dksX0_sensor_0 20 rfl rfl)
theorem dX0_sensor_22 : decode cX0_sensor 22 = .ok (.iconst 1, 1) := dk_4 (dk_at dksX0_sensor_0 22 rfl rfl)
theorem dX0_sensor_23 : decode cX0_sensor 23 = .ok (.ireturn, 1) := dk_172 (dk_at dksX0_sensor_0 23 rfl rfl)
theorem dX0_sensor_24 : decode cX0_sensor 24 = .ok (.iconst 0, 1) := dk_3 (dk_at dksX0_sensor_1 0 rfl rfl)
theorem dX0_sensor_25 : decode cX0_sensor 25 = .ok (.ireturn, 1) := dk_172 (dk_at dksX0_sensor_1 1 rfl rfl)
abbrev cX0_timer : ByteArray := method_20_code
def yX0_timer : MethodName := ⟨RX0, "timer", "(LSequenceBench;I[J)I"⟩
def dkwX0_timer_0 : List UInt8 := [44, 3, 42, 27, 182, 0, 72, 133, 80, 167, 0, 6, 78, 4, 172, 3, 172]
abbrev dktX0_timer_0 : List UInt8 := dkwX0_timer_0 ++ []
theorem dksX0_timer_0 : cX0_timer.data.toList.drop 0 = dktX0_timer_0 := by decide +kernel
theorem dX0_timer_0 : decode cX0_timer 0 = .ok (.aload_n 2, 1) := dk_44 (dk_at dksX0_timer_0 0 rfl rfl)
theorem dX0_timer_1 : decode cX0_timer 1 = .ok (.iconst 0, 1) := dk_3 (dk_at dksX0_timer_0 1 rfl rfl)
theorem dX0_timer_2 : decode cX0_timer 2 = .ok (.aload_n 0, 1) := dk_42 (dk_at dksX0_timer_0 2 rfl rfl)
theorem dX0_timer_3 : decode cX0_timer 3 = .ok (.iload_n 1, 1) := dk_27 (dk_at dksX0_timer_0 3 rfl rfl)
theorem dX0_timer_4 : decode cX0_timer 4 = .ok (.invokevirtual 72, 3) := dk_182 0 72 (dk_at dksX0_timer_0 4 rfl rfl)
theorem dX0_timer_7 : decode cX0_timer 7 = .ok (.i2l, 1) := dk_133 (dk_at dksX0_timer_0 7 rfl rfl)
theorem dX0_timer_8 : decode cX0_timer 8 = .ok (.lastore, 1) := dk_80 (dk_at dksX0_timer_0 8 rfl rfl)
theorem dX0_timer_9 : decode cX0_timer 9 = .ok (.goto 6, 3) := dk_167 0 6 (dk_at dksX0_timer_0 9 rfl rfl)
theorem dX0_timer_12 : decode cX0_timer 12 = .ok (.astore_n 3, 1) := dk_78 (dk_at dksX0_timer_0 12 rfl rfl)
theorem dX0_timer_13 : decode cX0_timer 13 = .ok (.iconst 1, 1) := dk_4 (dk_at dksX0_timer_0 13 rfl rfl)
theorem dX0_timer_14 : decode cX0_timer 14 = .ok (.ireturn, 1) := dk_172 (dk_at dksX0_timer_0 14 rfl rfl)
theorem dX0_timer_15 : decode cX0_timer 15 = .ok (.iconst 0, 1) := dk_3 (dk_at dksX0_timer_0 15 rfl rfl)
theorem dX0_timer_16 : decode cX0_timer 16 = .ok (.ireturn, 1) := dk_172 (dk_at dksX0_timer_0 16 rfl rfl)
abbrev cX0_commands : ByteArray := method_21_code
def yX0_commands : MethodName := ⟨RX0, "commands", "(LSequenceBench;I[J)I"⟩
def dkwX0_commands_0 : List UInt8 := [44, 3, 42, 27, 182, 0, 75, 133, 80, 167, 0, 6, 78, 4, 172, 3, 172]
abbrev dktX0_commands_0 : List UInt8 := dkwX0_commands_0 ++ []
theorem dksX0_commands_0 : cX0_commands.data.toList.drop 0 = dktX0_commands_0 := by decide +kernel
theorem dX0_commands_0 : decode cX0_commands 0 = .ok (.aload_n 2, 1) := dk_44 (dk_at dksX0_commands_0 0 rfl rfl)
theorem dX0_commands_1 : decode cX0_commands 1 = .ok (.iconst 0, 1) := dk_3 (dk_at dksX0_commands_0 1 rfl rfl)
theorem dX0_commands_2 : decode cX0_commands 2 = .ok (.aload_n 0, 1) := dk_42 (dk_at dksX0_commands_0 2 rfl rfl)
theorem dX0_commands_3 : decode cX0_commands 3 = .ok (.iload_n 1, 1) := dk_27 (dk_at dksX0_commands_0 3 rfl rfl)
theorem dX0_commands_4 : decode cX0_commands 4 = .ok (.invokevirtual 75, 3) := dk_182 0 75 (dk_at dksX0_commands_0 4 rfl rfl)
theorem dX0_commands_7 : decode cX0_commands 7 = .ok (.i2l, 1) := dk_133 (dk_at dksX0_commands_0 7 rfl rfl)
theorem dX0_commands_8 : decode cX0_commands 8 = .ok (.lastore, 1) := dk_80 (dk_at dksX0_commands_0 8 rfl rfl)
theorem dX0_commands_9 : decode cX0_commands 9 = .ok (.goto 6, 3) := dk_167 0 6 (dk_at dksX0_commands_0 9 rfl rfl)
theorem dX0_commands_12 : decode cX0_commands 12 = .ok (.astore_n 3, 1) := dk_78 (dk_at dksX0_commands_0 12 rfl rfl)
theorem dX0_commands_13 : decode cX0_commands 13 = .ok (.iconst 1, 1) := dk_4 (dk_at dksX0_commands_0 13 rfl rfl)
theorem dX0_commands_14 : decode cX0_commands 14 = .ok (.ireturn, 1) := dk_172 (dk_at dksX0_commands_0 14 rfl rfl)
theorem dX0_commands_15 : decode cX0_commands 15 = .ok (.iconst 0, 1) := dk_3 (dk_at dksX0_commands_0 15 rfl rfl)
theorem dX0_commands_16 : decode cX0_commands 16 = .ok (.ireturn, 1) := dk_172 (dk_at dksX0_commands_0 16 rfl rfl)
abbrev cX0_eventTime : ByteArray := method_22_code
def yX0_eventTime : MethodName := ⟨RX0, "eventTime", "(LSequenceBench;I[J)I"⟩
def dkwX0_eventTime_0 : List UInt8 := [44, 3, 42, 27, 182, 0, 78, 133, 80, 167, 0, 6, 78, 4, 172, 3, 172]
abbrev dktX0_eventTime_0 : List UInt8 := dkwX0_eventTime_0 ++ []
theorem dksX0_eventTime_0 : cX0_eventTime.data.toList.drop 0 = dktX0_eventTime_0 := by decide +kernel
theorem dX0_eventTime_0 : decode cX0_eventTime 0 = .ok (.aload_n 2, 1) := dk_44 (dk_at dksX0_eventTime_0 0 rfl rfl)
theorem dX0_eventTime_1 : decode cX0_eventTime 1 = .ok (.iconst 0, 1) := dk_3 (dk_at dksX0_eventTime_0 1 rfl rfl)
theorem dX0_eventTime_2 : decode cX0_eventTime 2 = .ok (.aload_n 0, 1) := dk_42 (dk_at dksX0_eventTime_0 2 rfl rfl)
theorem dX0_eventTime_3 : decode cX0_eventTime 3 = .ok (.iload_n 1, 1) := dk_27 (dk_at dksX0_eventTime_0 3 rfl rfl)
theorem dX0_eventTime_4 : decode cX0_eventTime 4 = .ok (.invokevirtual 78, 3) := dk_182 0 78 (dk_at dksX0_eventTime_0 4 rfl rfl)
theorem dX0_eventTime_7 : decode cX0_eventTime 7 = .ok (.i2l, 1) := dk_133 (dk_at dksX0_eventTime_0 7 rfl rfl)
theorem dX0_eventTime_8 : decode cX0_eventTime 8 = .ok (.lastore, 1) := dk_80 (dk_at dksX0_eventTime_0 8 rfl rfl)
theorem dX0_eventTime_9 : decode cX0_eventTime 9 = .ok (.goto 6, 3) := dk_167 0 6 (dk_at dksX0_eventTime_0 9 rfl rfl)
theorem dX0_eventTime_12 : decode cX0_eventTime 12 = .ok (.astore_n 3, 1) := dk_78 (dk_at dksX0_eventTime_0 12 rfl rfl)
theorem dX0_eventTime_13 : decode cX0_eventTime 13 = .ok (.iconst 1, 1) := dk_4 (dk_at dksX0_eventTime_0 13 rfl rfl)
theorem dX0_eventTime_14 : decode cX0_eventTime 14 = .ok (.ireturn, 1) := dk_172 (dk_at dksX0_eventTime_0 14 rfl rfl)
theorem dX0_eventTime_15 : decode cX0_eventTime 15 = .ok (.iconst 0, 1) := dk_3 (dk_at dksX0_eventTime_0 15 rfl rfl)
theorem dX0_eventTime_16 : decode cX0_eventTime 16 = .ok (.ireturn, 1) := dk_172 (dk_at dksX0_eventTime_0 16 rfl rfl)
abbrev cX0_eventMove : ByteArray := method_23_code
def yX0_eventMove : MethodName := ⟨RX0, "eventMove", "(LSequenceBench;I[J)I"⟩
def dkwX0_eventMove_0 : List UInt8 := [44, 3, 42, 27, 182, 0, 81, 133, 80, 167, 0, 6, 78, 4, 172, 3, 172]
abbrev dktX0_eventMove_0 : List UInt8 := dkwX0_eventMove_0 ++ []
theorem dksX0_eventMove_0 : cX0_eventMove.data.toList.drop 0 = dktX0_eventMove_0 := by decide +kernel
theorem dX0_eventMove_0 : decode cX0_eventMove 0 = .ok (.aload_n 2, 1) := dk_44 (dk_at dksX0_eventMove_0 0 rfl rfl)
theorem dX0_eventMove_1 : decode cX0_eventMove 1 = .ok (.iconst 0, 1) := dk_3 (dk_at dksX0_eventMove_0 1 rfl rfl)
theorem dX0_eventMove_2 : decode cX0_eventMove 2 = .ok (.aload_n 0, 1) := dk_42 (dk_at dksX0_eventMove_0 2 rfl rfl)
theorem dX0_eventMove_3 : decode cX0_eventMove 3 = .ok (.iload_n 1, 1) := dk_27 (dk_at dksX0_eventMove_0 3 rfl rfl)
theorem dX0_eventMove_4 : decode cX0_eventMove 4 = .ok (.invokevirtual 81, 3) := dk_182 0 81 (dk_at dksX0_eventMove_0 4 rfl rfl)
theorem dX0_eventMove_7 : decode cX0_eventMove 7 = .ok (.i2l, 1) := dk_133 (dk_at dksX0_eventMove_0 7 rfl rfl)
theorem dX0_eventMove_8 : decode cX0_eventMove 8 = .ok (.lastore, 1) := dk_80 (dk_at dksX0_eventMove_0 8 rfl rfl)
theorem dX0_eventMove_9 : decode cX0_eventMove 9 = .ok (.goto 6, 3) := dk_167 0 6 (dk_at dksX0_eventMove_0 9 rfl rfl)
theorem dX0_eventMove_12 : decode cX0_eventMove 12 = .ok (.astore_n 3, 1) := dk_78 (dk_at dksX0_eventMove_0 12 rfl rfl)
theorem dX0_eventMove_13 : decode cX0_eventMove 13 = .ok (.iconst 1, 1) := dk_4 (dk_at dksX0_eventMove_0 13 rfl rfl)
theorem dX0_eventMove_14 : decode cX0_eventMove 14 = .ok (.ireturn, 1) := dk_172 (dk_at dksX0_eventMove_0 14 rfl rfl)
theorem dX0_eventMove_15 : decode cX0_eventMove 15 = .ok (.iconst 0, 1) := dk_3 (dk_at dksX0_eventMove_0 15 rfl rfl)
theorem dX0_eventMove_16 : decode cX0_eventMove 16 = .ok (.ireturn, 1) := dk_172 (dk_at dksX0_eventMove_0 16 rfl rfl)
abbrev cX0_works : ByteArray := method_24_code
def yX0_works : MethodName := ⟨RX0, "works", "(LSequenceBench;I[J)I"⟩
def dkwX0_works_1 : List UInt8 := [172, 3, 172]
abbrev dktX0_works_1 : List UInt8 := dkwX0_works_1 ++ []
def dkwX0_works_0 : List UInt8 := [44, 3, 42, 27, 182, 0, 84, 153, 0, 7, 10, 167, 0, 4, 9, 80, 167, 0, 9, 78, 4, 172, 78, 5]
abbrev dktX0_works_0 : List UInt8 := dkwX0_works_0 ++ dktX0_works_1
theorem dksX0_works_0 : cX0_works.data.toList.drop 0 = dktX0_works_0 := by decide +kernel
theorem dksX0_works_1 : cX0_works.data.toList.drop 24 = dktX0_works_1 := dk_seg dksX0_works_0 24 rfl rfl
theorem dX0_works_0 : decode cX0_works 0 = .ok (.aload_n 2, 1) := dk_44 (dk_at dksX0_works_0 0 rfl rfl)
theorem dX0_works_1 : decode cX0_works 1 = .ok (.iconst 0, 1) := dk_3 (dk_at dksX0_works_0 1 rfl rfl)
theorem dX0_works_2 : decode cX0_works 2 = .ok (.aload_n 0, 1) := dk_42 (dk_at dksX0_works_0 2 rfl rfl)
theorem dX0_works_3 : decode cX0_works 3 = .ok (.iload_n 1, 1) := dk_27 (dk_at dksX0_works_0 3 rfl rfl)
theorem dX0_works_4 : decode cX0_works 4 = .ok (.invokevirtual 84, 3) := dk_182 0 84 (dk_at dksX0_works_0 4 rfl rfl)
theorem dX0_works_7 : decode cX0_works 7 = .ok (.ifCond .eq 7, 3) := dk_153 0 7 (dk_at dksX0_works_0 7 rfl rfl)
theorem dX0_works_10 : decode cX0_works 10 = .ok (.lconst 1, 1) := dk_10 (dk_at dksX0_works_0 10 rfl rfl)
theorem dX0_works_11 : decode cX0_works 11 = .ok (.goto 4, 3) := dk_167 0 4 (dk_at dksX0_works_0 11 rfl rfl)
theorem dX0_works_14 : decode cX0_works 14 = .ok (.lconst 0, 1) := dk_9 (dk_at dksX0_works_0 14 rfl rfl)
theorem dX0_works_15 : decode cX0_works 15 = .ok (.lastore, 1) := dk_80 (dk_at dksX0_works_0 15 rfl rfl)
theorem dX0_works_16 : decode cX0_works 16 = .ok (.goto 9, 3) := dk_167 0 9 (dk_at dksX0_works_0 16 rfl rfl)
theorem dX0_works_19 : decode cX0_works 19 = .ok (.astore_n 3, 1) := dk_78 (dk_at dksX0_works_0 19 rfl rfl)
theorem dX0_works_20 : decode cX0_works 20 = .ok (.iconst 1, 1) := dk_4 (dk_at dksX0_works_0 20 rfl rfl)
theorem dX0_works_21 : decode cX0_works 21 = .ok (.ireturn, 1) := dk_172 (dk_at dksX0_works_0 21 rfl rfl)
theorem dX0_works_22 : decode cX0_works 22 = .ok (.astore_n 3, 1) := dk_78 (dk_at dksX0_works_0 22 rfl rfl)
theorem dX0_works_23 : decode cX0_works 23 = .ok (.iconst 2, 1) := dk_5 (dk_at dksX0_works_0 23 rfl rfl)
theorem dX0_works_24 : decode cX0_works 24 = .ok (.ireturn, 1) := dk_172 (dk_at dksX0_works_1 0 rfl rfl)
theorem dX0_works_25 : decode cX0_works 25 = .ok (.iconst 0, 1) := dk_3 (dk_at dksX0_works_1 1 rfl rfl)
theorem dX0_works_26 : decode cX0_works 26 = .ok (.ireturn, 1) := dk_172 (dk_at dksX0_works_1 2 rfl rfl)
abbrev cX0_cycleTime : ByteArray := method_25_code
def yX0_cycleTime : MethodName := ⟨RX0, "cycleTime", "(LSequenceBench;I[J)I"⟩
def dkwX0_cycleTime_0 : List UInt8 := [44, 3, 42, 27, 182, 0, 87, 133, 80, 167, 0, 9, 78, 4, 172, 78, 5, 172, 3, 172]
abbrev dktX0_cycleTime_0 : List UInt8 := dkwX0_cycleTime_0 ++ []
theorem dksX0_cycleTime_0 : cX0_cycleTime.data.toList.drop 0 = dktX0_cycleTime_0 := by decide +kernel
theorem dX0_cycleTime_0 : decode cX0_cycleTime 0 = .ok (.aload_n 2, 1) := dk_44 (dk_at dksX0_cycleTime_0 0 rfl rfl)
theorem dX0_cycleTime_1 : decode cX0_cycleTime 1 = .ok (.iconst 0, 1) := dk_3 (dk_at dksX0_cycleTime_0 1 rfl rfl)
theorem dX0_cycleTime_2 : decode cX0_cycleTime 2 = .ok (.aload_n 0, 1) := dk_42 (dk_at dksX0_cycleTime_0 2 rfl rfl)
theorem dX0_cycleTime_3 : decode cX0_cycleTime 3 = .ok (.iload_n 1, 1) := dk_27 (dk_at dksX0_cycleTime_0 3 rfl rfl)
theorem dX0_cycleTime_4 : decode cX0_cycleTime 4 = .ok (.invokevirtual 87, 3) := dk_182 0 87 (dk_at dksX0_cycleTime_0 4 rfl rfl)
theorem dX0_cycleTime_7 : decode cX0_cycleTime 7 = .ok (.i2l, 1) := dk_133 (dk_at dksX0_cycleTime_0 7 rfl rfl)
theorem dX0_cycleTime_8 : decode cX0_cycleTime 8 = .ok (.lastore, 1) := dk_80 (dk_at dksX0_cycleTime_0 8 rfl rfl)
theorem dX0_cycleTime_9 : decode cX0_cycleTime 9 = .ok (.goto 9, 3) := dk_167 0 9 (dk_at dksX0_cycleTime_0 9 rfl rfl)
theorem dX0_cycleTime_12 : decode cX0_cycleTime 12 = .ok (.astore_n 3, 1) := dk_78 (dk_at dksX0_cycleTime_0 12 rfl rfl)
theorem dX0_cycleTime_13 : decode cX0_cycleTime 13 = .ok (.iconst 1, 1) := dk_4 (dk_at dksX0_cycleTime_0 13 rfl rfl)
theorem dX0_cycleTime_14 : decode cX0_cycleTime 14 = .ok (.ireturn, 1) := dk_172 (dk_at dksX0_cycleTime_0 14 rfl rfl)
theorem dX0_cycleTime_15 : decode cX0_cycleTime 15 = .ok (.astore_n 3, 1) := dk_78 (dk_at dksX0_cycleTime_0 15 rfl rfl)
theorem dX0_cycleTime_16 : decode cX0_cycleTime 16 = .ok (.iconst 2, 1) := dk_5 (dk_at dksX0_cycleTime_0 16 rfl rfl)
theorem dX0_cycleTime_17 : decode cX0_cycleTime 17 = .ok (.ireturn, 1) := dk_172 (dk_at dksX0_cycleTime_0 17 rfl rfl)
theorem dX0_cycleTime_18 : decode cX0_cycleTime 18 = .ok (.iconst 0, 1) := dk_3 (dk_at dksX0_cycleTime_0 18 rfl rfl)
theorem dX0_cycleTime_19 : decode cX0_cycleTime 19 = .ok (.ireturn, 1) := dk_172 (dk_at dksX0_cycleTime_0 19 rfl rfl)
abbrev cX0_cheapest : ByteArray := method_26_code
def yX0_cheapest : MethodName := ⟨RX0, "cheapest", "(LSequenceBench;[J)I"⟩
def dkwX0_cheapest_0 : List UInt8 := [43, 3, 42, 182, 0, 90, 133, 80, 167, 0, 6, 77, 4, 172, 3, 172]
abbrev dktX0_cheapest_0 : List UInt8 := dkwX0_cheapest_0 ++ []
theorem dksX0_cheapest_0 : cX0_cheapest.data.toList.drop 0 = dktX0_cheapest_0 := by decide +kernel
theorem dX0_cheapest_0 : decode cX0_cheapest 0 = .ok (.aload_n 1, 1) := dk_43 (dk_at dksX0_cheapest_0 0 rfl rfl)
theorem dX0_cheapest_1 : decode cX0_cheapest 1 = .ok (.iconst 0, 1) := dk_3 (dk_at dksX0_cheapest_0 1 rfl rfl)
theorem dX0_cheapest_2 : decode cX0_cheapest 2 = .ok (.aload_n 0, 1) := dk_42 (dk_at dksX0_cheapest_0 2 rfl rfl)
theorem dX0_cheapest_3 : decode cX0_cheapest 3 = .ok (.invokevirtual 90, 3) := dk_182 0 90 (dk_at dksX0_cheapest_0 3 rfl rfl)
theorem dX0_cheapest_6 : decode cX0_cheapest 6 = .ok (.i2l, 1) := dk_133 (dk_at dksX0_cheapest_0 6 rfl rfl)
theorem dX0_cheapest_7 : decode cX0_cheapest 7 = .ok (.lastore, 1) := dk_80 (dk_at dksX0_cheapest_0 7 rfl rfl)
theorem dX0_cheapest_8 : decode cX0_cheapest 8 = .ok (.goto 6, 3) := dk_167 0 6 (dk_at dksX0_cheapest_0 8 rfl rfl)
theorem dX0_cheapest_11 : decode cX0_cheapest 11 = .ok (.astore_n 2, 1) := dk_77 (dk_at dksX0_cheapest_0 11 rfl rfl)
theorem dX0_cheapest_12 : decode cX0_cheapest 12 = .ok (.iconst 1, 1) := dk_4 (dk_at dksX0_cheapest_0 12 rfl rfl)
theorem dX0_cheapest_13 : decode cX0_cheapest 13 = .ok (.ireturn, 1) := dk_172 (dk_at dksX0_cheapest_0 13 rfl rfl)
theorem dX0_cheapest_14 : decode cX0_cheapest 14 = .ok (.iconst 0, 1) := dk_3 (dk_at dksX0_cheapest_0 14 rfl rfl)
theorem dX0_cheapest_15 : decode cX0_cheapest 15 = .ok (.ireturn, 1) := dk_172 (dk_at dksX0_cheapest_0 15 rfl rfl)
abbrev cX0_effect : ByteArray := method_27_code
def yX0_effect : MethodName := ⟨RX0, "effect", "(LSequenceBench;III[J)I"⟩
def dkwX0_effect_1 : List UInt8 := [58, 5, 6, 172, 3, 172]
abbrev dktX0_effect_1 : List UInt8 := dkwX0_effect_1 ++ []
def dkwX0_effect_0 : List UInt8 := [25, 4, 3, 42, 27, 28, 29, 182, 0, 93, 133, 80, 167, 0, 15, 58, 5, 4, 172, 58, 5, 5, 172]
abbrev dktX0_effect_0 : List UInt8 := dkwX0_effect_0 ++ dktX0_effect_1
theorem dksX0_effect_0 : cX0_effect.data.toList.drop 0 = dktX0_effect_0 := by decide +kernel
theorem dksX0_effect_1 : cX0_effect.data.toList.drop 23 = dktX0_effect_1 := dk_seg dksX0_effect_0 23 rfl rfl
theorem dX0_effect_0 : decode cX0_effect 0 = .ok (.aload 4, 2) := dk_25 4 (dk_at dksX0_effect_0 0 rfl rfl)
theorem dX0_effect_2 : decode cX0_effect 2 = .ok (.iconst 0, 1) := dk_3 (dk_at dksX0_effect_0 2 rfl rfl)
theorem dX0_effect_3 : decode cX0_effect 3 = .ok (.aload_n 0, 1) := dk_42 (dk_at dksX0_effect_0 3 rfl rfl)
theorem dX0_effect_4 : decode cX0_effect 4 = .ok (.iload_n 1, 1) := dk_27 (dk_at dksX0_effect_0 4 rfl rfl)
theorem dX0_effect_5 : decode cX0_effect 5 = .ok (.iload_n 2, 1) := dk_28 (dk_at dksX0_effect_0 5 rfl rfl)
theorem dX0_effect_6 : decode cX0_effect 6 = .ok (.iload_n 3, 1) := dk_29 (dk_at dksX0_effect_0 6 rfl rfl)
theorem dX0_effect_7 : decode cX0_effect 7 = .ok (.invokevirtual 93, 3) := dk_182 0 93 (dk_at dksX0_effect_0 7 rfl rfl)
theorem dX0_effect_10 : decode cX0_effect 10 = .ok (.i2l, 1) := dk_133 (dk_at dksX0_effect_0 10 rfl rfl)
theorem dX0_effect_11 : decode cX0_effect 11 = .ok (.lastore, 1) := dk_80 (dk_at dksX0_effect_0 11 rfl rfl)
theorem dX0_effect_12 : decode cX0_effect 12 = .ok (.goto 15, 3) := dk_167 0 15 (dk_at dksX0_effect_0 12 rfl rfl)
theorem dX0_effect_15 : decode cX0_effect 15 = .ok (.astore 5, 2) := dk_58 5 (dk_at dksX0_effect_0 15 rfl rfl)
theorem dX0_effect_17 : decode cX0_effect 17 = .ok (.iconst 1, 1) := dk_4 (dk_at dksX0_effect_0 17 rfl rfl)
theorem dX0_effect_18 : decode cX0_effect 18 = .ok (.ireturn, 1) := dk_172 (dk_at dksX0_effect_0 18 rfl rfl)
theorem dX0_effect_19 : decode cX0_effect 19 = .ok (.astore 5, 2) := dk_58 5 (dk_at dksX0_effect_0 19 rfl rfl)
theorem dX0_effect_21 : decode cX0_effect 21 = .ok (.iconst 2, 1) := dk_5 (dk_at dksX0_effect_0 21 rfl rfl)
theorem dX0_effect_22 : decode cX0_effect 22 = .ok (.ireturn, 1) := dk_172 (dk_at dksX0_effect_0 22 rfl rfl)
theorem dX0_effect_23 : decode cX0_effect 23 = .ok (.astore 5, 2) := dk_58 5 (dk_at dksX0_effect_1 0 rfl rfl)
theorem dX0_effect_25 : decode cX0_effect 25 = .ok (.iconst 3, 1) := dk_6 (dk_at dksX0_effect_1 2 rfl rfl)
theorem dX0_effect_26 : decode cX0_effect 26 = .ok (.ireturn, 1) := dk_172 (dk_at dksX0_effect_1 3 rfl rfl)
theorem dX0_effect_27 : decode cX0_effect 27 = .ok (.iconst 0, 1) := dk_3 (dk_at dksX0_effect_1 4 rfl rfl)
theorem dX0_effect_28 : decode cX0_effect 28 = .ok (.ireturn, 1) := dk_172 (dk_at dksX0_effect_1 5 rfl rfl)
abbrev cX0_suspect : ByteArray := method_28_code
def yX0_suspect : MethodName := ⟨RX0, "suspect", "(LSequenceBench;I[J)I"⟩
def dkwX0_suspect_0 : List UInt8 := [44, 3, 42, 27, 182, 0, 97, 133, 80, 167, 0, 9, 78, 4, 172, 78, 5, 172, 3, 172]
abbrev dktX0_suspect_0 : List UInt8 := dkwX0_suspect_0 ++ []
theorem dksX0_suspect_0 : cX0_suspect.data.toList.drop 0 = dktX0_suspect_0 := by decide +kernel
theorem dX0_suspect_0 : decode cX0_suspect 0 = .ok (.aload_n 2, 1) := dk_44 (dk_at dksX0_suspect_0 0 rfl rfl)
theorem dX0_suspect_1 : decode cX0_suspect 1 = .ok (.iconst 0, 1) := dk_3 (dk_at dksX0_suspect_0 1 rfl rfl)
theorem dX0_suspect_2 : decode cX0_suspect 2 = .ok (.aload_n 0, 1) := dk_42 (dk_at dksX0_suspect_0 2 rfl rfl)
theorem dX0_suspect_3 : decode cX0_suspect 3 = .ok (.iload_n 1, 1) := dk_27 (dk_at dksX0_suspect_0 3 rfl rfl)
theorem dX0_suspect_4 : decode cX0_suspect 4 = .ok (.invokevirtual 97, 3) := dk_182 0 97 (dk_at dksX0_suspect_0 4 rfl rfl)
theorem dX0_suspect_7 : decode cX0_suspect 7 = .ok (.i2l, 1) := dk_133 (dk_at dksX0_suspect_0 7 rfl rfl)
theorem dX0_suspect_8 : decode cX0_suspect 8 = .ok (.lastore, 1) := dk_80 (dk_at dksX0_suspect_0 8 rfl rfl)
theorem dX0_suspect_9 : decode cX0_suspect 9 = .ok (.goto 9, 3) := dk_167 0 9 (dk_at dksX0_suspect_0 9 rfl rfl)
theorem dX0_suspect_12 : decode cX0_suspect 12 = .ok (.astore_n 3, 1) := dk_78 (dk_at dksX0_suspect_0 12 rfl rfl)
theorem dX0_suspect_13 : decode cX0_suspect 13 = .ok (.iconst 1, 1) := dk_4 (dk_at dksX0_suspect_0 13 rfl rfl)
theorem dX0_suspect_14 : decode cX0_suspect 14 = .ok (.ireturn, 1) := dk_172 (dk_at dksX0_suspect_0 14 rfl rfl)
theorem dX0_suspect_15 : decode cX0_suspect 15 = .ok (.astore_n 3, 1) := dk_78 (dk_at dksX0_suspect_0 15 rfl rfl)
theorem dX0_suspect_16 : decode cX0_suspect 16 = .ok (.iconst 2, 1) := dk_5 (dk_at dksX0_suspect_0 16 rfl rfl)
theorem dX0_suspect_17 : decode cX0_suspect 17 = .ok (.ireturn, 1) := dk_172 (dk_at dksX0_suspect_0 17 rfl rfl)
theorem dX0_suspect_18 : decode cX0_suspect 18 = .ok (.iconst 0, 1) := dk_3 (dk_at dksX0_suspect_0 18 rfl rfl)
theorem dX0_suspect_19 : decode cX0_suspect 19 = .ok (.ireturn, 1) := dk_172 (dk_at dksX0_suspect_0 19 rfl rfl)
theorem q61 : (Jvm.Cond.initialized "SequenceBenchLaw") ∈ lw_all := lw_g (lw_at lw_m1 0 rfl) rfl
theorem q97 : (Jvm.Cond.classLink "SequenceBenchLaw" (8 : Nat) "SequenceBench") ∈ lw_all := lw_g (lw_at lw_m1 36 rfl) rfl
theorem q99 : (Jvm.Cond.methodLink "SequenceBenchLaw" (100 : Nat) ({ cls := "SequenceBench", name := "<init>", desc := "()V" } : Jvm.MethodName)) ∈ lw_all := lw_g (lw_at lw_m1 38 rfl) rfl
theorem q348 : (Jvm.Cond.methodLink "SequenceBenchLaw" (113 : Nat) ({ cls := "SequenceBench", name := "clearText", desc := "()I" } : Jvm.MethodName)) ∈ lw_all := lw_g (lw_at lw_m2 47 rfl) rfl
theorem q352 : (Jvm.Cond.methodLink "SequenceBenchLaw" (117 : Nat) ({ cls := "SequenceBench", name := "readSequence", desc := "()I" } : Jvm.MethodName)) ∈ lw_all := lw_g (lw_at lw_m2 51 rfl) rfl
theorem q939 : (Jvm.Cond.methodLink "SequenceBenchLaw" (121 : Nat) ({ cls := "SequenceBench", name := "errorKind", desc := "()I" } : Jvm.MethodName)) ∈ lw_all := lw_g (lw_at lw_m4 158 rfl) rfl
theorem q943 : (Jvm.Cond.methodLink "SequenceBenchLaw" (125 : Nat) ({ cls := "SequenceBench", name := "steps", desc := "()I" } : Jvm.MethodName)) ∈ lw_all := lw_g (lw_at lw_m4 162 rfl) rfl
theorem q947 : (Jvm.Cond.methodLink "SequenceBenchLaw" (164 : Nat) ({ cls := "SequenceBench", name := "setStart", desc := "(Z)Z" } : Jvm.MethodName)) ∈ lw_all := lw_g (lw_at lw_m4 166 rfl) rfl
theorem q951 : (Jvm.Cond.methodLink "SequenceBenchLaw" (173 : Nat) ({ cls := "SequenceBench", name := "rest", desc := "()I" } : Jvm.MethodName)) ∈ lw_all := lw_g (lw_at lw_m4 170 rfl) rfl
theorem q955 : (Jvm.Cond.methodLink "SequenceBenchLaw" (180 : Nat) ({ cls := "SequenceBench", name := "time", desc := "()I" } : Jvm.MethodName)) ∈ lw_all := lw_g (lw_at lw_m4 174 rfl) rfl
theorem q959 : (Jvm.Cond.methodLink "SequenceBenchLaw" (196 : Nat) ({ cls := "SequenceBench", name := "active", desc := "()I" } : Jvm.MethodName)) ∈ lw_all := lw_g (lw_at lw_m4 178 rfl) rfl
theorem q985 : (Jvm.Cond.methodLink "SequenceBenchLaw" (203 : Nat) ({ cls := "SequenceBench", name := "events", desc := "()I" } : Jvm.MethodName)) ∈ lw_all := lw_g (lw_at lw_m4 204 rfl) rfl
theorem q989 : (Jvm.Cond.methodLink "SequenceBenchLaw" (213 : Nat) ({ cls := "SequenceBench", name := "rightEvents", desc := "()I" } : Jvm.MethodName)) ∈ lw_all := lw_g (lw_at lw_m4 208 rfl) rfl
theorem q993 : (Jvm.Cond.methodLink "SequenceBenchLaw" (217 : Nat) ({ cls := "SequenceBench", name := "cycles", desc := "()I" } : Jvm.MethodName)) ∈ lw_all := lw_g (lw_at lw_m4 212 rfl) rfl
theorem q997 : (Jvm.Cond.methodLink "SequenceBenchLaw" (221 : Nat) ({ cls := "SequenceBench", name := "quiet", desc := "()I" } : Jvm.MethodName)) ∈ lw_all := lw_g (lw_at lw_m4 216 rfl) rfl
theorem q1001 : (Jvm.Cond.methodLink "SequenceBenchLaw" (241 : Nat) ({ cls := "SequenceBench", name := "fingerprint", desc := "()J" } : Jvm.MethodName)) ∈ lw_all := lw_g (lw_at lw_m4 220 rfl) rfl
theorem q1010 : (Jvm.Cond.methodLink "SequenceBenchLaw" (104 : Nat) ({ cls := "SequenceBenchLaw", name := "type", desc := "(LSequenceBench;I[J)I" } : Jvm.MethodName)) ∈ lw_all := lw_g (lw_at lw_m4 229 rfl) rfl
theorem q1011 : (Jvm.Cond.static ({ cls := "SequenceBenchLaw", name := "type", desc := "(LSequenceBench;I[J)I" } : Jvm.MethodName)) ∈ lw_all := lw_g (lw_at lw_m4 230 rfl) rfl
theorem q1012 : (Jvm.Cond.codeWith ({ cls := "SequenceBenchLaw", name := "type", desc := "(LSequenceBench;I[J)I" } : Jvm.MethodName) method_3_code (4 : Nat) (Option.some Jvm.ClassFile.FieldType.int) [((0 : Nat), (9 : Nat), (12 : Nat), (13 : Nat)), ((0 : Nat), (9 : Nat), (15 : Nat), (15 : Nat))]) ∈ lw_all := lw_g (lw_at lw_m4 231 rfl) rfl
theorem q1013 : (Jvm.Cond.classLink "SequenceBenchLaw" (13 : Nat) "java/lang/IllegalArgumentException") ∈ lw_all := lw_g (lw_at lw_m4 232 rfl) rfl
theorem q1014 : (Jvm.Cond.classLink "SequenceBenchLaw" (15 : Nat) "java/lang/IllegalStateException") ∈ lw_all := lw_g (lw_at lw_m4 233 rfl) rfl
theorem q1015 : (Jvm.Cond.methodLink "SequenceBenchLaw" (7 : Nat) ({ cls := "SequenceBench", name := "type", desc := "(I)I" } : Jvm.MethodName)) ∈ lw_all := lw_g (lw_at lw_m4 234 rfl) rfl
theorem q1051 : (Jvm.Cond.methodLink "SequenceBenchLaw" (129 : Nat) ({ cls := "SequenceBenchLaw", name := "moves", desc := "(LSequenceBench;I[J)I" } : Jvm.MethodName)) ∈ lw_all := lw_g (lw_at lw_m5 30 rfl) rfl
theorem q1052 : (Jvm.Cond.static ({ cls := "SequenceBenchLaw", name := "moves", desc := "(LSequenceBench;I[J)I" } : Jvm.MethodName)) ∈ lw_all := lw_g (lw_at lw_m5 31 rfl) rfl
theorem q1053 : (Jvm.Cond.codeWith ({ cls := "SequenceBenchLaw", name := "moves", desc := "(LSequenceBench;I[J)I" } : Jvm.MethodName) method_4_code (4 : Nat) (Option.some Jvm.ClassFile.FieldType.int) [((0 : Nat), (9 : Nat), (12 : Nat), (20 : Nat))]) ∈ lw_all := lw_g (lw_at lw_m5 32 rfl) rfl
theorem q1054 : (Jvm.Cond.classLink "SequenceBenchLaw" (20 : Nat) "java/lang/IndexOutOfBoundsException") ∈ lw_all := lw_g (lw_at lw_m5 33 rfl) rfl
theorem q1073 : (Jvm.Cond.methodLink "SequenceBenchLaw" (17 : Nat) ({ cls := "SequenceBench", name := "moves", desc := "(I)I" } : Jvm.MethodName)) ∈ lw_all := lw_g (lw_at lw_m5 52 rfl) rfl
theorem q1100 : (Jvm.Cond.methodLink "SequenceBenchLaw" (132 : Nat) ({ cls := "SequenceBenchLaw", name := "direction", desc := "(LSequenceBench;II[J)I" } : Jvm.MethodName)) ∈ lw_all := lw_g (lw_at lw_m5 79 rfl) rfl
theorem q1101 : (Jvm.Cond.static ({ cls := "SequenceBenchLaw", name := "direction", desc := "(LSequenceBench;II[J)I" } : Jvm.MethodName)) ∈ lw_all := lw_g (lw_at lw_m5 80 rfl) rfl
theorem q1102 : (Jvm.Cond.codeWith ({ cls := "SequenceBenchLaw", name := "direction", desc := "(LSequenceBench;II[J)I" } : Jvm.MethodName) method_5_code (5 : Nat) (Option.some Jvm.ClassFile.FieldType.int) [((0 : Nat), (10 : Nat), (13 : Nat), (20 : Nat))]) ∈ lw_all := lw_g (lw_at lw_m5 81 rfl) rfl
theorem q1103 : (Jvm.Cond.methodLink "SequenceBenchLaw" (22 : Nat) ({ cls := "SequenceBench", name := "direction", desc := "(II)I" } : Jvm.MethodName)) ∈ lw_all := lw_g (lw_at lw_m5 82 rfl) rfl
theorem q1112 : (Jvm.Cond.methodLink "SequenceBenchLaw" (136 : Nat) ({ cls := "SequenceBenchLaw", name := "pause", desc := "(LSequenceBench;I[J)I" } : Jvm.MethodName)) ∈ lw_all := lw_g (lw_at lw_m5 91 rfl) rfl
theorem q1113 : (Jvm.Cond.static ({ cls := "SequenceBenchLaw", name := "pause", desc := "(LSequenceBench;I[J)I" } : Jvm.MethodName)) ∈ lw_all := lw_g (lw_at lw_m5 92 rfl) rfl
theorem q1114 : (Jvm.Cond.codeWith ({ cls := "SequenceBenchLaw", name := "pause", desc := "(LSequenceBench;I[J)I" } : Jvm.MethodName) method_6_code (4 : Nat) (Option.some Jvm.ClassFile.FieldType.int) [((0 : Nat), (9 : Nat), (12 : Nat), (20 : Nat))]) ∈ lw_all := lw_g (lw_at lw_m5 93 rfl) rfl
theorem q1115 : (Jvm.Cond.methodLink "SequenceBenchLaw" (26 : Nat) ({ cls := "SequenceBench", name := "pause", desc := "(I)I" } : Jvm.MethodName)) ∈ lw_all := lw_g (lw_at lw_m5 94 rfl) rfl
theorem q1119 : (Jvm.Cond.methodLink "SequenceBenchLaw" (139 : Nat) ({ cls := "SequenceBenchLaw", name := "clashes", desc := "(LSequenceBench;[J)I" } : Jvm.MethodName)) ∈ lw_all := lw_g (lw_at lw_m5 98 rfl) rfl
theorem q1120 : (Jvm.Cond.static ({ cls := "SequenceBenchLaw", name := "clashes", desc := "(LSequenceBench;[J)I" } : Jvm.MethodName)) ∈ lw_all := lw_g (lw_at lw_m5 99 rfl) rfl
theorem q1121 : (Jvm.Cond.codeWith ({ cls := "SequenceBenchLaw", name := "clashes", desc := "(LSequenceBench;[J)I" } : Jvm.MethodName) method_7_code (3 : Nat) (Option.some Jvm.ClassFile.FieldType.int) [((0 : Nat), (8 : Nat), (11 : Nat), (15 : Nat))]) ∈ lw_all := lw_g (lw_at lw_m5 100 rfl) rfl
theorem q1122 : (Jvm.Cond.methodLink "SequenceBenchLaw" (29 : Nat) ({ cls := "SequenceBench", name := "clashes", desc := "()I" } : Jvm.MethodName)) ∈ lw_all := lw_g (lw_at lw_m5 101 rfl) rfl
theorem q1140 : (Jvm.Cond.methodLink "SequenceBenchLaw" (143 : Nat) ({ cls := "SequenceBenchLaw", name := "clash", desc := "(LSequenceBench;II[J)I" } : Jvm.MethodName)) ∈ lw_all := lw_g (lw_at lw_m5 119 rfl) rfl
theorem q1141 : (Jvm.Cond.static ({ cls := "SequenceBenchLaw", name := "clash", desc := "(LSequenceBench;II[J)I" } : Jvm.MethodName)) ∈ lw_all := lw_g (lw_at lw_m5 120 rfl) rfl
theorem q1142 : (Jvm.Cond.codeWith ({ cls := "SequenceBenchLaw", name := "clash", desc := "(LSequenceBench;II[J)I" } : Jvm.MethodName) method_8_code (5 : Nat) (Option.some Jvm.ClassFile.FieldType.int) [((0 : Nat), (10 : Nat), (13 : Nat), (20 : Nat))]) ∈ lw_all := lw_g (lw_at lw_m5 121 rfl) rfl
theorem q1143 : (Jvm.Cond.methodLink "SequenceBenchLaw" (33 : Nat) ({ cls := "SequenceBench", name := "clash", desc := "(II)I" } : Jvm.MethodName)) ∈ lw_all := lw_g (lw_at lw_m5 122 rfl) rfl
theorem q1147 : (Jvm.Cond.methodLink "SequenceBenchLaw" (146 : Nat) ({ cls := "SequenceBenchLaw", name := "groups", desc := "(LSequenceBench;[J)I" } : Jvm.MethodName)) ∈ lw_all := lw_g (lw_at lw_m5 126 rfl) rfl
theorem q1148 : (Jvm.Cond.static ({ cls := "SequenceBenchLaw", name := "groups", desc := "(LSequenceBench;[J)I" } : Jvm.MethodName)) ∈ lw_all := lw_g (lw_at lw_m5 127 rfl) rfl
theorem q1149 : (Jvm.Cond.codeWith ({ cls := "SequenceBenchLaw", name := "groups", desc := "(LSequenceBench;[J)I" } : Jvm.MethodName) method_9_code (3 : Nat) (Option.some Jvm.ClassFile.FieldType.int) [((0 : Nat), (8 : Nat), (11 : Nat), (15 : Nat))]) ∈ lw_all := lw_g (lw_at lw_m5 128 rfl) rfl
theorem q1150 : (Jvm.Cond.methodLink "SequenceBenchLaw" (36 : Nat) ({ cls := "SequenceBench", name := "groups", desc := "()I" } : Jvm.MethodName)) ∈ lw_all := lw_g (lw_at lw_m5 129 rfl) rfl
theorem q1154 : (Jvm.Cond.methodLink "SequenceBenchLaw" (149 : Nat) ({ cls := "SequenceBenchLaw", name := "cut", desc := "(LSequenceBench;I[J)I" } : Jvm.MethodName)) ∈ lw_all := lw_g (lw_at lw_m5 133 rfl) rfl
theorem q1155 : (Jvm.Cond.static ({ cls := "SequenceBenchLaw", name := "cut", desc := "(LSequenceBench;I[J)I" } : Jvm.MethodName)) ∈ lw_all := lw_g (lw_at lw_m5 134 rfl) rfl
theorem q1156 : (Jvm.Cond.codeWith ({ cls := "SequenceBenchLaw", name := "cut", desc := "(LSequenceBench;I[J)I" } : Jvm.MethodName) method_10_code (4 : Nat) (Option.some Jvm.ClassFile.FieldType.int) [((0 : Nat), (9 : Nat), (12 : Nat), (20 : Nat))]) ∈ lw_all := lw_g (lw_at lw_m5 135 rfl) rfl
theorem q1157 : (Jvm.Cond.methodLink "SequenceBenchLaw" (39 : Nat) ({ cls := "SequenceBench", name := "cut", desc := "(I)I" } : Jvm.MethodName)) ∈ lw_all := lw_g (lw_at lw_m5 136 rfl) rfl
theorem q1161 : (Jvm.Cond.methodLink "SequenceBenchLaw" (152 : Nat) ({ cls := "SequenceBenchLaw", name := "groupOf", desc := "(LSequenceBench;I[J)I" } : Jvm.MethodName)) ∈ lw_all := lw_g (lw_at lw_m5 140 rfl) rfl
theorem q1162 : (Jvm.Cond.static ({ cls := "SequenceBenchLaw", name := "groupOf", desc := "(LSequenceBench;I[J)I" } : Jvm.MethodName)) ∈ lw_all := lw_g (lw_at lw_m5 141 rfl) rfl
theorem q1163 : (Jvm.Cond.codeWith ({ cls := "SequenceBenchLaw", name := "groupOf", desc := "(LSequenceBench;I[J)I" } : Jvm.MethodName) method_11_code (4 : Nat) (Option.some Jvm.ClassFile.FieldType.int) [((0 : Nat), (9 : Nat), (12 : Nat), (20 : Nat))]) ∈ lw_all := lw_g (lw_at lw_m5 142 rfl) rfl
theorem q1164 : (Jvm.Cond.methodLink "SequenceBenchLaw" (42 : Nat) ({ cls := "SequenceBench", name := "groupOf", desc := "(I)I" } : Jvm.MethodName)) ∈ lw_all := lw_g (lw_at lw_m5 143 rfl) rfl
theorem q1169 : (Jvm.Cond.methodLink "SequenceBenchLaw" (155 : Nat) ({ cls := "SequenceBenchLaw", name := "valves", desc := "(LSequenceBench;I[J)I" } : Jvm.MethodName)) ∈ lw_all := lw_g (lw_at lw_m5 148 rfl) rfl
theorem q1170 : (Jvm.Cond.static ({ cls := "SequenceBenchLaw", name := "valves", desc := "(LSequenceBench;I[J)I" } : Jvm.MethodName)) ∈ lw_all := lw_g (lw_at lw_m5 149 rfl) rfl
theorem q1171 : (Jvm.Cond.codeWith ({ cls := "SequenceBenchLaw", name := "valves", desc := "(LSequenceBench;I[J)I" } : Jvm.MethodName) method_12_code (4 : Nat) (Option.some Jvm.ClassFile.FieldType.int) [((0 : Nat), (9 : Nat), (12 : Nat), (13 : Nat)), ((0 : Nat), (9 : Nat), (15 : Nat), (15 : Nat))]) ∈ lw_all := lw_g (lw_at lw_m5 150 rfl) rfl
theorem q1172 : (Jvm.Cond.methodLink "SequenceBenchLaw" (45 : Nat) ({ cls := "SequenceBench", name := "valves", desc := "(I)I" } : Jvm.MethodName)) ∈ lw_all := lw_g (lw_at lw_m5 151 rfl) rfl
theorem q1211 : (Jvm.Cond.methodLink "SequenceBenchLaw" (158 : Nat) ({ cls := "SequenceBenchLaw", name := "setMethod", desc := "(LSequenceBench;I[J)I" } : Jvm.MethodName)) ∈ lw_all := lw_g (lw_at lw_m5 190 rfl) rfl
theorem q1212 : (Jvm.Cond.static ({ cls := "SequenceBenchLaw", name := "setMethod", desc := "(LSequenceBench;I[J)I" } : Jvm.MethodName)) ∈ lw_all := lw_g (lw_at lw_m5 191 rfl) rfl
theorem q1213 : (Jvm.Cond.codeWith ({ cls := "SequenceBenchLaw", name := "setMethod", desc := "(LSequenceBench;I[J)I" } : Jvm.MethodName) method_13_code (4 : Nat) (Option.some Jvm.ClassFile.FieldType.int) [((0 : Nat), (9 : Nat), (12 : Nat), (13 : Nat))]) ∈ lw_all := lw_g (lw_at lw_m5 192 rfl) rfl
theorem q1214 : (Jvm.Cond.methodLink "SequenceBenchLaw" (48 : Nat) ({ cls := "SequenceBench", name := "setMethod", desc := "(I)I" } : Jvm.MethodName)) ∈ lw_all := lw_g (lw_at lw_m5 193 rfl) rfl
theorem q1225 : (Jvm.Cond.methodLink "SequenceBenchLaw" (161 : Nat) ({ cls := "SequenceBenchLaw", name := "setStroke", desc := "(LSequenceBench;II[J)I" } : Jvm.MethodName)) ∈ lw_all := lw_g (lw_at lw_m5 204 rfl) rfl
theorem q1226 : (Jvm.Cond.static ({ cls := "SequenceBenchLaw", name := "setStroke", desc := "(LSequenceBench;II[J)I" } : Jvm.MethodName)) ∈ lw_all := lw_g (lw_at lw_m5 205 rfl) rfl
theorem q1227 : (Jvm.Cond.codeWith ({ cls := "SequenceBenchLaw", name := "setStroke", desc := "(LSequenceBench;II[J)I" } : Jvm.MethodName) method_14_code (5 : Nat) (Option.some Jvm.ClassFile.FieldType.int) [((0 : Nat), (10 : Nat), (13 : Nat), (20 : Nat)), ((0 : Nat), (10 : Nat), (17 : Nat), (13 : Nat))]) ∈ lw_all := lw_g (lw_at lw_m5 206 rfl) rfl
theorem q1228 : (Jvm.Cond.methodLink "SequenceBenchLaw" (51 : Nat) ({ cls := "SequenceBench", name := "setStroke", desc := "(II)I" } : Jvm.MethodName)) ∈ lw_all := lw_g (lw_at lw_m5 207 rfl) rfl
theorem q1233 : (Jvm.Cond.methodLink "SequenceBenchLaw" (169 : Nat) ({ cls := "SequenceBenchLaw", name := "setFault", desc := "(LSequenceBench;IIZ[J)I" } : Jvm.MethodName)) ∈ lw_all := lw_g (lw_at lw_m5 212 rfl) rfl
theorem q1234 : (Jvm.Cond.static ({ cls := "SequenceBenchLaw", name := "setFault", desc := "(LSequenceBench;IIZ[J)I" } : Jvm.MethodName)) ∈ lw_all := lw_g (lw_at lw_m5 213 rfl) rfl
theorem q1235 : (Jvm.Cond.codeWith ({ cls := "SequenceBenchLaw", name := "setFault", desc := "(LSequenceBench;IIZ[J)I" } : Jvm.MethodName) method_15_code (6 : Nat) (Option.some Jvm.ClassFile.FieldType.int) [((0 : Nat), (19 : Nat), (22 : Nat), (20 : Nat)), ((0 : Nat), (19 : Nat), (26 : Nat), (13 : Nat))]) ∈ lw_all := lw_g (lw_at lw_m5 214 rfl) rfl
theorem q1236 : (Jvm.Cond.methodLink "SequenceBenchLaw" (54 : Nat) ({ cls := "SequenceBench", name := "setFault", desc := "(IIZ)Z" } : Jvm.MethodName)) ∈ lw_all := lw_g (lw_at lw_m5 215 rfl) rfl
theorem q1241 : (Jvm.Cond.methodLink "SequenceBenchLaw" (177 : Nat) ({ cls := "SequenceBenchLaw", name := "ticks", desc := "(LSequenceBench;I[J)I" } : Jvm.MethodName)) ∈ lw_all := lw_g (lw_at lw_m5 220 rfl) rfl
theorem q1242 : (Jvm.Cond.static ({ cls := "SequenceBenchLaw", name := "ticks", desc := "(LSequenceBench;I[J)I" } : Jvm.MethodName)) ∈ lw_all := lw_g (lw_at lw_m5 221 rfl) rfl
theorem q1243 : (Jvm.Cond.codeWith ({ cls := "SequenceBenchLaw", name := "ticks", desc := "(LSequenceBench;I[J)I" } : Jvm.MethodName) method_16_code (4 : Nat) (Option.some Jvm.ClassFile.FieldType.int) [((0 : Nat), (9 : Nat), (12 : Nat), (13 : Nat)), ((0 : Nat), (9 : Nat), (15 : Nat), (15 : Nat))]) ∈ lw_all := lw_g (lw_at lw_m5 222 rfl) rfl
theorem q1244 : (Jvm.Cond.methodLink "SequenceBenchLaw" (58 : Nat) ({ cls := "SequenceBench", name := "ticks", desc := "(I)I" } : Jvm.MethodName)) ∈ lw_all := lw_g (lw_at lw_m5 223 rfl) rfl
theorem q1320 : (Jvm.Cond.methodLink "SequenceBenchLaw" (184 : Nat) ({ cls := "SequenceBenchLaw", name := "position", desc := "(LSequenceBench;I[J)I" } : Jvm.MethodName)) ∈ lw_all := lw_g (lw_at lw_m6 59 rfl) rfl
theorem q1321 : (Jvm.Cond.static ({ cls := "SequenceBenchLaw", name := "position", desc := "(LSequenceBench;I[J)I" } : Jvm.MethodName)) ∈ lw_all := lw_g (lw_at lw_m6 60 rfl) rfl
theorem q1322 : (Jvm.Cond.codeWith ({ cls := "SequenceBenchLaw", name := "position", desc := "(LSequenceBench;I[J)I" } : Jvm.MethodName) method_17_code (4 : Nat) (Option.some Jvm.ClassFile.FieldType.int) [((0 : Nat), (9 : Nat), (12 : Nat), (20 : Nat))]) ∈ lw_all := lw_g (lw_at lw_m6 61 rfl) rfl
theorem q1323 : (Jvm.Cond.methodLink "SequenceBenchLaw" (61 : Nat) ({ cls := "SequenceBench", name := "position", desc := "(I)I" } : Jvm.MethodName)) ∈ lw_all := lw_g (lw_at lw_m6 62 rfl) rfl
theorem q1327 : (Jvm.Cond.methodLink "SequenceBenchLaw" (187 : Nat) ({ cls := "SequenceBenchLaw", name := "isOut", desc := "(LSequenceBench;I[J)I" } : Jvm.MethodName)) ∈ lw_all := lw_g (lw_at lw_m6 66 rfl) rfl
theorem q1328 : (Jvm.Cond.static ({ cls := "SequenceBenchLaw", name := "isOut", desc := "(LSequenceBench;I[J)I" } : Jvm.MethodName)) ∈ lw_all := lw_g (lw_at lw_m6 67 rfl) rfl
theorem q1329 : (Jvm.Cond.codeWith ({ cls := "SequenceBenchLaw", name := "isOut", desc := "(LSequenceBench;I[J)I" } : Jvm.MethodName) method_18_code (4 : Nat) (Option.some Jvm.ClassFile.FieldType.int) [((0 : Nat), (16 : Nat), (19 : Nat), (20 : Nat))]) ∈ lw_all := lw_g (lw_at lw_m6 68 rfl) rfl
theorem q1330 : (Jvm.Cond.methodLink "SequenceBenchLaw" (64 : Nat) ({ cls := "SequenceBench", name := "isOut", desc := "(I)Z" } : Jvm.MethodName)) ∈ lw_all := lw_g (lw_at lw_m6 69 rfl) rfl
theorem q1334 : (Jvm.Cond.methodLink "SequenceBenchLaw" (190 : Nat) ({ cls := "SequenceBenchLaw", name := "sensor", desc := "(LSequenceBench;II[J)I" } : Jvm.MethodName)) ∈ lw_all := lw_g (lw_at lw_m6 73 rfl) rfl
theorem q1335 : (Jvm.Cond.static ({ cls := "SequenceBenchLaw", name := "sensor", desc := "(LSequenceBench;II[J)I" } : Jvm.MethodName)) ∈ lw_all := lw_g (lw_at lw_m6 74 rfl) rfl
theorem q1336 : (Jvm.Cond.codeWith ({ cls := "SequenceBenchLaw", name := "sensor", desc := "(LSequenceBench;II[J)I" } : Jvm.MethodName) method_19_code (5 : Nat) (Option.some Jvm.ClassFile.FieldType.int) [((0 : Nat), (17 : Nat), (20 : Nat), (20 : Nat))]) ∈ lw_all := lw_g (lw_at lw_m6 75 rfl) rfl
theorem q1337 : (Jvm.Cond.methodLink "SequenceBenchLaw" (68 : Nat) ({ cls := "SequenceBench", name := "sensor", desc := "(II)Z" } : Jvm.MethodName)) ∈ lw_all := lw_g (lw_at lw_m6 76 rfl) rfl
theorem q1342 : (Jvm.Cond.methodLink "SequenceBenchLaw" (193 : Nat) ({ cls := "SequenceBenchLaw", name := "timer", desc := "(LSequenceBench;I[J)I" } : Jvm.MethodName)) ∈ lw_all := lw_g (lw_at lw_m6 81 rfl) rfl
theorem q1343 : (Jvm.Cond.static ({ cls := "SequenceBenchLaw", name := "timer", desc := "(LSequenceBench;I[J)I" } : Jvm.MethodName)) ∈ lw_all := lw_g (lw_at lw_m6 82 rfl) rfl
theorem q1344 : (Jvm.Cond.codeWith ({ cls := "SequenceBenchLaw", name := "timer", desc := "(LSequenceBench;I[J)I" } : Jvm.MethodName) method_20_code (4 : Nat) (Option.some Jvm.ClassFile.FieldType.int) [((0 : Nat), (9 : Nat), (12 : Nat), (20 : Nat))]) ∈ lw_all := lw_g (lw_at lw_m6 83 rfl) rfl
theorem q1345 : (Jvm.Cond.methodLink "SequenceBenchLaw" (72 : Nat) ({ cls := "SequenceBench", name := "timer", desc := "(I)I" } : Jvm.MethodName)) ∈ lw_all := lw_g (lw_at lw_m6 84 rfl) rfl
theorem q1349 : (Jvm.Cond.methodLink "SequenceBenchLaw" (200 : Nat) ({ cls := "SequenceBenchLaw", name := "commands", desc := "(LSequenceBench;I[J)I" } : Jvm.MethodName)) ∈ lw_all := lw_g (lw_at lw_m6 88 rfl) rfl
theorem q1350 : (Jvm.Cond.static ({ cls := "SequenceBenchLaw", name := "commands", desc := "(LSequenceBench;I[J)I" } : Jvm.MethodName)) ∈ lw_all := lw_g (lw_at lw_m6 89 rfl) rfl
theorem q1351 : (Jvm.Cond.codeWith ({ cls := "SequenceBenchLaw", name := "commands", desc := "(LSequenceBench;I[J)I" } : Jvm.MethodName) method_21_code (4 : Nat) (Option.some Jvm.ClassFile.FieldType.int) [((0 : Nat), (9 : Nat), (12 : Nat), (20 : Nat))]) ∈ lw_all := lw_g (lw_at lw_m6 90 rfl) rfl
theorem q1352 : (Jvm.Cond.methodLink "SequenceBenchLaw" (75 : Nat) ({ cls := "SequenceBench", name := "commands", desc := "(I)I" } : Jvm.MethodName)) ∈ lw_all := lw_g (lw_at lw_m6 91 rfl) rfl
theorem q1356 : (Jvm.Cond.methodLink "SequenceBenchLaw" (207 : Nat) ({ cls := "SequenceBenchLaw", name := "eventTime", desc := "(LSequenceBench;I[J)I" } : Jvm.MethodName)) ∈ lw_all := lw_g (lw_at lw_m6 95 rfl) rfl
theorem q1357 : (Jvm.Cond.static ({ cls := "SequenceBenchLaw", name := "eventTime", desc := "(LSequenceBench;I[J)I" } : Jvm.MethodName)) ∈ lw_all := lw_g (lw_at lw_m6 96 rfl) rfl
theorem q1358 : (Jvm.Cond.codeWith ({ cls := "SequenceBenchLaw", name := "eventTime", desc := "(LSequenceBench;I[J)I" } : Jvm.MethodName) method_22_code (4 : Nat) (Option.some Jvm.ClassFile.FieldType.int) [((0 : Nat), (9 : Nat), (12 : Nat), (20 : Nat))]) ∈ lw_all := lw_g (lw_at lw_m6 97 rfl) rfl
theorem q1359 : (Jvm.Cond.methodLink "SequenceBenchLaw" (78 : Nat) ({ cls := "SequenceBench", name := "eventTime", desc := "(I)I" } : Jvm.MethodName)) ∈ lw_all := lw_g (lw_at lw_m6 98 rfl) rfl
theorem q1367 : (Jvm.Cond.methodLink "SequenceBenchLaw" (210 : Nat) ({ cls := "SequenceBenchLaw", name := "eventMove", desc := "(LSequenceBench;I[J)I" } : Jvm.MethodName)) ∈ lw_all := lw_g (lw_at lw_m6 106 rfl) rfl
theorem q1368 : (Jvm.Cond.static ({ cls := "SequenceBenchLaw", name := "eventMove", desc := "(LSequenceBench;I[J)I" } : Jvm.MethodName)) ∈ lw_all := lw_g (lw_at lw_m6 107 rfl) rfl
theorem q1369 : (Jvm.Cond.codeWith ({ cls := "SequenceBenchLaw", name := "eventMove", desc := "(LSequenceBench;I[J)I" } : Jvm.MethodName) method_23_code (4 : Nat) (Option.some Jvm.ClassFile.FieldType.int) [((0 : Nat), (9 : Nat), (12 : Nat), (20 : Nat))]) ∈ lw_all := lw_g (lw_at lw_m6 108 rfl) rfl
theorem q1370 : (Jvm.Cond.methodLink "SequenceBenchLaw" (81 : Nat) ({ cls := "SequenceBench", name := "eventMove", desc := "(I)I" } : Jvm.MethodName)) ∈ lw_all := lw_g (lw_at lw_m6 109 rfl) rfl
theorem q1374 : (Jvm.Cond.methodLink "SequenceBenchLaw" (225 : Nat) ({ cls := "SequenceBenchLaw", name := "works", desc := "(LSequenceBench;I[J)I" } : Jvm.MethodName)) ∈ lw_all := lw_g (lw_at lw_m6 113 rfl) rfl
theorem q1375 : (Jvm.Cond.static ({ cls := "SequenceBenchLaw", name := "works", desc := "(LSequenceBench;I[J)I" } : Jvm.MethodName)) ∈ lw_all := lw_g (lw_at lw_m6 114 rfl) rfl
theorem q1376 : (Jvm.Cond.codeWith ({ cls := "SequenceBenchLaw", name := "works", desc := "(LSequenceBench;I[J)I" } : Jvm.MethodName) method_24_code (4 : Nat) (Option.some Jvm.ClassFile.FieldType.int) [((0 : Nat), (16 : Nat), (19 : Nat), (13 : Nat)), ((0 : Nat), (16 : Nat), (22 : Nat), (15 : Nat))]) ∈ lw_all := lw_g (lw_at lw_m6 115 rfl) rfl
theorem q1377 : (Jvm.Cond.methodLink "SequenceBenchLaw" (84 : Nat) ({ cls := "SequenceBench", name := "works", desc := "(I)Z" } : Jvm.MethodName)) ∈ lw_all := lw_g (lw_at lw_m6 116 rfl) rfl
theorem q1389 : (Jvm.Cond.methodLink "SequenceBenchLaw" (228 : Nat) ({ cls := "SequenceBenchLaw", name := "cycleTime", desc := "(LSequenceBench;I[J)I" } : Jvm.MethodName)) ∈ lw_all := lw_g (lw_at lw_m6 128 rfl) rfl
theorem q1390 : (Jvm.Cond.static ({ cls := "SequenceBenchLaw", name := "cycleTime", desc := "(LSequenceBench;I[J)I" } : Jvm.MethodName)) ∈ lw_all := lw_g (lw_at lw_m6 129 rfl) rfl
theorem q1391 : (Jvm.Cond.codeWith ({ cls := "SequenceBenchLaw", name := "cycleTime", desc := "(LSequenceBench;I[J)I" } : Jvm.MethodName) method_25_code (4 : Nat) (Option.some Jvm.ClassFile.FieldType.int) [((0 : Nat), (9 : Nat), (12 : Nat), (13 : Nat)), ((0 : Nat), (9 : Nat), (15 : Nat), (15 : Nat))]) ∈ lw_all := lw_g (lw_at lw_m6 130 rfl) rfl
theorem q1392 : (Jvm.Cond.methodLink "SequenceBenchLaw" (87 : Nat) ({ cls := "SequenceBench", name := "cycleTime", desc := "(I)I" } : Jvm.MethodName)) ∈ lw_all := lw_g (lw_at lw_m6 131 rfl) rfl
theorem q1396 : (Jvm.Cond.methodLink "SequenceBenchLaw" (231 : Nat) ({ cls := "SequenceBenchLaw", name := "cheapest", desc := "(LSequenceBench;[J)I" } : Jvm.MethodName)) ∈ lw_all := lw_g (lw_at lw_m6 135 rfl) rfl
theorem q1397 : (Jvm.Cond.static ({ cls := "SequenceBenchLaw", name := "cheapest", desc := "(LSequenceBench;[J)I" } : Jvm.MethodName)) ∈ lw_all := lw_g (lw_at lw_m6 136 rfl) rfl
theorem q1398 : (Jvm.Cond.codeWith ({ cls := "SequenceBenchLaw", name := "cheapest", desc := "(LSequenceBench;[J)I" } : Jvm.MethodName) method_26_code (3 : Nat) (Option.some Jvm.ClassFile.FieldType.int) [((0 : Nat), (8 : Nat), (11 : Nat), (15 : Nat))]) ∈ lw_all := lw_g (lw_at lw_m6 137 rfl) rfl
theorem q1399 : (Jvm.Cond.methodLink "SequenceBenchLaw" (90 : Nat) ({ cls := "SequenceBench", name := "cheapest", desc := "()I" } : Jvm.MethodName)) ∈ lw_all := lw_g (lw_at lw_m6 138 rfl) rfl
theorem q1403 : (Jvm.Cond.methodLink "SequenceBenchLaw" (234 : Nat) ({ cls := "SequenceBenchLaw", name := "effect", desc := "(LSequenceBench;III[J)I" } : Jvm.MethodName)) ∈ lw_all := lw_g (lw_at lw_m6 142 rfl) rfl
theorem q1404 : (Jvm.Cond.static ({ cls := "SequenceBenchLaw", name := "effect", desc := "(LSequenceBench;III[J)I" } : Jvm.MethodName)) ∈ lw_all := lw_g (lw_at lw_m6 143 rfl) rfl
theorem q1405 : (Jvm.Cond.codeWith ({ cls := "SequenceBenchLaw", name := "effect", desc := "(LSequenceBench;III[J)I" } : Jvm.MethodName) method_27_code (6 : Nat) (Option.some Jvm.ClassFile.FieldType.int) [((0 : Nat), (12 : Nat), (15 : Nat), (20 : Nat)), ((0 : Nat), (12 : Nat), (19 : Nat), (13 : Nat)), ((0 : Nat), (12 : Nat), (23 : Nat), (15 : Nat))]) ∈ lw_all := lw_g (lw_at lw_m6 144 rfl) rfl
theorem q1406 : (Jvm.Cond.methodLink "SequenceBenchLaw" (93 : Nat) ({ cls := "SequenceBench", name := "effect", desc := "(III)I" } : Jvm.MethodName)) ∈ lw_all := lw_g (lw_at lw_m6 145 rfl) rfl
theorem q1415 : (Jvm.Cond.methodLink "SequenceBenchLaw" (238 : Nat) ({ cls := "SequenceBenchLaw", name := "suspect", desc := "(LSequenceBench;I[J)I" } : Jvm.MethodName)) ∈ lw_all := lw_g (lw_at lw_m6 154 rfl) rfl
theorem q1416 : (Jvm.Cond.static ({ cls := "SequenceBenchLaw", name := "suspect", desc := "(LSequenceBench;I[J)I" } : Jvm.MethodName)) ∈ lw_all := lw_g (lw_at lw_m6 155 rfl) rfl
theorem q1417 : (Jvm.Cond.codeWith ({ cls := "SequenceBenchLaw", name := "suspect", desc := "(LSequenceBench;I[J)I" } : Jvm.MethodName) method_28_code (4 : Nat) (Option.some Jvm.ClassFile.FieldType.int) [((0 : Nat), (9 : Nat), (12 : Nat), (20 : Nat)), ((0 : Nat), (9 : Nat), (15 : Nat), (15 : Nat))]) ∈ lw_all := lw_g (lw_at lw_m6 156 rfl) rfl
theorem q1418 : (Jvm.Cond.methodLink "SequenceBenchLaw" (97 : Nat) ({ cls := "SequenceBench", name := "suspect", desc := "(I)I" } : Jvm.MethodName)) ∈ lw_all := lw_g (lw_at lw_m6 157 rfl) rfl
theorem q1427 : (Jvm.Cond.classLink "SequenceBenchLaw" (101 : Nat) "SequenceBenchModel") ∈ lw_all := lw_g (lw_at lw_m6 166 rfl) rfl
theorem q1429 : (Jvm.Cond.methodLink "SequenceBenchLaw" (103 : Nat) ({ cls := "SequenceBenchModel", name := "<init>", desc := "()V" } : Jvm.MethodName)) ∈ lw_all := lw_g (lw_at lw_m6 168 rfl) rfl
theorem q1509 : (Jvm.Cond.methodLink "SequenceBenchLaw" (110 : Nat) ({ cls := "SequenceBenchModel", name := "thrown", desc := "()I" } : Jvm.MethodName)) ∈ lw_all := lw_g (lw_at lw_m7 8 rfl) rfl
theorem q1513 : (Jvm.Cond.methodLink "SequenceBenchLaw" (109 : Nat) ({ cls := "SequenceBenchModel", name := "type", desc := "(I)I" } : Jvm.MethodName)) ∈ lw_all := lw_g (lw_at lw_m7 12 rfl) rfl
theorem q1521 : (Jvm.Cond.methodLink "SequenceBenchLaw" (116 : Nat) ({ cls := "SequenceBenchModel", name := "clearText", desc := "()I" } : Jvm.MethodName)) ∈ lw_all := lw_g (lw_at lw_m7 20 rfl) rfl
theorem q1525 : (Jvm.Cond.methodLink "SequenceBenchLaw" (120 : Nat) ({ cls := "SequenceBenchModel", name := "readSequence", desc := "()I" } : Jvm.MethodName)) ∈ lw_all := lw_g (lw_at lw_m7 24 rfl) rfl
theorem q1575 : (Jvm.Cond.methodLink "SequenceBenchLaw" (124 : Nat) ({ cls := "SequenceBenchModel", name := "errorKind", desc := "()I" } : Jvm.MethodName)) ∈ lw_all := lw_g (lw_at lw_m7 74 rfl) rfl
theorem q1579 : (Jvm.Cond.methodLink "SequenceBenchLaw" (128 : Nat) ({ cls := "SequenceBenchModel", name := "steps", desc := "()I" } : Jvm.MethodName)) ∈ lw_all := lw_g (lw_at lw_m7 78 rfl) rfl
theorem q1583 : (Jvm.Cond.methodLink "SequenceBenchLaw" (131 : Nat) ({ cls := "SequenceBenchModel", name := "moves", desc := "(I)I" } : Jvm.MethodName)) ∈ lw_all := lw_g (lw_at lw_m7 82 rfl) rfl
theorem q1591 : (Jvm.Cond.methodLink "SequenceBenchLaw" (135 : Nat) ({ cls := "SequenceBenchModel", name := "direction", desc := "(II)I" } : Jvm.MethodName)) ∈ lw_all := lw_g (lw_at lw_m7 90 rfl) rfl
theorem q1599 : (Jvm.Cond.methodLink "SequenceBenchLaw" (138 : Nat) ({ cls := "SequenceBenchModel", name := "pause", desc := "(I)I" } : Jvm.MethodName)) ∈ lw_all := lw_g (lw_at lw_m7 98 rfl) rfl
theorem q1603 : (Jvm.Cond.methodLink "SequenceBenchLaw" (142 : Nat) ({ cls := "SequenceBenchModel", name := "clashes", desc := "()I" } : Jvm.MethodName)) ∈ lw_all := lw_g (lw_at lw_m7 102 rfl) rfl
theorem q1619 : (Jvm.Cond.methodLink "SequenceBenchLaw" (145 : Nat) ({ cls := "SequenceBenchModel", name := "clash", desc := "(II)I" } : Jvm.MethodName)) ∈ lw_all := lw_g (lw_at lw_m7 118 rfl) rfl
theorem q1623 : (Jvm.Cond.methodLink "SequenceBenchLaw" (148 : Nat) ({ cls := "SequenceBenchModel", name := "groups", desc := "()I" } : Jvm.MethodName)) ∈ lw_all := lw_g (lw_at lw_m7 122 rfl) rfl
theorem q1627 : (Jvm.Cond.methodLink "SequenceBenchLaw" (151 : Nat) ({ cls := "SequenceBenchModel", name := "cut", desc := "(I)I" } : Jvm.MethodName)) ∈ lw_all := lw_g (lw_at lw_m7 126 rfl) rfl
theorem q1631 : (Jvm.Cond.methodLink "SequenceBenchLaw" (154 : Nat) ({ cls := "SequenceBenchModel", name := "groupOf", desc := "(I)I" } : Jvm.MethodName)) ∈ lw_all := lw_g (lw_at lw_m7 130 rfl) rfl
theorem q1639 : (Jvm.Cond.methodLink "SequenceBenchLaw" (157 : Nat) ({ cls := "SequenceBenchModel", name := "valves", desc := "(I)I" } : Jvm.MethodName)) ∈ lw_all := lw_g (lw_at lw_m7 138 rfl) rfl
theorem q1651 : (Jvm.Cond.methodLink "SequenceBenchLaw" (160 : Nat) ({ cls := "SequenceBenchModel", name := "setMethod", desc := "(I)I" } : Jvm.MethodName)) ∈ lw_all := lw_g (lw_at lw_m7 150 rfl) rfl
theorem q1655 : (Jvm.Cond.methodLink "SequenceBenchLaw" (163 : Nat) ({ cls := "SequenceBenchModel", name := "setStroke", desc := "(II)I" } : Jvm.MethodName)) ∈ lw_all := lw_g (lw_at lw_m7 154 rfl) rfl
theorem q1659 : (Jvm.Cond.methodLink "SequenceBenchLaw" (168 : Nat) ({ cls := "SequenceBenchModel", name := "setStart", desc := "(Z)Z" } : Jvm.MethodName)) ∈ lw_all := lw_g (lw_at lw_m7 158 rfl) rfl
theorem q1663 : (Jvm.Cond.methodLink "SequenceBenchLaw" (172 : Nat) ({ cls := "SequenceBenchModel", name := "setFault", desc := "(IIZ)Z" } : Jvm.MethodName)) ∈ lw_all := lw_g (lw_at lw_m7 162 rfl) rfl
theorem q1667 : (Jvm.Cond.methodLink "SequenceBenchLaw" (176 : Nat) ({ cls := "SequenceBenchModel", name := "rest", desc := "()I" } : Jvm.MethodName)) ∈ lw_all := lw_g (lw_at lw_m7 166 rfl) rfl
theorem q1671 : (Jvm.Cond.methodLink "SequenceBenchLaw" (179 : Nat) ({ cls := "SequenceBenchModel", name := "ticks", desc := "(I)I" } : Jvm.MethodName)) ∈ lw_all := lw_g (lw_at lw_m7 170 rfl) rfl
theorem q1695 : (Jvm.Cond.methodLink "SequenceBenchLaw" (183 : Nat) ({ cls := "SequenceBenchModel", name := "time", desc := "()I" } : Jvm.MethodName)) ∈ lw_all := lw_g (lw_at lw_m7 194 rfl) rfl
theorem q1699 : (Jvm.Cond.methodLink "SequenceBenchLaw" (186 : Nat) ({ cls := "SequenceBenchModel", name := "position", desc := "(I)I" } : Jvm.MethodName)) ∈ lw_all := lw_g (lw_at lw_m7 198 rfl) rfl
theorem q1707 : (Jvm.Cond.methodLink "SequenceBenchLaw" (189 : Nat) ({ cls := "SequenceBenchModel", name := "isOut", desc := "(I)Z" } : Jvm.MethodName)) ∈ lw_all := lw_g (lw_at lw_m7 206 rfl) rfl
theorem q1711 : (Jvm.Cond.methodLink "SequenceBenchLaw" (192 : Nat) ({ cls := "SequenceBenchModel", name := "sensor", desc := "(II)Z" } : Jvm.MethodName)) ∈ lw_all := lw_g (lw_at lw_m7 210 rfl) rfl
theorem q1715 : (Jvm.Cond.methodLink "SequenceBenchLaw" (195 : Nat) ({ cls := "SequenceBenchModel", name := "timer", desc := "(I)I" } : Jvm.MethodName)) ∈ lw_all := lw_g (lw_at lw_m7 214 rfl) rfl
theorem q1719 : (Jvm.Cond.methodLink "SequenceBenchLaw" (199 : Nat) ({ cls := "SequenceBenchModel", name := "active", desc := "()I" } : Jvm.MethodName)) ∈ lw_all := lw_g (lw_at lw_m7 218 rfl) rfl
theorem q1723 : (Jvm.Cond.methodLink "SequenceBenchLaw" (202 : Nat) ({ cls := "SequenceBenchModel", name := "commands", desc := "(I)I" } : Jvm.MethodName)) ∈ lw_all := lw_g (lw_at lw_m7 222 rfl) rfl
theorem q1727 : (Jvm.Cond.methodLink "SequenceBenchLaw" (206 : Nat) ({ cls := "SequenceBenchModel", name := "events", desc := "()I" } : Jvm.MethodName)) ∈ lw_all := lw_g (lw_at lw_m7 226 rfl) rfl
theorem q1731 : (Jvm.Cond.methodLink "SequenceBenchLaw" (209 : Nat) ({ cls := "SequenceBenchModel", name := "eventTime", desc := "(I)I" } : Jvm.MethodName)) ∈ lw_all := lw_g (lw_at lw_m7 230 rfl) rfl
theorem q1739 : (Jvm.Cond.methodLink "SequenceBenchLaw" (212 : Nat) ({ cls := "SequenceBenchModel", name := "eventMove", desc := "(I)I" } : Jvm.MethodName)) ∈ lw_all := lw_g (lw_at lw_m7 238 rfl) rfl
theorem q1743 : (Jvm.Cond.methodLink "SequenceBenchLaw" (216 : Nat) ({ cls := "SequenceBenchModel", name := "rightEvents", desc := "()I" } : Jvm.MethodName)) ∈ lw_all := lw_g (lw_at lw_m8 2 rfl) rfl
theorem q1747 : (Jvm.Cond.methodLink "SequenceBenchLaw" (220 : Nat) ({ cls := "SequenceBenchModel", name := "cycles", desc := "()I" } : Jvm.MethodName)) ∈ lw_all := lw_g (lw_at lw_m8 6 rfl) rfl
theorem q1751 : (Jvm.Cond.methodLink "SequenceBenchLaw" (224 : Nat) ({ cls := "SequenceBenchModel", name := "quiet", desc := "()I" } : Jvm.MethodName)) ∈ lw_all := lw_g (lw_at lw_m8 10 rfl) rfl
theorem q1755 : (Jvm.Cond.methodLink "SequenceBenchLaw" (227 : Nat) ({ cls := "SequenceBenchModel", name := "works", desc := "(I)Z" } : Jvm.MethodName)) ∈ lw_all := lw_g (lw_at lw_m8 14 rfl) rfl
theorem q1767 : (Jvm.Cond.methodLink "SequenceBenchLaw" (230 : Nat) ({ cls := "SequenceBenchModel", name := "cycleTime", desc := "(I)I" } : Jvm.MethodName)) ∈ lw_all := lw_g (lw_at lw_m8 26 rfl) rfl
theorem q1771 : (Jvm.Cond.methodLink "SequenceBenchLaw" (233 : Nat) ({ cls := "SequenceBenchModel", name := "cheapest", desc := "()I" } : Jvm.MethodName)) ∈ lw_all := lw_g (lw_at lw_m8 30 rfl) rfl
theorem q1775 : (Jvm.Cond.methodLink "SequenceBenchLaw" (237 : Nat) ({ cls := "SequenceBenchModel", name := "effect", desc := "(III)I" } : Jvm.MethodName)) ∈ lw_all := lw_g (lw_at lw_m8 34 rfl) rfl
theorem q1779 : (Jvm.Cond.methodLink "SequenceBenchLaw" (240 : Nat) ({ cls := "SequenceBenchModel", name := "suspect", desc := "(I)I" } : Jvm.MethodName)) ∈ lw_all := lw_g (lw_at lw_m8 38 rfl) rfl
theorem q1787 : (Jvm.Cond.methodLink "SequenceBenchLaw" (245 : Nat) ({ cls := "SequenceBenchModel", name := "fingerprint", desc := "()J" } : Jvm.MethodName)) ∈ lw_all := lw_g (lw_at lw_m8 46 rfl) rfl

/-! the law's own entry -/
set_option maxRecDepth 100000
abbrev cL_law : ByteArray := code
def dkwL_law_78 : List UInt8 := [182, 0, 241, 44, 182, 0, 245, 148, 153, 0, 5, 3, 172, 132, 4, 4, 167, 248, 102, 4, 172]
abbrev dktL_law_78 : List UInt8 := dkwL_law_78 ++ []
def dkwL_law_77 : List UInt8 := [172, 21, 5, 154, 0, 15, 45, 3, 47, 21, 6, 133, 148, 153, 0, 5, 3, 172, 167, 0, 17, 43]
abbrev dktL_law_77 : List UInt8 := dkwL_law_77 ++ dktL_law_78
def dkwL_law_76 : List UInt8 := [54, 5, 44, 42, 21, 4, 4, 96, 46, 182, 0, 240, 54, 6, 44, 182, 0, 110, 21, 5, 159, 0, 5, 3]
abbrev dktL_law_76 : List UInt8 := dkwL_law_76 ++ dktL_law_77
def dkwL_law_75 : List UInt8 := [21, 6, 133, 148, 153, 0, 5, 3, 172, 167, 0, 73, 43, 42, 21, 4, 4, 96, 46, 45, 184, 0, 238]
abbrev dktL_law_75 : List UInt8 := dkwL_law_75 ++ dktL_law_76
def dkwL_law_74 : List UInt8 := [182, 0, 237, 54, 6, 44, 182, 0, 110, 21, 5, 159, 0, 5, 3, 172, 21, 5, 154, 0, 15, 45, 3, 47]
abbrev dktL_law_74 : List UInt8 := dkwL_law_74 ++ dktL_law_75
def dkwL_law_73 : List UInt8 := [184, 0, 234, 54, 5, 44, 42, 21, 4, 4, 96, 46, 42, 21, 4, 5, 96, 46, 42, 21, 4, 6, 96, 46]
abbrev dktL_law_73 : List UInt8 := dkwL_law_73 ++ dktL_law_74
def dkwL_law_72 : List UInt8 := [167, 0, 153, 43, 42, 21, 4, 4, 96, 46, 42, 21, 4, 5, 96, 46, 42, 21, 4, 6, 96, 46, 45]
abbrev dktL_law_72 : List UInt8 := dkwL_law_72 ++ dktL_law_73
def dkwL_law_71 : List UInt8 := [159, 0, 5, 3, 172, 21, 5, 154, 0, 15, 45, 3, 47, 21, 6, 133, 148, 153, 0, 5, 3, 172]
abbrev dktL_law_71 : List UInt8 := dkwL_law_71 ++ dktL_law_72
def dkwL_law_70 : List UInt8 := [167, 0, 197, 43, 45, 184, 0, 231, 54, 5, 44, 182, 0, 233, 54, 6, 44, 182, 0, 110, 21, 5]
abbrev dktL_law_70 : List UInt8 := dkwL_law_70 ++ dktL_law_71
def dkwL_law_69 : List UInt8 := [159, 0, 5, 3, 172, 21, 5, 154, 0, 15, 45, 3, 47, 21, 6, 133, 148, 153, 0, 5, 3, 172]
abbrev dktL_law_69 : List UInt8 := dkwL_law_69 ++ dktL_law_70
def dkwL_law_68 : List UInt8 := [45, 184, 0, 228, 54, 5, 44, 42, 21, 4, 4, 96, 46, 182, 0, 230, 54, 6, 44, 182, 0, 110, 21, 5]
abbrev dktL_law_68 : List UInt8 := dkwL_law_68 ++ dktL_law_69
def dkwL_law_67 : List UInt8 := [153, 0, 7, 10, 167, 0, 4, 9, 148, 153, 0, 5, 3, 172, 167, 0, 253, 43, 42, 21, 4, 4, 96, 46]
abbrev dktL_law_67 : List UInt8 := dkwL_law_67 ++ dktL_law_68
def dkwL_law_66 : List UInt8 := [54, 6, 44, 182, 0, 110, 21, 5, 159, 0, 5, 3, 172, 21, 5, 154, 0, 22, 45, 3, 47, 21, 6]
abbrev dktL_law_66 : List UInt8 := dkwL_law_66 ++ dktL_law_67
def dkwL_law_65 : List UInt8 := [172, 43, 42, 21, 4, 4, 96, 46, 45, 184, 0, 225, 54, 5, 44, 42, 21, 4, 4, 96, 46, 182, 0, 227]
abbrev dktL_law_65 : List UInt8 := dkwL_law_65 ++ dktL_law_66
def dkwL_law_64 : List UInt8 := [182, 0, 217, 44, 182, 0, 220, 159, 1, 75, 3, 172, 43, 182, 0, 221, 44, 182, 0, 224, 159, 1, 62, 3]
abbrev dktL_law_64 : List UInt8 := dkwL_law_64 ++ dktL_law_65
def dkwL_law_63 : List UInt8 := [153, 0, 5, 3, 172, 167, 1, 99, 43, 182, 0, 213, 44, 182, 0, 216, 159, 1, 88, 3, 172, 43]
abbrev dktL_law_63 : List UInt8 := dkwL_law_63 ++ dktL_law_64
def dkwL_law_62 : List UInt8 := [182, 0, 110, 21, 5, 159, 0, 5, 3, 172, 21, 5, 154, 0, 15, 45, 3, 47, 21, 6, 133, 148]
abbrev dktL_law_62 : List UInt8 := dkwL_law_62 ++ dktL_law_63
def dkwL_law_61 : List UInt8 := [21, 4, 4, 96, 46, 45, 184, 0, 210, 54, 5, 44, 42, 21, 4, 4, 96, 46, 182, 0, 212, 54, 6, 44]
abbrev dktL_law_61 : List UInt8 := dkwL_law_61 ++ dktL_law_62
def dkwL_law_60 : List UInt8 := [172, 21, 5, 154, 0, 15, 45, 3, 47, 21, 6, 133, 148, 153, 0, 5, 3, 172, 167, 1, 155, 43, 42]
abbrev dktL_law_60 : List UInt8 := dkwL_law_60 ++ dktL_law_61
def dkwL_law_59 : List UInt8 := [54, 5, 44, 42, 21, 4, 4, 96, 46, 182, 0, 209, 54, 6, 44, 182, 0, 110, 21, 5, 159, 0, 5, 3]
abbrev dktL_law_59 : List UInt8 := dkwL_law_59 ++ dktL_law_60
def dkwL_law_58 : List UInt8 := [182, 0, 203, 44, 182, 0, 206, 159, 1, 213, 3, 172, 43, 42, 21, 4, 4, 96, 46, 45, 184, 0, 207]
abbrev dktL_law_58 : List UInt8 := dkwL_law_58 ++ dktL_law_59
def dkwL_law_57 : List UInt8 := [172, 21, 5, 154, 0, 15, 45, 3, 47, 21, 6, 133, 148, 153, 0, 5, 3, 172, 167, 1, 224, 43]
abbrev dktL_law_57 : List UInt8 := dkwL_law_57 ++ dktL_law_58
def dkwL_law_56 : List UInt8 := [54, 5, 44, 42, 21, 4, 4, 96, 46, 182, 0, 202, 54, 6, 44, 182, 0, 110, 21, 5, 159, 0, 5, 3]
abbrev dktL_law_56 : List UInt8 := dkwL_law_56 ++ dktL_law_57
def dkwL_law_55 : List UInt8 := [182, 0, 196, 44, 182, 0, 199, 159, 2, 26, 3, 172, 43, 42, 21, 4, 4, 96, 46, 45, 184, 0, 200]
abbrev dktL_law_55 : List UInt8 := dkwL_law_55 ++ dktL_law_56
def dkwL_law_54 : List UInt8 := [172, 21, 5, 154, 0, 15, 45, 3, 47, 21, 6, 133, 148, 153, 0, 5, 3, 172, 167, 2, 37, 43]
abbrev dktL_law_54 : List UInt8 := dkwL_law_54 ++ dktL_law_55
def dkwL_law_53 : List UInt8 := [54, 5, 44, 42, 21, 4, 4, 96, 46, 182, 0, 195, 54, 6, 44, 182, 0, 110, 21, 5, 159, 0, 5, 3]
abbrev dktL_law_53 : List UInt8 := dkwL_law_53 ++ dktL_law_54
def dkwL_law_52 : List UInt8 := [167, 0, 4, 9, 148, 153, 0, 5, 3, 172, 167, 2, 93, 43, 42, 21, 4, 4, 96, 46, 45, 184, 0, 193]
abbrev dktL_law_52 : List UInt8 := dkwL_law_52 ++ dktL_law_53
def dkwL_law_51 : List UInt8 := [182, 0, 110, 21, 5, 159, 0, 5, 3, 172, 21, 5, 154, 0, 22, 45, 3, 47, 21, 6, 153, 0, 7, 10]
abbrev dktL_law_51 : List UInt8 := dkwL_law_51 ++ dktL_law_52
def dkwL_law_50 : List UInt8 := [184, 0, 190, 54, 5, 44, 42, 21, 4, 4, 96, 46, 42, 21, 4, 5, 96, 46, 182, 0, 192, 54, 6, 44]
abbrev dktL_law_50 : List UInt8 := dkwL_law_50 ++ dktL_law_51
def dkwL_law_49 : List UInt8 := [9, 148, 153, 0, 5, 3, 172, 167, 2, 168, 43, 42, 21, 4, 4, 96, 46, 42, 21, 4, 5, 96, 46, 45]
abbrev dktL_law_49 : List UInt8 := dkwL_law_49 ++ dktL_law_50
def dkwL_law_48 : List UInt8 := [21, 5, 159, 0, 5, 3, 172, 21, 5, 154, 0, 22, 45, 3, 47, 21, 6, 153, 0, 7, 10, 167, 0, 4]
abbrev dktL_law_48 : List UInt8 := dkwL_law_48 ++ dktL_law_49
def dkwL_law_47 : List UInt8 := [46, 45, 184, 0, 187, 54, 5, 44, 42, 21, 4, 4, 96, 46, 182, 0, 189, 54, 6, 44, 182, 0, 110]
abbrev dktL_law_47 : List UInt8 := dkwL_law_47 ++ dktL_law_48
def dkwL_law_46 : List UInt8 := [154, 0, 15, 45, 3, 47, 21, 6, 133, 148, 153, 0, 5, 3, 172, 167, 2, 231, 43, 42, 21, 4, 4, 96]
abbrev dktL_law_46 : List UInt8 := dkwL_law_46 ++ dktL_law_47
def dkwL_law_45 : List UInt8 := [21, 4, 4, 96, 46, 182, 0, 186, 54, 6, 44, 182, 0, 110, 21, 5, 159, 0, 5, 3, 172, 21, 5]
abbrev dktL_law_45 : List UInt8 := dkwL_law_45 ++ dktL_law_46
def dkwL_law_44 : List UInt8 := [182, 0, 183, 159, 3, 33, 3, 172, 43, 42, 21, 4, 4, 96, 46, 45, 184, 0, 184, 54, 5, 44, 42]
abbrev dktL_law_44 : List UInt8 := dkwL_law_44 ++ dktL_law_45
def dkwL_law_43 : List UInt8 := [154, 0, 15, 45, 3, 47, 21, 6, 133, 148, 153, 0, 5, 3, 172, 167, 3, 44, 43, 182, 0, 180, 44]
abbrev dktL_law_43 : List UInt8 := dkwL_law_43 ++ dktL_law_44
def dkwL_law_42 : List UInt8 := [21, 4, 4, 96, 46, 182, 0, 179, 54, 6, 44, 182, 0, 110, 21, 5, 159, 0, 5, 3, 172, 21, 5]
abbrev dktL_law_42 : List UInt8 := dkwL_law_42 ++ dktL_law_43
def dkwL_law_41 : List UInt8 := [44, 182, 0, 176, 159, 3, 102, 3, 172, 43, 42, 21, 4, 4, 96, 46, 45, 184, 0, 177, 54, 5, 44, 42]
abbrev dktL_law_41 : List UInt8 := dkwL_law_41 ++ dktL_law_42
def dkwL_law_40 : List UInt8 := [47, 21, 6, 153, 0, 7, 10, 167, 0, 4, 9, 148, 153, 0, 5, 3, 172, 167, 3, 113, 43, 182, 0, 173]
abbrev dktL_law_40 : List UInt8 := dkwL_law_40 ++ dktL_law_41
def dkwL_law_39 : List UInt8 := [3, 182, 0, 172, 54, 6, 44, 182, 0, 110, 21, 5, 159, 0, 5, 3, 172, 21, 5, 154, 0, 22, 45, 3]
abbrev dktL_law_39 : List UInt8 := dkwL_law_39 ++ dktL_law_40
def dkwL_law_38 : List UInt8 := [21, 4, 4, 96, 46, 42, 21, 4, 5, 96, 46, 42, 21, 4, 6, 96, 46, 153, 0, 7, 4, 167, 0, 4]
abbrev dktL_law_38 : List UInt8 := dkwL_law_38 ++ dktL_law_39
def dkwL_law_37 : List UInt8 := [46, 42, 21, 4, 6, 96, 46, 153, 0, 7, 4, 167, 0, 4, 3, 45, 184, 0, 169, 54, 5, 44, 42]
abbrev dktL_law_37 : List UInt8 := dkwL_law_37 ++ dktL_law_38
def dkwL_law_36 : List UInt8 := [167, 0, 4, 3, 182, 0, 168, 159, 3, 218, 3, 172, 43, 42, 21, 4, 4, 96, 46, 42, 21, 4, 5, 96]
abbrev dktL_law_36 : List UInt8 := dkwL_law_36 ++ dktL_law_37
def dkwL_law_35 : List UInt8 := [46, 153, 0, 7, 4, 167, 0, 4, 3, 182, 0, 164, 44, 42, 21, 4, 4, 96, 46, 153, 0, 7, 4]
abbrev dktL_law_35 : List UInt8 := dkwL_law_35 ++ dktL_law_36
def dkwL_law_34 : List UInt8 := [154, 0, 15, 45, 3, 47, 21, 6, 133, 148, 153, 0, 5, 3, 172, 167, 4, 1, 43, 42, 21, 4, 4, 96]
abbrev dktL_law_34 : List UInt8 := dkwL_law_34 ++ dktL_law_35
def dkwL_law_33 : List UInt8 := [42, 21, 4, 5, 96, 46, 182, 0, 163, 54, 6, 44, 182, 0, 110, 21, 5, 159, 0, 5, 3, 172, 21, 5]
abbrev dktL_law_33 : List UInt8 := dkwL_law_33 ++ dktL_law_34
def dkwL_law_32 : List UInt8 := [21, 4, 4, 96, 46, 42, 21, 4, 5, 96, 46, 45, 184, 0, 161, 54, 5, 44, 42, 21, 4, 4, 96, 46]
abbrev dktL_law_32 : List UInt8 := dkwL_law_32 ++ dktL_law_33
def dkwL_law_31 : List UInt8 := [172, 21, 5, 154, 0, 15, 45, 3, 47, 21, 6, 133, 148, 153, 0, 5, 3, 172, 167, 4, 69, 43, 42]
abbrev dktL_law_31 : List UInt8 := dkwL_law_31 ++ dktL_law_32
def dkwL_law_30 : List UInt8 := [54, 5, 44, 42, 21, 4, 4, 96, 46, 182, 0, 160, 54, 6, 44, 182, 0, 110, 21, 5, 159, 0, 5, 3]
abbrev dktL_law_30 : List UInt8 := dkwL_law_30 ++ dktL_law_31
def dkwL_law_29 : List UInt8 := [21, 6, 133, 148, 153, 0, 5, 3, 172, 167, 4, 125, 43, 42, 21, 4, 4, 96, 46, 45, 184, 0, 158]
abbrev dktL_law_29 : List UInt8 := dkwL_law_29 ++ dktL_law_30
def dkwL_law_28 : List UInt8 := [182, 0, 157, 54, 6, 44, 182, 0, 110, 21, 5, 159, 0, 5, 3, 172, 21, 5, 154, 0, 15, 45, 3, 47]
abbrev dktL_law_28 : List UInt8 := dkwL_law_28 ++ dktL_law_29
def dkwL_law_27 : List UInt8 := [167, 4, 181, 43, 42, 21, 4, 4, 96, 46, 45, 184, 0, 155, 54, 5, 44, 42, 21, 4, 4, 96, 46]
abbrev dktL_law_27 : List UInt8 := dkwL_law_27 ++ dktL_law_28
def dkwL_law_26 : List UInt8 := [21, 5, 159, 0, 5, 3, 172, 21, 5, 154, 0, 15, 45, 3, 47, 21, 6, 133, 148, 153, 0, 5, 3, 172]
abbrev dktL_law_26 : List UInt8 := dkwL_law_26 ++ dktL_law_27
def dkwL_law_25 : List UInt8 := [46, 45, 184, 0, 152, 54, 5, 44, 42, 21, 4, 4, 96, 46, 182, 0, 154, 54, 6, 44, 182, 0, 110]
abbrev dktL_law_25 : List UInt8 := dkwL_law_25 ++ dktL_law_26
def dkwL_law_24 : List UInt8 := [154, 0, 15, 45, 3, 47, 21, 6, 133, 148, 153, 0, 5, 3, 172, 167, 4, 237, 43, 42, 21, 4, 4, 96]
abbrev dktL_law_24 : List UInt8 := dkwL_law_24 ++ dktL_law_25
def dkwL_law_23 : List UInt8 := [21, 4, 4, 96, 46, 182, 0, 151, 54, 6, 44, 182, 0, 110, 21, 5, 159, 0, 5, 3, 172, 21, 5]
abbrev dktL_law_23 : List UInt8 := dkwL_law_23 ++ dktL_law_24
def dkwL_law_22 : List UInt8 := [153, 0, 5, 3, 172, 167, 5, 37, 43, 42, 21, 4, 4, 96, 46, 45, 184, 0, 149, 54, 5, 44, 42]
abbrev dktL_law_22 : List UInt8 := dkwL_law_22 ++ dktL_law_23
def dkwL_law_21 : List UInt8 := [182, 0, 110, 21, 5, 159, 0, 5, 3, 172, 21, 5, 154, 0, 15, 45, 3, 47, 21, 6, 133, 148]
abbrev dktL_law_21 : List UInt8 := dkwL_law_21 ++ dktL_law_22
def dkwL_law_20 : List UInt8 := [153, 0, 5, 3, 172, 167, 5, 81, 43, 45, 184, 0, 146, 54, 5, 44, 182, 0, 148, 54, 6, 44]
abbrev dktL_law_20 : List UInt8 := dkwL_law_20 ++ dktL_law_21
def dkwL_law_19 : List UInt8 := [182, 0, 110, 21, 5, 159, 0, 5, 3, 172, 21, 5, 154, 0, 15, 45, 3, 47, 21, 6, 133, 148]
abbrev dktL_law_19 : List UInt8 := dkwL_law_19 ++ dktL_law_20
def dkwL_law_18 : List UInt8 := [184, 0, 143, 54, 5, 44, 42, 21, 4, 4, 96, 46, 42, 21, 4, 5, 96, 46, 182, 0, 145, 54, 6, 44]
abbrev dktL_law_18 : List UInt8 := dkwL_law_18 ++ dktL_law_19
def dkwL_law_17 : List UInt8 := [148, 153, 0, 5, 3, 172, 167, 5, 149, 43, 42, 21, 4, 4, 96, 46, 42, 21, 4, 5, 96, 46, 45]
abbrev dktL_law_17 : List UInt8 := dkwL_law_17 ++ dktL_law_18
def dkwL_law_16 : List UInt8 := [54, 6, 44, 182, 0, 110, 21, 5, 159, 0, 5, 3, 172, 21, 5, 154, 0, 15, 45, 3, 47, 21, 6, 133]
abbrev dktL_law_16 : List UInt8 := dkwL_law_16 ++ dktL_law_17
def dkwL_law_15 : List UInt8 := [21, 6, 133, 148, 153, 0, 5, 3, 172, 167, 5, 193, 43, 45, 184, 0, 139, 54, 5, 44, 182, 0, 142]
abbrev dktL_law_15 : List UInt8 := dkwL_law_15 ++ dktL_law_16
def dkwL_law_14 : List UInt8 := [182, 0, 138, 54, 6, 44, 182, 0, 110, 21, 5, 159, 0, 5, 3, 172, 21, 5, 154, 0, 15, 45, 3, 47]
abbrev dktL_law_14 : List UInt8 := dkwL_law_14 ++ dktL_law_15
def dkwL_law_13 : List UInt8 := [167, 5, 249, 43, 42, 21, 4, 4, 96, 46, 45, 184, 0, 136, 54, 5, 44, 42, 21, 4, 4, 96, 46]
abbrev dktL_law_13 : List UInt8 := dkwL_law_13 ++ dktL_law_14
def dkwL_law_12 : List UInt8 := [159, 0, 5, 3, 172, 21, 5, 154, 0, 15, 45, 3, 47, 21, 6, 133, 148, 153, 0, 5, 3, 172]
abbrev dktL_law_12 : List UInt8 := dkwL_law_12 ++ dktL_law_13
def dkwL_law_11 : List UInt8 := [21, 4, 4, 96, 46, 42, 21, 4, 5, 96, 46, 182, 0, 135, 54, 6, 44, 182, 0, 110, 21, 5]
abbrev dktL_law_11 : List UInt8 := dkwL_law_11 ++ dktL_law_12
def dkwL_law_10 : List UInt8 := [167, 6, 61, 43, 42, 21, 4, 4, 96, 46, 42, 21, 4, 5, 96, 46, 45, 184, 0, 132, 54, 5, 44, 42]
abbrev dktL_law_10 : List UInt8 := dkwL_law_10 ++ dktL_law_11
def dkwL_law_9 : List UInt8 := [159, 0, 5, 3, 172, 21, 5, 154, 0, 15, 45, 3, 47, 21, 6, 133, 148, 153, 0, 5, 3, 172]
abbrev dktL_law_9 : List UInt8 := dkwL_law_9 ++ dktL_law_10
def dkwL_law_8 : List UInt8 := [184, 0, 129, 54, 5, 44, 42, 21, 4, 4, 96, 46, 182, 0, 131, 54, 6, 44, 182, 0, 110, 21, 5]
abbrev dktL_law_8 : List UInt8 := dkwL_law_8 ++ dktL_law_9
def dkwL_law_7 : List UInt8 := [172, 43, 182, 0, 125, 44, 182, 0, 128, 159, 6, 119, 3, 172, 43, 42, 21, 4, 4, 96, 46, 45]
abbrev dktL_law_7 : List UInt8 := dkwL_law_7 ++ dktL_law_8
def dkwL_law_6 : List UInt8 := [182, 0, 117, 44, 182, 0, 120, 159, 6, 145, 3, 172, 43, 182, 0, 121, 44, 182, 0, 124, 159, 6, 132, 3]
abbrev dktL_law_6 : List UInt8 := dkwL_law_6 ++ dktL_law_7
def dkwL_law_5 : List UInt8 := [148, 153, 0, 5, 3, 172, 167, 6, 169, 43, 182, 0, 113, 44, 182, 0, 116, 159, 6, 158, 3, 172, 43]
abbrev dktL_law_5 : List UInt8 := dkwL_law_5 ++ dktL_law_6
def dkwL_law_4 : List UInt8 := [54, 6, 44, 182, 0, 110, 21, 5, 159, 0, 5, 3, 172, 21, 5, 154, 0, 15, 45, 3, 47, 21, 6, 133]
abbrev dktL_law_4 : List UInt8 := dkwL_law_4 ++ dktL_law_5
def dkwL_law_3 : List UInt8 := [43, 42, 21, 4, 4, 96, 46, 45, 184, 0, 104, 54, 5, 44, 42, 21, 4, 4, 96, 46, 182, 0, 109]
abbrev dktL_law_3 : List UInt8 := dkwL_law_3 ++ dktL_law_4
def dkwL_law_2 : List UInt8 := [170, 0, 0, 7, 135, 0, 0, 0, 0, 0, 0, 0, 38, 0, 0, 0, 169, 0, 0, 0, 225, 0, 0, 0, 238, 0, 0, 0, 251, 0, 0, 1, 8, 0, 0, 1, 21, 0, 0, 1, 77, 0, 0, 1, 145, 0, 0, 1, 201, 0, 0, 1, 245, 0, 0, 2, 57, 0, 0, 2, 101, 0, 0, 2, 157, 0, 0, 2, 213, 0, 0, 3, 13, 0, 0, 3, 69, 0, 0, 3, 137, 0, 0, 3, 178, 0, 0, 4, 25, 0, 0, 4, 38, 0, 0, 4, 94, 0, 0, 4, 107, 0, 0, 4, 163, 0, 0, 4, 226, 0, 0, 5, 45, 0, 0, 5, 101, 0, 0, 5, 114, 0, 0, 5, 170, 0, 0, 5, 183, 0, 0, 5, 239, 0, 0, 6, 39, 0, 0, 6, 52, 0, 0, 6, 65, 0, 0, 6, 78, 0, 0, 6, 141, 0, 0, 6, 197, 0, 0, 6, 241, 0, 0, 7, 65, 0, 0, 7, 121]
abbrev dktL_law_2 : List UInt8 := dkwL_law_2 ++ dktL_law_3
def dkwL_law_1 : List UInt8 := [21, 4, 42, 190, 7, 100, 163, 7, 151, 42, 21, 4, 46, 16, 63, 126]
abbrev dktL_law_1 : List UInt8 := dkwL_law_1 ++ dktL_law_2
def dkwL_law_0 : List UInt8 := [187, 0, 8, 89, 183, 0, 100, 76, 187, 0, 101, 89, 183, 0, 103, 77, 4, 188, 11, 78, 3, 54, 4]
abbrev dktL_law_0 : List UInt8 := dkwL_law_0 ++ dktL_law_1
theorem dksL_law_0 : cL_law.data.toList.drop 0 = dktL_law_0 := by decide +kernel
theorem dksL_law_1 : cL_law.data.toList.drop 23 = dktL_law_1 := dk_seg dksL_law_0 23 rfl rfl
theorem dksL_law_2 : cL_law.data.toList.drop 39 = dktL_law_2 := dk_seg dksL_law_1 16 rfl rfl
theorem dksL_law_3 : cL_law.data.toList.drop 208 = dktL_law_3 := dk_seg dksL_law_2 169 rfl rfl
theorem dksL_law_4 : cL_law.data.toList.drop 231 = dktL_law_4 := dk_seg dksL_law_3 23 rfl rfl
theorem dksL_law_5 : cL_law.data.toList.drop 255 = dktL_law_5 := dk_seg dksL_law_4 24 rfl rfl
theorem dksL_law_6 : cL_law.data.toList.drop 278 = dktL_law_6 := dk_seg dksL_law_5 23 rfl rfl
theorem dksL_law_7 : cL_law.data.toList.drop 302 = dktL_law_7 := dk_seg dksL_law_6 24 rfl rfl
theorem dksL_law_8 : cL_law.data.toList.drop 324 = dktL_law_8 := dk_seg dksL_law_7 22 rfl rfl
theorem dksL_law_9 : cL_law.data.toList.drop 347 = dktL_law_9 := dk_seg dksL_law_8 23 rfl rfl
theorem dksL_law_10 : cL_law.data.toList.drop 369 = dktL_law_10 := dk_seg dksL_law_9 22 rfl rfl
theorem dksL_law_11 : cL_law.data.toList.drop 393 = dktL_law_11 := dk_seg dksL_law_10 24 rfl rfl
theorem dksL_law_12 : cL_law.data.toList.drop 415 = dktL_law_12 := dk_seg dksL_law_11 22 rfl rfl
theorem dksL_law_13 : cL_law.data.toList.drop 437 = dktL_law_13 := dk_seg dksL_law_12 22 rfl rfl
theorem dksL_law_14 : cL_law.data.toList.drop 460 = dktL_law_14 := dk_seg dksL_law_13 23 rfl rfl
theorem dksL_law_15 : cL_law.data.toList.drop 484 = dktL_law_15 := dk_seg dksL_law_14 24 rfl rfl
theorem dksL_law_16 : cL_law.data.toList.drop 507 = dktL_law_16 := dk_seg dksL_law_15 23 rfl rfl
theorem dksL_law_17 : cL_law.data.toList.drop 531 = dktL_law_17 := dk_seg dksL_law_16 24 rfl rfl
theorem dksL_law_18 : cL_law.data.toList.drop 554 = dktL_law_18 := dk_seg dksL_law_17 23 rfl rfl
theorem dksL_law_19 : cL_law.data.toList.drop 578 = dktL_law_19 := dk_seg dksL_law_18 24 rfl rfl
theorem dksL_law_20 : cL_law.data.toList.drop 600 = dktL_law_20 := dk_seg dksL_law_19 22 rfl rfl
theorem dksL_law_21 : cL_law.data.toList.drop 622 = dktL_law_21 := dk_seg dksL_law_20 22 rfl rfl
theorem dksL_law_22 : cL_law.data.toList.drop 644 = dktL_law_22 := dk_seg dksL_law_21 22 rfl rfl
theorem dksL_law_23 : cL_law.data.toList.drop 667 = dktL_law_23 := dk_seg dksL_law_22 23 rfl rfl
theorem dksL_law_24 : cL_law.data.toList.drop 690 = dktL_law_24 := dk_seg dksL_law_23 23 rfl rfl
theorem dksL_law_25 : cL_law.data.toList.drop 714 = dktL_law_25 := dk_seg dksL_law_24 24 rfl rfl
theorem dksL_law_26 : cL_law.data.toList.drop 737 = dktL_law_26 := dk_seg dksL_law_25 23 rfl rfl
theorem dksL_law_27 : cL_law.data.toList.drop 761 = dktL_law_27 := dk_seg dksL_law_26 24 rfl rfl
theorem dksL_law_28 : cL_law.data.toList.drop 784 = dktL_law_28 := dk_seg dksL_law_27 23 rfl rfl
theorem dksL_law_29 : cL_law.data.toList.drop 808 = dktL_law_29 := dk_seg dksL_law_28 24 rfl rfl
theorem dksL_law_30 : cL_law.data.toList.drop 831 = dktL_law_30 := dk_seg dksL_law_29 23 rfl rfl
theorem dksL_law_31 : cL_law.data.toList.drop 855 = dktL_law_31 := dk_seg dksL_law_30 24 rfl rfl
theorem dksL_law_32 : cL_law.data.toList.drop 878 = dktL_law_32 := dk_seg dksL_law_31 23 rfl rfl
theorem dksL_law_33 : cL_law.data.toList.drop 902 = dktL_law_33 := dk_seg dksL_law_32 24 rfl rfl
theorem dksL_law_34 : cL_law.data.toList.drop 926 = dktL_law_34 := dk_seg dksL_law_33 24 rfl rfl
theorem dksL_law_35 : cL_law.data.toList.drop 950 = dktL_law_35 := dk_seg dksL_law_34 24 rfl rfl
theorem dksL_law_36 : cL_law.data.toList.drop 973 = dktL_law_36 := dk_seg dksL_law_35 23 rfl rfl
theorem dksL_law_37 : cL_law.data.toList.drop 997 = dktL_law_37 := dk_seg dksL_law_36 24 rfl rfl
theorem dksL_law_38 : cL_law.data.toList.drop 1020 = dktL_law_38 := dk_seg dksL_law_37 23 rfl rfl
theorem dksL_law_39 : cL_law.data.toList.drop 1044 = dktL_law_39 := dk_seg dksL_law_38 24 rfl rfl
theorem dksL_law_40 : cL_law.data.toList.drop 1068 = dktL_law_40 := dk_seg dksL_law_39 24 rfl rfl
theorem dksL_law_41 : cL_law.data.toList.drop 1092 = dktL_law_41 := dk_seg dksL_law_40 24 rfl rfl
theorem dksL_law_42 : cL_law.data.toList.drop 1116 = dktL_law_42 := dk_seg dksL_law_41 24 rfl rfl
theorem dksL_law_43 : cL_law.data.toList.drop 1139 = dktL_law_43 := dk_seg dksL_law_42 23 rfl rfl
theorem dksL_law_44 : cL_law.data.toList.drop 1162 = dktL_law_44 := dk_seg dksL_law_43 23 rfl rfl
theorem dksL_law_45 : cL_law.data.toList.drop 1185 = dktL_law_45 := dk_seg dksL_law_44 23 rfl rfl
theorem dksL_law_46 : cL_law.data.toList.drop 1208 = dktL_law_46 := dk_seg dksL_law_45 23 rfl rfl
theorem dksL_law_47 : cL_law.data.toList.drop 1232 = dktL_law_47 := dk_seg dksL_law_46 24 rfl rfl
theorem dksL_law_48 : cL_law.data.toList.drop 1255 = dktL_law_48 := dk_seg dksL_law_47 23 rfl rfl
theorem dksL_law_49 : cL_law.data.toList.drop 1279 = dktL_law_49 := dk_seg dksL_law_48 24 rfl rfl
theorem dksL_law_50 : cL_law.data.toList.drop 1303 = dktL_law_50 := dk_seg dksL_law_49 24 rfl rfl
theorem dksL_law_51 : cL_law.data.toList.drop 1327 = dktL_law_51 := dk_seg dksL_law_50 24 rfl rfl
theorem dksL_law_52 : cL_law.data.toList.drop 1351 = dktL_law_52 := dk_seg dksL_law_51 24 rfl rfl
theorem dksL_law_53 : cL_law.data.toList.drop 1375 = dktL_law_53 := dk_seg dksL_law_52 24 rfl rfl
theorem dksL_law_54 : cL_law.data.toList.drop 1399 = dktL_law_54 := dk_seg dksL_law_53 24 rfl rfl
theorem dksL_law_55 : cL_law.data.toList.drop 1421 = dktL_law_55 := dk_seg dksL_law_54 22 rfl rfl
theorem dksL_law_56 : cL_law.data.toList.drop 1444 = dktL_law_56 := dk_seg dksL_law_55 23 rfl rfl
theorem dksL_law_57 : cL_law.data.toList.drop 1468 = dktL_law_57 := dk_seg dksL_law_56 24 rfl rfl
theorem dksL_law_58 : cL_law.data.toList.drop 1490 = dktL_law_58 := dk_seg dksL_law_57 22 rfl rfl
theorem dksL_law_59 : cL_law.data.toList.drop 1513 = dktL_law_59 := dk_seg dksL_law_58 23 rfl rfl
theorem dksL_law_60 : cL_law.data.toList.drop 1537 = dktL_law_60 := dk_seg dksL_law_59 24 rfl rfl
theorem dksL_law_61 : cL_law.data.toList.drop 1560 = dktL_law_61 := dk_seg dksL_law_60 23 rfl rfl
theorem dksL_law_62 : cL_law.data.toList.drop 1584 = dktL_law_62 := dk_seg dksL_law_61 24 rfl rfl
theorem dksL_law_63 : cL_law.data.toList.drop 1606 = dktL_law_63 := dk_seg dksL_law_62 22 rfl rfl
theorem dksL_law_64 : cL_law.data.toList.drop 1628 = dktL_law_64 := dk_seg dksL_law_63 22 rfl rfl
theorem dksL_law_65 : cL_law.data.toList.drop 1652 = dktL_law_65 := dk_seg dksL_law_64 24 rfl rfl
theorem dksL_law_66 : cL_law.data.toList.drop 1676 = dktL_law_66 := dk_seg dksL_law_65 24 rfl rfl
theorem dksL_law_67 : cL_law.data.toList.drop 1699 = dktL_law_67 := dk_seg dksL_law_66 23 rfl rfl
theorem dksL_law_68 : cL_law.data.toList.drop 1723 = dktL_law_68 := dk_seg dksL_law_67 24 rfl rfl
theorem dksL_law_69 : cL_law.data.toList.drop 1747 = dktL_law_69 := dk_seg dksL_law_68 24 rfl rfl
theorem dksL_law_70 : cL_law.data.toList.drop 1769 = dktL_law_70 := dk_seg dksL_law_69 22 rfl rfl
theorem dksL_law_71 : cL_law.data.toList.drop 1791 = dktL_law_71 := dk_seg dksL_law_70 22 rfl rfl
theorem dksL_law_72 : cL_law.data.toList.drop 1813 = dktL_law_72 := dk_seg dksL_law_71 22 rfl rfl
theorem dksL_law_73 : cL_law.data.toList.drop 1836 = dktL_law_73 := dk_seg dksL_law_72 23 rfl rfl
theorem dksL_law_74 : cL_law.data.toList.drop 1860 = dktL_law_74 := dk_seg dksL_law_73 24 rfl rfl
theorem dksL_law_75 : cL_law.data.toList.drop 1884 = dktL_law_75 := dk_seg dksL_law_74 24 rfl rfl
theorem dksL_law_76 : cL_law.data.toList.drop 1907 = dktL_law_76 := dk_seg dksL_law_75 23 rfl rfl
theorem dksL_law_77 : cL_law.data.toList.drop 1931 = dktL_law_77 := dk_seg dksL_law_76 24 rfl rfl
theorem dksL_law_78 : cL_law.data.toList.drop 1953 = dktL_law_78 := dk_seg dksL_law_77 22 rfl rfl
theorem dL_law_0 : decode cL_law 0 = .ok (.new 8, 3) := dk_187 0 8 (dk_at dksL_law_0 0 rfl rfl)
theorem dL_law_3 : decode cL_law 3 = .ok (.dup, 1) := dk_89 (dk_at dksL_law_0 3 rfl rfl)
theorem dL_law_4 : decode cL_law 4 = .ok (.invokespecial 100, 3) := dk_183 0 100 (dk_at dksL_law_0 4 rfl rfl)
theorem dL_law_7 : decode cL_law 7 = .ok (.astore_n 1, 1) := dk_76 (dk_at dksL_law_0 7 rfl rfl)
theorem dL_law_8 : decode cL_law 8 = .ok (.new 101, 3) := dk_187 0 101 (dk_at dksL_law_0 8 rfl rfl)
theorem dL_law_11 : decode cL_law 11 = .ok (.dup, 1) := dk_89 (dk_at dksL_law_0 11 rfl rfl)
theorem dL_law_12 : decode cL_law 12 = .ok (.invokespecial 103, 3) := dk_183 0 103 (dk_at dksL_law_0 12 rfl rfl)
theorem dL_law_15 : decode cL_law 15 = .ok (.astore_n 2, 1) := dk_77 (dk_at dksL_law_0 15 rfl rfl)
theorem dL_law_16 : decode cL_law 16 = .ok (.iconst 1, 1) := dk_4 (dk_at dksL_law_0 16 rfl rfl)
theorem dL_law_17 : decode cL_law 17 = .ok (.newarray .long, 2) := dk_188_11 (dk_at dksL_law_0 17 rfl rfl)
theorem dL_law_19 : decode cL_law 19 = .ok (.astore_n 3, 1) := dk_78 (dk_at dksL_law_0 19 rfl rfl)
theorem dL_law_20 : decode cL_law 20 = .ok (.iconst 0, 1) := dk_3 (dk_at dksL_law_0 20 rfl rfl)
theorem dL_law_21 : decode cL_law 21 = .ok (.istore 4, 2) := dk_54 4 (dk_at dksL_law_0 21 rfl rfl)
theorem dL_law_23 : decode cL_law 23 = .ok (.iload 4, 2) := dk_21 4 (dk_at dksL_law_1 0 rfl rfl)
theorem dL_law_25 : decode cL_law 25 = .ok (.aload_n 0, 1) := dk_42 (dk_at dksL_law_1 2 rfl rfl)
theorem dL_law_26 : decode cL_law 26 = .ok (.arraylength, 1) := dk_190 (dk_at dksL_law_1 3 rfl rfl)
theorem dL_law_27 : decode cL_law 27 = .ok (.iconst 4, 1) := dk_7 (dk_at dksL_law_1 4 rfl rfl)
theorem dL_law_28 : decode cL_law 28 = .ok (.isub, 1) := dk_100 (dk_at dksL_law_1 5 rfl rfl)
theorem dL_law_29 : decode cL_law 29 = .ok (.if_icmp .gt 1943, 3) := dk_163 7 151 (dk_at dksL_law_1 6 rfl rfl)
theorem dL_law_32 : decode cL_law 32 = .ok (.aload_n 0, 1) := dk_42 (dk_at dksL_law_1 9 rfl rfl)
theorem dL_law_33 : decode cL_law 33 = .ok (.iload 4, 2) := dk_21 4 (dk_at dksL_law_1 10 rfl rfl)
theorem dL_law_35 : decode cL_law 35 = .ok (.iaload, 1) := dk_46 (dk_at dksL_law_1 12 rfl rfl)
theorem dL_law_36 : decode cL_law 36 = .ok (.bipush 63, 2) := dk_16 63 (dk_at dksL_law_1 13 rfl rfl)
theorem dL_law_38 : decode cL_law 38 = .ok (.iand, 1) := dk_126 (dk_at dksL_law_1 15 rfl rfl)
theorem dL_law_39 : decode cL_law 39 = .ok (.tableswitch 1927 0 38 #[169, 225, 238, 251, 264, 277, 333, 401, 457, 501, 569, 613, 669, 725, 781, 837, 905, 946, 1049, 1062, 1118, 1131, 1187, 1250, 1325, 1381, 1394, 1450, 1463, 1519, 1575, 1588, 1601, 1614, 1677, 1733, 1777, 1857, 1913], 169) := by decide +kernel
theorem dL_law_208 : decode cL_law 208 = .ok (.aload_n 1, 1) := dk_43 (dk_at dksL_law_3 0 rfl rfl)
theorem dL_law_209 : decode cL_law 209 = .ok (.aload_n 0, 1) := dk_42 (dk_at dksL_law_3 1 rfl rfl)
theorem dL_law_210 : decode cL_law 210 = .ok (.iload 4, 2) := dk_21 4 (dk_at dksL_law_3 2 rfl rfl)
theorem dL_law_212 : decode cL_law 212 = .ok (.iconst 1, 1) := dk_4 (dk_at dksL_law_3 4 rfl rfl)
theorem dL_law_213 : decode cL_law 213 = .ok (.iadd, 1) := dk_96 (dk_at dksL_law_3 5 rfl rfl)
theorem dL_law_214 : decode cL_law 214 = .ok (.iaload, 1) := dk_46 (dk_at dksL_law_3 6 rfl rfl)
theorem dL_law_215 : decode cL_law 215 = .ok (.aload_n 3, 1) := dk_45 (dk_at dksL_law_3 7 rfl rfl)
theorem dL_law_216 : decode cL_law 216 = .ok (.invokestatic 104, 3) := dk_184 0 104 (dk_at dksL_law_3 8 rfl rfl)
theorem dL_law_219 : decode cL_law 219 = .ok (.istore 5, 2) := dk_54 5 (dk_at dksL_law_3 11 rfl rfl)
theorem dL_law_221 : decode cL_law 221 = .ok (.aload_n 2, 1) := dk_44 (dk_at dksL_law_3 13 rfl rfl)
theorem dL_law_222 : decode cL_law 222 = .ok (.aload_n 0, 1) := dk_42 (dk_at dksL_law_3 14 rfl rfl)
theorem dL_law_223 : decode cL_law 223 = .ok (.iload 4, 2) := dk_21 4 (dk_at dksL_law_3 15 rfl rfl)
theorem dL_law_225 : decode cL_law 225 = .ok (.iconst 1, 1) := dk_4 (dk_at dksL_law_3 17 rfl rfl)
theorem dL_law_226 : decode cL_law 226 = .ok (.iadd, 1) := dk_96 (dk_at dksL_law_3 18 rfl rfl)
theorem dL_law_227 : decode cL_law 227 = .ok (.iaload, 1) := dk_46 (dk_at dksL_law_3 19 rfl rfl)
theorem dL_law_228 : decode cL_law 228 = .ok (.invokevirtual 109, 3) := dk_182 0 109 (dk_at dksL_law_3 20 rfl rfl)
theorem dL_law_231 : decode cL_law 231 = .ok (.istore 6, 2) := dk_54 6 (dk_at dksL_law_4 0 rfl rfl)
theorem dL_law_233 : decode cL_law 233 = .ok (.aload_n 2, 1) := dk_44 (dk_at dksL_law_4 2 rfl rfl)
theorem dL_law_234 : decode cL_law 234 = .ok (.invokevirtual 110, 3) := dk_182 0 110 (dk_at dksL_law_4 3 rfl rfl)
theorem dL_law_237 : decode cL_law 237 = .ok (.iload 5, 2) := dk_21 5 (dk_at dksL_law_4 6 rfl rfl)
theorem dL_law_239 : decode cL_law 239 = .ok (.if_icmp .eq 5, 3) := dk_159 0 5 (dk_at dksL_law_4 8 rfl rfl)
theorem dL_law_242 : decode cL_law 242 = .ok (.iconst 0, 1) := dk_3 (dk_at dksL_law_4 11 rfl rfl)
theorem dL_law_243 : decode cL_law 243 = .ok (.ireturn, 1) := dk_172 (dk_at dksL_law_4 12 rfl rfl)
theorem dL_law_244 : decode cL_law 244 = .ok (.iload 5, 2) := dk_21 5 (dk_at dksL_law_4 13 rfl rfl)
theorem dL_law_246 : decode cL_law 246 = .ok (.ifCond .ne 15, 3) := dk_154 0 15 (dk_at dksL_law_4 15 rfl rfl)
theorem dL_law_249 : decode cL_law 249 = .ok (.aload_n 3, 1) := dk_45 (dk_at dksL_law_4 18 rfl rfl)
theorem dL_law_250 : decode cL_law 250 = .ok (.iconst 0, 1) := dk_3 (dk_at dksL_law_4 19 rfl rfl)
theorem dL_law_251 : decode cL_law 251 = .ok (.laload, 1) := dk_47 (dk_at dksL_law_4 20 rfl rfl)
theorem dL_law_252 : decode cL_law 252 = .ok (.iload 6, 2) := dk_21 6 (dk_at dksL_law_4 21 rfl rfl)
theorem dL_law_254 : decode cL_law 254 = .ok (.i2l, 1) := dk_133 (dk_at dksL_law_4 23 rfl rfl)
theorem dL_law_255 : decode cL_law 255 = .ok (.lcmp, 1) := dk_148 (dk_at dksL_law_5 0 rfl rfl)
theorem dL_law_256 : decode cL_law 256 = .ok (.ifCond .eq 5, 3) := dk_153 0 5 (dk_at dksL_law_5 1 rfl rfl)
theorem dL_law_259 : decode cL_law 259 = .ok (.iconst 0, 1) := dk_3 (dk_at dksL_law_5 4 rfl rfl)
theorem dL_law_260 : decode cL_law 260 = .ok (.ireturn, 1) := dk_172 (dk_at dksL_law_5 5 rfl rfl)
theorem dL_law_261 : decode cL_law 261 = .ok (.goto 1705, 3) := dk_167 6 169 (dk_at dksL_law_5 6 rfl rfl)
theorem dL_law_264 : decode cL_law 264 = .ok (.aload_n 1, 1) := dk_43 (dk_at dksL_law_5 9 rfl rfl)
theorem dL_law_265 : decode cL_law 265 = .ok (.invokevirtual 113, 3) := dk_182 0 113 (dk_at dksL_law_5 10 rfl rfl)
theorem dL_law_268 : decode cL_law 268 = .ok (.aload_n 2, 1) := dk_44 (dk_at dksL_law_5 13 rfl rfl)
theorem dL_law_269 : decode cL_law 269 = .ok (.invokevirtual 116, 3) := dk_182 0 116 (dk_at dksL_law_5 14 rfl rfl)
theorem dL_law_272 : decode cL_law 272 = .ok (.if_icmp .eq 1694, 3) := dk_159 6 158 (dk_at dksL_law_5 17 rfl rfl)
theorem dL_law_275 : decode cL_law 275 = .ok (.iconst 0, 1) := dk_3 (dk_at dksL_law_5 20 rfl rfl)
theorem dL_law_276 : decode cL_law 276 = .ok (.ireturn, 1) := dk_172 (dk_at dksL_law_5 21 rfl rfl)
theorem dL_law_277 : decode cL_law 277 = .ok (.aload_n 1, 1) := dk_43 (dk_at dksL_law_5 22 rfl rfl)
theorem dL_law_278 : decode cL_law 278 = .ok (.invokevirtual 117, 3) := dk_182 0 117 (dk_at dksL_law_6 0 rfl rfl)
theorem dL_law_281 : decode cL_law 281 = .ok (.aload_n 2, 1) := dk_44 (dk_at dksL_law_6 3 rfl rfl)
theorem dL_law_282 : decode cL_law 282 = .ok (.invokevirtual 120, 3) := dk_182 0 120 (dk_at dksL_law_6 4 rfl rfl)
theorem dL_law_285 : decode cL_law 285 = .ok (.if_icmp .eq 1681, 3) := dk_159 6 145 (dk_at dksL_law_6 7 rfl rfl)
theorem dL_law_288 : decode cL_law 288 = .ok (.iconst 0, 1) := dk_3 (dk_at dksL_law_6 10 rfl rfl)
theorem dL_law_289 : decode cL_law 289 = .ok (.ireturn, 1) := dk_172 (dk_at dksL_law_6 11 rfl rfl)
theorem dL_law_290 : decode cL_law 290 = .ok (.aload_n 1, 1) := dk_43 (dk_at dksL_law_6 12 rfl rfl)
theorem dL_law_291 : decode cL_law 291 = .ok (.invokevirtual 121, 3) := dk_182 0 121 (dk_at dksL_law_6 13 rfl rfl)
theorem dL_law_294 : decode cL_law 294 = .ok (.aload_n 2, 1) := dk_44 (dk_at dksL_law_6 16 rfl rfl)
theorem dL_law_295 : decode cL_law 295 = .ok (.invokevirtual 124, 3) := dk_182 0 124 (dk_at dksL_law_6 17 rfl rfl)
theorem dL_law_298 : decode cL_law 298 = .ok (.if_icmp .eq 1668, 3) := dk_159 6 132 (dk_at dksL_law_6 20 rfl rfl)
theorem dL_law_301 : decode cL_law 301 = .ok (.iconst 0, 1) := dk_3 (dk_at dksL_law_6 23 rfl rfl)
theorem dL_law_302 : decode cL_law 302 = .ok (.ireturn, 1) := dk_172 (dk_at dksL_law_7 0 rfl rfl)
theorem dL_law_303 : decode cL_law 303 = .ok (.aload_n 1, 1) := dk_43 (dk_at dksL_law_7 1 rfl rfl)
theorem dL_law_304 : decode cL_law 304 = .ok (.invokevirtual 125, 3) := dk_182 0 125 (dk_at dksL_law_7 2 rfl rfl)
theorem dL_law_307 : decode cL_law 307 = .ok (.aload_n 2, 1) := dk_44 (dk_at dksL_law_7 5 rfl rfl)
theorem dL_law_308 : decode cL_law 308 = .ok (.invokevirtual 128, 3) := dk_182 0 128 (dk_at dksL_law_7 6 rfl rfl)
theorem dL_law_311 : decode cL_law 311 = .ok (.if_icmp .eq 1655, 3) := dk_159 6 119 (dk_at dksL_law_7 9 rfl rfl)
theorem dL_law_314 : decode cL_law 314 = .ok (.iconst 0, 1) := dk_3 (dk_at dksL_law_7 12 rfl rfl)
theorem dL_law_315 : decode cL_law 315 = .ok (.ireturn, 1) := dk_172 (dk_at dksL_law_7 13 rfl rfl)
theorem dL_law_316 : decode cL_law 316 = .ok (.aload_n 1, 1) := dk_43 (dk_at dksL_law_7 14 rfl rfl)
theorem dL_law_317 : decode cL_law 317 = .ok (.aload_n 0, 1) := dk_42 (dk_at dksL_law_7 15 rfl rfl)
theorem dL_law_318 : decode cL_law 318 = .ok (.iload 4, 2) := dk_21 4 (dk_at dksL_law_7 16 rfl rfl)
theorem dL_law_320 : decode cL_law 320 = .ok (.iconst 1, 1) := dk_4 (dk_at dksL_law_7 18 rfl rfl)
theorem dL_law_321 : decode cL_law 321 = .ok (.iadd, 1) := dk_96 (dk_at dksL_law_7 19 rfl rfl)
theorem dL_law_322 : decode cL_law 322 = .ok (.iaload, 1) := dk_46 (dk_at dksL_law_7 20 rfl rfl)
theorem dL_law_323 : decode cL_law 323 = .ok (.aload_n 3, 1) := dk_45 (dk_at dksL_law_7 21 rfl rfl)
theorem dL_law_324 : decode cL_law 324 = .ok (.invokestatic 129, 3) := dk_184 0 129 (dk_at dksL_law_8 0 rfl rfl)
theorem dL_law_327 : decode cL_law 327 = .ok (.istore 5, 2) := dk_54 5 (dk_at dksL_law_8 3 rfl rfl)
theorem dL_law_329 : decode cL_law 329 = .ok (.aload_n 2, 1) := dk_44 (dk_at dksL_law_8 5 rfl rfl)
theorem dL_law_330 : decode cL_law 330 = .ok (.aload_n 0, 1) := dk_42 (dk_at dksL_law_8 6 rfl rfl)
theorem dL_law_331 : decode cL_law 331 = .ok (.iload 4, 2) := dk_21 4 (dk_at dksL_law_8 7 rfl rfl)
theorem dL_law_333 : decode cL_law 333 = .ok (.iconst 1, 1) := dk_4 (dk_at dksL_law_8 9 rfl rfl)
theorem dL_law_334 : decode cL_law 334 = .ok (.iadd, 1) := dk_96 (dk_at dksL_law_8 10 rfl rfl)
theorem dL_law_335 : decode cL_law 335 = .ok (.iaload, 1) := dk_46 (dk_at dksL_law_8 11 rfl rfl)
theorem dL_law_336 : decode cL_law 336 = .ok (.invokevirtual 131, 3) := dk_182 0 131 (dk_at dksL_law_8 12 rfl rfl)
theorem dL_law_339 : decode cL_law 339 = .ok (.istore 6, 2) := dk_54 6 (dk_at dksL_law_8 15 rfl rfl)
theorem dL_law_341 : decode cL_law 341 = .ok (.aload_n 2, 1) := dk_44 (dk_at dksL_law_8 17 rfl rfl)
theorem dL_law_342 : decode cL_law 342 = .ok (.invokevirtual 110, 3) := dk_182 0 110 (dk_at dksL_law_8 18 rfl rfl)
theorem dL_law_345 : decode cL_law 345 = .ok (.iload 5, 2) := dk_21 5 (dk_at dksL_law_8 21 rfl rfl)
theorem dL_law_347 : decode cL_law 347 = .ok (.if_icmp .eq 5, 3) := dk_159 0 5 (dk_at dksL_law_9 0 rfl rfl)
theorem dL_law_350 : decode cL_law 350 = .ok (.iconst 0, 1) := dk_3 (dk_at dksL_law_9 3 rfl rfl)
theorem dL_law_351 : decode cL_law 351 = .ok (.ireturn, 1) := dk_172 (dk_at dksL_law_9 4 rfl rfl)
theorem dL_law_352 : decode cL_law 352 = .ok (.iload 5, 2) := dk_21 5 (dk_at dksL_law_9 5 rfl rfl)
theorem dL_law_354 : decode cL_law 354 = .ok (.ifCond .ne 15, 3) := dk_154 0 15 (dk_at dksL_law_9 7 rfl rfl)
theorem dL_law_357 : decode cL_law 357 = .ok (.aload_n 3, 1) := dk_45 (dk_at dksL_law_9 10 rfl rfl)
theorem dL_law_358 : decode cL_law 358 = .ok (.iconst 0, 1) := dk_3 (dk_at dksL_law_9 11 rfl rfl)
theorem dL_law_359 : decode cL_law 359 = .ok (.laload, 1) := dk_47 (dk_at dksL_law_9 12 rfl rfl)
theorem dL_law_360 : decode cL_law 360 = .ok (.iload 6, 2) := dk_21 6 (dk_at dksL_law_9 13 rfl rfl)
theorem dL_law_362 : decode cL_law 362 = .ok (.i2l, 1) := dk_133 (dk_at dksL_law_9 15 rfl rfl)
theorem dL_law_363 : decode cL_law 363 = .ok (.lcmp, 1) := dk_148 (dk_at dksL_law_9 16 rfl rfl)
theorem dL_law_364 : decode cL_law 364 = .ok (.ifCond .eq 5, 3) := dk_153 0 5 (dk_at dksL_law_9 17 rfl rfl)
theorem dL_law_367 : decode cL_law 367 = .ok (.iconst 0, 1) := dk_3 (dk_at dksL_law_9 20 rfl rfl)
theorem dL_law_368 : decode cL_law 368 = .ok (.ireturn, 1) := dk_172 (dk_at dksL_law_9 21 rfl rfl)
theorem dL_law_369 : decode cL_law 369 = .ok (.goto 1597, 3) := dk_167 6 61 (dk_at dksL_law_10 0 rfl rfl)
theorem dL_law_372 : decode cL_law 372 = .ok (.aload_n 1, 1) := dk_43 (dk_at dksL_law_10 3 rfl rfl)
theorem dL_law_373 : decode cL_law 373 = .ok (.aload_n 0, 1) := dk_42 (dk_at dksL_law_10 4 rfl rfl)
theorem dL_law_374 : decode cL_law 374 = .ok (.iload 4, 2) := dk_21 4 (dk_at dksL_law_10 5 rfl rfl)
theorem dL_law_376 : decode cL_law 376 = .ok (.iconst 1, 1) := dk_4 (dk_at dksL_law_10 7 rfl rfl)
theorem dL_law_377 : decode cL_law 377 = .ok (.iadd, 1) := dk_96 (dk_at dksL_law_10 8 rfl rfl)
theorem dL_law_378 : decode cL_law 378 = .ok (.iaload, 1) := dk_46 (dk_at dksL_law_10 9 rfl rfl)
theorem dL_law_379 : decode cL_law 379 = .ok (.aload_n 0, 1) := dk_42 (dk_at dksL_law_10 10 rfl rfl)
theorem dL_law_380 : decode cL_law 380 = .ok (.iload 4, 2) := dk_21 4 (dk_at dksL_law_10 11 rfl rfl)
theorem dL_law_382 : decode cL_law 382 = .ok (.iconst 2, 1) := dk_5 (dk_at dksL_law_10 13 rfl rfl)
theorem dL_law_383 : decode cL_law 383 = .ok (.iadd, 1) := dk_96 (dk_at dksL_law_10 14 rfl rfl)
theorem dL_law_384 : decode cL_law 384 = .ok (.iaload, 1) := dk_46 (dk_at dksL_law_10 15 rfl rfl)
theorem dL_law_385 : decode cL_law 385 = .ok (.aload_n 3, 1) := dk_45 (dk_at dksL_law_10 16 rfl rfl)
theorem dL_law_386 : decode cL_law 386 = .ok (.invokestatic 132, 3) := dk_184 0 132 (dk_at dksL_law_10 17 rfl rfl)
theorem dL_law_389 : decode cL_law 389 = .ok (.istore 5, 2) := dk_54 5 (dk_at dksL_law_10 20 rfl rfl)
theorem dL_law_391 : decode cL_law 391 = .ok (.aload_n 2, 1) := dk_44 (dk_at dksL_law_10 22 rfl rfl)
theorem dL_law_392 : decode cL_law 392 = .ok (.aload_n 0, 1) := dk_42 (dk_at dksL_law_10 23 rfl rfl)
theorem dL_law_393 : decode cL_law 393 = .ok (.iload 4, 2) := dk_21 4 (dk_at dksL_law_11 0 rfl rfl)
theorem dL_law_395 : decode cL_law 395 = .ok (.iconst 1, 1) := dk_4 (dk_at dksL_law_11 2 rfl rfl)
theorem dL_law_396 : decode cL_law 396 = .ok (.iadd, 1) := dk_96 (dk_at dksL_law_11 3 rfl rfl)
theorem dL_law_397 : decode cL_law 397 = .ok (.iaload, 1) := dk_46 (dk_at dksL_law_11 4 rfl rfl)
theorem dL_law_398 : decode cL_law 398 = .ok (.aload_n 0, 1) := dk_42 (dk_at dksL_law_11 5 rfl rfl)
theorem dL_law_399 : decode cL_law 399 = .ok (.iload 4, 2) := dk_21 4 (dk_at dksL_law_11 6 rfl rfl)
theorem dL_law_401 : decode cL_law 401 = .ok (.iconst 2, 1) := dk_5 (dk_at dksL_law_11 8 rfl rfl)
theorem dL_law_402 : decode cL_law 402 = .ok (.iadd, 1) := dk_96 (dk_at dksL_law_11 9 rfl rfl)
theorem dL_law_403 : decode cL_law 403 = .ok (.iaload, 1) := dk_46 (dk_at dksL_law_11 10 rfl rfl)
theorem dL_law_404 : decode cL_law 404 = .ok (.invokevirtual 135, 3) := dk_182 0 135 (dk_at dksL_law_11 11 rfl rfl)
theorem dL_law_407 : decode cL_law 407 = .ok (.istore 6, 2) := dk_54 6 (dk_at dksL_law_11 14 rfl rfl)
theorem dL_law_409 : decode cL_law 409 = .ok (.aload_n 2, 1) := dk_44 (dk_at dksL_law_11 16 rfl rfl)
theorem dL_law_410 : decode cL_law 410 = .ok (.invokevirtual 110, 3) := dk_182 0 110 (dk_at dksL_law_11 17 rfl rfl)
theorem dL_law_413 : decode cL_law 413 = .ok (.iload 5, 2) := dk_21 5 (dk_at dksL_law_11 20 rfl rfl)
theorem dL_law_415 : decode cL_law 415 = .ok (.if_icmp .eq 5, 3) := dk_159 0 5 (dk_at dksL_law_12 0 rfl rfl)
theorem dL_law_418 : decode cL_law 418 = .ok (.iconst 0, 1) := dk_3 (dk_at dksL_law_12 3 rfl rfl)
theorem dL_law_419 : decode cL_law 419 = .ok (.ireturn, 1) := dk_172 (dk_at dksL_law_12 4 rfl rfl)
theorem dL_law_420 : decode cL_law 420 = .ok (.iload 5, 2) := dk_21 5 (dk_at dksL_law_12 5 rfl rfl)
theorem dL_law_422 : decode cL_law 422 = .ok (.ifCond .ne 15, 3) := dk_154 0 15 (dk_at dksL_law_12 7 rfl rfl)
theorem dL_law_425 : decode cL_law 425 = .ok (.aload_n 3, 1) := dk_45 (dk_at dksL_law_12 10 rfl rfl)
theorem dL_law_426 : decode cL_law 426 = .ok (.iconst 0, 1) := dk_3 (dk_at dksL_law_12 11 rfl rfl)
theorem dL_law_427 : decode cL_law 427 = .ok (.laload, 1) := dk_47 (dk_at dksL_law_12 12 rfl rfl)
theorem dL_law_428 : decode cL_law 428 = .ok (.iload 6, 2) := dk_21 6 (dk_at dksL_law_12 13 rfl rfl)
theorem dL_law_430 : decode cL_law 430 = .ok (.i2l, 1) := dk_133 (dk_at dksL_law_12 15 rfl rfl)
theorem dL_law_431 : decode cL_law 431 = .ok (.lcmp, 1) := dk_148 (dk_at dksL_law_12 16 rfl rfl)
theorem dL_law_432 : decode cL_law 432 = .ok (.ifCond .eq 5, 3) := dk_153 0 5 (dk_at dksL_law_12 17 rfl rfl)
theorem dL_law_435 : decode cL_law 435 = .ok (.iconst 0, 1) := dk_3 (dk_at dksL_law_12 20 rfl rfl)
theorem dL_law_436 : decode cL_law 436 = .ok (.ireturn, 1) := dk_172 (dk_at dksL_law_12 21 rfl rfl)
theorem dL_law_437 : decode cL_law 437 = .ok (.goto 1529, 3) := dk_167 5 249 (dk_at dksL_law_13 0 rfl rfl)
theorem dL_law_440 : decode cL_law 440 = .ok (.aload_n 1, 1) := dk_43 (dk_at dksL_law_13 3 rfl rfl)
theorem dL_law_441 : decode cL_law 441 = .ok (.aload_n 0, 1) := dk_42 (dk_at dksL_law_13 4 rfl rfl)
theorem dL_law_442 : decode cL_law 442 = .ok (.iload 4, 2) := dk_21 4 (dk_at dksL_law_13 5 rfl rfl)
theorem dL_law_444 : decode cL_law 444 = .ok (.iconst 1, 1) := dk_4 (dk_at dksL_law_13 7 rfl rfl)
theorem dL_law_445 : decode cL_law 445 = .ok (.iadd, 1) := dk_96 (dk_at dksL_law_13 8 rfl rfl)
theorem dL_law_446 : decode cL_law 446 = .ok (.iaload, 1) := dk_46 (dk_at dksL_law_13 9 rfl rfl)
theorem dL_law_447 : decode cL_law 447 = .ok (.aload_n 3, 1) := dk_45 (dk_at dksL_law_13 10 rfl rfl)
theorem dL_law_448 : decode cL_law 448 = .ok (.invokestatic 136, 3) := dk_184 0 136 (dk_at dksL_law_13 11 rfl rfl)
theorem dL_law_451 : decode cL_law 451 = .ok (.istore 5, 2) := dk_54 5 (dk_at dksL_law_13 14 rfl rfl)
theorem dL_law_453 : decode cL_law 453 = .ok (.aload_n 2, 1) := dk_44 (dk_at dksL_law_13 16 rfl rfl)
theorem dL_law_454 : decode cL_law 454 = .ok (.aload_n 0, 1) := dk_42 (dk_at dksL_law_13 17 rfl rfl)
theorem dL_law_455 : decode cL_law 455 = .ok (.iload 4, 2) := dk_21 4 (dk_at dksL_law_13 18 rfl rfl)
theorem dL_law_457 : decode cL_law 457 = .ok (.iconst 1, 1) := dk_4 (dk_at dksL_law_13 20 rfl rfl)
theorem dL_law_458 : decode cL_law 458 = .ok (.iadd, 1) := dk_96 (dk_at dksL_law_13 21 rfl rfl)
theorem dL_law_459 : decode cL_law 459 = .ok (.iaload, 1) := dk_46 (dk_at dksL_law_13 22 rfl rfl)
theorem dL_law_460 : decode cL_law 460 = .ok (.invokevirtual 138, 3) := dk_182 0 138 (dk_at dksL_law_14 0 rfl rfl)
theorem dL_law_463 : decode cL_law 463 = .ok (.istore 6, 2) := dk_54 6 (dk_at dksL_law_14 3 rfl rfl)
theorem dL_law_465 : decode cL_law 465 = .ok (.aload_n 2, 1) := dk_44 (dk_at dksL_law_14 5 rfl rfl)
theorem dL_law_466 : decode cL_law 466 = .ok (.invokevirtual 110, 3) := dk_182 0 110 (dk_at dksL_law_14 6 rfl rfl)
theorem dL_law_469 : decode cL_law 469 = .ok (.iload 5, 2) := dk_21 5 (dk_at dksL_law_14 9 rfl rfl)
theorem dL_law_471 : decode cL_law 471 = .ok (.if_icmp .eq 5, 3) := dk_159 0 5 (dk_at dksL_law_14 11 rfl rfl)
theorem dL_law_474 : decode cL_law 474 = .ok (.iconst 0, 1) := dk_3 (dk_at dksL_law_14 14 rfl rfl)
theorem dL_law_475 : decode cL_law 475 = .ok (.ireturn, 1) := dk_172 (dk_at dksL_law_14 15 rfl rfl)
theorem dL_law_476 : decode cL_law 476 = .ok (.iload 5, 2) := dk_21 5 (dk_at dksL_law_14 16 rfl rfl)
theorem dL_law_478 : decode cL_law 478 = .ok (.ifCond .ne 15, 3) := dk_154 0 15 (dk_at dksL_law_14 18 rfl rfl)
theorem dL_law_481 : decode cL_law 481 = .ok (.aload_n 3, 1) := dk_45 (dk_at dksL_law_14 21 rfl rfl)
theorem dL_law_482 : decode cL_law 482 = .ok (.iconst 0, 1) := dk_3 (dk_at dksL_law_14 22 rfl rfl)
theorem dL_law_483 : decode cL_law 483 = .ok (.laload, 1) := dk_47 (dk_at dksL_law_14 23 rfl rfl)
theorem dL_law_484 : decode cL_law 484 = .ok (.iload 6, 2) := dk_21 6 (dk_at dksL_law_15 0 rfl rfl)
theorem dL_law_486 : decode cL_law 486 = .ok (.i2l, 1) := dk_133 (dk_at dksL_law_15 2 rfl rfl)
theorem dL_law_487 : decode cL_law 487 = .ok (.lcmp, 1) := dk_148 (dk_at dksL_law_15 3 rfl rfl)
theorem dL_law_488 : decode cL_law 488 = .ok (.ifCond .eq 5, 3) := dk_153 0 5 (dk_at dksL_law_15 4 rfl rfl)
theorem dL_law_491 : decode cL_law 491 = .ok (.iconst 0, 1) := dk_3 (dk_at dksL_law_15 7 rfl rfl)
theorem dL_law_492 : decode cL_law 492 = .ok (.ireturn, 1) := dk_172 (dk_at dksL_law_15 8 rfl rfl)
theorem dL_law_493 : decode cL_law 493 = .ok (.goto 1473, 3) := dk_167 5 193 (dk_at dksL_law_15 9 rfl rfl)
theorem dL_law_496 : decode cL_law 496 = .ok (.aload_n 1, 1) := dk_43 (dk_at dksL_law_15 12 rfl rfl)
theorem dL_law_497 : decode cL_law 497 = .ok (.aload_n 3, 1) := dk_45 (dk_at dksL_law_15 13 rfl rfl)
theorem dL_law_498 : decode cL_law 498 = .ok (.invokestatic 139, 3) := dk_184 0 139 (dk_at dksL_law_15 14 rfl rfl)
theorem dL_law_501 : decode cL_law 501 = .ok (.istore 5, 2) := dk_54 5 (dk_at dksL_law_15 17 rfl rfl)
theorem dL_law_503 : decode cL_law 503 = .ok (.aload_n 2, 1) := dk_44 (dk_at dksL_law_15 19 rfl rfl)
theorem dL_law_504 : decode cL_law 504 = .ok (.invokevirtual 142, 3) := dk_182 0 142 (dk_at dksL_law_15 20 rfl rfl)
theorem dL_law_507 : decode cL_law 507 = .ok (.istore 6, 2) := dk_54 6 (dk_at dksL_law_16 0 rfl rfl)
theorem dL_law_509 : decode cL_law 509 = .ok (.aload_n 2, 1) := dk_44 (dk_at dksL_law_16 2 rfl rfl)
theorem dL_law_510 : decode cL_law 510 = .ok (.invokevirtual 110, 3) := dk_182 0 110 (dk_at dksL_law_16 3 rfl rfl)
theorem dL_law_513 : decode cL_law 513 = .ok (.iload 5, 2) := dk_21 5 (dk_at dksL_law_16 6 rfl rfl)
theorem dL_law_515 : decode cL_law 515 = .ok (.if_icmp .eq 5, 3) := dk_159 0 5 (dk_at dksL_law_16 8 rfl rfl)
theorem dL_law_518 : decode cL_law 518 = .ok (.iconst 0, 1) := dk_3 (dk_at dksL_law_16 11 rfl rfl)
theorem dL_law_519 : decode cL_law 519 = .ok (.ireturn, 1) := dk_172 (dk_at dksL_law_16 12 rfl rfl)
theorem dL_law_520 : decode cL_law 520 = .ok (.iload 5, 2) := dk_21 5 (dk_at dksL_law_16 13 rfl rfl)
theorem dL_law_522 : decode cL_law 522 = .ok (.ifCond .ne 15, 3) := dk_154 0 15 (dk_at dksL_law_16 15 rfl rfl)
theorem dL_law_525 : decode cL_law 525 = .ok (.aload_n 3, 1) := dk_45 (dk_at dksL_law_16 18 rfl rfl)
theorem dL_law_526 : decode cL_law 526 = .ok (.iconst 0, 1) := dk_3 (dk_at dksL_law_16 19 rfl rfl)
theorem dL_law_527 : decode cL_law 527 = .ok (.laload, 1) := dk_47 (dk_at dksL_law_16 20 rfl rfl)
theorem dL_law_528 : decode cL_law 528 = .ok (.iload 6, 2) := dk_21 6 (dk_at dksL_law_16 21 rfl rfl)
theorem dL_law_530 : decode cL_law 530 = .ok (.i2l, 1) := dk_133 (dk_at dksL_law_16 23 rfl rfl)
theorem dL_law_531 : decode cL_law 531 = .ok (.lcmp, 1) := dk_148 (dk_at dksL_law_17 0 rfl rfl)
theorem dL_law_532 : decode cL_law 532 = .ok (.ifCond .eq 5, 3) := dk_153 0 5 (dk_at dksL_law_17 1 rfl rfl)
theorem dL_law_535 : decode cL_law 535 = .ok (.iconst 0, 1) := dk_3 (dk_at dksL_law_17 4 rfl rfl)
theorem dL_law_536 : decode cL_law 536 = .ok (.ireturn, 1) := dk_172 (dk_at dksL_law_17 5 rfl rfl)
theorem dL_law_537 : decode cL_law 537 = .ok (.goto 1429, 3) := dk_167 5 149 (dk_at dksL_law_17 6 rfl rfl)
theorem dL_law_540 : decode cL_law 540 = .ok (.aload_n 1, 1) := dk_43 (dk_at dksL_law_17 9 rfl rfl)
theorem dL_law_541 : decode cL_law 541 = .ok (.aload_n 0, 1) := dk_42 (dk_at dksL_law_17 10 rfl rfl)
theorem dL_law_542 : decode cL_law 542 = .ok (.iload 4, 2) := dk_21 4 (dk_at dksL_law_17 11 rfl rfl)
theorem dL_law_544 : decode cL_law 544 = .ok (.iconst 1, 1) := dk_4 (dk_at dksL_law_17 13 rfl rfl)
theorem dL_law_545 : decode cL_law 545 = .ok (.iadd, 1) := dk_96 (dk_at dksL_law_17 14 rfl rfl)
theorem dL_law_546 : decode cL_law 546 = .ok (.iaload, 1) := dk_46 (dk_at dksL_law_17 15 rfl rfl)
theorem dL_law_547 : decode cL_law 547 = .ok (.aload_n 0, 1) := dk_42 (dk_at dksL_law_17 16 rfl rfl)
theorem dL_law_548 : decode cL_law 548 = .ok (.iload 4, 2) := dk_21 4 (dk_at dksL_law_17 17 rfl rfl)
theorem dL_law_550 : decode cL_law 550 = .ok (.iconst 2, 1) := dk_5 (dk_at dksL_law_17 19 rfl rfl)
theorem dL_law_551 : decode cL_law 551 = .ok (.iadd, 1) := dk_96 (dk_at dksL_law_17 20 rfl rfl)
theorem dL_law_552 : decode cL_law 552 = .ok (.iaload, 1) := dk_46 (dk_at dksL_law_17 21 rfl rfl)
theorem dL_law_553 : decode cL_law 553 = .ok (.aload_n 3, 1) := dk_45 (dk_at dksL_law_17 22 rfl rfl)
theorem dL_law_554 : decode cL_law 554 = .ok (.invokestatic 143, 3) := dk_184 0 143 (dk_at dksL_law_18 0 rfl rfl)
theorem dL_law_557 : decode cL_law 557 = .ok (.istore 5, 2) := dk_54 5 (dk_at dksL_law_18 3 rfl rfl)
theorem dL_law_559 : decode cL_law 559 = .ok (.aload_n 2, 1) := dk_44 (dk_at dksL_law_18 5 rfl rfl)
theorem dL_law_560 : decode cL_law 560 = .ok (.aload_n 0, 1) := dk_42 (dk_at dksL_law_18 6 rfl rfl)
theorem dL_law_561 : decode cL_law 561 = .ok (.iload 4, 2) := dk_21 4 (dk_at dksL_law_18 7 rfl rfl)
theorem dL_law_563 : decode cL_law 563 = .ok (.iconst 1, 1) := dk_4 (dk_at dksL_law_18 9 rfl rfl)
theorem dL_law_564 : decode cL_law 564 = .ok (.iadd, 1) := dk_96 (dk_at dksL_law_18 10 rfl rfl)
theorem dL_law_565 : decode cL_law 565 = .ok (.iaload, 1) := dk_46 (dk_at dksL_law_18 11 rfl rfl)
theorem dL_law_566 : decode cL_law 566 = .ok (.aload_n 0, 1) := dk_42 (dk_at dksL_law_18 12 rfl rfl)
theorem dL_law_567 : decode cL_law 567 = .ok (.iload 4, 2) := dk_21 4 (dk_at dksL_law_18 13 rfl rfl)
theorem dL_law_569 : decode cL_law 569 = .ok (.iconst 2, 1) := dk_5 (dk_at dksL_law_18 15 rfl rfl)
theorem dL_law_570 : decode cL_law 570 = .ok (.iadd, 1) := dk_96 (dk_at dksL_law_18 16 rfl rfl)
theorem dL_law_571 : decode cL_law 571 = .ok (.iaload, 1) := dk_46 (dk_at dksL_law_18 17 rfl rfl)
theorem dL_law_572 : decode cL_law 572 = .ok (.invokevirtual 145, 3) := dk_182 0 145 (dk_at dksL_law_18 18 rfl rfl)
theorem dL_law_575 : decode cL_law 575 = .ok (.istore 6, 2) := dk_54 6 (dk_at dksL_law_18 21 rfl rfl)
theorem dL_law_577 : decode cL_law 577 = .ok (.aload_n 2, 1) := dk_44 (dk_at dksL_law_18 23 rfl rfl)
theorem dL_law_578 : decode cL_law 578 = .ok (.invokevirtual 110, 3) := dk_182 0 110 (dk_at dksL_law_19 0 rfl rfl)
theorem dL_law_581 : decode cL_law 581 = .ok (.iload 5, 2) := dk_21 5 (dk_at dksL_law_19 3 rfl rfl)
theorem dL_law_583 : decode cL_law 583 = .ok (.if_icmp .eq 5, 3) := dk_159 0 5 (dk_at dksL_law_19 5 rfl rfl)
theorem dL_law_586 : decode cL_law 586 = .ok (.iconst 0, 1) := dk_3 (dk_at dksL_law_19 8 rfl rfl)
theorem dL_law_587 : decode cL_law 587 = .ok (.ireturn, 1) := dk_172 (dk_at dksL_law_19 9 rfl rfl)
theorem dL_law_588 : decode cL_law 588 = .ok (.iload 5, 2) := dk_21 5 (dk_at dksL_law_19 10 rfl rfl)
theorem dL_law_590 : decode cL_law 590 = .ok (.ifCond .ne 15, 3) := dk_154 0 15 (dk_at dksL_law_19 12 rfl rfl)
theorem dL_law_593 : decode cL_law 593 = .ok (.aload_n 3, 1) := dk_45 (dk_at dksL_law_19 15 rfl rfl)
theorem dL_law_594 : decode cL_law 594 = .ok (.iconst 0, 1) := dk_3 (dk_at dksL_law_19 16 rfl rfl)
theorem dL_law_595 : decode cL_law 595 = .ok (.laload, 1) := dk_47 (dk_at dksL_law_19 17 rfl rfl)
theorem dL_law_596 : decode cL_law 596 = .ok (.iload 6, 2) := dk_21 6 (dk_at dksL_law_19 18 rfl rfl)
theorem dL_law_598 : decode cL_law 598 = .ok (.i2l, 1) := dk_133 (dk_at dksL_law_19 20 rfl rfl)
theorem dL_law_599 : decode cL_law 599 = .ok (.lcmp, 1) := dk_148 (dk_at dksL_law_19 21 rfl rfl)
theorem dL_law_600 : decode cL_law 600 = .ok (.ifCond .eq 5, 3) := dk_153 0 5 (dk_at dksL_law_20 0 rfl rfl)
theorem dL_law_603 : decode cL_law 603 = .ok (.iconst 0, 1) := dk_3 (dk_at dksL_law_20 3 rfl rfl)
theorem dL_law_604 : decode cL_law 604 = .ok (.ireturn, 1) := dk_172 (dk_at dksL_law_20 4 rfl rfl)
theorem dL_law_605 : decode cL_law 605 = .ok (.goto 1361, 3) := dk_167 5 81 (dk_at dksL_law_20 5 rfl rfl)
theorem dL_law_608 : decode cL_law 608 = .ok (.aload_n 1, 1) := dk_43 (dk_at dksL_law_20 8 rfl rfl)
theorem dL_law_609 : decode cL_law 609 = .ok (.aload_n 3, 1) := dk_45 (dk_at dksL_law_20 9 rfl rfl)
theorem dL_law_610 : decode cL_law 610 = .ok (.invokestatic 146, 3) := dk_184 0 146 (dk_at dksL_law_20 10 rfl rfl)
theorem dL_law_613 : decode cL_law 613 = .ok (.istore 5, 2) := dk_54 5 (dk_at dksL_law_20 13 rfl rfl)
theorem dL_law_615 : decode cL_law 615 = .ok (.aload_n 2, 1) := dk_44 (dk_at dksL_law_20 15 rfl rfl)
theorem dL_law_616 : decode cL_law 616 = .ok (.invokevirtual 148, 3) := dk_182 0 148 (dk_at dksL_law_20 16 rfl rfl)
theorem dL_law_619 : decode cL_law 619 = .ok (.istore 6, 2) := dk_54 6 (dk_at dksL_law_20 19 rfl rfl)
theorem dL_law_621 : decode cL_law 621 = .ok (.aload_n 2, 1) := dk_44 (dk_at dksL_law_20 21 rfl rfl)
theorem dL_law_622 : decode cL_law 622 = .ok (.invokevirtual 110, 3) := dk_182 0 110 (dk_at dksL_law_21 0 rfl rfl)
theorem dL_law_625 : decode cL_law 625 = .ok (.iload 5, 2) := dk_21 5 (dk_at dksL_law_21 3 rfl rfl)
theorem dL_law_627 : decode cL_law 627 = .ok (.if_icmp .eq 5, 3) := dk_159 0 5 (dk_at dksL_law_21 5 rfl rfl)
theorem dL_law_630 : decode cL_law 630 = .ok (.iconst 0, 1) := dk_3 (dk_at dksL_law_21 8 rfl rfl)
theorem dL_law_631 : decode cL_law 631 = .ok (.ireturn, 1) := dk_172 (dk_at dksL_law_21 9 rfl rfl)
theorem dL_law_632 : decode cL_law 632 = .ok (.iload 5, 2) := dk_21 5 (dk_at dksL_law_21 10 rfl rfl)
theorem dL_law_634 : decode cL_law 634 = .ok (.ifCond .ne 15, 3) := dk_154 0 15 (dk_at dksL_law_21 12 rfl rfl)
theorem dL_law_637 : decode cL_law 637 = .ok (.aload_n 3, 1) := dk_45 (dk_at dksL_law_21 15 rfl rfl)
theorem dL_law_638 : decode cL_law 638 = .ok (.iconst 0, 1) := dk_3 (dk_at dksL_law_21 16 rfl rfl)
theorem dL_law_639 : decode cL_law 639 = .ok (.laload, 1) := dk_47 (dk_at dksL_law_21 17 rfl rfl)
theorem dL_law_640 : decode cL_law 640 = .ok (.iload 6, 2) := dk_21 6 (dk_at dksL_law_21 18 rfl rfl)
theorem dL_law_642 : decode cL_law 642 = .ok (.i2l, 1) := dk_133 (dk_at dksL_law_21 20 rfl rfl)
theorem dL_law_643 : decode cL_law 643 = .ok (.lcmp, 1) := dk_148 (dk_at dksL_law_21 21 rfl rfl)
theorem dL_law_644 : decode cL_law 644 = .ok (.ifCond .eq 5, 3) := dk_153 0 5 (dk_at dksL_law_22 0 rfl rfl)
theorem dL_law_647 : decode cL_law 647 = .ok (.iconst 0, 1) := dk_3 (dk_at dksL_law_22 3 rfl rfl)
theorem dL_law_648 : decode cL_law 648 = .ok (.ireturn, 1) := dk_172 (dk_at dksL_law_22 4 rfl rfl)
theorem dL_law_649 : decode cL_law 649 = .ok (.goto 1317, 3) := dk_167 5 37 (dk_at dksL_law_22 5 rfl rfl)
theorem dL_law_652 : decode cL_law 652 = .ok (.aload_n 1, 1) := dk_43 (dk_at dksL_law_22 8 rfl rfl)
theorem dL_law_653 : decode cL_law 653 = .ok (.aload_n 0, 1) := dk_42 (dk_at dksL_law_22 9 rfl rfl)
theorem dL_law_654 : decode cL_law 654 = .ok (.iload 4, 2) := dk_21 4 (dk_at dksL_law_22 10 rfl rfl)
theorem dL_law_656 : decode cL_law 656 = .ok (.iconst 1, 1) := dk_4 (dk_at dksL_law_22 12 rfl rfl)
theorem dL_law_657 : decode cL_law 657 = .ok (.iadd, 1) := dk_96 (dk_at dksL_law_22 13 rfl rfl)
theorem dL_law_658 : decode cL_law 658 = .ok (.iaload, 1) := dk_46 (dk_at dksL_law_22 14 rfl rfl)
theorem dL_law_659 : decode cL_law 659 = .ok (.aload_n 3, 1) := dk_45 (dk_at dksL_law_22 15 rfl rfl)
theorem dL_law_660 : decode cL_law 660 = .ok (.invokestatic 149, 3) := dk_184 0 149 (dk_at dksL_law_22 16 rfl rfl)
theorem dL_law_663 : decode cL_law 663 = .ok (.istore 5, 2) := dk_54 5 (dk_at dksL_law_22 19 rfl rfl)
theorem dL_law_665 : decode cL_law 665 = .ok (.aload_n 2, 1) := dk_44 (dk_at dksL_law_22 21 rfl rfl)
theorem dL_law_666 : decode cL_law 666 = .ok (.aload_n 0, 1) := dk_42 (dk_at dksL_law_22 22 rfl rfl)
theorem dL_law_667 : decode cL_law 667 = .ok (.iload 4, 2) := dk_21 4 (dk_at dksL_law_23 0 rfl rfl)
theorem dL_law_669 : decode cL_law 669 = .ok (.iconst 1, 1) := dk_4 (dk_at dksL_law_23 2 rfl rfl)
theorem dL_law_670 : decode cL_law 670 = .ok (.iadd, 1) := dk_96 (dk_at dksL_law_23 3 rfl rfl)
theorem dL_law_671 : decode cL_law 671 = .ok (.iaload, 1) := dk_46 (dk_at dksL_law_23 4 rfl rfl)
theorem dL_law_672 : decode cL_law 672 = .ok (.invokevirtual 151, 3) := dk_182 0 151 (dk_at dksL_law_23 5 rfl rfl)
theorem dL_law_675 : decode cL_law 675 = .ok (.istore 6, 2) := dk_54 6 (dk_at dksL_law_23 8 rfl rfl)
theorem dL_law_677 : decode cL_law 677 = .ok (.aload_n 2, 1) := dk_44 (dk_at dksL_law_23 10 rfl rfl)
theorem dL_law_678 : decode cL_law 678 = .ok (.invokevirtual 110, 3) := dk_182 0 110 (dk_at dksL_law_23 11 rfl rfl)
theorem dL_law_681 : decode cL_law 681 = .ok (.iload 5, 2) := dk_21 5 (dk_at dksL_law_23 14 rfl rfl)
theorem dL_law_683 : decode cL_law 683 = .ok (.if_icmp .eq 5, 3) := dk_159 0 5 (dk_at dksL_law_23 16 rfl rfl)
theorem dL_law_686 : decode cL_law 686 = .ok (.iconst 0, 1) := dk_3 (dk_at dksL_law_23 19 rfl rfl)
theorem dL_law_687 : decode cL_law 687 = .ok (.ireturn, 1) := dk_172 (dk_at dksL_law_23 20 rfl rfl)
theorem dL_law_688 : decode cL_law 688 = .ok (.iload 5, 2) := dk_21 5 (dk_at dksL_law_23 21 rfl rfl)
theorem dL_law_690 : decode cL_law 690 = .ok (.ifCond .ne 15, 3) := dk_154 0 15 (dk_at dksL_law_24 0 rfl rfl)
theorem dL_law_693 : decode cL_law 693 = .ok (.aload_n 3, 1) := dk_45 (dk_at dksL_law_24 3 rfl rfl)
theorem dL_law_694 : decode cL_law 694 = .ok (.iconst 0, 1) := dk_3 (dk_at dksL_law_24 4 rfl rfl)
theorem dL_law_695 : decode cL_law 695 = .ok (.laload, 1) := dk_47 (dk_at dksL_law_24 5 rfl rfl)
theorem dL_law_696 : decode cL_law 696 = .ok (.iload 6, 2) := dk_21 6 (dk_at dksL_law_24 6 rfl rfl)
theorem dL_law_698 : decode cL_law 698 = .ok (.i2l, 1) := dk_133 (dk_at dksL_law_24 8 rfl rfl)
theorem dL_law_699 : decode cL_law 699 = .ok (.lcmp, 1) := dk_148 (dk_at dksL_law_24 9 rfl rfl)
theorem dL_law_700 : decode cL_law 700 = .ok (.ifCond .eq 5, 3) := dk_153 0 5 (dk_at dksL_law_24 10 rfl rfl)
theorem dL_law_703 : decode cL_law 703 = .ok (.iconst 0, 1) := dk_3 (dk_at dksL_law_24 13 rfl rfl)
theorem dL_law_704 : decode cL_law 704 = .ok (.ireturn, 1) := dk_172 (dk_at dksL_law_24 14 rfl rfl)
theorem dL_law_705 : decode cL_law 705 = .ok (.goto 1261, 3) := dk_167 4 237 (dk_at dksL_law_24 15 rfl rfl)
theorem dL_law_708 : decode cL_law 708 = .ok (.aload_n 1, 1) := dk_43 (dk_at dksL_law_24 18 rfl rfl)
theorem dL_law_709 : decode cL_law 709 = .ok (.aload_n 0, 1) := dk_42 (dk_at dksL_law_24 19 rfl rfl)
theorem dL_law_710 : decode cL_law 710 = .ok (.iload 4, 2) := dk_21 4 (dk_at dksL_law_24 20 rfl rfl)
theorem dL_law_712 : decode cL_law 712 = .ok (.iconst 1, 1) := dk_4 (dk_at dksL_law_24 22 rfl rfl)
theorem dL_law_713 : decode cL_law 713 = .ok (.iadd, 1) := dk_96 (dk_at dksL_law_24 23 rfl rfl)
theorem dL_law_714 : decode cL_law 714 = .ok (.iaload, 1) := dk_46 (dk_at dksL_law_25 0 rfl rfl)
theorem dL_law_715 : decode cL_law 715 = .ok (.aload_n 3, 1) := dk_45 (dk_at dksL_law_25 1 rfl rfl)
theorem dL_law_716 : decode cL_law 716 = .ok (.invokestatic 152, 3) := dk_184 0 152 (dk_at dksL_law_25 2 rfl rfl)
theorem dL_law_719 : decode cL_law 719 = .ok (.istore 5, 2) := dk_54 5 (dk_at dksL_law_25 5 rfl rfl)
theorem dL_law_721 : decode cL_law 721 = .ok (.aload_n 2, 1) := dk_44 (dk_at dksL_law_25 7 rfl rfl)
theorem dL_law_722 : decode cL_law 722 = .ok (.aload_n 0, 1) := dk_42 (dk_at dksL_law_25 8 rfl rfl)
theorem dL_law_723 : decode cL_law 723 = .ok (.iload 4, 2) := dk_21 4 (dk_at dksL_law_25 9 rfl rfl)
theorem dL_law_725 : decode cL_law 725 = .ok (.iconst 1, 1) := dk_4 (dk_at dksL_law_25 11 rfl rfl)
theorem dL_law_726 : decode cL_law 726 = .ok (.iadd, 1) := dk_96 (dk_at dksL_law_25 12 rfl rfl)
theorem dL_law_727 : decode cL_law 727 = .ok (.iaload, 1) := dk_46 (dk_at dksL_law_25 13 rfl rfl)
theorem dL_law_728 : decode cL_law 728 = .ok (.invokevirtual 154, 3) := dk_182 0 154 (dk_at dksL_law_25 14 rfl rfl)
theorem dL_law_731 : decode cL_law 731 = .ok (.istore 6, 2) := dk_54 6 (dk_at dksL_law_25 17 rfl rfl)
theorem dL_law_733 : decode cL_law 733 = .ok (.aload_n 2, 1) := dk_44 (dk_at dksL_law_25 19 rfl rfl)
theorem dL_law_734 : decode cL_law 734 = .ok (.invokevirtual 110, 3) := dk_182 0 110 (dk_at dksL_law_25 20 rfl rfl)
theorem dL_law_737 : decode cL_law 737 = .ok (.iload 5, 2) := dk_21 5 (dk_at dksL_law_26 0 rfl rfl)
theorem dL_law_739 : decode cL_law 739 = .ok (.if_icmp .eq 5, 3) := dk_159 0 5 (dk_at dksL_law_26 2 rfl rfl)
theorem dL_law_742 : decode cL_law 742 = .ok (.iconst 0, 1) := dk_3 (dk_at dksL_law_26 5 rfl rfl)
theorem dL_law_743 : decode cL_law 743 = .ok (.ireturn, 1) := dk_172 (dk_at dksL_law_26 6 rfl rfl)
theorem dL_law_744 : decode cL_law 744 = .ok (.iload 5, 2) := dk_21 5 (dk_at dksL_law_26 7 rfl rfl)
theorem dL_law_746 : decode cL_law 746 = .ok (.ifCond .ne 15, 3) := dk_154 0 15 (dk_at dksL_law_26 9 rfl rfl)
theorem dL_law_749 : decode cL_law 749 = .ok (.aload_n 3, 1) := dk_45 (dk_at dksL_law_26 12 rfl rfl)
theorem dL_law_750 : decode cL_law 750 = .ok (.iconst 0, 1) := dk_3 (dk_at dksL_law_26 13 rfl rfl)
theorem dL_law_751 : decode cL_law 751 = .ok (.laload, 1) := dk_47 (dk_at dksL_law_26 14 rfl rfl)
theorem dL_law_752 : decode cL_law 752 = .ok (.iload 6, 2) := dk_21 6 (dk_at dksL_law_26 15 rfl rfl)
theorem dL_law_754 : decode cL_law 754 = .ok (.i2l, 1) := dk_133 (dk_at dksL_law_26 17 rfl rfl)
theorem dL_law_755 : decode cL_law 755 = .ok (.lcmp, 1) := dk_148 (dk_at dksL_law_26 18 rfl rfl)
theorem dL_law_756 : decode cL_law 756 = .ok (.ifCond .eq 5, 3) := dk_153 0 5 (dk_at dksL_law_26 19 rfl rfl)
theorem dL_law_759 : decode cL_law 759 = .ok (.iconst 0, 1) := dk_3 (dk_at dksL_law_26 22 rfl rfl)
theorem dL_law_760 : decode cL_law 760 = .ok (.ireturn, 1) := dk_172 (dk_at dksL_law_26 23 rfl rfl)
theorem dL_law_761 : decode cL_law 761 = .ok (.goto 1205, 3) := dk_167 4 181 (dk_at dksL_law_27 0 rfl rfl)
theorem dL_law_764 : decode cL_law 764 = .ok (.aload_n 1, 1) := dk_43 (dk_at dksL_law_27 3 rfl rfl)
theorem dL_law_765 : decode cL_law 765 = .ok (.aload_n 0, 1) := dk_42 (dk_at dksL_law_27 4 rfl rfl)
theorem dL_law_766 : decode cL_law 766 = .ok (.iload 4, 2) := dk_21 4 (dk_at dksL_law_27 5 rfl rfl)
theorem dL_law_768 : decode cL_law 768 = .ok (.iconst 1, 1) := dk_4 (dk_at dksL_law_27 7 rfl rfl)
theorem dL_law_769 : decode cL_law 769 = .ok (.iadd, 1) := dk_96 (dk_at dksL_law_27 8 rfl rfl)
theorem dL_law_770 : decode cL_law 770 = .ok (.iaload, 1) := dk_46 (dk_at dksL_law_27 9 rfl rfl)
theorem dL_law_771 : decode cL_law 771 = .ok (.aload_n 3, 1) := dk_45 (dk_at dksL_law_27 10 rfl rfl)
theorem dL_law_772 : decode cL_law 772 = .ok (.invokestatic 155, 3) := dk_184 0 155 (dk_at dksL_law_27 11 rfl rfl)
theorem dL_law_775 : decode cL_law 775 = .ok (.istore 5, 2) := dk_54 5 (dk_at dksL_law_27 14 rfl rfl)
theorem dL_law_777 : decode cL_law 777 = .ok (.aload_n 2, 1) := dk_44 (dk_at dksL_law_27 16 rfl rfl)
theorem dL_law_778 : decode cL_law 778 = .ok (.aload_n 0, 1) := dk_42 (dk_at dksL_law_27 17 rfl rfl)
theorem dL_law_779 : decode cL_law 779 = .ok (.iload 4, 2) := dk_21 4 (dk_at dksL_law_27 18 rfl rfl)
theorem dL_law_781 : decode cL_law 781 = .ok (.iconst 1, 1) := dk_4 (dk_at dksL_law_27 20 rfl rfl)
theorem dL_law_782 : decode cL_law 782 = .ok (.iadd, 1) := dk_96 (dk_at dksL_law_27 21 rfl rfl)
theorem dL_law_783 : decode cL_law 783 = .ok (.iaload, 1) := dk_46 (dk_at dksL_law_27 22 rfl rfl)
theorem dL_law_784 : decode cL_law 784 = .ok (.invokevirtual 157, 3) := dk_182 0 157 (dk_at dksL_law_28 0 rfl rfl)
theorem dL_law_787 : decode cL_law 787 = .ok (.istore 6, 2) := dk_54 6 (dk_at dksL_law_28 3 rfl rfl)
theorem dL_law_789 : decode cL_law 789 = .ok (.aload_n 2, 1) := dk_44 (dk_at dksL_law_28 5 rfl rfl)
theorem dL_law_790 : decode cL_law 790 = .ok (.invokevirtual 110, 3) := dk_182 0 110 (dk_at dksL_law_28 6 rfl rfl)
theorem dL_law_793 : decode cL_law 793 = .ok (.iload 5, 2) := dk_21 5 (dk_at dksL_law_28 9 rfl rfl)
theorem dL_law_795 : decode cL_law 795 = .ok (.if_icmp .eq 5, 3) := dk_159 0 5 (dk_at dksL_law_28 11 rfl rfl)
theorem dL_law_798 : decode cL_law 798 = .ok (.iconst 0, 1) := dk_3 (dk_at dksL_law_28 14 rfl rfl)
theorem dL_law_799 : decode cL_law 799 = .ok (.ireturn, 1) := dk_172 (dk_at dksL_law_28 15 rfl rfl)
theorem dL_law_800 : decode cL_law 800 = .ok (.iload 5, 2) := dk_21 5 (dk_at dksL_law_28 16 rfl rfl)
theorem dL_law_802 : decode cL_law 802 = .ok (.ifCond .ne 15, 3) := dk_154 0 15 (dk_at dksL_law_28 18 rfl rfl)
theorem dL_law_805 : decode cL_law 805 = .ok (.aload_n 3, 1) := dk_45 (dk_at dksL_law_28 21 rfl rfl)
theorem dL_law_806 : decode cL_law 806 = .ok (.iconst 0, 1) := dk_3 (dk_at dksL_law_28 22 rfl rfl)
theorem dL_law_807 : decode cL_law 807 = .ok (.laload, 1) := dk_47 (dk_at dksL_law_28 23 rfl rfl)
theorem dL_law_808 : decode cL_law 808 = .ok (.iload 6, 2) := dk_21 6 (dk_at dksL_law_29 0 rfl rfl)
theorem dL_law_810 : decode cL_law 810 = .ok (.i2l, 1) := dk_133 (dk_at dksL_law_29 2 rfl rfl)
theorem dL_law_811 : decode cL_law 811 = .ok (.lcmp, 1) := dk_148 (dk_at dksL_law_29 3 rfl rfl)
theorem dL_law_812 : decode cL_law 812 = .ok (.ifCond .eq 5, 3) := dk_153 0 5 (dk_at dksL_law_29 4 rfl rfl)
theorem dL_law_815 : decode cL_law 815 = .ok (.iconst 0, 1) := dk_3 (dk_at dksL_law_29 7 rfl rfl)
theorem dL_law_816 : decode cL_law 816 = .ok (.ireturn, 1) := dk_172 (dk_at dksL_law_29 8 rfl rfl)
theorem dL_law_817 : decode cL_law 817 = .ok (.goto 1149, 3) := dk_167 4 125 (dk_at dksL_law_29 9 rfl rfl)
theorem dL_law_820 : decode cL_law 820 = .ok (.aload_n 1, 1) := dk_43 (dk_at dksL_law_29 12 rfl rfl)
theorem dL_law_821 : decode cL_law 821 = .ok (.aload_n 0, 1) := dk_42 (dk_at dksL_law_29 13 rfl rfl)
theorem dL_law_822 : decode cL_law 822 = .ok (.iload 4, 2) := dk_21 4 (dk_at dksL_law_29 14 rfl rfl)
theorem dL_law_824 : decode cL_law 824 = .ok (.iconst 1, 1) := dk_4 (dk_at dksL_law_29 16 rfl rfl)
theorem dL_law_825 : decode cL_law 825 = .ok (.iadd, 1) := dk_96 (dk_at dksL_law_29 17 rfl rfl)
theorem dL_law_826 : decode cL_law 826 = .ok (.iaload, 1) := dk_46 (dk_at dksL_law_29 18 rfl rfl)
theorem dL_law_827 : decode cL_law 827 = .ok (.aload_n 3, 1) := dk_45 (dk_at dksL_law_29 19 rfl rfl)
theorem dL_law_828 : decode cL_law 828 = .ok (.invokestatic 158, 3) := dk_184 0 158 (dk_at dksL_law_29 20 rfl rfl)
theorem dL_law_831 : decode cL_law 831 = .ok (.istore 5, 2) := dk_54 5 (dk_at dksL_law_30 0 rfl rfl)
theorem dL_law_833 : decode cL_law 833 = .ok (.aload_n 2, 1) := dk_44 (dk_at dksL_law_30 2 rfl rfl)
theorem dL_law_834 : decode cL_law 834 = .ok (.aload_n 0, 1) := dk_42 (dk_at dksL_law_30 3 rfl rfl)
theorem dL_law_835 : decode cL_law 835 = .ok (.iload 4, 2) := dk_21 4 (dk_at dksL_law_30 4 rfl rfl)
theorem dL_law_837 : decode cL_law 837 = .ok (.iconst 1, 1) := dk_4 (dk_at dksL_law_30 6 rfl rfl)
theorem dL_law_838 : decode cL_law 838 = .ok (.iadd, 1) := dk_96 (dk_at dksL_law_30 7 rfl rfl)
theorem dL_law_839 : decode cL_law 839 = .ok (.iaload, 1) := dk_46 (dk_at dksL_law_30 8 rfl rfl)
theorem dL_law_840 : decode cL_law 840 = .ok (.invokevirtual 160, 3) := dk_182 0 160 (dk_at dksL_law_30 9 rfl rfl)
theorem dL_law_843 : decode cL_law 843 = .ok (.istore 6, 2) := dk_54 6 (dk_at dksL_law_30 12 rfl rfl)
theorem dL_law_845 : decode cL_law 845 = .ok (.aload_n 2, 1) := dk_44 (dk_at dksL_law_30 14 rfl rfl)
theorem dL_law_846 : decode cL_law 846 = .ok (.invokevirtual 110, 3) := dk_182 0 110 (dk_at dksL_law_30 15 rfl rfl)
theorem dL_law_849 : decode cL_law 849 = .ok (.iload 5, 2) := dk_21 5 (dk_at dksL_law_30 18 rfl rfl)
theorem dL_law_851 : decode cL_law 851 = .ok (.if_icmp .eq 5, 3) := dk_159 0 5 (dk_at dksL_law_30 20 rfl rfl)
theorem dL_law_854 : decode cL_law 854 = .ok (.iconst 0, 1) := dk_3 (dk_at dksL_law_30 23 rfl rfl)
theorem dL_law_855 : decode cL_law 855 = .ok (.ireturn, 1) := dk_172 (dk_at dksL_law_31 0 rfl rfl)
theorem dL_law_856 : decode cL_law 856 = .ok (.iload 5, 2) := dk_21 5 (dk_at dksL_law_31 1 rfl rfl)
theorem dL_law_858 : decode cL_law 858 = .ok (.ifCond .ne 15, 3) := dk_154 0 15 (dk_at dksL_law_31 3 rfl rfl)
theorem dL_law_861 : decode cL_law 861 = .ok (.aload_n 3, 1) := dk_45 (dk_at dksL_law_31 6 rfl rfl)
theorem dL_law_862 : decode cL_law 862 = .ok (.iconst 0, 1) := dk_3 (dk_at dksL_law_31 7 rfl rfl)
theorem dL_law_863 : decode cL_law 863 = .ok (.laload, 1) := dk_47 (dk_at dksL_law_31 8 rfl rfl)
theorem dL_law_864 : decode cL_law 864 = .ok (.iload 6, 2) := dk_21 6 (dk_at dksL_law_31 9 rfl rfl)
theorem dL_law_866 : decode cL_law 866 = .ok (.i2l, 1) := dk_133 (dk_at dksL_law_31 11 rfl rfl)
theorem dL_law_867 : decode cL_law 867 = .ok (.lcmp, 1) := dk_148 (dk_at dksL_law_31 12 rfl rfl)
theorem dL_law_868 : decode cL_law 868 = .ok (.ifCond .eq 5, 3) := dk_153 0 5 (dk_at dksL_law_31 13 rfl rfl)
theorem dL_law_871 : decode cL_law 871 = .ok (.iconst 0, 1) := dk_3 (dk_at dksL_law_31 16 rfl rfl)
theorem dL_law_872 : decode cL_law 872 = .ok (.ireturn, 1) := dk_172 (dk_at dksL_law_31 17 rfl rfl)
theorem dL_law_873 : decode cL_law 873 = .ok (.goto 1093, 3) := dk_167 4 69 (dk_at dksL_law_31 18 rfl rfl)
theorem dL_law_876 : decode cL_law 876 = .ok (.aload_n 1, 1) := dk_43 (dk_at dksL_law_31 21 rfl rfl)
theorem dL_law_877 : decode cL_law 877 = .ok (.aload_n 0, 1) := dk_42 (dk_at dksL_law_31 22 rfl rfl)
theorem dL_law_878 : decode cL_law 878 = .ok (.iload 4, 2) := dk_21 4 (dk_at dksL_law_32 0 rfl rfl)
theorem dL_law_880 : decode cL_law 880 = .ok (.iconst 1, 1) := dk_4 (dk_at dksL_law_32 2 rfl rfl)
theorem dL_law_881 : decode cL_law 881 = .ok (.iadd, 1) := dk_96 (dk_at dksL_law_32 3 rfl rfl)
theorem dL_law_882 : decode cL_law 882 = .ok (.iaload, 1) := dk_46 (dk_at dksL_law_32 4 rfl rfl)
theorem dL_law_883 : decode cL_law 883 = .ok (.aload_n 0, 1) := dk_42 (dk_at dksL_law_32 5 rfl rfl)
theorem dL_law_884 : decode cL_law 884 = .ok (.iload 4, 2) := dk_21 4 (dk_at dksL_law_32 6 rfl rfl)
theorem dL_law_886 : decode cL_law 886 = .ok (.iconst 2, 1) := dk_5 (dk_at dksL_law_32 8 rfl rfl)
theorem dL_law_887 : decode cL_law 887 = .ok (.iadd, 1) := dk_96 (dk_at dksL_law_32 9 rfl rfl)
theorem dL_law_888 : decode cL_law 888 = .ok (.iaload, 1) := dk_46 (dk_at dksL_law_32 10 rfl rfl)
theorem dL_law_889 : decode cL_law 889 = .ok (.aload_n 3, 1) := dk_45 (dk_at dksL_law_32 11 rfl rfl)
theorem dL_law_890 : decode cL_law 890 = .ok (.invokestatic 161, 3) := dk_184 0 161 (dk_at dksL_law_32 12 rfl rfl)
theorem dL_law_893 : decode cL_law 893 = .ok (.istore 5, 2) := dk_54 5 (dk_at dksL_law_32 15 rfl rfl)
theorem dL_law_895 : decode cL_law 895 = .ok (.aload_n 2, 1) := dk_44 (dk_at dksL_law_32 17 rfl rfl)
theorem dL_law_896 : decode cL_law 896 = .ok (.aload_n 0, 1) := dk_42 (dk_at dksL_law_32 18 rfl rfl)
theorem dL_law_897 : decode cL_law 897 = .ok (.iload 4, 2) := dk_21 4 (dk_at dksL_law_32 19 rfl rfl)
theorem dL_law_899 : decode cL_law 899 = .ok (.iconst 1, 1) := dk_4 (dk_at dksL_law_32 21 rfl rfl)
theorem dL_law_900 : decode cL_law 900 = .ok (.iadd, 1) := dk_96 (dk_at dksL_law_32 22 rfl rfl)
theorem dL_law_901 : decode cL_law 901 = .ok (.iaload, 1) := dk_46 (dk_at dksL_law_32 23 rfl rfl)
theorem dL_law_902 : decode cL_law 902 = .ok (.aload_n 0, 1) := dk_42 (dk_at dksL_law_33 0 rfl rfl)
theorem dL_law_903 : decode cL_law 903 = .ok (.iload 4, 2) := dk_21 4 (dk_at dksL_law_33 1 rfl rfl)
theorem dL_law_905 : decode cL_law 905 = .ok (.iconst 2, 1) := dk_5 (dk_at dksL_law_33 3 rfl rfl)
theorem dL_law_906 : decode cL_law 906 = .ok (.iadd, 1) := dk_96 (dk_at dksL_law_33 4 rfl rfl)
theorem dL_law_907 : decode cL_law 907 = .ok (.iaload, 1) := dk_46 (dk_at dksL_law_33 5 rfl rfl)
theorem dL_law_908 : decode cL_law 908 = .ok (.invokevirtual 163, 3) := dk_182 0 163 (dk_at dksL_law_33 6 rfl rfl)
theorem dL_law_911 : decode cL_law 911 = .ok (.istore 6, 2) := dk_54 6 (dk_at dksL_law_33 9 rfl rfl)
theorem dL_law_913 : decode cL_law 913 = .ok (.aload_n 2, 1) := dk_44 (dk_at dksL_law_33 11 rfl rfl)
theorem dL_law_914 : decode cL_law 914 = .ok (.invokevirtual 110, 3) := dk_182 0 110 (dk_at dksL_law_33 12 rfl rfl)
theorem dL_law_917 : decode cL_law 917 = .ok (.iload 5, 2) := dk_21 5 (dk_at dksL_law_33 15 rfl rfl)
theorem dL_law_919 : decode cL_law 919 = .ok (.if_icmp .eq 5, 3) := dk_159 0 5 (dk_at dksL_law_33 17 rfl rfl)
theorem dL_law_922 : decode cL_law 922 = .ok (.iconst 0, 1) := dk_3 (dk_at dksL_law_33 20 rfl rfl)
theorem dL_law_923 : decode cL_law 923 = .ok (.ireturn, 1) := dk_172 (dk_at dksL_law_33 21 rfl rfl)
theorem dL_law_924 : decode cL_law 924 = .ok (.iload 5, 2) := dk_21 5 (dk_at dksL_law_33 22 rfl rfl)
theorem dL_law_926 : decode cL_law 926 = .ok (.ifCond .ne 15, 3) := dk_154 0 15 (dk_at dksL_law_34 0 rfl rfl)
theorem dL_law_929 : decode cL_law 929 = .ok (.aload_n 3, 1) := dk_45 (dk_at dksL_law_34 3 rfl rfl)
theorem dL_law_930 : decode cL_law 930 = .ok (.iconst 0, 1) := dk_3 (dk_at dksL_law_34 4 rfl rfl)
theorem dL_law_931 : decode cL_law 931 = .ok (.laload, 1) := dk_47 (dk_at dksL_law_34 5 rfl rfl)
theorem dL_law_932 : decode cL_law 932 = .ok (.iload 6, 2) := dk_21 6 (dk_at dksL_law_34 6 rfl rfl)
theorem dL_law_934 : decode cL_law 934 = .ok (.i2l, 1) := dk_133 (dk_at dksL_law_34 8 rfl rfl)
theorem dL_law_935 : decode cL_law 935 = .ok (.lcmp, 1) := dk_148 (dk_at dksL_law_34 9 rfl rfl)
theorem dL_law_936 : decode cL_law 936 = .ok (.ifCond .eq 5, 3) := dk_153 0 5 (dk_at dksL_law_34 10 rfl rfl)
theorem dL_law_939 : decode cL_law 939 = .ok (.iconst 0, 1) := dk_3 (dk_at dksL_law_34 13 rfl rfl)
theorem dL_law_940 : decode cL_law 940 = .ok (.ireturn, 1) := dk_172 (dk_at dksL_law_34 14 rfl rfl)
theorem dL_law_941 : decode cL_law 941 = .ok (.goto 1025, 3) := dk_167 4 1 (dk_at dksL_law_34 15 rfl rfl)
theorem dL_law_944 : decode cL_law 944 = .ok (.aload_n 1, 1) := dk_43 (dk_at dksL_law_34 18 rfl rfl)
theorem dL_law_945 : decode cL_law 945 = .ok (.aload_n 0, 1) := dk_42 (dk_at dksL_law_34 19 rfl rfl)
theorem dL_law_946 : decode cL_law 946 = .ok (.iload 4, 2) := dk_21 4 (dk_at dksL_law_34 20 rfl rfl)
theorem dL_law_948 : decode cL_law 948 = .ok (.iconst 1, 1) := dk_4 (dk_at dksL_law_34 22 rfl rfl)
theorem dL_law_949 : decode cL_law 949 = .ok (.iadd, 1) := dk_96 (dk_at dksL_law_34 23 rfl rfl)
theorem dL_law_950 : decode cL_law 950 = .ok (.iaload, 1) := dk_46 (dk_at dksL_law_35 0 rfl rfl)
theorem dL_law_951 : decode cL_law 951 = .ok (.ifCond .eq 7, 3) := dk_153 0 7 (dk_at dksL_law_35 1 rfl rfl)
theorem dL_law_954 : decode cL_law 954 = .ok (.iconst 1, 1) := dk_4 (dk_at dksL_law_35 4 rfl rfl)
theorem dL_law_955 : decode cL_law 955 = .ok (.goto 4, 3) := dk_167 0 4 (dk_at dksL_law_35 5 rfl rfl)
theorem dL_law_958 : decode cL_law 958 = .ok (.iconst 0, 1) := dk_3 (dk_at dksL_law_35 8 rfl rfl)
theorem dL_law_959 : decode cL_law 959 = .ok (.invokevirtual 164, 3) := dk_182 0 164 (dk_at dksL_law_35 9 rfl rfl)
theorem dL_law_962 : decode cL_law 962 = .ok (.aload_n 2, 1) := dk_44 (dk_at dksL_law_35 12 rfl rfl)
theorem dL_law_963 : decode cL_law 963 = .ok (.aload_n 0, 1) := dk_42 (dk_at dksL_law_35 13 rfl rfl)
theorem dL_law_964 : decode cL_law 964 = .ok (.iload 4, 2) := dk_21 4 (dk_at dksL_law_35 14 rfl rfl)
theorem dL_law_966 : decode cL_law 966 = .ok (.iconst 1, 1) := dk_4 (dk_at dksL_law_35 16 rfl rfl)
theorem dL_law_967 : decode cL_law 967 = .ok (.iadd, 1) := dk_96 (dk_at dksL_law_35 17 rfl rfl)
theorem dL_law_968 : decode cL_law 968 = .ok (.iaload, 1) := dk_46 (dk_at dksL_law_35 18 rfl rfl)
theorem dL_law_969 : decode cL_law 969 = .ok (.ifCond .eq 7, 3) := dk_153 0 7 (dk_at dksL_law_35 19 rfl rfl)
theorem dL_law_972 : decode cL_law 972 = .ok (.iconst 1, 1) := dk_4 (dk_at dksL_law_35 22 rfl rfl)
theorem dL_law_973 : decode cL_law 973 = .ok (.goto 4, 3) := dk_167 0 4 (dk_at dksL_law_36 0 rfl rfl)
theorem dL_law_976 : decode cL_law 976 = .ok (.iconst 0, 1) := dk_3 (dk_at dksL_law_36 3 rfl rfl)
theorem dL_law_977 : decode cL_law 977 = .ok (.invokevirtual 168, 3) := dk_182 0 168 (dk_at dksL_law_36 4 rfl rfl)
theorem dL_law_980 : decode cL_law 980 = .ok (.if_icmp .eq 986, 3) := dk_159 3 218 (dk_at dksL_law_36 7 rfl rfl)
theorem dL_law_983 : decode cL_law 983 = .ok (.iconst 0, 1) := dk_3 (dk_at dksL_law_36 10 rfl rfl)
theorem dL_law_984 : decode cL_law 984 = .ok (.ireturn, 1) := dk_172 (dk_at dksL_law_36 11 rfl rfl)
theorem dL_law_985 : decode cL_law 985 = .ok (.aload_n 1, 1) := dk_43 (dk_at dksL_law_36 12 rfl rfl)
theorem dL_law_986 : decode cL_law 986 = .ok (.aload_n 0, 1) := dk_42 (dk_at dksL_law_36 13 rfl rfl)
theorem dL_law_987 : decode cL_law 987 = .ok (.iload 4, 2) := dk_21 4 (dk_at dksL_law_36 14 rfl rfl)
theorem dL_law_989 : decode cL_law 989 = .ok (.iconst 1, 1) := dk_4 (dk_at dksL_law_36 16 rfl rfl)
theorem dL_law_990 : decode cL_law 990 = .ok (.iadd, 1) := dk_96 (dk_at dksL_law_36 17 rfl rfl)
theorem dL_law_991 : decode cL_law 991 = .ok (.iaload, 1) := dk_46 (dk_at dksL_law_36 18 rfl rfl)
theorem dL_law_992 : decode cL_law 992 = .ok (.aload_n 0, 1) := dk_42 (dk_at dksL_law_36 19 rfl rfl)
theorem dL_law_993 : decode cL_law 993 = .ok (.iload 4, 2) := dk_21 4 (dk_at dksL_law_36 20 rfl rfl)
theorem dL_law_995 : decode cL_law 995 = .ok (.iconst 2, 1) := dk_5 (dk_at dksL_law_36 22 rfl rfl)
theorem dL_law_996 : decode cL_law 996 = .ok (.iadd, 1) := dk_96 (dk_at dksL_law_36 23 rfl rfl)
theorem dL_law_997 : decode cL_law 997 = .ok (.iaload, 1) := dk_46 (dk_at dksL_law_37 0 rfl rfl)
theorem dL_law_998 : decode cL_law 998 = .ok (.aload_n 0, 1) := dk_42 (dk_at dksL_law_37 1 rfl rfl)
theorem dL_law_999 : decode cL_law 999 = .ok (.iload 4, 2) := dk_21 4 (dk_at dksL_law_37 2 rfl rfl)
theorem dL_law_1001 : decode cL_law 1001 = .ok (.iconst 3, 1) := dk_6 (dk_at dksL_law_37 4 rfl rfl)
theorem dL_law_1002 : decode cL_law 1002 = .ok (.iadd, 1) := dk_96 (dk_at dksL_law_37 5 rfl rfl)
theorem dL_law_1003 : decode cL_law 1003 = .ok (.iaload, 1) := dk_46 (dk_at dksL_law_37 6 rfl rfl)
theorem dL_law_1004 : decode cL_law 1004 = .ok (.ifCond .eq 7, 3) := dk_153 0 7 (dk_at dksL_law_37 7 rfl rfl)
theorem dL_law_1007 : decode cL_law 1007 = .ok (.iconst 1, 1) := dk_4 (dk_at dksL_law_37 10 rfl rfl)
theorem dL_law_1008 : decode cL_law 1008 = .ok (.goto 4, 3) := dk_167 0 4 (dk_at dksL_law_37 11 rfl rfl)
theorem dL_law_1011 : decode cL_law 1011 = .ok (.iconst 0, 1) := dk_3 (dk_at dksL_law_37 14 rfl rfl)
theorem dL_law_1012 : decode cL_law 1012 = .ok (.aload_n 3, 1) := dk_45 (dk_at dksL_law_37 15 rfl rfl)
theorem dL_law_1013 : decode cL_law 1013 = .ok (.invokestatic 169, 3) := dk_184 0 169 (dk_at dksL_law_37 16 rfl rfl)
theorem dL_law_1016 : decode cL_law 1016 = .ok (.istore 5, 2) := dk_54 5 (dk_at dksL_law_37 19 rfl rfl)
theorem dL_law_1018 : decode cL_law 1018 = .ok (.aload_n 2, 1) := dk_44 (dk_at dksL_law_37 21 rfl rfl)
theorem dL_law_1019 : decode cL_law 1019 = .ok (.aload_n 0, 1) := dk_42 (dk_at dksL_law_37 22 rfl rfl)
theorem dL_law_1020 : decode cL_law 1020 = .ok (.iload 4, 2) := dk_21 4 (dk_at dksL_law_38 0 rfl rfl)
theorem dL_law_1022 : decode cL_law 1022 = .ok (.iconst 1, 1) := dk_4 (dk_at dksL_law_38 2 rfl rfl)
theorem dL_law_1023 : decode cL_law 1023 = .ok (.iadd, 1) := dk_96 (dk_at dksL_law_38 3 rfl rfl)
theorem dL_law_1024 : decode cL_law 1024 = .ok (.iaload, 1) := dk_46 (dk_at dksL_law_38 4 rfl rfl)
theorem dL_law_1025 : decode cL_law 1025 = .ok (.aload_n 0, 1) := dk_42 (dk_at dksL_law_38 5 rfl rfl)
theorem dL_law_1026 : decode cL_law 1026 = .ok (.iload 4, 2) := dk_21 4 (dk_at dksL_law_38 6 rfl rfl)
theorem dL_law_1028 : decode cL_law 1028 = .ok (.iconst 2, 1) := dk_5 (dk_at dksL_law_38 8 rfl rfl)
theorem dL_law_1029 : decode cL_law 1029 = .ok (.iadd, 1) := dk_96 (dk_at dksL_law_38 9 rfl rfl)
theorem dL_law_1030 : decode cL_law 1030 = .ok (.iaload, 1) := dk_46 (dk_at dksL_law_38 10 rfl rfl)
theorem dL_law_1031 : decode cL_law 1031 = .ok (.aload_n 0, 1) := dk_42 (dk_at dksL_law_38 11 rfl rfl)
theorem dL_law_1032 : decode cL_law 1032 = .ok (.iload 4, 2) := dk_21 4 (dk_at dksL_law_38 12 rfl rfl)
theorem dL_law_1034 : decode cL_law 1034 = .ok (.iconst 3, 1) := dk_6 (dk_at dksL_law_38 14 rfl rfl)
theorem dL_law_1035 : decode cL_law 1035 = .ok (.iadd, 1) := dk_96 (dk_at dksL_law_38 15 rfl rfl)
theorem dL_law_1036 : decode cL_law 1036 = .ok (.iaload, 1) := dk_46 (dk_at dksL_law_38 16 rfl rfl)
theorem dL_law_1037 : decode cL_law 1037 = .ok (.ifCond .eq 7, 3) := dk_153 0 7 (dk_at dksL_law_38 17 rfl rfl)
theorem dL_law_1040 : decode cL_law 1040 = .ok (.iconst 1, 1) := dk_4 (dk_at dksL_law_38 20 rfl rfl)
theorem dL_law_1041 : decode cL_law 1041 = .ok (.goto 4, 3) := dk_167 0 4 (dk_at dksL_law_38 21 rfl rfl)
theorem dL_law_1044 : decode cL_law 1044 = .ok (.iconst 0, 1) := dk_3 (dk_at dksL_law_39 0 rfl rfl)
theorem dL_law_1045 : decode cL_law 1045 = .ok (.invokevirtual 172, 3) := dk_182 0 172 (dk_at dksL_law_39 1 rfl rfl)
theorem dL_law_1048 : decode cL_law 1048 = .ok (.istore 6, 2) := dk_54 6 (dk_at dksL_law_39 4 rfl rfl)
theorem dL_law_1050 : decode cL_law 1050 = .ok (.aload_n 2, 1) := dk_44 (dk_at dksL_law_39 6 rfl rfl)
theorem dL_law_1051 : decode cL_law 1051 = .ok (.invokevirtual 110, 3) := dk_182 0 110 (dk_at dksL_law_39 7 rfl rfl)
theorem dL_law_1054 : decode cL_law 1054 = .ok (.iload 5, 2) := dk_21 5 (dk_at dksL_law_39 10 rfl rfl)
theorem dL_law_1056 : decode cL_law 1056 = .ok (.if_icmp .eq 5, 3) := dk_159 0 5 (dk_at dksL_law_39 12 rfl rfl)
theorem dL_law_1059 : decode cL_law 1059 = .ok (.iconst 0, 1) := dk_3 (dk_at dksL_law_39 15 rfl rfl)
theorem dL_law_1060 : decode cL_law 1060 = .ok (.ireturn, 1) := dk_172 (dk_at dksL_law_39 16 rfl rfl)
theorem dL_law_1061 : decode cL_law 1061 = .ok (.iload 5, 2) := dk_21 5 (dk_at dksL_law_39 17 rfl rfl)
theorem dL_law_1063 : decode cL_law 1063 = .ok (.ifCond .ne 22, 3) := dk_154 0 22 (dk_at dksL_law_39 19 rfl rfl)
theorem dL_law_1066 : decode cL_law 1066 = .ok (.aload_n 3, 1) := dk_45 (dk_at dksL_law_39 22 rfl rfl)
theorem dL_law_1067 : decode cL_law 1067 = .ok (.iconst 0, 1) := dk_3 (dk_at dksL_law_39 23 rfl rfl)
theorem dL_law_1068 : decode cL_law 1068 = .ok (.laload, 1) := dk_47 (dk_at dksL_law_40 0 rfl rfl)
theorem dL_law_1069 : decode cL_law 1069 = .ok (.iload 6, 2) := dk_21 6 (dk_at dksL_law_40 1 rfl rfl)
theorem dL_law_1071 : decode cL_law 1071 = .ok (.ifCond .eq 7, 3) := dk_153 0 7 (dk_at dksL_law_40 3 rfl rfl)
theorem dL_law_1074 : decode cL_law 1074 = .ok (.lconst 1, 1) := dk_10 (dk_at dksL_law_40 6 rfl rfl)
theorem dL_law_1075 : decode cL_law 1075 = .ok (.goto 4, 3) := dk_167 0 4 (dk_at dksL_law_40 7 rfl rfl)
theorem dL_law_1078 : decode cL_law 1078 = .ok (.lconst 0, 1) := dk_9 (dk_at dksL_law_40 10 rfl rfl)
theorem dL_law_1079 : decode cL_law 1079 = .ok (.lcmp, 1) := dk_148 (dk_at dksL_law_40 11 rfl rfl)
theorem dL_law_1080 : decode cL_law 1080 = .ok (.ifCond .eq 5, 3) := dk_153 0 5 (dk_at dksL_law_40 12 rfl rfl)
theorem dL_law_1083 : decode cL_law 1083 = .ok (.iconst 0, 1) := dk_3 (dk_at dksL_law_40 15 rfl rfl)
theorem dL_law_1084 : decode cL_law 1084 = .ok (.ireturn, 1) := dk_172 (dk_at dksL_law_40 16 rfl rfl)
theorem dL_law_1085 : decode cL_law 1085 = .ok (.goto 881, 3) := dk_167 3 113 (dk_at dksL_law_40 17 rfl rfl)
theorem dL_law_1088 : decode cL_law 1088 = .ok (.aload_n 1, 1) := dk_43 (dk_at dksL_law_40 20 rfl rfl)
theorem dL_law_1089 : decode cL_law 1089 = .ok (.invokevirtual 173, 3) := dk_182 0 173 (dk_at dksL_law_40 21 rfl rfl)
theorem dL_law_1092 : decode cL_law 1092 = .ok (.aload_n 2, 1) := dk_44 (dk_at dksL_law_41 0 rfl rfl)
theorem dL_law_1093 : decode cL_law 1093 = .ok (.invokevirtual 176, 3) := dk_182 0 176 (dk_at dksL_law_41 1 rfl rfl)
theorem dL_law_1096 : decode cL_law 1096 = .ok (.if_icmp .eq 870, 3) := dk_159 3 102 (dk_at dksL_law_41 4 rfl rfl)
theorem dL_law_1099 : decode cL_law 1099 = .ok (.iconst 0, 1) := dk_3 (dk_at dksL_law_41 7 rfl rfl)
theorem dL_law_1100 : decode cL_law 1100 = .ok (.ireturn, 1) := dk_172 (dk_at dksL_law_41 8 rfl rfl)
theorem dL_law_1101 : decode cL_law 1101 = .ok (.aload_n 1, 1) := dk_43 (dk_at dksL_law_41 9 rfl rfl)
theorem dL_law_1102 : decode cL_law 1102 = .ok (.aload_n 0, 1) := dk_42 (dk_at dksL_law_41 10 rfl rfl)
theorem dL_law_1103 : decode cL_law 1103 = .ok (.iload 4, 2) := dk_21 4 (dk_at dksL_law_41 11 rfl rfl)
theorem dL_law_1105 : decode cL_law 1105 = .ok (.iconst 1, 1) := dk_4 (dk_at dksL_law_41 13 rfl rfl)
theorem dL_law_1106 : decode cL_law 1106 = .ok (.iadd, 1) := dk_96 (dk_at dksL_law_41 14 rfl rfl)
theorem dL_law_1107 : decode cL_law 1107 = .ok (.iaload, 1) := dk_46 (dk_at dksL_law_41 15 rfl rfl)
theorem dL_law_1108 : decode cL_law 1108 = .ok (.aload_n 3, 1) := dk_45 (dk_at dksL_law_41 16 rfl rfl)
theorem dL_law_1109 : decode cL_law 1109 = .ok (.invokestatic 177, 3) := dk_184 0 177 (dk_at dksL_law_41 17 rfl rfl)
theorem dL_law_1112 : decode cL_law 1112 = .ok (.istore 5, 2) := dk_54 5 (dk_at dksL_law_41 20 rfl rfl)
theorem dL_law_1114 : decode cL_law 1114 = .ok (.aload_n 2, 1) := dk_44 (dk_at dksL_law_41 22 rfl rfl)
theorem dL_law_1115 : decode cL_law 1115 = .ok (.aload_n 0, 1) := dk_42 (dk_at dksL_law_41 23 rfl rfl)
theorem dL_law_1116 : decode cL_law 1116 = .ok (.iload 4, 2) := dk_21 4 (dk_at dksL_law_42 0 rfl rfl)
theorem dL_law_1118 : decode cL_law 1118 = .ok (.iconst 1, 1) := dk_4 (dk_at dksL_law_42 2 rfl rfl)
theorem dL_law_1119 : decode cL_law 1119 = .ok (.iadd, 1) := dk_96 (dk_at dksL_law_42 3 rfl rfl)
theorem dL_law_1120 : decode cL_law 1120 = .ok (.iaload, 1) := dk_46 (dk_at dksL_law_42 4 rfl rfl)
theorem dL_law_1121 : decode cL_law 1121 = .ok (.invokevirtual 179, 3) := dk_182 0 179 (dk_at dksL_law_42 5 rfl rfl)
theorem dL_law_1124 : decode cL_law 1124 = .ok (.istore 6, 2) := dk_54 6 (dk_at dksL_law_42 8 rfl rfl)
theorem dL_law_1126 : decode cL_law 1126 = .ok (.aload_n 2, 1) := dk_44 (dk_at dksL_law_42 10 rfl rfl)
theorem dL_law_1127 : decode cL_law 1127 = .ok (.invokevirtual 110, 3) := dk_182 0 110 (dk_at dksL_law_42 11 rfl rfl)
theorem dL_law_1130 : decode cL_law 1130 = .ok (.iload 5, 2) := dk_21 5 (dk_at dksL_law_42 14 rfl rfl)
theorem dL_law_1132 : decode cL_law 1132 = .ok (.if_icmp .eq 5, 3) := dk_159 0 5 (dk_at dksL_law_42 16 rfl rfl)
theorem dL_law_1135 : decode cL_law 1135 = .ok (.iconst 0, 1) := dk_3 (dk_at dksL_law_42 19 rfl rfl)
theorem dL_law_1136 : decode cL_law 1136 = .ok (.ireturn, 1) := dk_172 (dk_at dksL_law_42 20 rfl rfl)
theorem dL_law_1137 : decode cL_law 1137 = .ok (.iload 5, 2) := dk_21 5 (dk_at dksL_law_42 21 rfl rfl)
theorem dL_law_1139 : decode cL_law 1139 = .ok (.ifCond .ne 15, 3) := dk_154 0 15 (dk_at dksL_law_43 0 rfl rfl)
theorem dL_law_1142 : decode cL_law 1142 = .ok (.aload_n 3, 1) := dk_45 (dk_at dksL_law_43 3 rfl rfl)
theorem dL_law_1143 : decode cL_law 1143 = .ok (.iconst 0, 1) := dk_3 (dk_at dksL_law_43 4 rfl rfl)
theorem dL_law_1144 : decode cL_law 1144 = .ok (.laload, 1) := dk_47 (dk_at dksL_law_43 5 rfl rfl)
theorem dL_law_1145 : decode cL_law 1145 = .ok (.iload 6, 2) := dk_21 6 (dk_at dksL_law_43 6 rfl rfl)
theorem dL_law_1147 : decode cL_law 1147 = .ok (.i2l, 1) := dk_133 (dk_at dksL_law_43 8 rfl rfl)
theorem dL_law_1148 : decode cL_law 1148 = .ok (.lcmp, 1) := dk_148 (dk_at dksL_law_43 9 rfl rfl)
theorem dL_law_1149 : decode cL_law 1149 = .ok (.ifCond .eq 5, 3) := dk_153 0 5 (dk_at dksL_law_43 10 rfl rfl)
theorem dL_law_1152 : decode cL_law 1152 = .ok (.iconst 0, 1) := dk_3 (dk_at dksL_law_43 13 rfl rfl)
theorem dL_law_1153 : decode cL_law 1153 = .ok (.ireturn, 1) := dk_172 (dk_at dksL_law_43 14 rfl rfl)
theorem dL_law_1154 : decode cL_law 1154 = .ok (.goto 812, 3) := dk_167 3 44 (dk_at dksL_law_43 15 rfl rfl)
theorem dL_law_1157 : decode cL_law 1157 = .ok (.aload_n 1, 1) := dk_43 (dk_at dksL_law_43 18 rfl rfl)
theorem dL_law_1158 : decode cL_law 1158 = .ok (.invokevirtual 180, 3) := dk_182 0 180 (dk_at dksL_law_43 19 rfl rfl)
theorem dL_law_1161 : decode cL_law 1161 = .ok (.aload_n 2, 1) := dk_44 (dk_at dksL_law_43 22 rfl rfl)
theorem dL_law_1162 : decode cL_law 1162 = .ok (.invokevirtual 183, 3) := dk_182 0 183 (dk_at dksL_law_44 0 rfl rfl)
theorem dL_law_1165 : decode cL_law 1165 = .ok (.if_icmp .eq 801, 3) := dk_159 3 33 (dk_at dksL_law_44 3 rfl rfl)
theorem dL_law_1168 : decode cL_law 1168 = .ok (.iconst 0, 1) := dk_3 (dk_at dksL_law_44 6 rfl rfl)
theorem dL_law_1169 : decode cL_law 1169 = .ok (.ireturn, 1) := dk_172 (dk_at dksL_law_44 7 rfl rfl)
theorem dL_law_1170 : decode cL_law 1170 = .ok (.aload_n 1, 1) := dk_43 (dk_at dksL_law_44 8 rfl rfl)
theorem dL_law_1171 : decode cL_law 1171 = .ok (.aload_n 0, 1) := dk_42 (dk_at dksL_law_44 9 rfl rfl)
theorem dL_law_1172 : decode cL_law 1172 = .ok (.iload 4, 2) := dk_21 4 (dk_at dksL_law_44 10 rfl rfl)
theorem dL_law_1174 : decode cL_law 1174 = .ok (.iconst 1, 1) := dk_4 (dk_at dksL_law_44 12 rfl rfl)
theorem dL_law_1175 : decode cL_law 1175 = .ok (.iadd, 1) := dk_96 (dk_at dksL_law_44 13 rfl rfl)
theorem dL_law_1176 : decode cL_law 1176 = .ok (.iaload, 1) := dk_46 (dk_at dksL_law_44 14 rfl rfl)
theorem dL_law_1177 : decode cL_law 1177 = .ok (.aload_n 3, 1) := dk_45 (dk_at dksL_law_44 15 rfl rfl)
theorem dL_law_1178 : decode cL_law 1178 = .ok (.invokestatic 184, 3) := dk_184 0 184 (dk_at dksL_law_44 16 rfl rfl)
theorem dL_law_1181 : decode cL_law 1181 = .ok (.istore 5, 2) := dk_54 5 (dk_at dksL_law_44 19 rfl rfl)
theorem dL_law_1183 : decode cL_law 1183 = .ok (.aload_n 2, 1) := dk_44 (dk_at dksL_law_44 21 rfl rfl)
theorem dL_law_1184 : decode cL_law 1184 = .ok (.aload_n 0, 1) := dk_42 (dk_at dksL_law_44 22 rfl rfl)
theorem dL_law_1185 : decode cL_law 1185 = .ok (.iload 4, 2) := dk_21 4 (dk_at dksL_law_45 0 rfl rfl)
theorem dL_law_1187 : decode cL_law 1187 = .ok (.iconst 1, 1) := dk_4 (dk_at dksL_law_45 2 rfl rfl)
theorem dL_law_1188 : decode cL_law 1188 = .ok (.iadd, 1) := dk_96 (dk_at dksL_law_45 3 rfl rfl)
theorem dL_law_1189 : decode cL_law 1189 = .ok (.iaload, 1) := dk_46 (dk_at dksL_law_45 4 rfl rfl)
theorem dL_law_1190 : decode cL_law 1190 = .ok (.invokevirtual 186, 3) := dk_182 0 186 (dk_at dksL_law_45 5 rfl rfl)
theorem dL_law_1193 : decode cL_law 1193 = .ok (.istore 6, 2) := dk_54 6 (dk_at dksL_law_45 8 rfl rfl)
theorem dL_law_1195 : decode cL_law 1195 = .ok (.aload_n 2, 1) := dk_44 (dk_at dksL_law_45 10 rfl rfl)
theorem dL_law_1196 : decode cL_law 1196 = .ok (.invokevirtual 110, 3) := dk_182 0 110 (dk_at dksL_law_45 11 rfl rfl)
theorem dL_law_1199 : decode cL_law 1199 = .ok (.iload 5, 2) := dk_21 5 (dk_at dksL_law_45 14 rfl rfl)
theorem dL_law_1201 : decode cL_law 1201 = .ok (.if_icmp .eq 5, 3) := dk_159 0 5 (dk_at dksL_law_45 16 rfl rfl)
theorem dL_law_1204 : decode cL_law 1204 = .ok (.iconst 0, 1) := dk_3 (dk_at dksL_law_45 19 rfl rfl)
theorem dL_law_1205 : decode cL_law 1205 = .ok (.ireturn, 1) := dk_172 (dk_at dksL_law_45 20 rfl rfl)
theorem dL_law_1206 : decode cL_law 1206 = .ok (.iload 5, 2) := dk_21 5 (dk_at dksL_law_45 21 rfl rfl)
theorem dL_law_1208 : decode cL_law 1208 = .ok (.ifCond .ne 15, 3) := dk_154 0 15 (dk_at dksL_law_46 0 rfl rfl)
theorem dL_law_1211 : decode cL_law 1211 = .ok (.aload_n 3, 1) := dk_45 (dk_at dksL_law_46 3 rfl rfl)
theorem dL_law_1212 : decode cL_law 1212 = .ok (.iconst 0, 1) := dk_3 (dk_at dksL_law_46 4 rfl rfl)
theorem dL_law_1213 : decode cL_law 1213 = .ok (.laload, 1) := dk_47 (dk_at dksL_law_46 5 rfl rfl)
theorem dL_law_1214 : decode cL_law 1214 = .ok (.iload 6, 2) := dk_21 6 (dk_at dksL_law_46 6 rfl rfl)
theorem dL_law_1216 : decode cL_law 1216 = .ok (.i2l, 1) := dk_133 (dk_at dksL_law_46 8 rfl rfl)
theorem dL_law_1217 : decode cL_law 1217 = .ok (.lcmp, 1) := dk_148 (dk_at dksL_law_46 9 rfl rfl)
theorem dL_law_1218 : decode cL_law 1218 = .ok (.ifCond .eq 5, 3) := dk_153 0 5 (dk_at dksL_law_46 10 rfl rfl)
theorem dL_law_1221 : decode cL_law 1221 = .ok (.iconst 0, 1) := dk_3 (dk_at dksL_law_46 13 rfl rfl)
theorem dL_law_1222 : decode cL_law 1222 = .ok (.ireturn, 1) := dk_172 (dk_at dksL_law_46 14 rfl rfl)
theorem dL_law_1223 : decode cL_law 1223 = .ok (.goto 743, 3) := dk_167 2 231 (dk_at dksL_law_46 15 rfl rfl)
theorem dL_law_1226 : decode cL_law 1226 = .ok (.aload_n 1, 1) := dk_43 (dk_at dksL_law_46 18 rfl rfl)
theorem dL_law_1227 : decode cL_law 1227 = .ok (.aload_n 0, 1) := dk_42 (dk_at dksL_law_46 19 rfl rfl)
theorem dL_law_1228 : decode cL_law 1228 = .ok (.iload 4, 2) := dk_21 4 (dk_at dksL_law_46 20 rfl rfl)
theorem dL_law_1230 : decode cL_law 1230 = .ok (.iconst 1, 1) := dk_4 (dk_at dksL_law_46 22 rfl rfl)
theorem dL_law_1231 : decode cL_law 1231 = .ok (.iadd, 1) := dk_96 (dk_at dksL_law_46 23 rfl rfl)
theorem dL_law_1232 : decode cL_law 1232 = .ok (.iaload, 1) := dk_46 (dk_at dksL_law_47 0 rfl rfl)
theorem dL_law_1233 : decode cL_law 1233 = .ok (.aload_n 3, 1) := dk_45 (dk_at dksL_law_47 1 rfl rfl)
theorem dL_law_1234 : decode cL_law 1234 = .ok (.invokestatic 187, 3) := dk_184 0 187 (dk_at dksL_law_47 2 rfl rfl)
theorem dL_law_1237 : decode cL_law 1237 = .ok (.istore 5, 2) := dk_54 5 (dk_at dksL_law_47 5 rfl rfl)
theorem dL_law_1239 : decode cL_law 1239 = .ok (.aload_n 2, 1) := dk_44 (dk_at dksL_law_47 7 rfl rfl)
theorem dL_law_1240 : decode cL_law 1240 = .ok (.aload_n 0, 1) := dk_42 (dk_at dksL_law_47 8 rfl rfl)
theorem dL_law_1241 : decode cL_law 1241 = .ok (.iload 4, 2) := dk_21 4 (dk_at dksL_law_47 9 rfl rfl)
theorem dL_law_1243 : decode cL_law 1243 = .ok (.iconst 1, 1) := dk_4 (dk_at dksL_law_47 11 rfl rfl)
theorem dL_law_1244 : decode cL_law 1244 = .ok (.iadd, 1) := dk_96 (dk_at dksL_law_47 12 rfl rfl)
theorem dL_law_1245 : decode cL_law 1245 = .ok (.iaload, 1) := dk_46 (dk_at dksL_law_47 13 rfl rfl)
theorem dL_law_1246 : decode cL_law 1246 = .ok (.invokevirtual 189, 3) := dk_182 0 189 (dk_at dksL_law_47 14 rfl rfl)
theorem dL_law_1249 : decode cL_law 1249 = .ok (.istore 6, 2) := dk_54 6 (dk_at dksL_law_47 17 rfl rfl)
theorem dL_law_1251 : decode cL_law 1251 = .ok (.aload_n 2, 1) := dk_44 (dk_at dksL_law_47 19 rfl rfl)
theorem dL_law_1252 : decode cL_law 1252 = .ok (.invokevirtual 110, 3) := dk_182 0 110 (dk_at dksL_law_47 20 rfl rfl)
theorem dL_law_1255 : decode cL_law 1255 = .ok (.iload 5, 2) := dk_21 5 (dk_at dksL_law_48 0 rfl rfl)
theorem dL_law_1257 : decode cL_law 1257 = .ok (.if_icmp .eq 5, 3) := dk_159 0 5 (dk_at dksL_law_48 2 rfl rfl)
theorem dL_law_1260 : decode cL_law 1260 = .ok (.iconst 0, 1) := dk_3 (dk_at dksL_law_48 5 rfl rfl)
theorem dL_law_1261 : decode cL_law 1261 = .ok (.ireturn, 1) := dk_172 (dk_at dksL_law_48 6 rfl rfl)
theorem dL_law_1262 : decode cL_law 1262 = .ok (.iload 5, 2) := dk_21 5 (dk_at dksL_law_48 7 rfl rfl)
theorem dL_law_1264 : decode cL_law 1264 = .ok (.ifCond .ne 22, 3) := dk_154 0 22 (dk_at dksL_law_48 9 rfl rfl)
theorem dL_law_1267 : decode cL_law 1267 = .ok (.aload_n 3, 1) := dk_45 (dk_at dksL_law_48 12 rfl rfl)
theorem dL_law_1268 : decode cL_law 1268 = .ok (.iconst 0, 1) := dk_3 (dk_at dksL_law_48 13 rfl rfl)
theorem dL_law_1269 : decode cL_law 1269 = .ok (.laload, 1) := dk_47 (dk_at dksL_law_48 14 rfl rfl)
theorem dL_law_1270 : decode cL_law 1270 = .ok (.iload 6, 2) := dk_21 6 (dk_at dksL_law_48 15 rfl rfl)
theorem dL_law_1272 : decode cL_law 1272 = .ok (.ifCond .eq 7, 3) := dk_153 0 7 (dk_at dksL_law_48 17 rfl rfl)
theorem dL_law_1275 : decode cL_law 1275 = .ok (.lconst 1, 1) := dk_10 (dk_at dksL_law_48 20 rfl rfl)
theorem dL_law_1276 : decode cL_law 1276 = .ok (.goto 4, 3) := dk_167 0 4 (dk_at dksL_law_48 21 rfl rfl)
theorem dL_law_1279 : decode cL_law 1279 = .ok (.lconst 0, 1) := dk_9 (dk_at dksL_law_49 0 rfl rfl)
theorem dL_law_1280 : decode cL_law 1280 = .ok (.lcmp, 1) := dk_148 (dk_at dksL_law_49 1 rfl rfl)
theorem dL_law_1281 : decode cL_law 1281 = .ok (.ifCond .eq 5, 3) := dk_153 0 5 (dk_at dksL_law_49 2 rfl rfl)
theorem dL_law_1284 : decode cL_law 1284 = .ok (.iconst 0, 1) := dk_3 (dk_at dksL_law_49 5 rfl rfl)
theorem dL_law_1285 : decode cL_law 1285 = .ok (.ireturn, 1) := dk_172 (dk_at dksL_law_49 6 rfl rfl)
theorem dL_law_1286 : decode cL_law 1286 = .ok (.goto 680, 3) := dk_167 2 168 (dk_at dksL_law_49 7 rfl rfl)
theorem dL_law_1289 : decode cL_law 1289 = .ok (.aload_n 1, 1) := dk_43 (dk_at dksL_law_49 10 rfl rfl)
theorem dL_law_1290 : decode cL_law 1290 = .ok (.aload_n 0, 1) := dk_42 (dk_at dksL_law_49 11 rfl rfl)
theorem dL_law_1291 : decode cL_law 1291 = .ok (.iload 4, 2) := dk_21 4 (dk_at dksL_law_49 12 rfl rfl)
theorem dL_law_1293 : decode cL_law 1293 = .ok (.iconst 1, 1) := dk_4 (dk_at dksL_law_49 14 rfl rfl)
theorem dL_law_1294 : decode cL_law 1294 = .ok (.iadd, 1) := dk_96 (dk_at dksL_law_49 15 rfl rfl)
theorem dL_law_1295 : decode cL_law 1295 = .ok (.iaload, 1) := dk_46 (dk_at dksL_law_49 16 rfl rfl)
theorem dL_law_1296 : decode cL_law 1296 = .ok (.aload_n 0, 1) := dk_42 (dk_at dksL_law_49 17 rfl rfl)
theorem dL_law_1297 : decode cL_law 1297 = .ok (.iload 4, 2) := dk_21 4 (dk_at dksL_law_49 18 rfl rfl)
theorem dL_law_1299 : decode cL_law 1299 = .ok (.iconst 2, 1) := dk_5 (dk_at dksL_law_49 20 rfl rfl)
theorem dL_law_1300 : decode cL_law 1300 = .ok (.iadd, 1) := dk_96 (dk_at dksL_law_49 21 rfl rfl)
theorem dL_law_1301 : decode cL_law 1301 = .ok (.iaload, 1) := dk_46 (dk_at dksL_law_49 22 rfl rfl)
theorem dL_law_1302 : decode cL_law 1302 = .ok (.aload_n 3, 1) := dk_45 (dk_at dksL_law_49 23 rfl rfl)
theorem dL_law_1303 : decode cL_law 1303 = .ok (.invokestatic 190, 3) := dk_184 0 190 (dk_at dksL_law_50 0 rfl rfl)
theorem dL_law_1306 : decode cL_law 1306 = .ok (.istore 5, 2) := dk_54 5 (dk_at dksL_law_50 3 rfl rfl)
theorem dL_law_1308 : decode cL_law 1308 = .ok (.aload_n 2, 1) := dk_44 (dk_at dksL_law_50 5 rfl rfl)
theorem dL_law_1309 : decode cL_law 1309 = .ok (.aload_n 0, 1) := dk_42 (dk_at dksL_law_50 6 rfl rfl)
theorem dL_law_1310 : decode cL_law 1310 = .ok (.iload 4, 2) := dk_21 4 (dk_at dksL_law_50 7 rfl rfl)
theorem dL_law_1312 : decode cL_law 1312 = .ok (.iconst 1, 1) := dk_4 (dk_at dksL_law_50 9 rfl rfl)
theorem dL_law_1313 : decode cL_law 1313 = .ok (.iadd, 1) := dk_96 (dk_at dksL_law_50 10 rfl rfl)
theorem dL_law_1314 : decode cL_law 1314 = .ok (.iaload, 1) := dk_46 (dk_at dksL_law_50 11 rfl rfl)
theorem dL_law_1315 : decode cL_law 1315 = .ok (.aload_n 0, 1) := dk_42 (dk_at dksL_law_50 12 rfl rfl)
theorem dL_law_1316 : decode cL_law 1316 = .ok (.iload 4, 2) := dk_21 4 (dk_at dksL_law_50 13 rfl rfl)
theorem dL_law_1318 : decode cL_law 1318 = .ok (.iconst 2, 1) := dk_5 (dk_at dksL_law_50 15 rfl rfl)
theorem dL_law_1319 : decode cL_law 1319 = .ok (.iadd, 1) := dk_96 (dk_at dksL_law_50 16 rfl rfl)
theorem dL_law_1320 : decode cL_law 1320 = .ok (.iaload, 1) := dk_46 (dk_at dksL_law_50 17 rfl rfl)
theorem dL_law_1321 : decode cL_law 1321 = .ok (.invokevirtual 192, 3) := dk_182 0 192 (dk_at dksL_law_50 18 rfl rfl)
theorem dL_law_1324 : decode cL_law 1324 = .ok (.istore 6, 2) := dk_54 6 (dk_at dksL_law_50 21 rfl rfl)
theorem dL_law_1326 : decode cL_law 1326 = .ok (.aload_n 2, 1) := dk_44 (dk_at dksL_law_50 23 rfl rfl)
theorem dL_law_1327 : decode cL_law 1327 = .ok (.invokevirtual 110, 3) := dk_182 0 110 (dk_at dksL_law_51 0 rfl rfl)
theorem dL_law_1330 : decode cL_law 1330 = .ok (.iload 5, 2) := dk_21 5 (dk_at dksL_law_51 3 rfl rfl)
theorem dL_law_1332 : decode cL_law 1332 = .ok (.if_icmp .eq 5, 3) := dk_159 0 5 (dk_at dksL_law_51 5 rfl rfl)
theorem dL_law_1335 : decode cL_law 1335 = .ok (.iconst 0, 1) := dk_3 (dk_at dksL_law_51 8 rfl rfl)
theorem dL_law_1336 : decode cL_law 1336 = .ok (.ireturn, 1) := dk_172 (dk_at dksL_law_51 9 rfl rfl)
theorem dL_law_1337 : decode cL_law 1337 = .ok (.iload 5, 2) := dk_21 5 (dk_at dksL_law_51 10 rfl rfl)
theorem dL_law_1339 : decode cL_law 1339 = .ok (.ifCond .ne 22, 3) := dk_154 0 22 (dk_at dksL_law_51 12 rfl rfl)
theorem dL_law_1342 : decode cL_law 1342 = .ok (.aload_n 3, 1) := dk_45 (dk_at dksL_law_51 15 rfl rfl)
theorem dL_law_1343 : decode cL_law 1343 = .ok (.iconst 0, 1) := dk_3 (dk_at dksL_law_51 16 rfl rfl)
theorem dL_law_1344 : decode cL_law 1344 = .ok (.laload, 1) := dk_47 (dk_at dksL_law_51 17 rfl rfl)
theorem dL_law_1345 : decode cL_law 1345 = .ok (.iload 6, 2) := dk_21 6 (dk_at dksL_law_51 18 rfl rfl)
theorem dL_law_1347 : decode cL_law 1347 = .ok (.ifCond .eq 7, 3) := dk_153 0 7 (dk_at dksL_law_51 20 rfl rfl)
theorem dL_law_1350 : decode cL_law 1350 = .ok (.lconst 1, 1) := dk_10 (dk_at dksL_law_51 23 rfl rfl)
theorem dL_law_1351 : decode cL_law 1351 = .ok (.goto 4, 3) := dk_167 0 4 (dk_at dksL_law_52 0 rfl rfl)
theorem dL_law_1354 : decode cL_law 1354 = .ok (.lconst 0, 1) := dk_9 (dk_at dksL_law_52 3 rfl rfl)
theorem dL_law_1355 : decode cL_law 1355 = .ok (.lcmp, 1) := dk_148 (dk_at dksL_law_52 4 rfl rfl)
theorem dL_law_1356 : decode cL_law 1356 = .ok (.ifCond .eq 5, 3) := dk_153 0 5 (dk_at dksL_law_52 5 rfl rfl)
theorem dL_law_1359 : decode cL_law 1359 = .ok (.iconst 0, 1) := dk_3 (dk_at dksL_law_52 8 rfl rfl)
theorem dL_law_1360 : decode cL_law 1360 = .ok (.ireturn, 1) := dk_172 (dk_at dksL_law_52 9 rfl rfl)
theorem dL_law_1361 : decode cL_law 1361 = .ok (.goto 605, 3) := dk_167 2 93 (dk_at dksL_law_52 10 rfl rfl)
theorem dL_law_1364 : decode cL_law 1364 = .ok (.aload_n 1, 1) := dk_43 (dk_at dksL_law_52 13 rfl rfl)
theorem dL_law_1365 : decode cL_law 1365 = .ok (.aload_n 0, 1) := dk_42 (dk_at dksL_law_52 14 rfl rfl)
theorem dL_law_1366 : decode cL_law 1366 = .ok (.iload 4, 2) := dk_21 4 (dk_at dksL_law_52 15 rfl rfl)
theorem dL_law_1368 : decode cL_law 1368 = .ok (.iconst 1, 1) := dk_4 (dk_at dksL_law_52 17 rfl rfl)
theorem dL_law_1369 : decode cL_law 1369 = .ok (.iadd, 1) := dk_96 (dk_at dksL_law_52 18 rfl rfl)
theorem dL_law_1370 : decode cL_law 1370 = .ok (.iaload, 1) := dk_46 (dk_at dksL_law_52 19 rfl rfl)
theorem dL_law_1371 : decode cL_law 1371 = .ok (.aload_n 3, 1) := dk_45 (dk_at dksL_law_52 20 rfl rfl)
theorem dL_law_1372 : decode cL_law 1372 = .ok (.invokestatic 193, 3) := dk_184 0 193 (dk_at dksL_law_52 21 rfl rfl)
theorem dL_law_1375 : decode cL_law 1375 = .ok (.istore 5, 2) := dk_54 5 (dk_at dksL_law_53 0 rfl rfl)
theorem dL_law_1377 : decode cL_law 1377 = .ok (.aload_n 2, 1) := dk_44 (dk_at dksL_law_53 2 rfl rfl)
theorem dL_law_1378 : decode cL_law 1378 = .ok (.aload_n 0, 1) := dk_42 (dk_at dksL_law_53 3 rfl rfl)
theorem dL_law_1379 : decode cL_law 1379 = .ok (.iload 4, 2) := dk_21 4 (dk_at dksL_law_53 4 rfl rfl)
theorem dL_law_1381 : decode cL_law 1381 = .ok (.iconst 1, 1) := dk_4 (dk_at dksL_law_53 6 rfl rfl)
theorem dL_law_1382 : decode cL_law 1382 = .ok (.iadd, 1) := dk_96 (dk_at dksL_law_53 7 rfl rfl)
theorem dL_law_1383 : decode cL_law 1383 = .ok (.iaload, 1) := dk_46 (dk_at dksL_law_53 8 rfl rfl)
theorem dL_law_1384 : decode cL_law 1384 = .ok (.invokevirtual 195, 3) := dk_182 0 195 (dk_at dksL_law_53 9 rfl rfl)
theorem dL_law_1387 : decode cL_law 1387 = .ok (.istore 6, 2) := dk_54 6 (dk_at dksL_law_53 12 rfl rfl)
theorem dL_law_1389 : decode cL_law 1389 = .ok (.aload_n 2, 1) := dk_44 (dk_at dksL_law_53 14 rfl rfl)
theorem dL_law_1390 : decode cL_law 1390 = .ok (.invokevirtual 110, 3) := dk_182 0 110 (dk_at dksL_law_53 15 rfl rfl)
theorem dL_law_1393 : decode cL_law 1393 = .ok (.iload 5, 2) := dk_21 5 (dk_at dksL_law_53 18 rfl rfl)
theorem dL_law_1395 : decode cL_law 1395 = .ok (.if_icmp .eq 5, 3) := dk_159 0 5 (dk_at dksL_law_53 20 rfl rfl)
theorem dL_law_1398 : decode cL_law 1398 = .ok (.iconst 0, 1) := dk_3 (dk_at dksL_law_53 23 rfl rfl)
theorem dL_law_1399 : decode cL_law 1399 = .ok (.ireturn, 1) := dk_172 (dk_at dksL_law_54 0 rfl rfl)
theorem dL_law_1400 : decode cL_law 1400 = .ok (.iload 5, 2) := dk_21 5 (dk_at dksL_law_54 1 rfl rfl)
theorem dL_law_1402 : decode cL_law 1402 = .ok (.ifCond .ne 15, 3) := dk_154 0 15 (dk_at dksL_law_54 3 rfl rfl)
theorem dL_law_1405 : decode cL_law 1405 = .ok (.aload_n 3, 1) := dk_45 (dk_at dksL_law_54 6 rfl rfl)
theorem dL_law_1406 : decode cL_law 1406 = .ok (.iconst 0, 1) := dk_3 (dk_at dksL_law_54 7 rfl rfl)
theorem dL_law_1407 : decode cL_law 1407 = .ok (.laload, 1) := dk_47 (dk_at dksL_law_54 8 rfl rfl)
theorem dL_law_1408 : decode cL_law 1408 = .ok (.iload 6, 2) := dk_21 6 (dk_at dksL_law_54 9 rfl rfl)
theorem dL_law_1410 : decode cL_law 1410 = .ok (.i2l, 1) := dk_133 (dk_at dksL_law_54 11 rfl rfl)
theorem dL_law_1411 : decode cL_law 1411 = .ok (.lcmp, 1) := dk_148 (dk_at dksL_law_54 12 rfl rfl)
theorem dL_law_1412 : decode cL_law 1412 = .ok (.ifCond .eq 5, 3) := dk_153 0 5 (dk_at dksL_law_54 13 rfl rfl)
theorem dL_law_1415 : decode cL_law 1415 = .ok (.iconst 0, 1) := dk_3 (dk_at dksL_law_54 16 rfl rfl)
theorem dL_law_1416 : decode cL_law 1416 = .ok (.ireturn, 1) := dk_172 (dk_at dksL_law_54 17 rfl rfl)
theorem dL_law_1417 : decode cL_law 1417 = .ok (.goto 549, 3) := dk_167 2 37 (dk_at dksL_law_54 18 rfl rfl)
theorem dL_law_1420 : decode cL_law 1420 = .ok (.aload_n 1, 1) := dk_43 (dk_at dksL_law_54 21 rfl rfl)
theorem dL_law_1421 : decode cL_law 1421 = .ok (.invokevirtual 196, 3) := dk_182 0 196 (dk_at dksL_law_55 0 rfl rfl)
theorem dL_law_1424 : decode cL_law 1424 = .ok (.aload_n 2, 1) := dk_44 (dk_at dksL_law_55 3 rfl rfl)
theorem dL_law_1425 : decode cL_law 1425 = .ok (.invokevirtual 199, 3) := dk_182 0 199 (dk_at dksL_law_55 4 rfl rfl)
theorem dL_law_1428 : decode cL_law 1428 = .ok (.if_icmp .eq 538, 3) := dk_159 2 26 (dk_at dksL_law_55 7 rfl rfl)
theorem dL_law_1431 : decode cL_law 1431 = .ok (.iconst 0, 1) := dk_3 (dk_at dksL_law_55 10 rfl rfl)
theorem dL_law_1432 : decode cL_law 1432 = .ok (.ireturn, 1) := dk_172 (dk_at dksL_law_55 11 rfl rfl)
theorem dL_law_1433 : decode cL_law 1433 = .ok (.aload_n 1, 1) := dk_43 (dk_at dksL_law_55 12 rfl rfl)
theorem dL_law_1434 : decode cL_law 1434 = .ok (.aload_n 0, 1) := dk_42 (dk_at dksL_law_55 13 rfl rfl)
theorem dL_law_1435 : decode cL_law 1435 = .ok (.iload 4, 2) := dk_21 4 (dk_at dksL_law_55 14 rfl rfl)
theorem dL_law_1437 : decode cL_law 1437 = .ok (.iconst 1, 1) := dk_4 (dk_at dksL_law_55 16 rfl rfl)
theorem dL_law_1438 : decode cL_law 1438 = .ok (.iadd, 1) := dk_96 (dk_at dksL_law_55 17 rfl rfl)
theorem dL_law_1439 : decode cL_law 1439 = .ok (.iaload, 1) := dk_46 (dk_at dksL_law_55 18 rfl rfl)
theorem dL_law_1440 : decode cL_law 1440 = .ok (.aload_n 3, 1) := dk_45 (dk_at dksL_law_55 19 rfl rfl)
theorem dL_law_1441 : decode cL_law 1441 = .ok (.invokestatic 200, 3) := dk_184 0 200 (dk_at dksL_law_55 20 rfl rfl)
theorem dL_law_1444 : decode cL_law 1444 = .ok (.istore 5, 2) := dk_54 5 (dk_at dksL_law_56 0 rfl rfl)
theorem dL_law_1446 : decode cL_law 1446 = .ok (.aload_n 2, 1) := dk_44 (dk_at dksL_law_56 2 rfl rfl)
theorem dL_law_1447 : decode cL_law 1447 = .ok (.aload_n 0, 1) := dk_42 (dk_at dksL_law_56 3 rfl rfl)
theorem dL_law_1448 : decode cL_law 1448 = .ok (.iload 4, 2) := dk_21 4 (dk_at dksL_law_56 4 rfl rfl)
theorem dL_law_1450 : decode cL_law 1450 = .ok (.iconst 1, 1) := dk_4 (dk_at dksL_law_56 6 rfl rfl)
theorem dL_law_1451 : decode cL_law 1451 = .ok (.iadd, 1) := dk_96 (dk_at dksL_law_56 7 rfl rfl)
theorem dL_law_1452 : decode cL_law 1452 = .ok (.iaload, 1) := dk_46 (dk_at dksL_law_56 8 rfl rfl)
theorem dL_law_1453 : decode cL_law 1453 = .ok (.invokevirtual 202, 3) := dk_182 0 202 (dk_at dksL_law_56 9 rfl rfl)
theorem dL_law_1456 : decode cL_law 1456 = .ok (.istore 6, 2) := dk_54 6 (dk_at dksL_law_56 12 rfl rfl)
theorem dL_law_1458 : decode cL_law 1458 = .ok (.aload_n 2, 1) := dk_44 (dk_at dksL_law_56 14 rfl rfl)
theorem dL_law_1459 : decode cL_law 1459 = .ok (.invokevirtual 110, 3) := dk_182 0 110 (dk_at dksL_law_56 15 rfl rfl)
theorem dL_law_1462 : decode cL_law 1462 = .ok (.iload 5, 2) := dk_21 5 (dk_at dksL_law_56 18 rfl rfl)
theorem dL_law_1464 : decode cL_law 1464 = .ok (.if_icmp .eq 5, 3) := dk_159 0 5 (dk_at dksL_law_56 20 rfl rfl)
theorem dL_law_1467 : decode cL_law 1467 = .ok (.iconst 0, 1) := dk_3 (dk_at dksL_law_56 23 rfl rfl)
theorem dL_law_1468 : decode cL_law 1468 = .ok (.ireturn, 1) := dk_172 (dk_at dksL_law_57 0 rfl rfl)
theorem dL_law_1469 : decode cL_law 1469 = .ok (.iload 5, 2) := dk_21 5 (dk_at dksL_law_57 1 rfl rfl)
theorem dL_law_1471 : decode cL_law 1471 = .ok (.ifCond .ne 15, 3) := dk_154 0 15 (dk_at dksL_law_57 3 rfl rfl)
theorem dL_law_1474 : decode cL_law 1474 = .ok (.aload_n 3, 1) := dk_45 (dk_at dksL_law_57 6 rfl rfl)
theorem dL_law_1475 : decode cL_law 1475 = .ok (.iconst 0, 1) := dk_3 (dk_at dksL_law_57 7 rfl rfl)
theorem dL_law_1476 : decode cL_law 1476 = .ok (.laload, 1) := dk_47 (dk_at dksL_law_57 8 rfl rfl)
theorem dL_law_1477 : decode cL_law 1477 = .ok (.iload 6, 2) := dk_21 6 (dk_at dksL_law_57 9 rfl rfl)
theorem dL_law_1479 : decode cL_law 1479 = .ok (.i2l, 1) := dk_133 (dk_at dksL_law_57 11 rfl rfl)
theorem dL_law_1480 : decode cL_law 1480 = .ok (.lcmp, 1) := dk_148 (dk_at dksL_law_57 12 rfl rfl)
theorem dL_law_1481 : decode cL_law 1481 = .ok (.ifCond .eq 5, 3) := dk_153 0 5 (dk_at dksL_law_57 13 rfl rfl)
theorem dL_law_1484 : decode cL_law 1484 = .ok (.iconst 0, 1) := dk_3 (dk_at dksL_law_57 16 rfl rfl)
theorem dL_law_1485 : decode cL_law 1485 = .ok (.ireturn, 1) := dk_172 (dk_at dksL_law_57 17 rfl rfl)
theorem dL_law_1486 : decode cL_law 1486 = .ok (.goto 480, 3) := dk_167 1 224 (dk_at dksL_law_57 18 rfl rfl)
theorem dL_law_1489 : decode cL_law 1489 = .ok (.aload_n 1, 1) := dk_43 (dk_at dksL_law_57 21 rfl rfl)
theorem dL_law_1490 : decode cL_law 1490 = .ok (.invokevirtual 203, 3) := dk_182 0 203 (dk_at dksL_law_58 0 rfl rfl)
theorem dL_law_1493 : decode cL_law 1493 = .ok (.aload_n 2, 1) := dk_44 (dk_at dksL_law_58 3 rfl rfl)
theorem dL_law_1494 : decode cL_law 1494 = .ok (.invokevirtual 206, 3) := dk_182 0 206 (dk_at dksL_law_58 4 rfl rfl)
theorem dL_law_1497 : decode cL_law 1497 = .ok (.if_icmp .eq 469, 3) := dk_159 1 213 (dk_at dksL_law_58 7 rfl rfl)
theorem dL_law_1500 : decode cL_law 1500 = .ok (.iconst 0, 1) := dk_3 (dk_at dksL_law_58 10 rfl rfl)
theorem dL_law_1501 : decode cL_law 1501 = .ok (.ireturn, 1) := dk_172 (dk_at dksL_law_58 11 rfl rfl)
theorem dL_law_1502 : decode cL_law 1502 = .ok (.aload_n 1, 1) := dk_43 (dk_at dksL_law_58 12 rfl rfl)
theorem dL_law_1503 : decode cL_law 1503 = .ok (.aload_n 0, 1) := dk_42 (dk_at dksL_law_58 13 rfl rfl)
theorem dL_law_1504 : decode cL_law 1504 = .ok (.iload 4, 2) := dk_21 4 (dk_at dksL_law_58 14 rfl rfl)
theorem dL_law_1506 : decode cL_law 1506 = .ok (.iconst 1, 1) := dk_4 (dk_at dksL_law_58 16 rfl rfl)
theorem dL_law_1507 : decode cL_law 1507 = .ok (.iadd, 1) := dk_96 (dk_at dksL_law_58 17 rfl rfl)
theorem dL_law_1508 : decode cL_law 1508 = .ok (.iaload, 1) := dk_46 (dk_at dksL_law_58 18 rfl rfl)
theorem dL_law_1509 : decode cL_law 1509 = .ok (.aload_n 3, 1) := dk_45 (dk_at dksL_law_58 19 rfl rfl)
theorem dL_law_1510 : decode cL_law 1510 = .ok (.invokestatic 207, 3) := dk_184 0 207 (dk_at dksL_law_58 20 rfl rfl)
theorem dL_law_1513 : decode cL_law 1513 = .ok (.istore 5, 2) := dk_54 5 (dk_at dksL_law_59 0 rfl rfl)
theorem dL_law_1515 : decode cL_law 1515 = .ok (.aload_n 2, 1) := dk_44 (dk_at dksL_law_59 2 rfl rfl)
theorem dL_law_1516 : decode cL_law 1516 = .ok (.aload_n 0, 1) := dk_42 (dk_at dksL_law_59 3 rfl rfl)
theorem dL_law_1517 : decode cL_law 1517 = .ok (.iload 4, 2) := dk_21 4 (dk_at dksL_law_59 4 rfl rfl)
theorem dL_law_1519 : decode cL_law 1519 = .ok (.iconst 1, 1) := dk_4 (dk_at dksL_law_59 6 rfl rfl)
theorem dL_law_1520 : decode cL_law 1520 = .ok (.iadd, 1) := dk_96 (dk_at dksL_law_59 7 rfl rfl)
theorem dL_law_1521 : decode cL_law 1521 = .ok (.iaload, 1) := dk_46 (dk_at dksL_law_59 8 rfl rfl)
theorem dL_law_1522 : decode cL_law 1522 = .ok (.invokevirtual 209, 3) := dk_182 0 209 (dk_at dksL_law_59 9 rfl rfl)
theorem dL_law_1525 : decode cL_law 1525 = .ok (.istore 6, 2) := dk_54 6 (dk_at dksL_law_59 12 rfl rfl)
theorem dL_law_1527 : decode cL_law 1527 = .ok (.aload_n 2, 1) := dk_44 (dk_at dksL_law_59 14 rfl rfl)
theorem dL_law_1528 : decode cL_law 1528 = .ok (.invokevirtual 110, 3) := dk_182 0 110 (dk_at dksL_law_59 15 rfl rfl)
theorem dL_law_1531 : decode cL_law 1531 = .ok (.iload 5, 2) := dk_21 5 (dk_at dksL_law_59 18 rfl rfl)
theorem dL_law_1533 : decode cL_law 1533 = .ok (.if_icmp .eq 5, 3) := dk_159 0 5 (dk_at dksL_law_59 20 rfl rfl)
theorem dL_law_1536 : decode cL_law 1536 = .ok (.iconst 0, 1) := dk_3 (dk_at dksL_law_59 23 rfl rfl)
theorem dL_law_1537 : decode cL_law 1537 = .ok (.ireturn, 1) := dk_172 (dk_at dksL_law_60 0 rfl rfl)
theorem dL_law_1538 : decode cL_law 1538 = .ok (.iload 5, 2) := dk_21 5 (dk_at dksL_law_60 1 rfl rfl)
theorem dL_law_1540 : decode cL_law 1540 = .ok (.ifCond .ne 15, 3) := dk_154 0 15 (dk_at dksL_law_60 3 rfl rfl)
theorem dL_law_1543 : decode cL_law 1543 = .ok (.aload_n 3, 1) := dk_45 (dk_at dksL_law_60 6 rfl rfl)
theorem dL_law_1544 : decode cL_law 1544 = .ok (.iconst 0, 1) := dk_3 (dk_at dksL_law_60 7 rfl rfl)
theorem dL_law_1545 : decode cL_law 1545 = .ok (.laload, 1) := dk_47 (dk_at dksL_law_60 8 rfl rfl)
theorem dL_law_1546 : decode cL_law 1546 = .ok (.iload 6, 2) := dk_21 6 (dk_at dksL_law_60 9 rfl rfl)
theorem dL_law_1548 : decode cL_law 1548 = .ok (.i2l, 1) := dk_133 (dk_at dksL_law_60 11 rfl rfl)
theorem dL_law_1549 : decode cL_law 1549 = .ok (.lcmp, 1) := dk_148 (dk_at dksL_law_60 12 rfl rfl)
theorem dL_law_1550 : decode cL_law 1550 = .ok (.ifCond .eq 5, 3) := dk_153 0 5 (dk_at dksL_law_60 13 rfl rfl)
theorem dL_law_1553 : decode cL_law 1553 = .ok (.iconst 0, 1) := dk_3 (dk_at dksL_law_60 16 rfl rfl)
theorem dL_law_1554 : decode cL_law 1554 = .ok (.ireturn, 1) := dk_172 (dk_at dksL_law_60 17 rfl rfl)
theorem dL_law_1555 : decode cL_law 1555 = .ok (.goto 411, 3) := dk_167 1 155 (dk_at dksL_law_60 18 rfl rfl)
theorem dL_law_1558 : decode cL_law 1558 = .ok (.aload_n 1, 1) := dk_43 (dk_at dksL_law_60 21 rfl rfl)
theorem dL_law_1559 : decode cL_law 1559 = .ok (.aload_n 0, 1) := dk_42 (dk_at dksL_law_60 22 rfl rfl)
theorem dL_law_1560 : decode cL_law 1560 = .ok (.iload 4, 2) := dk_21 4 (dk_at dksL_law_61 0 rfl rfl)
theorem dL_law_1562 : decode cL_law 1562 = .ok (.iconst 1, 1) := dk_4 (dk_at dksL_law_61 2 rfl rfl)
theorem dL_law_1563 : decode cL_law 1563 = .ok (.iadd, 1) := dk_96 (dk_at dksL_law_61 3 rfl rfl)
theorem dL_law_1564 : decode cL_law 1564 = .ok (.iaload, 1) := dk_46 (dk_at dksL_law_61 4 rfl rfl)
theorem dL_law_1565 : decode cL_law 1565 = .ok (.aload_n 3, 1) := dk_45 (dk_at dksL_law_61 5 rfl rfl)
theorem dL_law_1566 : decode cL_law 1566 = .ok (.invokestatic 210, 3) := dk_184 0 210 (dk_at dksL_law_61 6 rfl rfl)
theorem dL_law_1569 : decode cL_law 1569 = .ok (.istore 5, 2) := dk_54 5 (dk_at dksL_law_61 9 rfl rfl)
theorem dL_law_1571 : decode cL_law 1571 = .ok (.aload_n 2, 1) := dk_44 (dk_at dksL_law_61 11 rfl rfl)
theorem dL_law_1572 : decode cL_law 1572 = .ok (.aload_n 0, 1) := dk_42 (dk_at dksL_law_61 12 rfl rfl)
theorem dL_law_1573 : decode cL_law 1573 = .ok (.iload 4, 2) := dk_21 4 (dk_at dksL_law_61 13 rfl rfl)
theorem dL_law_1575 : decode cL_law 1575 = .ok (.iconst 1, 1) := dk_4 (dk_at dksL_law_61 15 rfl rfl)
theorem dL_law_1576 : decode cL_law 1576 = .ok (.iadd, 1) := dk_96 (dk_at dksL_law_61 16 rfl rfl)
theorem dL_law_1577 : decode cL_law 1577 = .ok (.iaload, 1) := dk_46 (dk_at dksL_law_61 17 rfl rfl)
theorem dL_law_1578 : decode cL_law 1578 = .ok (.invokevirtual 212, 3) := dk_182 0 212 (dk_at dksL_law_61 18 rfl rfl)
theorem dL_law_1581 : decode cL_law 1581 = .ok (.istore 6, 2) := dk_54 6 (dk_at dksL_law_61 21 rfl rfl)
theorem dL_law_1583 : decode cL_law 1583 = .ok (.aload_n 2, 1) := dk_44 (dk_at dksL_law_61 23 rfl rfl)
theorem dL_law_1584 : decode cL_law 1584 = .ok (.invokevirtual 110, 3) := dk_182 0 110 (dk_at dksL_law_62 0 rfl rfl)
theorem dL_law_1587 : decode cL_law 1587 = .ok (.iload 5, 2) := dk_21 5 (dk_at dksL_law_62 3 rfl rfl)
theorem dL_law_1589 : decode cL_law 1589 = .ok (.if_icmp .eq 5, 3) := dk_159 0 5 (dk_at dksL_law_62 5 rfl rfl)
theorem dL_law_1592 : decode cL_law 1592 = .ok (.iconst 0, 1) := dk_3 (dk_at dksL_law_62 8 rfl rfl)
theorem dL_law_1593 : decode cL_law 1593 = .ok (.ireturn, 1) := dk_172 (dk_at dksL_law_62 9 rfl rfl)
theorem dL_law_1594 : decode cL_law 1594 = .ok (.iload 5, 2) := dk_21 5 (dk_at dksL_law_62 10 rfl rfl)
theorem dL_law_1596 : decode cL_law 1596 = .ok (.ifCond .ne 15, 3) := dk_154 0 15 (dk_at dksL_law_62 12 rfl rfl)
theorem dL_law_1599 : decode cL_law 1599 = .ok (.aload_n 3, 1) := dk_45 (dk_at dksL_law_62 15 rfl rfl)
theorem dL_law_1600 : decode cL_law 1600 = .ok (.iconst 0, 1) := dk_3 (dk_at dksL_law_62 16 rfl rfl)
theorem dL_law_1601 : decode cL_law 1601 = .ok (.laload, 1) := dk_47 (dk_at dksL_law_62 17 rfl rfl)
theorem dL_law_1602 : decode cL_law 1602 = .ok (.iload 6, 2) := dk_21 6 (dk_at dksL_law_62 18 rfl rfl)
theorem dL_law_1604 : decode cL_law 1604 = .ok (.i2l, 1) := dk_133 (dk_at dksL_law_62 20 rfl rfl)
theorem dL_law_1605 : decode cL_law 1605 = .ok (.lcmp, 1) := dk_148 (dk_at dksL_law_62 21 rfl rfl)
theorem dL_law_1606 : decode cL_law 1606 = .ok (.ifCond .eq 5, 3) := dk_153 0 5 (dk_at dksL_law_63 0 rfl rfl)
theorem dL_law_1609 : decode cL_law 1609 = .ok (.iconst 0, 1) := dk_3 (dk_at dksL_law_63 3 rfl rfl)
theorem dL_law_1610 : decode cL_law 1610 = .ok (.ireturn, 1) := dk_172 (dk_at dksL_law_63 4 rfl rfl)
theorem dL_law_1611 : decode cL_law 1611 = .ok (.goto 355, 3) := dk_167 1 99 (dk_at dksL_law_63 5 rfl rfl)
theorem dL_law_1614 : decode cL_law 1614 = .ok (.aload_n 1, 1) := dk_43 (dk_at dksL_law_63 8 rfl rfl)
theorem dL_law_1615 : decode cL_law 1615 = .ok (.invokevirtual 213, 3) := dk_182 0 213 (dk_at dksL_law_63 9 rfl rfl)
theorem dL_law_1618 : decode cL_law 1618 = .ok (.aload_n 2, 1) := dk_44 (dk_at dksL_law_63 12 rfl rfl)
theorem dL_law_1619 : decode cL_law 1619 = .ok (.invokevirtual 216, 3) := dk_182 0 216 (dk_at dksL_law_63 13 rfl rfl)
theorem dL_law_1622 : decode cL_law 1622 = .ok (.if_icmp .eq 344, 3) := dk_159 1 88 (dk_at dksL_law_63 16 rfl rfl)
theorem dL_law_1625 : decode cL_law 1625 = .ok (.iconst 0, 1) := dk_3 (dk_at dksL_law_63 19 rfl rfl)
theorem dL_law_1626 : decode cL_law 1626 = .ok (.ireturn, 1) := dk_172 (dk_at dksL_law_63 20 rfl rfl)
theorem dL_law_1627 : decode cL_law 1627 = .ok (.aload_n 1, 1) := dk_43 (dk_at dksL_law_63 21 rfl rfl)
theorem dL_law_1628 : decode cL_law 1628 = .ok (.invokevirtual 217, 3) := dk_182 0 217 (dk_at dksL_law_64 0 rfl rfl)
theorem dL_law_1631 : decode cL_law 1631 = .ok (.aload_n 2, 1) := dk_44 (dk_at dksL_law_64 3 rfl rfl)
theorem dL_law_1632 : decode cL_law 1632 = .ok (.invokevirtual 220, 3) := dk_182 0 220 (dk_at dksL_law_64 4 rfl rfl)
theorem dL_law_1635 : decode cL_law 1635 = .ok (.if_icmp .eq 331, 3) := dk_159 1 75 (dk_at dksL_law_64 7 rfl rfl)
theorem dL_law_1638 : decode cL_law 1638 = .ok (.iconst 0, 1) := dk_3 (dk_at dksL_law_64 10 rfl rfl)
theorem dL_law_1639 : decode cL_law 1639 = .ok (.ireturn, 1) := dk_172 (dk_at dksL_law_64 11 rfl rfl)
theorem dL_law_1640 : decode cL_law 1640 = .ok (.aload_n 1, 1) := dk_43 (dk_at dksL_law_64 12 rfl rfl)
theorem dL_law_1641 : decode cL_law 1641 = .ok (.invokevirtual 221, 3) := dk_182 0 221 (dk_at dksL_law_64 13 rfl rfl)
theorem dL_law_1644 : decode cL_law 1644 = .ok (.aload_n 2, 1) := dk_44 (dk_at dksL_law_64 16 rfl rfl)
theorem dL_law_1645 : decode cL_law 1645 = .ok (.invokevirtual 224, 3) := dk_182 0 224 (dk_at dksL_law_64 17 rfl rfl)
theorem dL_law_1648 : decode cL_law 1648 = .ok (.if_icmp .eq 318, 3) := dk_159 1 62 (dk_at dksL_law_64 20 rfl rfl)
theorem dL_law_1651 : decode cL_law 1651 = .ok (.iconst 0, 1) := dk_3 (dk_at dksL_law_64 23 rfl rfl)
theorem dL_law_1652 : decode cL_law 1652 = .ok (.ireturn, 1) := dk_172 (dk_at dksL_law_65 0 rfl rfl)
theorem dL_law_1653 : decode cL_law 1653 = .ok (.aload_n 1, 1) := dk_43 (dk_at dksL_law_65 1 rfl rfl)
theorem dL_law_1654 : decode cL_law 1654 = .ok (.aload_n 0, 1) := dk_42 (dk_at dksL_law_65 2 rfl rfl)
theorem dL_law_1655 : decode cL_law 1655 = .ok (.iload 4, 2) := dk_21 4 (dk_at dksL_law_65 3 rfl rfl)
theorem dL_law_1657 : decode cL_law 1657 = .ok (.iconst 1, 1) := dk_4 (dk_at dksL_law_65 5 rfl rfl)
theorem dL_law_1658 : decode cL_law 1658 = .ok (.iadd, 1) := dk_96 (dk_at dksL_law_65 6 rfl rfl)
theorem dL_law_1659 : decode cL_law 1659 = .ok (.iaload, 1) := dk_46 (dk_at dksL_law_65 7 rfl rfl)
theorem dL_law_1660 : decode cL_law 1660 = .ok (.aload_n 3, 1) := dk_45 (dk_at dksL_law_65 8 rfl rfl)
theorem dL_law_1661 : decode cL_law 1661 = .ok (.invokestatic 225, 3) := dk_184 0 225 (dk_at dksL_law_65 9 rfl rfl)
theorem dL_law_1664 : decode cL_law 1664 = .ok (.istore 5, 2) := dk_54 5 (dk_at dksL_law_65 12 rfl rfl)
theorem dL_law_1666 : decode cL_law 1666 = .ok (.aload_n 2, 1) := dk_44 (dk_at dksL_law_65 14 rfl rfl)
theorem dL_law_1667 : decode cL_law 1667 = .ok (.aload_n 0, 1) := dk_42 (dk_at dksL_law_65 15 rfl rfl)
theorem dL_law_1668 : decode cL_law 1668 = .ok (.iload 4, 2) := dk_21 4 (dk_at dksL_law_65 16 rfl rfl)
theorem dL_law_1670 : decode cL_law 1670 = .ok (.iconst 1, 1) := dk_4 (dk_at dksL_law_65 18 rfl rfl)
theorem dL_law_1671 : decode cL_law 1671 = .ok (.iadd, 1) := dk_96 (dk_at dksL_law_65 19 rfl rfl)
theorem dL_law_1672 : decode cL_law 1672 = .ok (.iaload, 1) := dk_46 (dk_at dksL_law_65 20 rfl rfl)
theorem dL_law_1673 : decode cL_law 1673 = .ok (.invokevirtual 227, 3) := dk_182 0 227 (dk_at dksL_law_65 21 rfl rfl)
theorem dL_law_1676 : decode cL_law 1676 = .ok (.istore 6, 2) := dk_54 6 (dk_at dksL_law_66 0 rfl rfl)
theorem dL_law_1678 : decode cL_law 1678 = .ok (.aload_n 2, 1) := dk_44 (dk_at dksL_law_66 2 rfl rfl)
theorem dL_law_1679 : decode cL_law 1679 = .ok (.invokevirtual 110, 3) := dk_182 0 110 (dk_at dksL_law_66 3 rfl rfl)
theorem dL_law_1682 : decode cL_law 1682 = .ok (.iload 5, 2) := dk_21 5 (dk_at dksL_law_66 6 rfl rfl)
theorem dL_law_1684 : decode cL_law 1684 = .ok (.if_icmp .eq 5, 3) := dk_159 0 5 (dk_at dksL_law_66 8 rfl rfl)
theorem dL_law_1687 : decode cL_law 1687 = .ok (.iconst 0, 1) := dk_3 (dk_at dksL_law_66 11 rfl rfl)
theorem dL_law_1688 : decode cL_law 1688 = .ok (.ireturn, 1) := dk_172 (dk_at dksL_law_66 12 rfl rfl)
theorem dL_law_1689 : decode cL_law 1689 = .ok (.iload 5, 2) := dk_21 5 (dk_at dksL_law_66 13 rfl rfl)
theorem dL_law_1691 : decode cL_law 1691 = .ok (.ifCond .ne 22, 3) := dk_154 0 22 (dk_at dksL_law_66 15 rfl rfl)
theorem dL_law_1694 : decode cL_law 1694 = .ok (.aload_n 3, 1) := dk_45 (dk_at dksL_law_66 18 rfl rfl)
theorem dL_law_1695 : decode cL_law 1695 = .ok (.iconst 0, 1) := dk_3 (dk_at dksL_law_66 19 rfl rfl)
theorem dL_law_1696 : decode cL_law 1696 = .ok (.laload, 1) := dk_47 (dk_at dksL_law_66 20 rfl rfl)
theorem dL_law_1697 : decode cL_law 1697 = .ok (.iload 6, 2) := dk_21 6 (dk_at dksL_law_66 21 rfl rfl)
theorem dL_law_1699 : decode cL_law 1699 = .ok (.ifCond .eq 7, 3) := dk_153 0 7 (dk_at dksL_law_67 0 rfl rfl)
theorem dL_law_1702 : decode cL_law 1702 = .ok (.lconst 1, 1) := dk_10 (dk_at dksL_law_67 3 rfl rfl)
theorem dL_law_1703 : decode cL_law 1703 = .ok (.goto 4, 3) := dk_167 0 4 (dk_at dksL_law_67 4 rfl rfl)
theorem dL_law_1706 : decode cL_law 1706 = .ok (.lconst 0, 1) := dk_9 (dk_at dksL_law_67 7 rfl rfl)
theorem dL_law_1707 : decode cL_law 1707 = .ok (.lcmp, 1) := dk_148 (dk_at dksL_law_67 8 rfl rfl)
theorem dL_law_1708 : decode cL_law 1708 = .ok (.ifCond .eq 5, 3) := dk_153 0 5 (dk_at dksL_law_67 9 rfl rfl)
theorem dL_law_1711 : decode cL_law 1711 = .ok (.iconst 0, 1) := dk_3 (dk_at dksL_law_67 12 rfl rfl)
theorem dL_law_1712 : decode cL_law 1712 = .ok (.ireturn, 1) := dk_172 (dk_at dksL_law_67 13 rfl rfl)
theorem dL_law_1713 : decode cL_law 1713 = .ok (.goto 253, 3) := dk_167 0 253 (dk_at dksL_law_67 14 rfl rfl)
theorem dL_law_1716 : decode cL_law 1716 = .ok (.aload_n 1, 1) := dk_43 (dk_at dksL_law_67 17 rfl rfl)
theorem dL_law_1717 : decode cL_law 1717 = .ok (.aload_n 0, 1) := dk_42 (dk_at dksL_law_67 18 rfl rfl)
theorem dL_law_1718 : decode cL_law 1718 = .ok (.iload 4, 2) := dk_21 4 (dk_at dksL_law_67 19 rfl rfl)
theorem dL_law_1720 : decode cL_law 1720 = .ok (.iconst 1, 1) := dk_4 (dk_at dksL_law_67 21 rfl rfl)
theorem dL_law_1721 : decode cL_law 1721 = .ok (.iadd, 1) := dk_96 (dk_at dksL_law_67 22 rfl rfl)
theorem dL_law_1722 : decode cL_law 1722 = .ok (.iaload, 1) := dk_46 (dk_at dksL_law_67 23 rfl rfl)
theorem dL_law_1723 : decode cL_law 1723 = .ok (.aload_n 3, 1) := dk_45 (dk_at dksL_law_68 0 rfl rfl)
theorem dL_law_1724 : decode cL_law 1724 = .ok (.invokestatic 228, 3) := dk_184 0 228 (dk_at dksL_law_68 1 rfl rfl)
theorem dL_law_1727 : decode cL_law 1727 = .ok (.istore 5, 2) := dk_54 5 (dk_at dksL_law_68 4 rfl rfl)
theorem dL_law_1729 : decode cL_law 1729 = .ok (.aload_n 2, 1) := dk_44 (dk_at dksL_law_68 6 rfl rfl)
theorem dL_law_1730 : decode cL_law 1730 = .ok (.aload_n 0, 1) := dk_42 (dk_at dksL_law_68 7 rfl rfl)
theorem dL_law_1731 : decode cL_law 1731 = .ok (.iload 4, 2) := dk_21 4 (dk_at dksL_law_68 8 rfl rfl)
theorem dL_law_1733 : decode cL_law 1733 = .ok (.iconst 1, 1) := dk_4 (dk_at dksL_law_68 10 rfl rfl)
theorem dL_law_1734 : decode cL_law 1734 = .ok (.iadd, 1) := dk_96 (dk_at dksL_law_68 11 rfl rfl)
theorem dL_law_1735 : decode cL_law 1735 = .ok (.iaload, 1) := dk_46 (dk_at dksL_law_68 12 rfl rfl)
theorem dL_law_1736 : decode cL_law 1736 = .ok (.invokevirtual 230, 3) := dk_182 0 230 (dk_at dksL_law_68 13 rfl rfl)
theorem dL_law_1739 : decode cL_law 1739 = .ok (.istore 6, 2) := dk_54 6 (dk_at dksL_law_68 16 rfl rfl)
theorem dL_law_1741 : decode cL_law 1741 = .ok (.aload_n 2, 1) := dk_44 (dk_at dksL_law_68 18 rfl rfl)
theorem dL_law_1742 : decode cL_law 1742 = .ok (.invokevirtual 110, 3) := dk_182 0 110 (dk_at dksL_law_68 19 rfl rfl)
theorem dL_law_1745 : decode cL_law 1745 = .ok (.iload 5, 2) := dk_21 5 (dk_at dksL_law_68 22 rfl rfl)
theorem dL_law_1747 : decode cL_law 1747 = .ok (.if_icmp .eq 5, 3) := dk_159 0 5 (dk_at dksL_law_69 0 rfl rfl)
theorem dL_law_1750 : decode cL_law 1750 = .ok (.iconst 0, 1) := dk_3 (dk_at dksL_law_69 3 rfl rfl)
theorem dL_law_1751 : decode cL_law 1751 = .ok (.ireturn, 1) := dk_172 (dk_at dksL_law_69 4 rfl rfl)
theorem dL_law_1752 : decode cL_law 1752 = .ok (.iload 5, 2) := dk_21 5 (dk_at dksL_law_69 5 rfl rfl)
theorem dL_law_1754 : decode cL_law 1754 = .ok (.ifCond .ne 15, 3) := dk_154 0 15 (dk_at dksL_law_69 7 rfl rfl)
theorem dL_law_1757 : decode cL_law 1757 = .ok (.aload_n 3, 1) := dk_45 (dk_at dksL_law_69 10 rfl rfl)
theorem dL_law_1758 : decode cL_law 1758 = .ok (.iconst 0, 1) := dk_3 (dk_at dksL_law_69 11 rfl rfl)
theorem dL_law_1759 : decode cL_law 1759 = .ok (.laload, 1) := dk_47 (dk_at dksL_law_69 12 rfl rfl)
theorem dL_law_1760 : decode cL_law 1760 = .ok (.iload 6, 2) := dk_21 6 (dk_at dksL_law_69 13 rfl rfl)
theorem dL_law_1762 : decode cL_law 1762 = .ok (.i2l, 1) := dk_133 (dk_at dksL_law_69 15 rfl rfl)
theorem dL_law_1763 : decode cL_law 1763 = .ok (.lcmp, 1) := dk_148 (dk_at dksL_law_69 16 rfl rfl)
theorem dL_law_1764 : decode cL_law 1764 = .ok (.ifCond .eq 5, 3) := dk_153 0 5 (dk_at dksL_law_69 17 rfl rfl)
theorem dL_law_1767 : decode cL_law 1767 = .ok (.iconst 0, 1) := dk_3 (dk_at dksL_law_69 20 rfl rfl)
theorem dL_law_1768 : decode cL_law 1768 = .ok (.ireturn, 1) := dk_172 (dk_at dksL_law_69 21 rfl rfl)
theorem dL_law_1769 : decode cL_law 1769 = .ok (.goto 197, 3) := dk_167 0 197 (dk_at dksL_law_70 0 rfl rfl)
theorem dL_law_1772 : decode cL_law 1772 = .ok (.aload_n 1, 1) := dk_43 (dk_at dksL_law_70 3 rfl rfl)
theorem dL_law_1773 : decode cL_law 1773 = .ok (.aload_n 3, 1) := dk_45 (dk_at dksL_law_70 4 rfl rfl)
theorem dL_law_1774 : decode cL_law 1774 = .ok (.invokestatic 231, 3) := dk_184 0 231 (dk_at dksL_law_70 5 rfl rfl)
theorem dL_law_1777 : decode cL_law 1777 = .ok (.istore 5, 2) := dk_54 5 (dk_at dksL_law_70 8 rfl rfl)
theorem dL_law_1779 : decode cL_law 1779 = .ok (.aload_n 2, 1) := dk_44 (dk_at dksL_law_70 10 rfl rfl)
theorem dL_law_1780 : decode cL_law 1780 = .ok (.invokevirtual 233, 3) := dk_182 0 233 (dk_at dksL_law_70 11 rfl rfl)
theorem dL_law_1783 : decode cL_law 1783 = .ok (.istore 6, 2) := dk_54 6 (dk_at dksL_law_70 14 rfl rfl)
theorem dL_law_1785 : decode cL_law 1785 = .ok (.aload_n 2, 1) := dk_44 (dk_at dksL_law_70 16 rfl rfl)
theorem dL_law_1786 : decode cL_law 1786 = .ok (.invokevirtual 110, 3) := dk_182 0 110 (dk_at dksL_law_70 17 rfl rfl)
theorem dL_law_1789 : decode cL_law 1789 = .ok (.iload 5, 2) := dk_21 5 (dk_at dksL_law_70 20 rfl rfl)
theorem dL_law_1791 : decode cL_law 1791 = .ok (.if_icmp .eq 5, 3) := dk_159 0 5 (dk_at dksL_law_71 0 rfl rfl)
theorem dL_law_1794 : decode cL_law 1794 = .ok (.iconst 0, 1) := dk_3 (dk_at dksL_law_71 3 rfl rfl)
theorem dL_law_1795 : decode cL_law 1795 = .ok (.ireturn, 1) := dk_172 (dk_at dksL_law_71 4 rfl rfl)
theorem dL_law_1796 : decode cL_law 1796 = .ok (.iload 5, 2) := dk_21 5 (dk_at dksL_law_71 5 rfl rfl)
theorem dL_law_1798 : decode cL_law 1798 = .ok (.ifCond .ne 15, 3) := dk_154 0 15 (dk_at dksL_law_71 7 rfl rfl)
theorem dL_law_1801 : decode cL_law 1801 = .ok (.aload_n 3, 1) := dk_45 (dk_at dksL_law_71 10 rfl rfl)
theorem dL_law_1802 : decode cL_law 1802 = .ok (.iconst 0, 1) := dk_3 (dk_at dksL_law_71 11 rfl rfl)
theorem dL_law_1803 : decode cL_law 1803 = .ok (.laload, 1) := dk_47 (dk_at dksL_law_71 12 rfl rfl)
theorem dL_law_1804 : decode cL_law 1804 = .ok (.iload 6, 2) := dk_21 6 (dk_at dksL_law_71 13 rfl rfl)
theorem dL_law_1806 : decode cL_law 1806 = .ok (.i2l, 1) := dk_133 (dk_at dksL_law_71 15 rfl rfl)
theorem dL_law_1807 : decode cL_law 1807 = .ok (.lcmp, 1) := dk_148 (dk_at dksL_law_71 16 rfl rfl)
theorem dL_law_1808 : decode cL_law 1808 = .ok (.ifCond .eq 5, 3) := dk_153 0 5 (dk_at dksL_law_71 17 rfl rfl)
theorem dL_law_1811 : decode cL_law 1811 = .ok (.iconst 0, 1) := dk_3 (dk_at dksL_law_71 20 rfl rfl)
theorem dL_law_1812 : decode cL_law 1812 = .ok (.ireturn, 1) := dk_172 (dk_at dksL_law_71 21 rfl rfl)
theorem dL_law_1813 : decode cL_law 1813 = .ok (.goto 153, 3) := dk_167 0 153 (dk_at dksL_law_72 0 rfl rfl)
theorem dL_law_1816 : decode cL_law 1816 = .ok (.aload_n 1, 1) := dk_43 (dk_at dksL_law_72 3 rfl rfl)
theorem dL_law_1817 : decode cL_law 1817 = .ok (.aload_n 0, 1) := dk_42 (dk_at dksL_law_72 4 rfl rfl)
theorem dL_law_1818 : decode cL_law 1818 = .ok (.iload 4, 2) := dk_21 4 (dk_at dksL_law_72 5 rfl rfl)
theorem dL_law_1820 : decode cL_law 1820 = .ok (.iconst 1, 1) := dk_4 (dk_at dksL_law_72 7 rfl rfl)
theorem dL_law_1821 : decode cL_law 1821 = .ok (.iadd, 1) := dk_96 (dk_at dksL_law_72 8 rfl rfl)
theorem dL_law_1822 : decode cL_law 1822 = .ok (.iaload, 1) := dk_46 (dk_at dksL_law_72 9 rfl rfl)
theorem dL_law_1823 : decode cL_law 1823 = .ok (.aload_n 0, 1) := dk_42 (dk_at dksL_law_72 10 rfl rfl)
theorem dL_law_1824 : decode cL_law 1824 = .ok (.iload 4, 2) := dk_21 4 (dk_at dksL_law_72 11 rfl rfl)
theorem dL_law_1826 : decode cL_law 1826 = .ok (.iconst 2, 1) := dk_5 (dk_at dksL_law_72 13 rfl rfl)
theorem dL_law_1827 : decode cL_law 1827 = .ok (.iadd, 1) := dk_96 (dk_at dksL_law_72 14 rfl rfl)
theorem dL_law_1828 : decode cL_law 1828 = .ok (.iaload, 1) := dk_46 (dk_at dksL_law_72 15 rfl rfl)
theorem dL_law_1829 : decode cL_law 1829 = .ok (.aload_n 0, 1) := dk_42 (dk_at dksL_law_72 16 rfl rfl)
theorem dL_law_1830 : decode cL_law 1830 = .ok (.iload 4, 2) := dk_21 4 (dk_at dksL_law_72 17 rfl rfl)
theorem dL_law_1832 : decode cL_law 1832 = .ok (.iconst 3, 1) := dk_6 (dk_at dksL_law_72 19 rfl rfl)
theorem dL_law_1833 : decode cL_law 1833 = .ok (.iadd, 1) := dk_96 (dk_at dksL_law_72 20 rfl rfl)
theorem dL_law_1834 : decode cL_law 1834 = .ok (.iaload, 1) := dk_46 (dk_at dksL_law_72 21 rfl rfl)
theorem dL_law_1835 : decode cL_law 1835 = .ok (.aload_n 3, 1) := dk_45 (dk_at dksL_law_72 22 rfl rfl)
theorem dL_law_1836 : decode cL_law 1836 = .ok (.invokestatic 234, 3) := dk_184 0 234 (dk_at dksL_law_73 0 rfl rfl)
theorem dL_law_1839 : decode cL_law 1839 = .ok (.istore 5, 2) := dk_54 5 (dk_at dksL_law_73 3 rfl rfl)
theorem dL_law_1841 : decode cL_law 1841 = .ok (.aload_n 2, 1) := dk_44 (dk_at dksL_law_73 5 rfl rfl)
theorem dL_law_1842 : decode cL_law 1842 = .ok (.aload_n 0, 1) := dk_42 (dk_at dksL_law_73 6 rfl rfl)
theorem dL_law_1843 : decode cL_law 1843 = .ok (.iload 4, 2) := dk_21 4 (dk_at dksL_law_73 7 rfl rfl)
theorem dL_law_1845 : decode cL_law 1845 = .ok (.iconst 1, 1) := dk_4 (dk_at dksL_law_73 9 rfl rfl)
theorem dL_law_1846 : decode cL_law 1846 = .ok (.iadd, 1) := dk_96 (dk_at dksL_law_73 10 rfl rfl)
theorem dL_law_1847 : decode cL_law 1847 = .ok (.iaload, 1) := dk_46 (dk_at dksL_law_73 11 rfl rfl)
theorem dL_law_1848 : decode cL_law 1848 = .ok (.aload_n 0, 1) := dk_42 (dk_at dksL_law_73 12 rfl rfl)
theorem dL_law_1849 : decode cL_law 1849 = .ok (.iload 4, 2) := dk_21 4 (dk_at dksL_law_73 13 rfl rfl)
theorem dL_law_1851 : decode cL_law 1851 = .ok (.iconst 2, 1) := dk_5 (dk_at dksL_law_73 15 rfl rfl)
theorem dL_law_1852 : decode cL_law 1852 = .ok (.iadd, 1) := dk_96 (dk_at dksL_law_73 16 rfl rfl)
theorem dL_law_1853 : decode cL_law 1853 = .ok (.iaload, 1) := dk_46 (dk_at dksL_law_73 17 rfl rfl)
theorem dL_law_1854 : decode cL_law 1854 = .ok (.aload_n 0, 1) := dk_42 (dk_at dksL_law_73 18 rfl rfl)
theorem dL_law_1855 : decode cL_law 1855 = .ok (.iload 4, 2) := dk_21 4 (dk_at dksL_law_73 19 rfl rfl)
theorem dL_law_1857 : decode cL_law 1857 = .ok (.iconst 3, 1) := dk_6 (dk_at dksL_law_73 21 rfl rfl)
theorem dL_law_1858 : decode cL_law 1858 = .ok (.iadd, 1) := dk_96 (dk_at dksL_law_73 22 rfl rfl)
theorem dL_law_1859 : decode cL_law 1859 = .ok (.iaload, 1) := dk_46 (dk_at dksL_law_73 23 rfl rfl)
theorem dL_law_1860 : decode cL_law 1860 = .ok (.invokevirtual 237, 3) := dk_182 0 237 (dk_at dksL_law_74 0 rfl rfl)
theorem dL_law_1863 : decode cL_law 1863 = .ok (.istore 6, 2) := dk_54 6 (dk_at dksL_law_74 3 rfl rfl)
theorem dL_law_1865 : decode cL_law 1865 = .ok (.aload_n 2, 1) := dk_44 (dk_at dksL_law_74 5 rfl rfl)
theorem dL_law_1866 : decode cL_law 1866 = .ok (.invokevirtual 110, 3) := dk_182 0 110 (dk_at dksL_law_74 6 rfl rfl)
theorem dL_law_1869 : decode cL_law 1869 = .ok (.iload 5, 2) := dk_21 5 (dk_at dksL_law_74 9 rfl rfl)
theorem dL_law_1871 : decode cL_law 1871 = .ok (.if_icmp .eq 5, 3) := dk_159 0 5 (dk_at dksL_law_74 11 rfl rfl)
theorem dL_law_1874 : decode cL_law 1874 = .ok (.iconst 0, 1) := dk_3 (dk_at dksL_law_74 14 rfl rfl)
theorem dL_law_1875 : decode cL_law 1875 = .ok (.ireturn, 1) := dk_172 (dk_at dksL_law_74 15 rfl rfl)
theorem dL_law_1876 : decode cL_law 1876 = .ok (.iload 5, 2) := dk_21 5 (dk_at dksL_law_74 16 rfl rfl)
theorem dL_law_1878 : decode cL_law 1878 = .ok (.ifCond .ne 15, 3) := dk_154 0 15 (dk_at dksL_law_74 18 rfl rfl)
theorem dL_law_1881 : decode cL_law 1881 = .ok (.aload_n 3, 1) := dk_45 (dk_at dksL_law_74 21 rfl rfl)
theorem dL_law_1882 : decode cL_law 1882 = .ok (.iconst 0, 1) := dk_3 (dk_at dksL_law_74 22 rfl rfl)
theorem dL_law_1883 : decode cL_law 1883 = .ok (.laload, 1) := dk_47 (dk_at dksL_law_74 23 rfl rfl)
theorem dL_law_1884 : decode cL_law 1884 = .ok (.iload 6, 2) := dk_21 6 (dk_at dksL_law_75 0 rfl rfl)
theorem dL_law_1886 : decode cL_law 1886 = .ok (.i2l, 1) := dk_133 (dk_at dksL_law_75 2 rfl rfl)
theorem dL_law_1887 : decode cL_law 1887 = .ok (.lcmp, 1) := dk_148 (dk_at dksL_law_75 3 rfl rfl)
theorem dL_law_1888 : decode cL_law 1888 = .ok (.ifCond .eq 5, 3) := dk_153 0 5 (dk_at dksL_law_75 4 rfl rfl)
theorem dL_law_1891 : decode cL_law 1891 = .ok (.iconst 0, 1) := dk_3 (dk_at dksL_law_75 7 rfl rfl)
theorem dL_law_1892 : decode cL_law 1892 = .ok (.ireturn, 1) := dk_172 (dk_at dksL_law_75 8 rfl rfl)
theorem dL_law_1893 : decode cL_law 1893 = .ok (.goto 73, 3) := dk_167 0 73 (dk_at dksL_law_75 9 rfl rfl)
theorem dL_law_1896 : decode cL_law 1896 = .ok (.aload_n 1, 1) := dk_43 (dk_at dksL_law_75 12 rfl rfl)
theorem dL_law_1897 : decode cL_law 1897 = .ok (.aload_n 0, 1) := dk_42 (dk_at dksL_law_75 13 rfl rfl)
theorem dL_law_1898 : decode cL_law 1898 = .ok (.iload 4, 2) := dk_21 4 (dk_at dksL_law_75 14 rfl rfl)
theorem dL_law_1900 : decode cL_law 1900 = .ok (.iconst 1, 1) := dk_4 (dk_at dksL_law_75 16 rfl rfl)
theorem dL_law_1901 : decode cL_law 1901 = .ok (.iadd, 1) := dk_96 (dk_at dksL_law_75 17 rfl rfl)
theorem dL_law_1902 : decode cL_law 1902 = .ok (.iaload, 1) := dk_46 (dk_at dksL_law_75 18 rfl rfl)
theorem dL_law_1903 : decode cL_law 1903 = .ok (.aload_n 3, 1) := dk_45 (dk_at dksL_law_75 19 rfl rfl)
theorem dL_law_1904 : decode cL_law 1904 = .ok (.invokestatic 238, 3) := dk_184 0 238 (dk_at dksL_law_75 20 rfl rfl)
theorem dL_law_1907 : decode cL_law 1907 = .ok (.istore 5, 2) := dk_54 5 (dk_at dksL_law_76 0 rfl rfl)
theorem dL_law_1909 : decode cL_law 1909 = .ok (.aload_n 2, 1) := dk_44 (dk_at dksL_law_76 2 rfl rfl)
theorem dL_law_1910 : decode cL_law 1910 = .ok (.aload_n 0, 1) := dk_42 (dk_at dksL_law_76 3 rfl rfl)
theorem dL_law_1911 : decode cL_law 1911 = .ok (.iload 4, 2) := dk_21 4 (dk_at dksL_law_76 4 rfl rfl)
theorem dL_law_1913 : decode cL_law 1913 = .ok (.iconst 1, 1) := dk_4 (dk_at dksL_law_76 6 rfl rfl)
theorem dL_law_1914 : decode cL_law 1914 = .ok (.iadd, 1) := dk_96 (dk_at dksL_law_76 7 rfl rfl)
theorem dL_law_1915 : decode cL_law 1915 = .ok (.iaload, 1) := dk_46 (dk_at dksL_law_76 8 rfl rfl)
theorem dL_law_1916 : decode cL_law 1916 = .ok (.invokevirtual 240, 3) := dk_182 0 240 (dk_at dksL_law_76 9 rfl rfl)
theorem dL_law_1919 : decode cL_law 1919 = .ok (.istore 6, 2) := dk_54 6 (dk_at dksL_law_76 12 rfl rfl)
theorem dL_law_1921 : decode cL_law 1921 = .ok (.aload_n 2, 1) := dk_44 (dk_at dksL_law_76 14 rfl rfl)
theorem dL_law_1922 : decode cL_law 1922 = .ok (.invokevirtual 110, 3) := dk_182 0 110 (dk_at dksL_law_76 15 rfl rfl)
theorem dL_law_1925 : decode cL_law 1925 = .ok (.iload 5, 2) := dk_21 5 (dk_at dksL_law_76 18 rfl rfl)
theorem dL_law_1927 : decode cL_law 1927 = .ok (.if_icmp .eq 5, 3) := dk_159 0 5 (dk_at dksL_law_76 20 rfl rfl)
theorem dL_law_1930 : decode cL_law 1930 = .ok (.iconst 0, 1) := dk_3 (dk_at dksL_law_76 23 rfl rfl)
theorem dL_law_1931 : decode cL_law 1931 = .ok (.ireturn, 1) := dk_172 (dk_at dksL_law_77 0 rfl rfl)
theorem dL_law_1932 : decode cL_law 1932 = .ok (.iload 5, 2) := dk_21 5 (dk_at dksL_law_77 1 rfl rfl)
theorem dL_law_1934 : decode cL_law 1934 = .ok (.ifCond .ne 15, 3) := dk_154 0 15 (dk_at dksL_law_77 3 rfl rfl)
theorem dL_law_1937 : decode cL_law 1937 = .ok (.aload_n 3, 1) := dk_45 (dk_at dksL_law_77 6 rfl rfl)
theorem dL_law_1938 : decode cL_law 1938 = .ok (.iconst 0, 1) := dk_3 (dk_at dksL_law_77 7 rfl rfl)
theorem dL_law_1939 : decode cL_law 1939 = .ok (.laload, 1) := dk_47 (dk_at dksL_law_77 8 rfl rfl)
theorem dL_law_1940 : decode cL_law 1940 = .ok (.iload 6, 2) := dk_21 6 (dk_at dksL_law_77 9 rfl rfl)
theorem dL_law_1942 : decode cL_law 1942 = .ok (.i2l, 1) := dk_133 (dk_at dksL_law_77 11 rfl rfl)
theorem dL_law_1943 : decode cL_law 1943 = .ok (.lcmp, 1) := dk_148 (dk_at dksL_law_77 12 rfl rfl)
theorem dL_law_1944 : decode cL_law 1944 = .ok (.ifCond .eq 5, 3) := dk_153 0 5 (dk_at dksL_law_77 13 rfl rfl)
theorem dL_law_1947 : decode cL_law 1947 = .ok (.iconst 0, 1) := dk_3 (dk_at dksL_law_77 16 rfl rfl)
theorem dL_law_1948 : decode cL_law 1948 = .ok (.ireturn, 1) := dk_172 (dk_at dksL_law_77 17 rfl rfl)
theorem dL_law_1949 : decode cL_law 1949 = .ok (.goto 17, 3) := dk_167 0 17 (dk_at dksL_law_77 18 rfl rfl)
theorem dL_law_1952 : decode cL_law 1952 = .ok (.aload_n 1, 1) := dk_43 (dk_at dksL_law_77 21 rfl rfl)
theorem dL_law_1953 : decode cL_law 1953 = .ok (.invokevirtual 241, 3) := dk_182 0 241 (dk_at dksL_law_78 0 rfl rfl)
theorem dL_law_1956 : decode cL_law 1956 = .ok (.aload_n 2, 1) := dk_44 (dk_at dksL_law_78 3 rfl rfl)
theorem dL_law_1957 : decode cL_law 1957 = .ok (.invokevirtual 245, 3) := dk_182 0 245 (dk_at dksL_law_78 4 rfl rfl)
theorem dL_law_1960 : decode cL_law 1960 = .ok (.lcmp, 1) := dk_148 (dk_at dksL_law_78 7 rfl rfl)
theorem dL_law_1961 : decode cL_law 1961 = .ok (.ifCond .eq 5, 3) := dk_153 0 5 (dk_at dksL_law_78 8 rfl rfl)
theorem dL_law_1964 : decode cL_law 1964 = .ok (.iconst 0, 1) := dk_3 (dk_at dksL_law_78 11 rfl rfl)
theorem dL_law_1965 : decode cL_law 1965 = .ok (.ireturn, 1) := dk_172 (dk_at dksL_law_78 12 rfl rfl)
theorem dL_law_1966 : decode cL_law 1966 = .ok (.iinc 4 4, 3) := dk_132 4 4 (dk_at dksL_law_78 13 rfl rfl)
theorem dL_law_1969 : decode cL_law 1969 = .ok (.goto (-1946), 3) := dk_167 248 102 (dk_at dksL_law_78 16 rfl rfl)
theorem dL_law_1972 : decode cL_law 1972 = .ok (.iconst 1, 1) := dk_4 (dk_at dksL_law_78 19 rfl rfl)
theorem dL_law_1973 : decode cL_law 1973 = .ok (.ireturn, 1) := dk_172 (dk_at dksL_law_78 20 rfl rfl)

