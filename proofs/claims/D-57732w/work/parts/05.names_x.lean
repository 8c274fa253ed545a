set_option maxRecDepth 100000
/-! SnowPassLaw -/
def RX0 : String := "SnowPassLaw"
abbrev cX0_append : ByteArray := method_3_code
def yX0_append : MethodName := ⟨RX0, "append", "(LSnowPass;IIIII[J)I"⟩
def dkwX0_append_1 : List UInt8 := [172]
abbrev dktX0_append_1 : List UInt8 := dkwX0_append_1 ++ []
def dkwX0_append_0 : List UInt8 := [25, 6, 3, 42, 27, 28, 29, 21, 4, 21, 5, 182, 0, 7, 133, 80, 167, 0, 7, 58, 7, 4, 172, 3]
abbrev dktX0_append_0 : List UInt8 := dkwX0_append_0 ++ dktX0_append_1
theorem dksX0_append_0 : cX0_append.data.toList.drop 0 = dktX0_append_0 := by decide +kernel
theorem dksX0_append_1 : cX0_append.data.toList.drop 24 = dktX0_append_1 := dk_seg dksX0_append_0 24 rfl rfl
theorem dX0_append_0 : decode cX0_append 0 = .ok (.aload 6, 2) := dk_25 6 (dk_at dksX0_append_0 0 rfl rfl)
theorem dX0_append_2 : decode cX0_append 2 = .ok (.iconst 0, 1) := dk_3 (dk_at dksX0_append_0 2 rfl rfl)
theorem dX0_append_3 : decode cX0_append 3 = .ok (.aload_n 0, 1) := dk_42 (dk_at dksX0_append_0 3 rfl rfl)
theorem dX0_append_4 : decode cX0_append 4 = .ok (.iload_n 1, 1) := dk_27 (dk_at dksX0_append_0 4 rfl rfl)
theorem dX0_append_5 : decode cX0_append 5 = .ok (.iload_n 2, 1) := dk_28 (dk_at dksX0_append_0 5 rfl rfl)
theorem dX0_append_6 : decode cX0_append 6 = .ok (.iload_n 3, 1) := dk_29 (dk_at dksX0_append_0 6 rfl rfl)
theorem dX0_append_7 : decode cX0_append 7 = .ok (.iload 4, 2) := dk_21 4 (dk_at dksX0_append_0 7 rfl rfl)
theorem dX0_append_9 : decode cX0_append 9 = .ok (.iload 5, 2) := dk_21 5 (dk_at dksX0_append_0 9 rfl rfl)
theorem dX0_append_11 : decode cX0_append 11 = .ok (.invokevirtual 7, 3) := dk_182 0 7 (dk_at dksX0_append_0 11 rfl rfl)
theorem dX0_append_14 : decode cX0_append 14 = .ok (.i2l, 1) := dk_133 (dk_at dksX0_append_0 14 rfl rfl)
theorem dX0_append_15 : decode cX0_append 15 = .ok (.lastore, 1) := dk_80 (dk_at dksX0_append_0 15 rfl rfl)
theorem dX0_append_16 : decode cX0_append 16 = .ok (.goto 7, 3) := dk_167 0 7 (dk_at dksX0_append_0 16 rfl rfl)
theorem dX0_append_19 : decode cX0_append 19 = .ok (.astore 7, 2) := dk_58 7 (dk_at dksX0_append_0 19 rfl rfl)
theorem dX0_append_21 : decode cX0_append 21 = .ok (.iconst 1, 1) := dk_4 (dk_at dksX0_append_0 21 rfl rfl)
theorem dX0_append_22 : decode cX0_append 22 = .ok (.ireturn, 1) := dk_172 (dk_at dksX0_append_0 22 rfl rfl)
theorem dX0_append_23 : decode cX0_append 23 = .ok (.iconst 0, 1) := dk_3 (dk_at dksX0_append_0 23 rfl rfl)
theorem dX0_append_24 : decode cX0_append 24 = .ok (.ireturn, 1) := dk_172 (dk_at dksX0_append_1 0 rfl rfl)
abbrev cX0_truncate : ByteArray := method_4_code
def yX0_truncate : MethodName := ⟨RX0, "truncate", "(LSnowPass;I[J)I"⟩
def dkwX0_truncate_0 : List UInt8 := [44, 3, 42, 27, 182, 0, 15, 133, 80, 167, 0, 6, 78, 4, 172, 3, 172]
abbrev dktX0_truncate_0 : List UInt8 := dkwX0_truncate_0 ++ []
theorem dksX0_truncate_0 : cX0_truncate.data.toList.drop 0 = dktX0_truncate_0 := by decide +kernel
theorem dX0_truncate_0 : decode cX0_truncate 0 = .ok (.aload_n 2, 1) := dk_44 (dk_at dksX0_truncate_0 0 rfl rfl)
theorem dX0_truncate_1 : decode cX0_truncate 1 = .ok (.iconst 0, 1) := dk_3 (dk_at dksX0_truncate_0 1 rfl rfl)
theorem dX0_truncate_2 : decode cX0_truncate 2 = .ok (.aload_n 0, 1) := dk_42 (dk_at dksX0_truncate_0 2 rfl rfl)
theorem dX0_truncate_3 : decode cX0_truncate 3 = .ok (.iload_n 1, 1) := dk_27 (dk_at dksX0_truncate_0 3 rfl rfl)
theorem dX0_truncate_4 : decode cX0_truncate 4 = .ok (.invokevirtual 15, 3) := dk_182 0 15 (dk_at dksX0_truncate_0 4 rfl rfl)
theorem dX0_truncate_7 : decode cX0_truncate 7 = .ok (.i2l, 1) := dk_133 (dk_at dksX0_truncate_0 7 rfl rfl)
theorem dX0_truncate_8 : decode cX0_truncate 8 = .ok (.lastore, 1) := dk_80 (dk_at dksX0_truncate_0 8 rfl rfl)
theorem dX0_truncate_9 : decode cX0_truncate 9 = .ok (.goto 6, 3) := dk_167 0 6 (dk_at dksX0_truncate_0 9 rfl rfl)
theorem dX0_truncate_12 : decode cX0_truncate 12 = .ok (.astore_n 3, 1) := dk_78 (dk_at dksX0_truncate_0 12 rfl rfl)
theorem dX0_truncate_13 : decode cX0_truncate 13 = .ok (.iconst 1, 1) := dk_4 (dk_at dksX0_truncate_0 13 rfl rfl)
theorem dX0_truncate_14 : decode cX0_truncate 14 = .ok (.ireturn, 1) := dk_172 (dk_at dksX0_truncate_0 14 rfl rfl)
theorem dX0_truncate_15 : decode cX0_truncate 15 = .ok (.iconst 0, 1) := dk_3 (dk_at dksX0_truncate_0 15 rfl rfl)
theorem dX0_truncate_16 : decode cX0_truncate 16 = .ok (.ireturn, 1) := dk_172 (dk_at dksX0_truncate_0 16 rfl rfl)
abbrev cX0_load : ByteArray := method_5_code
def yX0_load : MethodName := ⟨RX0, "load", "(LSnowPass;[J)I"⟩
def dkwX0_load_0 : List UInt8 := [43, 3, 42, 182, 0, 21, 133, 80, 167, 0, 6, 77, 4, 172, 3, 172]
abbrev dktX0_load_0 : List UInt8 := dkwX0_load_0 ++ []
theorem dksX0_load_0 : cX0_load.data.toList.drop 0 = dktX0_load_0 := by decide +kernel
theorem dX0_load_0 : decode cX0_load 0 = .ok (.aload_n 1, 1) := dk_43 (dk_at dksX0_load_0 0 rfl rfl)
theorem dX0_load_1 : decode cX0_load 1 = .ok (.iconst 0, 1) := dk_3 (dk_at dksX0_load_0 1 rfl rfl)
theorem dX0_load_2 : decode cX0_load 2 = .ok (.aload_n 0, 1) := dk_42 (dk_at dksX0_load_0 2 rfl rfl)
theorem dX0_load_3 : decode cX0_load 3 = .ok (.invokevirtual 21, 3) := dk_182 0 21 (dk_at dksX0_load_0 3 rfl rfl)
theorem dX0_load_6 : decode cX0_load 6 = .ok (.i2l, 1) := dk_133 (dk_at dksX0_load_0 6 rfl rfl)
theorem dX0_load_7 : decode cX0_load 7 = .ok (.lastore, 1) := dk_80 (dk_at dksX0_load_0 7 rfl rfl)
theorem dX0_load_8 : decode cX0_load 8 = .ok (.goto 6, 3) := dk_167 0 6 (dk_at dksX0_load_0 8 rfl rfl)
theorem dX0_load_11 : decode cX0_load 11 = .ok (.astore_n 2, 1) := dk_77 (dk_at dksX0_load_0 11 rfl rfl)
theorem dX0_load_12 : decode cX0_load 12 = .ok (.iconst 1, 1) := dk_4 (dk_at dksX0_load_0 12 rfl rfl)
theorem dX0_load_13 : decode cX0_load 13 = .ok (.ireturn, 1) := dk_172 (dk_at dksX0_load_0 13 rfl rfl)
theorem dX0_load_14 : decode cX0_load 14 = .ok (.iconst 0, 1) := dk_3 (dk_at dksX0_load_0 14 rfl rfl)
theorem dX0_load_15 : decode cX0_load 15 = .ok (.ireturn, 1) := dk_172 (dk_at dksX0_load_0 15 rfl rfl)
abbrev cX0_executeCommands : ByteArray := method_6_code
def yX0_executeCommands : MethodName := ⟨RX0, "executeCommands", "(LSnowPass;[J)I"⟩
def dkwX0_executeCommands_0 : List UInt8 := [43, 3, 42, 182, 0, 25, 133, 80, 167, 0, 6, 77, 4, 172, 3, 172]
abbrev dktX0_executeCommands_0 : List UInt8 := dkwX0_executeCommands_0 ++ []
theorem dksX0_executeCommands_0 : cX0_executeCommands.data.toList.drop 0 = dktX0_executeCommands_0 := by decide +kernel
theorem dX0_executeCommands_0 : decode cX0_executeCommands 0 = .ok (.aload_n 1, 1) := dk_43 (dk_at dksX0_executeCommands_0 0 rfl rfl)
theorem dX0_executeCommands_1 : decode cX0_executeCommands 1 = .ok (.iconst 0, 1) := dk_3 (dk_at dksX0_executeCommands_0 1 rfl rfl)
theorem dX0_executeCommands_2 : decode cX0_executeCommands 2 = .ok (.aload_n 0, 1) := dk_42 (dk_at dksX0_executeCommands_0 2 rfl rfl)
theorem dX0_executeCommands_3 : decode cX0_executeCommands 3 = .ok (.invokevirtual 25, 3) := dk_182 0 25 (dk_at dksX0_executeCommands_0 3 rfl rfl)
theorem dX0_executeCommands_6 : decode cX0_executeCommands 6 = .ok (.i2l, 1) := dk_133 (dk_at dksX0_executeCommands_0 6 rfl rfl)
theorem dX0_executeCommands_7 : decode cX0_executeCommands 7 = .ok (.lastore, 1) := dk_80 (dk_at dksX0_executeCommands_0 7 rfl rfl)
theorem dX0_executeCommands_8 : decode cX0_executeCommands 8 = .ok (.goto 6, 3) := dk_167 0 6 (dk_at dksX0_executeCommands_0 8 rfl rfl)
theorem dX0_executeCommands_11 : decode cX0_executeCommands 11 = .ok (.astore_n 2, 1) := dk_77 (dk_at dksX0_executeCommands_0 11 rfl rfl)
theorem dX0_executeCommands_12 : decode cX0_executeCommands 12 = .ok (.iconst 1, 1) := dk_4 (dk_at dksX0_executeCommands_0 12 rfl rfl)
theorem dX0_executeCommands_13 : decode cX0_executeCommands 13 = .ok (.ireturn, 1) := dk_172 (dk_at dksX0_executeCommands_0 13 rfl rfl)
theorem dX0_executeCommands_14 : decode cX0_executeCommands 14 = .ok (.iconst 0, 1) := dk_3 (dk_at dksX0_executeCommands_0 14 rfl rfl)
theorem dX0_executeCommands_15 : decode cX0_executeCommands 15 = .ok (.ireturn, 1) := dk_172 (dk_at dksX0_executeCommands_0 15 rfl rfl)
abbrev cX0_depthOf : ByteArray := method_7_code
def yX0_depthOf : MethodName := ⟨RX0, "depthOf", "(LSnowPass;I[J)I"⟩
def dkwX0_depthOf_0 : List UInt8 := [44, 3, 42, 27, 182, 0, 28, 133, 80, 167, 0, 6, 78, 4, 172, 3, 172]
abbrev dktX0_depthOf_0 : List UInt8 := dkwX0_depthOf_0 ++ []
theorem dksX0_depthOf_0 : cX0_depthOf.data.toList.drop 0 = dktX0_depthOf_0 := by decide +kernel
theorem dX0_depthOf_0 : decode cX0_depthOf 0 = .ok (.aload_n 2, 1) := dk_44 (dk_at dksX0_depthOf_0 0 rfl rfl)
theorem dX0_depthOf_1 : decode cX0_depthOf 1 = .ok (.iconst 0, 1) := dk_3 (dk_at dksX0_depthOf_0 1 rfl rfl)
theorem dX0_depthOf_2 : decode cX0_depthOf 2 = .ok (.aload_n 0, 1) := dk_42 (dk_at dksX0_depthOf_0 2 rfl rfl)
theorem dX0_depthOf_3 : decode cX0_depthOf 3 = .ok (.iload_n 1, 1) := dk_27 (dk_at dksX0_depthOf_0 3 rfl rfl)
theorem dX0_depthOf_4 : decode cX0_depthOf 4 = .ok (.invokevirtual 28, 3) := dk_182 0 28 (dk_at dksX0_depthOf_0 4 rfl rfl)
theorem dX0_depthOf_7 : decode cX0_depthOf 7 = .ok (.i2l, 1) := dk_133 (dk_at dksX0_depthOf_0 7 rfl rfl)
theorem dX0_depthOf_8 : decode cX0_depthOf 8 = .ok (.lastore, 1) := dk_80 (dk_at dksX0_depthOf_0 8 rfl rfl)
theorem dX0_depthOf_9 : decode cX0_depthOf 9 = .ok (.goto 6, 3) := dk_167 0 6 (dk_at dksX0_depthOf_0 9 rfl rfl)
theorem dX0_depthOf_12 : decode cX0_depthOf 12 = .ok (.astore_n 3, 1) := dk_78 (dk_at dksX0_depthOf_0 12 rfl rfl)
theorem dX0_depthOf_13 : decode cX0_depthOf 13 = .ok (.iconst 1, 1) := dk_4 (dk_at dksX0_depthOf_0 13 rfl rfl)
theorem dX0_depthOf_14 : decode cX0_depthOf 14 = .ok (.ireturn, 1) := dk_172 (dk_at dksX0_depthOf_0 14 rfl rfl)
theorem dX0_depthOf_15 : decode cX0_depthOf 15 = .ok (.iconst 0, 1) := dk_3 (dk_at dksX0_depthOf_0 15 rfl rfl)
theorem dX0_depthOf_16 : decode cX0_depthOf 16 = .ok (.ireturn, 1) := dk_172 (dk_at dksX0_depthOf_0 16 rfl rfl)
abbrev cX0_exposureOf : ByteArray := method_8_code
def yX0_exposureOf : MethodName := ⟨RX0, "exposureOf", "(LSnowPass;I[J)I"⟩
def dkwX0_exposureOf_0 : List UInt8 := [44, 3, 42, 27, 182, 0, 33, 133, 80, 167, 0, 6, 78, 4, 172, 3, 172]
abbrev dktX0_exposureOf_0 : List UInt8 := dkwX0_exposureOf_0 ++ []
theorem dksX0_exposureOf_0 : cX0_exposureOf.data.toList.drop 0 = dktX0_exposureOf_0 := by decide +kernel
theorem dX0_exposureOf_0 : decode cX0_exposureOf 0 = .ok (.aload_n 2, 1) := dk_44 (dk_at dksX0_exposureOf_0 0 rfl rfl)
theorem dX0_exposureOf_1 : decode cX0_exposureOf 1 = .ok (.iconst 0, 1) := dk_3 (dk_at dksX0_exposureOf_0 1 rfl rfl)
theorem dX0_exposureOf_2 : decode cX0_exposureOf 2 = .ok (.aload_n 0, 1) := dk_42 (dk_at dksX0_exposureOf_0 2 rfl rfl)
theorem dX0_exposureOf_3 : decode cX0_exposureOf 3 = .ok (.iload_n 1, 1) := dk_27 (dk_at dksX0_exposureOf_0 3 rfl rfl)
theorem dX0_exposureOf_4 : decode cX0_exposureOf 4 = .ok (.invokevirtual 33, 3) := dk_182 0 33 (dk_at dksX0_exposureOf_0 4 rfl rfl)
theorem dX0_exposureOf_7 : decode cX0_exposureOf 7 = .ok (.i2l, 1) := dk_133 (dk_at dksX0_exposureOf_0 7 rfl rfl)
theorem dX0_exposureOf_8 : decode cX0_exposureOf 8 = .ok (.lastore, 1) := dk_80 (dk_at dksX0_exposureOf_0 8 rfl rfl)
theorem dX0_exposureOf_9 : decode cX0_exposureOf 9 = .ok (.goto 6, 3) := dk_167 0 6 (dk_at dksX0_exposureOf_0 9 rfl rfl)
theorem dX0_exposureOf_12 : decode cX0_exposureOf 12 = .ok (.astore_n 3, 1) := dk_78 (dk_at dksX0_exposureOf_0 12 rfl rfl)
theorem dX0_exposureOf_13 : decode cX0_exposureOf 13 = .ok (.iconst 1, 1) := dk_4 (dk_at dksX0_exposureOf_0 13 rfl rfl)
theorem dX0_exposureOf_14 : decode cX0_exposureOf 14 = .ok (.ireturn, 1) := dk_172 (dk_at dksX0_exposureOf_0 14 rfl rfl)
theorem dX0_exposureOf_15 : decode cX0_exposureOf 15 = .ok (.iconst 0, 1) := dk_3 (dk_at dksX0_exposureOf_0 15 rfl rfl)
theorem dX0_exposureOf_16 : decode cX0_exposureOf 16 = .ok (.ireturn, 1) := dk_172 (dk_at dksX0_exposureOf_0 16 rfl rfl)
abbrev cX0_saltHours : ByteArray := method_9_code
def yX0_saltHours : MethodName := ⟨RX0, "saltHours", "(LSnowPass;I[J)I"⟩
def dkwX0_saltHours_0 : List UInt8 := [44, 3, 42, 27, 182, 0, 36, 133, 80, 167, 0, 6, 78, 4, 172, 3, 172]
abbrev dktX0_saltHours_0 : List UInt8 := dkwX0_saltHours_0 ++ []
theorem dksX0_saltHours_0 : cX0_saltHours.data.toList.drop 0 = dktX0_saltHours_0 := by decide +kernel
theorem dX0_saltHours_0 : decode cX0_saltHours 0 = .ok (.aload_n 2, 1) := dk_44 (dk_at dksX0_saltHours_0 0 rfl rfl)
theorem dX0_saltHours_1 : decode cX0_saltHours 1 = .ok (.iconst 0, 1) := dk_3 (dk_at dksX0_saltHours_0 1 rfl rfl)
theorem dX0_saltHours_2 : decode cX0_saltHours 2 = .ok (.aload_n 0, 1) := dk_42 (dk_at dksX0_saltHours_0 2 rfl rfl)
theorem dX0_saltHours_3 : decode cX0_saltHours 3 = .ok (.iload_n 1, 1) := dk_27 (dk_at dksX0_saltHours_0 3 rfl rfl)
theorem dX0_saltHours_4 : decode cX0_saltHours 4 = .ok (.invokevirtual 36, 3) := dk_182 0 36 (dk_at dksX0_saltHours_0 4 rfl rfl)
theorem dX0_saltHours_7 : decode cX0_saltHours 7 = .ok (.i2l, 1) := dk_133 (dk_at dksX0_saltHours_0 7 rfl rfl)
theorem dX0_saltHours_8 : decode cX0_saltHours 8 = .ok (.lastore, 1) := dk_80 (dk_at dksX0_saltHours_0 8 rfl rfl)
theorem dX0_saltHours_9 : decode cX0_saltHours 9 = .ok (.goto 6, 3) := dk_167 0 6 (dk_at dksX0_saltHours_0 9 rfl rfl)
theorem dX0_saltHours_12 : decode cX0_saltHours 12 = .ok (.astore_n 3, 1) := dk_78 (dk_at dksX0_saltHours_0 12 rfl rfl)
theorem dX0_saltHours_13 : decode cX0_saltHours 13 = .ok (.iconst 1, 1) := dk_4 (dk_at dksX0_saltHours_0 13 rfl rfl)
theorem dX0_saltHours_14 : decode cX0_saltHours 14 = .ok (.ireturn, 1) := dk_172 (dk_at dksX0_saltHours_0 14 rfl rfl)
theorem dX0_saltHours_15 : decode cX0_saltHours 15 = .ok (.iconst 0, 1) := dk_3 (dk_at dksX0_saltHours_0 15 rfl rfl)
theorem dX0_saltHours_16 : decode cX0_saltHours 16 = .ok (.ireturn, 1) := dk_172 (dk_at dksX0_saltHours_0 16 rfl rfl)
abbrev cX0_isClear : ByteArray := method_10_code
def yX0_isClear : MethodName := ⟨RX0, "isClear", "(LSnowPass;I[J)I"⟩
def dkwX0_isClear_0 : List UInt8 := [44, 3, 42, 27, 182, 0, 39, 153, 0, 7, 10, 167, 0, 4, 9, 80, 167, 0, 6, 78, 4, 172, 3, 172]
abbrev dktX0_isClear_0 : List UInt8 := dkwX0_isClear_0 ++ []
theorem dksX0_isClear_0 : cX0_isClear.data.toList.drop 0 = dktX0_isClear_0 := by decide +kernel
theorem dX0_isClear_0 : decode cX0_isClear 0 = .ok (.aload_n 2, 1) := dk_44 (dk_at dksX0_isClear_0 0 rfl rfl)
theorem dX0_isClear_1 : decode cX0_isClear 1 = .ok (.iconst 0, 1) := dk_3 (dk_at dksX0_isClear_0 1 rfl rfl)
theorem dX0_isClear_2 : decode cX0_isClear 2 = .ok (.aload_n 0, 1) := dk_42 (dk_at dksX0_isClear_0 2 rfl rfl)
theorem dX0_isClear_3 : decode cX0_isClear 3 = .ok (.iload_n 1, 1) := dk_27 (dk_at dksX0_isClear_0 3 rfl rfl)
theorem dX0_isClear_4 : decode cX0_isClear 4 = .ok (.invokevirtual 39, 3) := dk_182 0 39 (dk_at dksX0_isClear_0 4 rfl rfl)
theorem dX0_isClear_7 : decode cX0_isClear 7 = .ok (.ifCond .eq 7, 3) := dk_153 0 7 (dk_at dksX0_isClear_0 7 rfl rfl)
theorem dX0_isClear_10 : decode cX0_isClear 10 = .ok (.lconst 1, 1) := dk_10 (dk_at dksX0_isClear_0 10 rfl rfl)
theorem dX0_isClear_11 : decode cX0_isClear 11 = .ok (.goto 4, 3) := dk_167 0 4 (dk_at dksX0_isClear_0 11 rfl rfl)
theorem dX0_isClear_14 : decode cX0_isClear 14 = .ok (.lconst 0, 1) := dk_9 (dk_at dksX0_isClear_0 14 rfl rfl)
theorem dX0_isClear_15 : decode cX0_isClear 15 = .ok (.lastore, 1) := dk_80 (dk_at dksX0_isClear_0 15 rfl rfl)
theorem dX0_isClear_16 : decode cX0_isClear 16 = .ok (.goto 6, 3) := dk_167 0 6 (dk_at dksX0_isClear_0 16 rfl rfl)
theorem dX0_isClear_19 : decode cX0_isClear 19 = .ok (.astore_n 3, 1) := dk_78 (dk_at dksX0_isClear_0 19 rfl rfl)
theorem dX0_isClear_20 : decode cX0_isClear 20 = .ok (.iconst 1, 1) := dk_4 (dk_at dksX0_isClear_0 20 rfl rfl)
theorem dX0_isClear_21 : decode cX0_isClear 21 = .ok (.ireturn, 1) := dk_172 (dk_at dksX0_isClear_0 21 rfl rfl)
theorem dX0_isClear_22 : decode cX0_isClear 22 = .ok (.iconst 0, 1) := dk_3 (dk_at dksX0_isClear_0 22 rfl rfl)
theorem dX0_isClear_23 : decode cX0_isClear 23 = .ok (.ireturn, 1) := dk_172 (dk_at dksX0_isClear_0 23 rfl rfl)
abbrev cX0_ploughPosition : ByteArray := method_11_code
def yX0_ploughPosition : MethodName := ⟨RX0, "ploughPosition", "(LSnowPass;I[J)I"⟩
def dkwX0_ploughPosition_0 : List UInt8 := [44, 3, 42, 27, 182, 0, 43, 133, 80, 167, 0, 6, 78, 4, 172, 3, 172]
abbrev dktX0_ploughPosition_0 : List UInt8 := dkwX0_ploughPosition_0 ++ []
theorem dksX0_ploughPosition_0 : cX0_ploughPosition.data.toList.drop 0 = dktX0_ploughPosition_0 := by decide +kernel
theorem dX0_ploughPosition_0 : decode cX0_ploughPosition 0 = .ok (.aload_n 2, 1) := dk_44 (dk_at dksX0_ploughPosition_0 0 rfl rfl)
theorem dX0_ploughPosition_1 : decode cX0_ploughPosition 1 = .ok (.iconst 0, 1) := dk_3 (dk_at dksX0_ploughPosition_0 1 rfl rfl)
theorem dX0_ploughPosition_2 : decode cX0_ploughPosition 2 = .ok (.aload_n 0, 1) := dk_42 (dk_at dksX0_ploughPosition_0 2 rfl rfl)
theorem dX0_ploughPosition_3 : decode cX0_ploughPosition 3 = .ok (.iload_n 1, 1) := dk_27 (dk_at dksX0_ploughPosition_0 3 rfl rfl)
theorem dX0_ploughPosition_4 : decode cX0_ploughPosition 4 = .ok (.invokevirtual 43, 3) := dk_182 0 43 (dk_at dksX0_ploughPosition_0 4 rfl rfl)
theorem dX0_ploughPosition_7 : decode cX0_ploughPosition 7 = .ok (.i2l, 1) := dk_133 (dk_at dksX0_ploughPosition_0 7 rfl rfl)
theorem dX0_ploughPosition_8 : decode cX0_ploughPosition 8 = .ok (.lastore, 1) := dk_80 (dk_at dksX0_ploughPosition_0 8 rfl rfl)
theorem dX0_ploughPosition_9 : decode cX0_ploughPosition 9 = .ok (.goto 6, 3) := dk_167 0 6 (dk_at dksX0_ploughPosition_0 9 rfl rfl)
theorem dX0_ploughPosition_12 : decode cX0_ploughPosition 12 = .ok (.astore_n 3, 1) := dk_78 (dk_at dksX0_ploughPosition_0 12 rfl rfl)
theorem dX0_ploughPosition_13 : decode cX0_ploughPosition 13 = .ok (.iconst 1, 1) := dk_4 (dk_at dksX0_ploughPosition_0 13 rfl rfl)
theorem dX0_ploughPosition_14 : decode cX0_ploughPosition 14 = .ok (.ireturn, 1) := dk_172 (dk_at dksX0_ploughPosition_0 14 rfl rfl)
theorem dX0_ploughPosition_15 : decode cX0_ploughPosition 15 = .ok (.iconst 0, 1) := dk_3 (dk_at dksX0_ploughPosition_0 15 rfl rfl)
theorem dX0_ploughPosition_16 : decode cX0_ploughPosition 16 = .ok (.ireturn, 1) := dk_172 (dk_at dksX0_ploughPosition_0 16 rfl rfl)
abbrev cX0_ploughCapacity : ByteArray := method_12_code
def yX0_ploughCapacity : MethodName := ⟨RX0, "ploughCapacity", "(LSnowPass;I[J)I"⟩
def dkwX0_ploughCapacity_0 : List UInt8 := [44, 3, 42, 27, 182, 0, 46, 133, 80, 167, 0, 6, 78, 4, 172, 3, 172]
abbrev dktX0_ploughCapacity_0 : List UInt8 := dkwX0_ploughCapacity_0 ++ []
theorem dksX0_ploughCapacity_0 : cX0_ploughCapacity.data.toList.drop 0 = dktX0_ploughCapacity_0 := by decide +kernel
theorem dX0_ploughCapacity_0 : decode cX0_ploughCapacity 0 = .ok (.aload_n 2, 1) := dk_44 (dk_at dksX0_ploughCapacity_0 0 rfl rfl)
theorem dX0_ploughCapacity_1 : decode cX0_ploughCapacity 1 = .ok (.iconst 0, 1) := dk_3 (dk_at dksX0_ploughCapacity_0 1 rfl rfl)
theorem dX0_ploughCapacity_2 : decode cX0_ploughCapacity 2 = .ok (.aload_n 0, 1) := dk_42 (dk_at dksX0_ploughCapacity_0 2 rfl rfl)
theorem dX0_ploughCapacity_3 : decode cX0_ploughCapacity 3 = .ok (.iload_n 1, 1) := dk_27 (dk_at dksX0_ploughCapacity_0 3 rfl rfl)
theorem dX0_ploughCapacity_4 : decode cX0_ploughCapacity 4 = .ok (.invokevirtual 46, 3) := dk_182 0 46 (dk_at dksX0_ploughCapacity_0 4 rfl rfl)
theorem dX0_ploughCapacity_7 : decode cX0_ploughCapacity 7 = .ok (.i2l, 1) := dk_133 (dk_at dksX0_ploughCapacity_0 7 rfl rfl)
theorem dX0_ploughCapacity_8 : decode cX0_ploughCapacity 8 = .ok (.lastore, 1) := dk_80 (dk_at dksX0_ploughCapacity_0 8 rfl rfl)
theorem dX0_ploughCapacity_9 : decode cX0_ploughCapacity 9 = .ok (.goto 6, 3) := dk_167 0 6 (dk_at dksX0_ploughCapacity_0 9 rfl rfl)
theorem dX0_ploughCapacity_12 : decode cX0_ploughCapacity 12 = .ok (.astore_n 3, 1) := dk_78 (dk_at dksX0_ploughCapacity_0 12 rfl rfl)
theorem dX0_ploughCapacity_13 : decode cX0_ploughCapacity 13 = .ok (.iconst 1, 1) := dk_4 (dk_at dksX0_ploughCapacity_0 13 rfl rfl)
theorem dX0_ploughCapacity_14 : decode cX0_ploughCapacity 14 = .ok (.ireturn, 1) := dk_172 (dk_at dksX0_ploughCapacity_0 14 rfl rfl)
theorem dX0_ploughCapacity_15 : decode cX0_ploughCapacity 15 = .ok (.iconst 0, 1) := dk_3 (dk_at dksX0_ploughCapacity_0 15 rfl rfl)
theorem dX0_ploughCapacity_16 : decode cX0_ploughCapacity 16 = .ok (.ireturn, 1) := dk_172 (dk_at dksX0_ploughCapacity_0 16 rfl rfl)
abbrev cX0_sackCount : ByteArray := method_13_code
def yX0_sackCount : MethodName := ⟨RX0, "sackCount", "(LSnowPass;I[J)I"⟩
def dkwX0_sackCount_0 : List UInt8 := [44, 3, 42, 27, 182, 0, 49, 133, 80, 167, 0, 6, 78, 4, 172, 3, 172]
abbrev dktX0_sackCount_0 : List UInt8 := dkwX0_sackCount_0 ++ []
theorem dksX0_sackCount_0 : cX0_sackCount.data.toList.drop 0 = dktX0_sackCount_0 := by decide +kernel
theorem dX0_sackCount_0 : decode cX0_sackCount 0 = .ok (.aload_n 2, 1) := dk_44 (dk_at dksX0_sackCount_0 0 rfl rfl)
theorem dX0_sackCount_1 : decode cX0_sackCount 1 = .ok (.iconst 0, 1) := dk_3 (dk_at dksX0_sackCount_0 1 rfl rfl)
theorem dX0_sackCount_2 : decode cX0_sackCount 2 = .ok (.aload_n 0, 1) := dk_42 (dk_at dksX0_sackCount_0 2 rfl rfl)
theorem dX0_sackCount_3 : decode cX0_sackCount 3 = .ok (.iload_n 1, 1) := dk_27 (dk_at dksX0_sackCount_0 3 rfl rfl)
theorem dX0_sackCount_4 : decode cX0_sackCount 4 = .ok (.invokevirtual 49, 3) := dk_182 0 49 (dk_at dksX0_sackCount_0 4 rfl rfl)
theorem dX0_sackCount_7 : decode cX0_sackCount 7 = .ok (.i2l, 1) := dk_133 (dk_at dksX0_sackCount_0 7 rfl rfl)
theorem dX0_sackCount_8 : decode cX0_sackCount 8 = .ok (.lastore, 1) := dk_80 (dk_at dksX0_sackCount_0 8 rfl rfl)
theorem dX0_sackCount_9 : decode cX0_sackCount 9 = .ok (.goto 6, 3) := dk_167 0 6 (dk_at dksX0_sackCount_0 9 rfl rfl)
theorem dX0_sackCount_12 : decode cX0_sackCount 12 = .ok (.astore_n 3, 1) := dk_78 (dk_at dksX0_sackCount_0 12 rfl rfl)
theorem dX0_sackCount_13 : decode cX0_sackCount 13 = .ok (.iconst 1, 1) := dk_4 (dk_at dksX0_sackCount_0 13 rfl rfl)
theorem dX0_sackCount_14 : decode cX0_sackCount 14 = .ok (.ireturn, 1) := dk_172 (dk_at dksX0_sackCount_0 14 rfl rfl)
theorem dX0_sackCount_15 : decode cX0_sackCount 15 = .ok (.iconst 0, 1) := dk_3 (dk_at dksX0_sackCount_0 15 rfl rfl)
theorem dX0_sackCount_16 : decode cX0_sackCount 16 = .ok (.ireturn, 1) := dk_172 (dk_at dksX0_sackCount_0 16 rfl rfl)
abbrev cX0_hasSigned : ByteArray := method_14_code
def yX0_hasSigned : MethodName := ⟨RX0, "hasSigned", "(LSnowPass;I[J)I"⟩
def dkwX0_hasSigned_0 : List UInt8 := [44, 3, 42, 27, 182, 0, 52, 153, 0, 7, 10, 167, 0, 4, 9, 80, 167, 0, 6, 78, 4, 172, 3, 172]
abbrev dktX0_hasSigned_0 : List UInt8 := dkwX0_hasSigned_0 ++ []
theorem dksX0_hasSigned_0 : cX0_hasSigned.data.toList.drop 0 = dktX0_hasSigned_0 := by decide +kernel
theorem dX0_hasSigned_0 : decode cX0_hasSigned 0 = .ok (.aload_n 2, 1) := dk_44 (dk_at dksX0_hasSigned_0 0 rfl rfl)
theorem dX0_hasSigned_1 : decode cX0_hasSigned 1 = .ok (.iconst 0, 1) := dk_3 (dk_at dksX0_hasSigned_0 1 rfl rfl)
theorem dX0_hasSigned_2 : decode cX0_hasSigned 2 = .ok (.aload_n 0, 1) := dk_42 (dk_at dksX0_hasSigned_0 2 rfl rfl)
theorem dX0_hasSigned_3 : decode cX0_hasSigned 3 = .ok (.iload_n 1, 1) := dk_27 (dk_at dksX0_hasSigned_0 3 rfl rfl)
theorem dX0_hasSigned_4 : decode cX0_hasSigned 4 = .ok (.invokevirtual 52, 3) := dk_182 0 52 (dk_at dksX0_hasSigned_0 4 rfl rfl)
theorem dX0_hasSigned_7 : decode cX0_hasSigned 7 = .ok (.ifCond .eq 7, 3) := dk_153 0 7 (dk_at dksX0_hasSigned_0 7 rfl rfl)
theorem dX0_hasSigned_10 : decode cX0_hasSigned 10 = .ok (.lconst 1, 1) := dk_10 (dk_at dksX0_hasSigned_0 10 rfl rfl)
theorem dX0_hasSigned_11 : decode cX0_hasSigned 11 = .ok (.goto 4, 3) := dk_167 0 4 (dk_at dksX0_hasSigned_0 11 rfl rfl)
theorem dX0_hasSigned_14 : decode cX0_hasSigned 14 = .ok (.lconst 0, 1) := dk_9 (dk_at dksX0_hasSigned_0 14 rfl rfl)
theorem dX0_hasSigned_15 : decode cX0_hasSigned 15 = .ok (.lastore, 1) := dk_80 (dk_at dksX0_hasSigned_0 15 rfl rfl)
theorem dX0_hasSigned_16 : decode cX0_hasSigned 16 = .ok (.goto 6, 3) := dk_167 0 6 (dk_at dksX0_hasSigned_0 16 rfl rfl)
theorem dX0_hasSigned_19 : decode cX0_hasSigned 19 = .ok (.astore_n 3, 1) := dk_78 (dk_at dksX0_hasSigned_0 19 rfl rfl)
theorem dX0_hasSigned_20 : decode cX0_hasSigned 20 = .ok (.iconst 1, 1) := dk_4 (dk_at dksX0_hasSigned_0 20 rfl rfl)
theorem dX0_hasSigned_21 : decode cX0_hasSigned 21 = .ok (.ireturn, 1) := dk_172 (dk_at dksX0_hasSigned_0 21 rfl rfl)
theorem dX0_hasSigned_22 : decode cX0_hasSigned 22 = .ok (.iconst 0, 1) := dk_3 (dk_at dksX0_hasSigned_0 22 rfl rfl)
theorem dX0_hasSigned_23 : decode cX0_hasSigned 23 = .ok (.ireturn, 1) := dk_172 (dk_at dksX0_hasSigned_0 23 rfl rfl)
abbrev cX0_unclearedOnSide : ByteArray := method_15_code
def yX0_unclearedOnSide : MethodName := ⟨RX0, "unclearedOnSide", "(LSnowPass;I[J)I"⟩
def dkwX0_unclearedOnSide_0 : List UInt8 := [44, 3, 42, 27, 182, 0, 55, 133, 80, 167, 0, 6, 78, 4, 172, 3, 172]
abbrev dktX0_unclearedOnSide_0 : List UInt8 := dkwX0_unclearedOnSide_0 ++ []
theorem dksX0_unclearedOnSide_0 : cX0_unclearedOnSide.data.toList.drop 0 = dktX0_unclearedOnSide_0 := by decide +kernel
theorem dX0_unclearedOnSide_0 : decode cX0_unclearedOnSide 0 = .ok (.aload_n 2, 1) := dk_44 (dk_at dksX0_unclearedOnSide_0 0 rfl rfl)
theorem dX0_unclearedOnSide_1 : decode cX0_unclearedOnSide 1 = .ok (.iconst 0, 1) := dk_3 (dk_at dksX0_unclearedOnSide_0 1 rfl rfl)
theorem dX0_unclearedOnSide_2 : decode cX0_unclearedOnSide 2 = .ok (.aload_n 0, 1) := dk_42 (dk_at dksX0_unclearedOnSide_0 2 rfl rfl)
theorem dX0_unclearedOnSide_3 : decode cX0_unclearedOnSide 3 = .ok (.iload_n 1, 1) := dk_27 (dk_at dksX0_unclearedOnSide_0 3 rfl rfl)
theorem dX0_unclearedOnSide_4 : decode cX0_unclearedOnSide 4 = .ok (.invokevirtual 55, 3) := dk_182 0 55 (dk_at dksX0_unclearedOnSide_0 4 rfl rfl)
theorem dX0_unclearedOnSide_7 : decode cX0_unclearedOnSide 7 = .ok (.i2l, 1) := dk_133 (dk_at dksX0_unclearedOnSide_0 7 rfl rfl)
theorem dX0_unclearedOnSide_8 : decode cX0_unclearedOnSide 8 = .ok (.lastore, 1) := dk_80 (dk_at dksX0_unclearedOnSide_0 8 rfl rfl)
theorem dX0_unclearedOnSide_9 : decode cX0_unclearedOnSide 9 = .ok (.goto 6, 3) := dk_167 0 6 (dk_at dksX0_unclearedOnSide_0 9 rfl rfl)
theorem dX0_unclearedOnSide_12 : decode cX0_unclearedOnSide 12 = .ok (.astore_n 3, 1) := dk_78 (dk_at dksX0_unclearedOnSide_0 12 rfl rfl)
theorem dX0_unclearedOnSide_13 : decode cX0_unclearedOnSide 13 = .ok (.iconst 1, 1) := dk_4 (dk_at dksX0_unclearedOnSide_0 13 rfl rfl)
theorem dX0_unclearedOnSide_14 : decode cX0_unclearedOnSide 14 = .ok (.ireturn, 1) := dk_172 (dk_at dksX0_unclearedOnSide_0 14 rfl rfl)
theorem dX0_unclearedOnSide_15 : decode cX0_unclearedOnSide 15 = .ok (.iconst 0, 1) := dk_3 (dk_at dksX0_unclearedOnSide_0 15 rfl rfl)
theorem dX0_unclearedOnSide_16 : decode cX0_unclearedOnSide 16 = .ok (.ireturn, 1) := dk_172 (dk_at dksX0_unclearedOnSide_0 16 rfl rfl)
abbrev cX0_waitingCount : ByteArray := method_16_code
def yX0_waitingCount : MethodName := ⟨RX0, "waitingCount", "(LSnowPass;I[J)I"⟩
def dkwX0_waitingCount_0 : List UInt8 := [44, 3, 42, 27, 182, 0, 58, 133, 80, 167, 0, 6, 78, 4, 172, 3, 172]
abbrev dktX0_waitingCount_0 : List UInt8 := dkwX0_waitingCount_0 ++ []
theorem dksX0_waitingCount_0 : cX0_waitingCount.data.toList.drop 0 = dktX0_waitingCount_0 := by decide +kernel
theorem dX0_waitingCount_0 : decode cX0_waitingCount 0 = .ok (.aload_n 2, 1) := dk_44 (dk_at dksX0_waitingCount_0 0 rfl rfl)
theorem dX0_waitingCount_1 : decode cX0_waitingCount 1 = .ok (.iconst 0, 1) := dk_3 (dk_at dksX0_waitingCount_0 1 rfl rfl)
theorem dX0_waitingCount_2 : decode cX0_waitingCount 2 = .ok (.aload_n 0, 1) := dk_42 (dk_at dksX0_waitingCount_0 2 rfl rfl)
theorem dX0_waitingCount_3 : decode cX0_waitingCount 3 = .ok (.iload_n 1, 1) := dk_27 (dk_at dksX0_waitingCount_0 3 rfl rfl)
theorem dX0_waitingCount_4 : decode cX0_waitingCount 4 = .ok (.invokevirtual 58, 3) := dk_182 0 58 (dk_at dksX0_waitingCount_0 4 rfl rfl)
theorem dX0_waitingCount_7 : decode cX0_waitingCount 7 = .ok (.i2l, 1) := dk_133 (dk_at dksX0_waitingCount_0 7 rfl rfl)
theorem dX0_waitingCount_8 : decode cX0_waitingCount 8 = .ok (.lastore, 1) := dk_80 (dk_at dksX0_waitingCount_0 8 rfl rfl)
theorem dX0_waitingCount_9 : decode cX0_waitingCount 9 = .ok (.goto 6, 3) := dk_167 0 6 (dk_at dksX0_waitingCount_0 9 rfl rfl)
theorem dX0_waitingCount_12 : decode cX0_waitingCount 12 = .ok (.astore_n 3, 1) := dk_78 (dk_at dksX0_waitingCount_0 12 rfl rfl)
theorem dX0_waitingCount_13 : decode cX0_waitingCount 13 = .ok (.iconst 1, 1) := dk_4 (dk_at dksX0_waitingCount_0 13 rfl rfl)
theorem dX0_waitingCount_14 : decode cX0_waitingCount 14 = .ok (.ireturn, 1) := dk_172 (dk_at dksX0_waitingCount_0 14 rfl rfl)
theorem dX0_waitingCount_15 : decode cX0_waitingCount 15 = .ok (.iconst 0, 1) := dk_3 (dk_at dksX0_waitingCount_0 15 rfl rfl)
theorem dX0_waitingCount_16 : decode cX0_waitingCount 16 = .ok (.ireturn, 1) := dk_172 (dk_at dksX0_waitingCount_0 16 rfl rfl)
abbrev cX0_waitingTicket : ByteArray := method_17_code
def yX0_waitingTicket : MethodName := ⟨RX0, "waitingTicket", "(LSnowPass;II[J)I"⟩
def dkwX0_waitingTicket_0 : List UInt8 := [45, 3, 42, 27, 28, 182, 0, 61, 133, 80, 167, 0, 7, 58, 4, 4, 172, 3, 172]
abbrev dktX0_waitingTicket_0 : List UInt8 := dkwX0_waitingTicket_0 ++ []
theorem dksX0_waitingTicket_0 : cX0_waitingTicket.data.toList.drop 0 = dktX0_waitingTicket_0 := by decide +kernel
theorem dX0_waitingTicket_0 : decode cX0_waitingTicket 0 = .ok (.aload_n 3, 1) := dk_45 (dk_at dksX0_waitingTicket_0 0 rfl rfl)
theorem dX0_waitingTicket_1 : decode cX0_waitingTicket 1 = .ok (.iconst 0, 1) := dk_3 (dk_at dksX0_waitingTicket_0 1 rfl rfl)
theorem dX0_waitingTicket_2 : decode cX0_waitingTicket 2 = .ok (.aload_n 0, 1) := dk_42 (dk_at dksX0_waitingTicket_0 2 rfl rfl)
theorem dX0_waitingTicket_3 : decode cX0_waitingTicket 3 = .ok (.iload_n 1, 1) := dk_27 (dk_at dksX0_waitingTicket_0 3 rfl rfl)
theorem dX0_waitingTicket_4 : decode cX0_waitingTicket 4 = .ok (.iload_n 2, 1) := dk_28 (dk_at dksX0_waitingTicket_0 4 rfl rfl)
theorem dX0_waitingTicket_5 : decode cX0_waitingTicket 5 = .ok (.invokevirtual 61, 3) := dk_182 0 61 (dk_at dksX0_waitingTicket_0 5 rfl rfl)
theorem dX0_waitingTicket_8 : decode cX0_waitingTicket 8 = .ok (.i2l, 1) := dk_133 (dk_at dksX0_waitingTicket_0 8 rfl rfl)
theorem dX0_waitingTicket_9 : decode cX0_waitingTicket 9 = .ok (.lastore, 1) := dk_80 (dk_at dksX0_waitingTicket_0 9 rfl rfl)
theorem dX0_waitingTicket_10 : decode cX0_waitingTicket 10 = .ok (.goto 7, 3) := dk_167 0 7 (dk_at dksX0_waitingTicket_0 10 rfl rfl)
theorem dX0_waitingTicket_13 : decode cX0_waitingTicket 13 = .ok (.astore 4, 2) := dk_58 4 (dk_at dksX0_waitingTicket_0 13 rfl rfl)
theorem dX0_waitingTicket_15 : decode cX0_waitingTicket 15 = .ok (.iconst 1, 1) := dk_4 (dk_at dksX0_waitingTicket_0 15 rfl rfl)
theorem dX0_waitingTicket_16 : decode cX0_waitingTicket 16 = .ok (.ireturn, 1) := dk_172 (dk_at dksX0_waitingTicket_0 16 rfl rfl)
theorem dX0_waitingTicket_17 : decode cX0_waitingTicket 17 = .ok (.iconst 0, 1) := dk_3 (dk_at dksX0_waitingTicket_0 17 rfl rfl)
theorem dX0_waitingTicket_18 : decode cX0_waitingTicket 18 = .ok (.ireturn, 1) := dk_172 (dk_at dksX0_waitingTicket_0 18 rfl rfl)
abbrev cX0_hasChains : ByteArray := method_18_code
def yX0_hasChains : MethodName := ⟨RX0, "hasChains", "(LSnowPass;I[J)I"⟩
def dkwX0_hasChains_0 : List UInt8 := [44, 3, 42, 27, 182, 0, 65, 153, 0, 7, 10, 167, 0, 4, 9, 80, 167, 0, 6, 78, 4, 172, 3, 172]
abbrev dktX0_hasChains_0 : List UInt8 := dkwX0_hasChains_0 ++ []
theorem dksX0_hasChains_0 : cX0_hasChains.data.toList.drop 0 = dktX0_hasChains_0 := by decide +kernel
theorem dX0_hasChains_0 : decode cX0_hasChains 0 = .ok (.aload_n 2, 1) := dk_44 (dk_at dksX0_hasChains_0 0 rfl rfl)
theorem dX0_hasChains_1 : decode cX0_hasChains 1 = .ok (.iconst 0, 1) := dk_3 (dk_at dksX0_hasChains_0 1 rfl rfl)
theorem dX0_hasChains_2 : decode cX0_hasChains 2 = .ok (.aload_n 0, 1) := dk_42 (dk_at dksX0_hasChains_0 2 rfl rfl)
theorem dX0_hasChains_3 : decode cX0_hasChains 3 = .ok (.iload_n 1, 1) := dk_27 (dk_at dksX0_hasChains_0 3 rfl rfl)
theorem dX0_hasChains_4 : decode cX0_hasChains 4 = .ok (.invokevirtual 65, 3) := dk_182 0 65 (dk_at dksX0_hasChains_0 4 rfl rfl)
theorem dX0_hasChains_7 : decode cX0_hasChains 7 = .ok (.ifCond .eq 7, 3) := dk_153 0 7 (dk_at dksX0_hasChains_0 7 rfl rfl)
theorem dX0_hasChains_10 : decode cX0_hasChains 10 = .ok (.lconst 1, 1) := dk_10 (dk_at dksX0_hasChains_0 10 rfl rfl)
theorem dX0_hasChains_11 : decode cX0_hasChains 11 = .ok (.goto 4, 3) := dk_167 0 4 (dk_at dksX0_hasChains_0 11 rfl rfl)
theorem dX0_hasChains_14 : decode cX0_hasChains 14 = .ok (.lconst 0, 1) := dk_9 (dk_at dksX0_hasChains_0 14 rfl rfl)
theorem dX0_hasChains_15 : decode cX0_hasChains 15 = .ok (.lastore, 1) := dk_80 (dk_at dksX0_hasChains_0 15 rfl rfl)
theorem dX0_hasChains_16 : decode cX0_hasChains 16 = .ok (.goto 6, 3) := dk_167 0 6 (dk_at dksX0_hasChains_0 16 rfl rfl)
theorem dX0_hasChains_19 : decode cX0_hasChains 19 = .ok (.astore_n 3, 1) := dk_78 (dk_at dksX0_hasChains_0 19 rfl rfl)
theorem dX0_hasChains_20 : decode cX0_hasChains 20 = .ok (.iconst 1, 1) := dk_4 (dk_at dksX0_hasChains_0 20 rfl rfl)
theorem dX0_hasChains_21 : decode cX0_hasChains 21 = .ok (.ireturn, 1) := dk_172 (dk_at dksX0_hasChains_0 21 rfl rfl)
theorem dX0_hasChains_22 : decode cX0_hasChains 22 = .ok (.iconst 0, 1) := dk_3 (dk_at dksX0_hasChains_0 22 rfl rfl)
theorem dX0_hasChains_23 : decode cX0_hasChains 23 = .ok (.ireturn, 1) := dk_172 (dk_at dksX0_hasChains_0 23 rfl rfl)
abbrev cX0_crossingReason : ByteArray := method_19_code
def yX0_crossingReason : MethodName := ⟨RX0, "crossingReason", "(LSnowPass;I[J)I"⟩
def dkwX0_crossingReason_0 : List UInt8 := [44, 3, 42, 27, 182, 0, 70, 133, 80, 167, 0, 6, 78, 4, 172, 3, 172]
abbrev dktX0_crossingReason_0 : List UInt8 := dkwX0_crossingReason_0 ++ []
theorem dksX0_crossingReason_0 : cX0_crossingReason.data.toList.drop 0 = dktX0_crossingReason_0 := by decide +kernel
theorem dX0_crossingReason_0 : decode cX0_crossingReason 0 = .ok (.aload_n 2, 1) := dk_44 (dk_at dksX0_crossingReason_0 0 rfl rfl)
theorem dX0_crossingReason_1 : decode cX0_crossingReason 1 = .ok (.iconst 0, 1) := dk_3 (dk_at dksX0_crossingReason_0 1 rfl rfl)
theorem dX0_crossingReason_2 : decode cX0_crossingReason 2 = .ok (.aload_n 0, 1) := dk_42 (dk_at dksX0_crossingReason_0 2 rfl rfl)
theorem dX0_crossingReason_3 : decode cX0_crossingReason 3 = .ok (.iload_n 1, 1) := dk_27 (dk_at dksX0_crossingReason_0 3 rfl rfl)
theorem dX0_crossingReason_4 : decode cX0_crossingReason 4 = .ok (.invokevirtual 70, 3) := dk_182 0 70 (dk_at dksX0_crossingReason_0 4 rfl rfl)
theorem dX0_crossingReason_7 : decode cX0_crossingReason 7 = .ok (.i2l, 1) := dk_133 (dk_at dksX0_crossingReason_0 7 rfl rfl)
theorem dX0_crossingReason_8 : decode cX0_crossingReason 8 = .ok (.lastore, 1) := dk_80 (dk_at dksX0_crossingReason_0 8 rfl rfl)
theorem dX0_crossingReason_9 : decode cX0_crossingReason 9 = .ok (.goto 6, 3) := dk_167 0 6 (dk_at dksX0_crossingReason_0 9 rfl rfl)
theorem dX0_crossingReason_12 : decode cX0_crossingReason 12 = .ok (.astore_n 3, 1) := dk_78 (dk_at dksX0_crossingReason_0 12 rfl rfl)
theorem dX0_crossingReason_13 : decode cX0_crossingReason 13 = .ok (.iconst 1, 1) := dk_4 (dk_at dksX0_crossingReason_0 13 rfl rfl)
theorem dX0_crossingReason_14 : decode cX0_crossingReason 14 = .ok (.ireturn, 1) := dk_172 (dk_at dksX0_crossingReason_0 14 rfl rfl)
theorem dX0_crossingReason_15 : decode cX0_crossingReason 15 = .ok (.iconst 0, 1) := dk_3 (dk_at dksX0_crossingReason_0 15 rfl rfl)
theorem dX0_crossingReason_16 : decode cX0_crossingReason 16 = .ok (.ireturn, 1) := dk_172 (dk_at dksX0_crossingReason_0 16 rfl rfl)
abbrev cX0_depthAfter : ByteArray := method_20_code
def yX0_depthAfter : MethodName := ⟨RX0, "depthAfter", "(LSnowPass;II[J)I"⟩
def dkwX0_depthAfter_0 : List UInt8 := [45, 3, 42, 27, 28, 182, 0, 73, 133, 80, 167, 0, 11, 58, 4, 4, 172, 58, 4, 5, 172, 3, 172]
abbrev dktX0_depthAfter_0 : List UInt8 := dkwX0_depthAfter_0 ++ []
theorem dksX0_depthAfter_0 : cX0_depthAfter.data.toList.drop 0 = dktX0_depthAfter_0 := by decide +kernel
theorem dX0_depthAfter_0 : decode cX0_depthAfter 0 = .ok (.aload_n 3, 1) := dk_45 (dk_at dksX0_depthAfter_0 0 rfl rfl)
theorem dX0_depthAfter_1 : decode cX0_depthAfter 1 = .ok (.iconst 0, 1) := dk_3 (dk_at dksX0_depthAfter_0 1 rfl rfl)
theorem dX0_depthAfter_2 : decode cX0_depthAfter 2 = .ok (.aload_n 0, 1) := dk_42 (dk_at dksX0_depthAfter_0 2 rfl rfl)
theorem dX0_depthAfter_3 : decode cX0_depthAfter 3 = .ok (.iload_n 1, 1) := dk_27 (dk_at dksX0_depthAfter_0 3 rfl rfl)
theorem dX0_depthAfter_4 : decode cX0_depthAfter 4 = .ok (.iload_n 2, 1) := dk_28 (dk_at dksX0_depthAfter_0 4 rfl rfl)
theorem dX0_depthAfter_5 : decode cX0_depthAfter 5 = .ok (.invokevirtual 73, 3) := dk_182 0 73 (dk_at dksX0_depthAfter_0 5 rfl rfl)
theorem dX0_depthAfter_8 : decode cX0_depthAfter 8 = .ok (.i2l, 1) := dk_133 (dk_at dksX0_depthAfter_0 8 rfl rfl)
theorem dX0_depthAfter_9 : decode cX0_depthAfter 9 = .ok (.lastore, 1) := dk_80 (dk_at dksX0_depthAfter_0 9 rfl rfl)
theorem dX0_depthAfter_10 : decode cX0_depthAfter 10 = .ok (.goto 11, 3) := dk_167 0 11 (dk_at dksX0_depthAfter_0 10 rfl rfl)
theorem dX0_depthAfter_13 : decode cX0_depthAfter 13 = .ok (.astore 4, 2) := dk_58 4 (dk_at dksX0_depthAfter_0 13 rfl rfl)
theorem dX0_depthAfter_15 : decode cX0_depthAfter 15 = .ok (.iconst 1, 1) := dk_4 (dk_at dksX0_depthAfter_0 15 rfl rfl)
theorem dX0_depthAfter_16 : decode cX0_depthAfter 16 = .ok (.ireturn, 1) := dk_172 (dk_at dksX0_depthAfter_0 16 rfl rfl)
theorem dX0_depthAfter_17 : decode cX0_depthAfter 17 = .ok (.astore 4, 2) := dk_58 4 (dk_at dksX0_depthAfter_0 17 rfl rfl)
theorem dX0_depthAfter_19 : decode cX0_depthAfter 19 = .ok (.iconst 2, 1) := dk_5 (dk_at dksX0_depthAfter_0 19 rfl rfl)
theorem dX0_depthAfter_20 : decode cX0_depthAfter 20 = .ok (.ireturn, 1) := dk_172 (dk_at dksX0_depthAfter_0 20 rfl rfl)
theorem dX0_depthAfter_21 : decode cX0_depthAfter 21 = .ok (.iconst 0, 1) := dk_3 (dk_at dksX0_depthAfter_0 21 rfl rfl)
theorem dX0_depthAfter_22 : decode cX0_depthAfter 22 = .ok (.ireturn, 1) := dk_172 (dk_at dksX0_depthAfter_0 22 rfl rfl)
abbrev cX0_hoursUntilCrossed : ByteArray := method_21_code
def yX0_hoursUntilCrossed : MethodName := ⟨RX0, "hoursUntilCrossed", "(LSnowPass;I[J)I"⟩
def dkwX0_hoursUntilCrossed_0 : List UInt8 := [44, 3, 42, 27, 182, 0, 76, 133, 80, 167, 0, 6, 78, 4, 172, 3, 172]
abbrev dktX0_hoursUntilCrossed_0 : List UInt8 := dkwX0_hoursUntilCrossed_0 ++ []
theorem dksX0_hoursUntilCrossed_0 : cX0_hoursUntilCrossed.data.toList.drop 0 = dktX0_hoursUntilCrossed_0 := by decide +kernel
theorem dX0_hoursUntilCrossed_0 : decode cX0_hoursUntilCrossed 0 = .ok (.aload_n 2, 1) := dk_44 (dk_at dksX0_hoursUntilCrossed_0 0 rfl rfl)
theorem dX0_hoursUntilCrossed_1 : decode cX0_hoursUntilCrossed 1 = .ok (.iconst 0, 1) := dk_3 (dk_at dksX0_hoursUntilCrossed_0 1 rfl rfl)
theorem dX0_hoursUntilCrossed_2 : decode cX0_hoursUntilCrossed 2 = .ok (.aload_n 0, 1) := dk_42 (dk_at dksX0_hoursUntilCrossed_0 2 rfl rfl)
theorem dX0_hoursUntilCrossed_3 : decode cX0_hoursUntilCrossed 3 = .ok (.iload_n 1, 1) := dk_27 (dk_at dksX0_hoursUntilCrossed_0 3 rfl rfl)
theorem dX0_hoursUntilCrossed_4 : decode cX0_hoursUntilCrossed 4 = .ok (.invokevirtual 76, 3) := dk_182 0 76 (dk_at dksX0_hoursUntilCrossed_0 4 rfl rfl)
theorem dX0_hoursUntilCrossed_7 : decode cX0_hoursUntilCrossed 7 = .ok (.i2l, 1) := dk_133 (dk_at dksX0_hoursUntilCrossed_0 7 rfl rfl)
theorem dX0_hoursUntilCrossed_8 : decode cX0_hoursUntilCrossed 8 = .ok (.lastore, 1) := dk_80 (dk_at dksX0_hoursUntilCrossed_0 8 rfl rfl)
theorem dX0_hoursUntilCrossed_9 : decode cX0_hoursUntilCrossed 9 = .ok (.goto 6, 3) := dk_167 0 6 (dk_at dksX0_hoursUntilCrossed_0 9 rfl rfl)
theorem dX0_hoursUntilCrossed_12 : decode cX0_hoursUntilCrossed 12 = .ok (.astore_n 3, 1) := dk_78 (dk_at dksX0_hoursUntilCrossed_0 12 rfl rfl)
theorem dX0_hoursUntilCrossed_13 : decode cX0_hoursUntilCrossed 13 = .ok (.iconst 1, 1) := dk_4 (dk_at dksX0_hoursUntilCrossed_0 13 rfl rfl)
theorem dX0_hoursUntilCrossed_14 : decode cX0_hoursUntilCrossed 14 = .ok (.ireturn, 1) := dk_172 (dk_at dksX0_hoursUntilCrossed_0 14 rfl rfl)
theorem dX0_hoursUntilCrossed_15 : decode cX0_hoursUntilCrossed 15 = .ok (.iconst 0, 1) := dk_3 (dk_at dksX0_hoursUntilCrossed_0 15 rfl rfl)
theorem dX0_hoursUntilCrossed_16 : decode cX0_hoursUntilCrossed 16 = .ok (.ireturn, 1) := dk_172 (dk_at dksX0_hoursUntilCrossed_0 16 rfl rfl)
abbrev cX0_crossedAfter : ByteArray := method_22_code
def yX0_crossedAfter : MethodName := ⟨RX0, "crossedAfter", "(LSnowPass;II[J)I"⟩
def dkwX0_crossedAfter_0 : List UInt8 := [45, 3, 42, 27, 28, 182, 0, 79, 133, 80, 167, 0, 11, 58, 4, 4, 172, 58, 4, 5, 172, 3, 172]
abbrev dktX0_crossedAfter_0 : List UInt8 := dkwX0_crossedAfter_0 ++ []
theorem dksX0_crossedAfter_0 : cX0_crossedAfter.data.toList.drop 0 = dktX0_crossedAfter_0 := by decide +kernel
theorem dX0_crossedAfter_0 : decode cX0_crossedAfter 0 = .ok (.aload_n 3, 1) := dk_45 (dk_at dksX0_crossedAfter_0 0 rfl rfl)
theorem dX0_crossedAfter_1 : decode cX0_crossedAfter 1 = .ok (.iconst 0, 1) := dk_3 (dk_at dksX0_crossedAfter_0 1 rfl rfl)
theorem dX0_crossedAfter_2 : decode cX0_crossedAfter 2 = .ok (.aload_n 0, 1) := dk_42 (dk_at dksX0_crossedAfter_0 2 rfl rfl)
theorem dX0_crossedAfter_3 : decode cX0_crossedAfter 3 = .ok (.iload_n 1, 1) := dk_27 (dk_at dksX0_crossedAfter_0 3 rfl rfl)
theorem dX0_crossedAfter_4 : decode cX0_crossedAfter 4 = .ok (.iload_n 2, 1) := dk_28 (dk_at dksX0_crossedAfter_0 4 rfl rfl)
theorem dX0_crossedAfter_5 : decode cX0_crossedAfter 5 = .ok (.invokevirtual 79, 3) := dk_182 0 79 (dk_at dksX0_crossedAfter_0 5 rfl rfl)
theorem dX0_crossedAfter_8 : decode cX0_crossedAfter 8 = .ok (.i2l, 1) := dk_133 (dk_at dksX0_crossedAfter_0 8 rfl rfl)
theorem dX0_crossedAfter_9 : decode cX0_crossedAfter 9 = .ok (.lastore, 1) := dk_80 (dk_at dksX0_crossedAfter_0 9 rfl rfl)
theorem dX0_crossedAfter_10 : decode cX0_crossedAfter 10 = .ok (.goto 11, 3) := dk_167 0 11 (dk_at dksX0_crossedAfter_0 10 rfl rfl)
theorem dX0_crossedAfter_13 : decode cX0_crossedAfter 13 = .ok (.astore 4, 2) := dk_58 4 (dk_at dksX0_crossedAfter_0 13 rfl rfl)
theorem dX0_crossedAfter_15 : decode cX0_crossedAfter 15 = .ok (.iconst 1, 1) := dk_4 (dk_at dksX0_crossedAfter_0 15 rfl rfl)
theorem dX0_crossedAfter_16 : decode cX0_crossedAfter 16 = .ok (.ireturn, 1) := dk_172 (dk_at dksX0_crossedAfter_0 16 rfl rfl)
theorem dX0_crossedAfter_17 : decode cX0_crossedAfter 17 = .ok (.astore 4, 2) := dk_58 4 (dk_at dksX0_crossedAfter_0 17 rfl rfl)
theorem dX0_crossedAfter_19 : decode cX0_crossedAfter 19 = .ok (.iconst 2, 1) := dk_5 (dk_at dksX0_crossedAfter_0 19 rfl rfl)
theorem dX0_crossedAfter_20 : decode cX0_crossedAfter 20 = .ok (.ireturn, 1) := dk_172 (dk_at dksX0_crossedAfter_0 20 rfl rfl)
theorem dX0_crossedAfter_21 : decode cX0_crossedAfter 21 = .ok (.iconst 0, 1) := dk_3 (dk_at dksX0_crossedAfter_0 21 rfl rfl)
theorem dX0_crossedAfter_22 : decode cX0_crossedAfter 22 = .ok (.ireturn, 1) := dk_172 (dk_at dksX0_crossedAfter_0 22 rfl rfl)
abbrev cX0_leastCapacity : ByteArray := method_23_code
def yX0_leastCapacity : MethodName := ⟨RX0, "leastCapacity", "(LSnowPass;II[J)I"⟩
def dkwX0_leastCapacity_0 : List UInt8 := [45, 3, 42, 27, 28, 182, 0, 82, 133, 80, 167, 0, 11, 58, 4, 4, 172, 58, 4, 5, 172, 3, 172]
abbrev dktX0_leastCapacity_0 : List UInt8 := dkwX0_leastCapacity_0 ++ []
theorem dksX0_leastCapacity_0 : cX0_leastCapacity.data.toList.drop 0 = dktX0_leastCapacity_0 := by decide +kernel
theorem dX0_leastCapacity_0 : decode cX0_leastCapacity 0 = .ok (.aload_n 3, 1) := dk_45 (dk_at dksX0_leastCapacity_0 0 rfl rfl)
theorem dX0_leastCapacity_1 : decode cX0_leastCapacity 1 = .ok (.iconst 0, 1) := dk_3 (dk_at dksX0_leastCapacity_0 1 rfl rfl)
theorem dX0_leastCapacity_2 : decode cX0_leastCapacity 2 = .ok (.aload_n 0, 1) := dk_42 (dk_at dksX0_leastCapacity_0 2 rfl rfl)
theorem dX0_leastCapacity_3 : decode cX0_leastCapacity 3 = .ok (.iload_n 1, 1) := dk_27 (dk_at dksX0_leastCapacity_0 3 rfl rfl)
theorem dX0_leastCapacity_4 : decode cX0_leastCapacity 4 = .ok (.iload_n 2, 1) := dk_28 (dk_at dksX0_leastCapacity_0 4 rfl rfl)
theorem dX0_leastCapacity_5 : decode cX0_leastCapacity 5 = .ok (.invokevirtual 82, 3) := dk_182 0 82 (dk_at dksX0_leastCapacity_0 5 rfl rfl)
theorem dX0_leastCapacity_8 : decode cX0_leastCapacity 8 = .ok (.i2l, 1) := dk_133 (dk_at dksX0_leastCapacity_0 8 rfl rfl)
theorem dX0_leastCapacity_9 : decode cX0_leastCapacity 9 = .ok (.lastore, 1) := dk_80 (dk_at dksX0_leastCapacity_0 9 rfl rfl)
theorem dX0_leastCapacity_10 : decode cX0_leastCapacity 10 = .ok (.goto 11, 3) := dk_167 0 11 (dk_at dksX0_leastCapacity_0 10 rfl rfl)
theorem dX0_leastCapacity_13 : decode cX0_leastCapacity 13 = .ok (.astore 4, 2) := dk_58 4 (dk_at dksX0_leastCapacity_0 13 rfl rfl)
theorem dX0_leastCapacity_15 : decode cX0_leastCapacity 15 = .ok (.iconst 1, 1) := dk_4 (dk_at dksX0_leastCapacity_0 15 rfl rfl)
theorem dX0_leastCapacity_16 : decode cX0_leastCapacity 16 = .ok (.ireturn, 1) := dk_172 (dk_at dksX0_leastCapacity_0 16 rfl rfl)
theorem dX0_leastCapacity_17 : decode cX0_leastCapacity 17 = .ok (.astore 4, 2) := dk_58 4 (dk_at dksX0_leastCapacity_0 17 rfl rfl)
theorem dX0_leastCapacity_19 : decode cX0_leastCapacity 19 = .ok (.iconst 2, 1) := dk_5 (dk_at dksX0_leastCapacity_0 19 rfl rfl)
theorem dX0_leastCapacity_20 : decode cX0_leastCapacity 20 = .ok (.ireturn, 1) := dk_172 (dk_at dksX0_leastCapacity_0 20 rfl rfl)
theorem dX0_leastCapacity_21 : decode cX0_leastCapacity 21 = .ok (.iconst 0, 1) := dk_3 (dk_at dksX0_leastCapacity_0 21 rfl rfl)
theorem dX0_leastCapacity_22 : decode cX0_leastCapacity 22 = .ok (.ireturn, 1) := dk_172 (dk_at dksX0_leastCapacity_0 22 rfl rfl)
abbrev cX0_bestSaltSegment : ByteArray := method_24_code
def yX0_bestSaltSegment : MethodName := ⟨RX0, "bestSaltSegment", "(LSnowPass;I[J)I"⟩
def dkwX0_bestSaltSegment_0 : List UInt8 := [44, 3, 42, 27, 182, 0, 85, 133, 80, 167, 0, 6, 78, 4, 172, 3, 172]
abbrev dktX0_bestSaltSegment_0 : List UInt8 := dkwX0_bestSaltSegment_0 ++ []
theorem dksX0_bestSaltSegment_0 : cX0_bestSaltSegment.data.toList.drop 0 = dktX0_bestSaltSegment_0 := by decide +kernel
theorem dX0_bestSaltSegment_0 : decode cX0_bestSaltSegment 0 = .ok (.aload_n 2, 1) := dk_44 (dk_at dksX0_bestSaltSegment_0 0 rfl rfl)
theorem dX0_bestSaltSegment_1 : decode cX0_bestSaltSegment 1 = .ok (.iconst 0, 1) := dk_3 (dk_at dksX0_bestSaltSegment_0 1 rfl rfl)
theorem dX0_bestSaltSegment_2 : decode cX0_bestSaltSegment 2 = .ok (.aload_n 0, 1) := dk_42 (dk_at dksX0_bestSaltSegment_0 2 rfl rfl)
theorem dX0_bestSaltSegment_3 : decode cX0_bestSaltSegment 3 = .ok (.iload_n 1, 1) := dk_27 (dk_at dksX0_bestSaltSegment_0 3 rfl rfl)
theorem dX0_bestSaltSegment_4 : decode cX0_bestSaltSegment 4 = .ok (.invokevirtual 85, 3) := dk_182 0 85 (dk_at dksX0_bestSaltSegment_0 4 rfl rfl)
theorem dX0_bestSaltSegment_7 : decode cX0_bestSaltSegment 7 = .ok (.i2l, 1) := dk_133 (dk_at dksX0_bestSaltSegment_0 7 rfl rfl)
theorem dX0_bestSaltSegment_8 : decode cX0_bestSaltSegment 8 = .ok (.lastore, 1) := dk_80 (dk_at dksX0_bestSaltSegment_0 8 rfl rfl)
theorem dX0_bestSaltSegment_9 : decode cX0_bestSaltSegment 9 = .ok (.goto 6, 3) := dk_167 0 6 (dk_at dksX0_bestSaltSegment_0 9 rfl rfl)
theorem dX0_bestSaltSegment_12 : decode cX0_bestSaltSegment 12 = .ok (.astore_n 3, 1) := dk_78 (dk_at dksX0_bestSaltSegment_0 12 rfl rfl)
theorem dX0_bestSaltSegment_13 : decode cX0_bestSaltSegment 13 = .ok (.iconst 1, 1) := dk_4 (dk_at dksX0_bestSaltSegment_0 13 rfl rfl)
theorem dX0_bestSaltSegment_14 : decode cX0_bestSaltSegment 14 = .ok (.ireturn, 1) := dk_172 (dk_at dksX0_bestSaltSegment_0 14 rfl rfl)
theorem dX0_bestSaltSegment_15 : decode cX0_bestSaltSegment 15 = .ok (.iconst 0, 1) := dk_3 (dk_at dksX0_bestSaltSegment_0 15 rfl rfl)
theorem dX0_bestSaltSegment_16 : decode cX0_bestSaltSegment 16 = .ok (.ireturn, 1) := dk_172 (dk_at dksX0_bestSaltSegment_0 16 rfl rfl)
abbrev cX0_cartsCrossed : ByteArray := method_25_code
def yX0_cartsCrossed : MethodName := ⟨RX0, "cartsCrossed", "(LSnowPass;I[J)I"⟩
def dkwX0_cartsCrossed_0 : List UInt8 := [44, 3, 42, 27, 182, 0, 88, 133, 80, 167, 0, 6, 78, 4, 172, 3, 172]
abbrev dktX0_cartsCrossed_0 : List UInt8 := dkwX0_cartsCrossed_0 ++ []
theorem dksX0_cartsCrossed_0 : cX0_cartsCrossed.data.toList.drop 0 = dktX0_cartsCrossed_0 := by decide +kernel
theorem dX0_cartsCrossed_0 : decode cX0_cartsCrossed 0 = .ok (.aload_n 2, 1) := dk_44 (dk_at dksX0_cartsCrossed_0 0 rfl rfl)
theorem dX0_cartsCrossed_1 : decode cX0_cartsCrossed 1 = .ok (.iconst 0, 1) := dk_3 (dk_at dksX0_cartsCrossed_0 1 rfl rfl)
theorem dX0_cartsCrossed_2 : decode cX0_cartsCrossed 2 = .ok (.aload_n 0, 1) := dk_42 (dk_at dksX0_cartsCrossed_0 2 rfl rfl)
theorem dX0_cartsCrossed_3 : decode cX0_cartsCrossed 3 = .ok (.iload_n 1, 1) := dk_27 (dk_at dksX0_cartsCrossed_0 3 rfl rfl)
theorem dX0_cartsCrossed_4 : decode cX0_cartsCrossed 4 = .ok (.invokevirtual 88, 3) := dk_182 0 88 (dk_at dksX0_cartsCrossed_0 4 rfl rfl)
theorem dX0_cartsCrossed_7 : decode cX0_cartsCrossed 7 = .ok (.i2l, 1) := dk_133 (dk_at dksX0_cartsCrossed_0 7 rfl rfl)
theorem dX0_cartsCrossed_8 : decode cX0_cartsCrossed 8 = .ok (.lastore, 1) := dk_80 (dk_at dksX0_cartsCrossed_0 8 rfl rfl)
theorem dX0_cartsCrossed_9 : decode cX0_cartsCrossed 9 = .ok (.goto 6, 3) := dk_167 0 6 (dk_at dksX0_cartsCrossed_0 9 rfl rfl)
theorem dX0_cartsCrossed_12 : decode cX0_cartsCrossed 12 = .ok (.astore_n 3, 1) := dk_78 (dk_at dksX0_cartsCrossed_0 12 rfl rfl)
theorem dX0_cartsCrossed_13 : decode cX0_cartsCrossed 13 = .ok (.iconst 1, 1) := dk_4 (dk_at dksX0_cartsCrossed_0 13 rfl rfl)
theorem dX0_cartsCrossed_14 : decode cX0_cartsCrossed 14 = .ok (.ireturn, 1) := dk_172 (dk_at dksX0_cartsCrossed_0 14 rfl rfl)
theorem dX0_cartsCrossed_15 : decode cX0_cartsCrossed 15 = .ok (.iconst 0, 1) := dk_3 (dk_at dksX0_cartsCrossed_0 15 rfl rfl)
theorem dX0_cartsCrossed_16 : decode cX0_cartsCrossed 16 = .ok (.ireturn, 1) := dk_172 (dk_at dksX0_cartsCrossed_0 16 rfl rfl)
abbrev cX0_passHours : ByteArray := method_26_code
def yX0_passHours : MethodName := ⟨RX0, "passHours", "(LSnowPass;I[J)I"⟩
def dkwX0_passHours_0 : List UInt8 := [44, 3, 42, 27, 182, 0, 91, 133, 80, 167, 0, 6, 78, 4, 172, 3, 172]
abbrev dktX0_passHours_0 : List UInt8 := dkwX0_passHours_0 ++ []
theorem dksX0_passHours_0 : cX0_passHours.data.toList.drop 0 = dktX0_passHours_0 := by decide +kernel
theorem dX0_passHours_0 : decode cX0_passHours 0 = .ok (.aload_n 2, 1) := dk_44 (dk_at dksX0_passHours_0 0 rfl rfl)
theorem dX0_passHours_1 : decode cX0_passHours 1 = .ok (.iconst 0, 1) := dk_3 (dk_at dksX0_passHours_0 1 rfl rfl)
theorem dX0_passHours_2 : decode cX0_passHours 2 = .ok (.aload_n 0, 1) := dk_42 (dk_at dksX0_passHours_0 2 rfl rfl)
theorem dX0_passHours_3 : decode cX0_passHours 3 = .ok (.iload_n 1, 1) := dk_27 (dk_at dksX0_passHours_0 3 rfl rfl)
theorem dX0_passHours_4 : decode cX0_passHours 4 = .ok (.invokevirtual 91, 3) := dk_182 0 91 (dk_at dksX0_passHours_0 4 rfl rfl)
theorem dX0_passHours_7 : decode cX0_passHours 7 = .ok (.i2l, 1) := dk_133 (dk_at dksX0_passHours_0 7 rfl rfl)
theorem dX0_passHours_8 : decode cX0_passHours 8 = .ok (.lastore, 1) := dk_80 (dk_at dksX0_passHours_0 8 rfl rfl)
theorem dX0_passHours_9 : decode cX0_passHours 9 = .ok (.goto 6, 3) := dk_167 0 6 (dk_at dksX0_passHours_0 9 rfl rfl)
theorem dX0_passHours_12 : decode cX0_passHours 12 = .ok (.astore_n 3, 1) := dk_78 (dk_at dksX0_passHours_0 12 rfl rfl)
theorem dX0_passHours_13 : decode cX0_passHours 13 = .ok (.iconst 1, 1) := dk_4 (dk_at dksX0_passHours_0 13 rfl rfl)
theorem dX0_passHours_14 : decode cX0_passHours 14 = .ok (.ireturn, 1) := dk_172 (dk_at dksX0_passHours_0 14 rfl rfl)
theorem dX0_passHours_15 : decode cX0_passHours 15 = .ok (.iconst 0, 1) := dk_3 (dk_at dksX0_passHours_0 15 rfl rfl)
theorem dX0_passHours_16 : decode cX0_passHours 16 = .ok (.ireturn, 1) := dk_172 (dk_at dksX0_passHours_0 16 rfl rfl)
abbrev cX0_spreadSalt : ByteArray := method_27_code
def yX0_spreadSalt : MethodName := ⟨RX0, "spreadSalt", "(LSnowPass;I[J)I"⟩
def dkwX0_spreadSalt_0 : List UInt8 := [44, 3, 42, 27, 182, 0, 94, 133, 80, 167, 0, 9, 78, 4, 172, 78, 5, 172, 3, 172]
abbrev dktX0_spreadSalt_0 : List UInt8 := dkwX0_spreadSalt_0 ++ []
theorem dksX0_spreadSalt_0 : cX0_spreadSalt.data.toList.drop 0 = dktX0_spreadSalt_0 := by decide +kernel
theorem dX0_spreadSalt_0 : decode cX0_spreadSalt 0 = .ok (.aload_n 2, 1) := dk_44 (dk_at dksX0_spreadSalt_0 0 rfl rfl)
theorem dX0_spreadSalt_1 : decode cX0_spreadSalt 1 = .ok (.iconst 0, 1) := dk_3 (dk_at dksX0_spreadSalt_0 1 rfl rfl)
theorem dX0_spreadSalt_2 : decode cX0_spreadSalt 2 = .ok (.aload_n 0, 1) := dk_42 (dk_at dksX0_spreadSalt_0 2 rfl rfl)
theorem dX0_spreadSalt_3 : decode cX0_spreadSalt 3 = .ok (.iload_n 1, 1) := dk_27 (dk_at dksX0_spreadSalt_0 3 rfl rfl)
theorem dX0_spreadSalt_4 : decode cX0_spreadSalt 4 = .ok (.invokevirtual 94, 3) := dk_182 0 94 (dk_at dksX0_spreadSalt_0 4 rfl rfl)
theorem dX0_spreadSalt_7 : decode cX0_spreadSalt 7 = .ok (.i2l, 1) := dk_133 (dk_at dksX0_spreadSalt_0 7 rfl rfl)
theorem dX0_spreadSalt_8 : decode cX0_spreadSalt 8 = .ok (.lastore, 1) := dk_80 (dk_at dksX0_spreadSalt_0 8 rfl rfl)
theorem dX0_spreadSalt_9 : decode cX0_spreadSalt 9 = .ok (.goto 9, 3) := dk_167 0 9 (dk_at dksX0_spreadSalt_0 9 rfl rfl)
theorem dX0_spreadSalt_12 : decode cX0_spreadSalt 12 = .ok (.astore_n 3, 1) := dk_78 (dk_at dksX0_spreadSalt_0 12 rfl rfl)
theorem dX0_spreadSalt_13 : decode cX0_spreadSalt 13 = .ok (.iconst 1, 1) := dk_4 (dk_at dksX0_spreadSalt_0 13 rfl rfl)
theorem dX0_spreadSalt_14 : decode cX0_spreadSalt 14 = .ok (.ireturn, 1) := dk_172 (dk_at dksX0_spreadSalt_0 14 rfl rfl)
theorem dX0_spreadSalt_15 : decode cX0_spreadSalt 15 = .ok (.astore_n 3, 1) := dk_78 (dk_at dksX0_spreadSalt_0 15 rfl rfl)
theorem dX0_spreadSalt_16 : decode cX0_spreadSalt 16 = .ok (.iconst 2, 1) := dk_5 (dk_at dksX0_spreadSalt_0 16 rfl rfl)
theorem dX0_spreadSalt_17 : decode cX0_spreadSalt 17 = .ok (.ireturn, 1) := dk_172 (dk_at dksX0_spreadSalt_0 17 rfl rfl)
theorem dX0_spreadSalt_18 : decode cX0_spreadSalt 18 = .ok (.iconst 0, 1) := dk_3 (dk_at dksX0_spreadSalt_0 18 rfl rfl)
theorem dX0_spreadSalt_19 : decode cX0_spreadSalt 19 = .ok (.ireturn, 1) := dk_172 (dk_at dksX0_spreadSalt_0 19 rfl rfl)
abbrev cX0_recall : ByteArray := method_28_code
def yX0_recall : MethodName := ⟨RX0, "recall", "(LSnowPass;I[J)I"⟩
def dkwX0_recall_0 : List UInt8 := [44, 3, 42, 27, 182, 0, 97, 133, 80, 167, 0, 6, 78, 4, 172, 3, 172]
abbrev dktX0_recall_0 : List UInt8 := dkwX0_recall_0 ++ []
theorem dksX0_recall_0 : cX0_recall.data.toList.drop 0 = dktX0_recall_0 := by decide +kernel
theorem dX0_recall_0 : decode cX0_recall 0 = .ok (.aload_n 2, 1) := dk_44 (dk_at dksX0_recall_0 0 rfl rfl)
theorem dX0_recall_1 : decode cX0_recall 1 = .ok (.iconst 0, 1) := dk_3 (dk_at dksX0_recall_0 1 rfl rfl)
theorem dX0_recall_2 : decode cX0_recall 2 = .ok (.aload_n 0, 1) := dk_42 (dk_at dksX0_recall_0 2 rfl rfl)
theorem dX0_recall_3 : decode cX0_recall 3 = .ok (.iload_n 1, 1) := dk_27 (dk_at dksX0_recall_0 3 rfl rfl)
theorem dX0_recall_4 : decode cX0_recall 4 = .ok (.invokevirtual 97, 3) := dk_182 0 97 (dk_at dksX0_recall_0 4 rfl rfl)
theorem dX0_recall_7 : decode cX0_recall 7 = .ok (.i2l, 1) := dk_133 (dk_at dksX0_recall_0 7 rfl rfl)
theorem dX0_recall_8 : decode cX0_recall 8 = .ok (.lastore, 1) := dk_80 (dk_at dksX0_recall_0 8 rfl rfl)
theorem dX0_recall_9 : decode cX0_recall 9 = .ok (.goto 6, 3) := dk_167 0 6 (dk_at dksX0_recall_0 9 rfl rfl)
theorem dX0_recall_12 : decode cX0_recall 12 = .ok (.astore_n 3, 1) := dk_78 (dk_at dksX0_recall_0 12 rfl rfl)
theorem dX0_recall_13 : decode cX0_recall 13 = .ok (.iconst 1, 1) := dk_4 (dk_at dksX0_recall_0 13 rfl rfl)
theorem dX0_recall_14 : decode cX0_recall 14 = .ok (.ireturn, 1) := dk_172 (dk_at dksX0_recall_0 14 rfl rfl)
theorem dX0_recall_15 : decode cX0_recall 15 = .ok (.iconst 0, 1) := dk_3 (dk_at dksX0_recall_0 15 rfl rfl)
theorem dX0_recall_16 : decode cX0_recall 16 = .ok (.ireturn, 1) := dk_172 (dk_at dksX0_recall_0 16 rfl rfl)
abbrev cX0_addSacks : ByteArray := method_29_code
def yX0_addSacks : MethodName := ⟨RX0, "addSacks", "(LSnowPass;II[J)I"⟩
def dkwX0_addSacks_0 : List UInt8 := [45, 3, 42, 27, 28, 182, 0, 100, 133, 80, 167, 0, 11, 58, 4, 4, 172, 58, 4, 5, 172, 3, 172]
abbrev dktX0_addSacks_0 : List UInt8 := dkwX0_addSacks_0 ++ []
theorem dksX0_addSacks_0 : cX0_addSacks.data.toList.drop 0 = dktX0_addSacks_0 := by decide +kernel
theorem dX0_addSacks_0 : decode cX0_addSacks 0 = .ok (.aload_n 3, 1) := dk_45 (dk_at dksX0_addSacks_0 0 rfl rfl)
theorem dX0_addSacks_1 : decode cX0_addSacks 1 = .ok (.iconst 0, 1) := dk_3 (dk_at dksX0_addSacks_0 1 rfl rfl)
theorem dX0_addSacks_2 : decode cX0_addSacks 2 = .ok (.aload_n 0, 1) := dk_42 (dk_at dksX0_addSacks_0 2 rfl rfl)
theorem dX0_addSacks_3 : decode cX0_addSacks 3 = .ok (.iload_n 1, 1) := dk_27 (dk_at dksX0_addSacks_0 3 rfl rfl)
theorem dX0_addSacks_4 : decode cX0_addSacks 4 = .ok (.iload_n 2, 1) := dk_28 (dk_at dksX0_addSacks_0 4 rfl rfl)
theorem dX0_addSacks_5 : decode cX0_addSacks 5 = .ok (.invokevirtual 100, 3) := dk_182 0 100 (dk_at dksX0_addSacks_0 5 rfl rfl)
theorem dX0_addSacks_8 : decode cX0_addSacks 8 = .ok (.i2l, 1) := dk_133 (dk_at dksX0_addSacks_0 8 rfl rfl)
theorem dX0_addSacks_9 : decode cX0_addSacks 9 = .ok (.lastore, 1) := dk_80 (dk_at dksX0_addSacks_0 9 rfl rfl)
theorem dX0_addSacks_10 : decode cX0_addSacks 10 = .ok (.goto 11, 3) := dk_167 0 11 (dk_at dksX0_addSacks_0 10 rfl rfl)
theorem dX0_addSacks_13 : decode cX0_addSacks 13 = .ok (.astore 4, 2) := dk_58 4 (dk_at dksX0_addSacks_0 13 rfl rfl)
theorem dX0_addSacks_15 : decode cX0_addSacks 15 = .ok (.iconst 1, 1) := dk_4 (dk_at dksX0_addSacks_0 15 rfl rfl)
theorem dX0_addSacks_16 : decode cX0_addSacks 16 = .ok (.ireturn, 1) := dk_172 (dk_at dksX0_addSacks_0 16 rfl rfl)
theorem dX0_addSacks_17 : decode cX0_addSacks 17 = .ok (.astore 4, 2) := dk_58 4 (dk_at dksX0_addSacks_0 17 rfl rfl)
theorem dX0_addSacks_19 : decode cX0_addSacks 19 = .ok (.iconst 2, 1) := dk_5 (dk_at dksX0_addSacks_0 19 rfl rfl)
theorem dX0_addSacks_20 : decode cX0_addSacks 20 = .ok (.ireturn, 1) := dk_172 (dk_at dksX0_addSacks_0 20 rfl rfl)
theorem dX0_addSacks_21 : decode cX0_addSacks 21 = .ok (.iconst 0, 1) := dk_3 (dk_at dksX0_addSacks_0 21 rfl rfl)
theorem dX0_addSacks_22 : decode cX0_addSacks 22 = .ok (.ireturn, 1) := dk_172 (dk_at dksX0_addSacks_0 22 rfl rfl)
abbrev cX0_setSnowfall : ByteArray := method_30_code
def yX0_setSnowfall : MethodName := ⟨RX0, "setSnowfall", "(LSnowPass;I[J)I"⟩
def dkwX0_setSnowfall_0 : List UInt8 := [44, 3, 42, 27, 182, 0, 103, 133, 80, 167, 0, 6, 78, 4, 172, 3, 172]
abbrev dktX0_setSnowfall_0 : List UInt8 := dkwX0_setSnowfall_0 ++ []
theorem dksX0_setSnowfall_0 : cX0_setSnowfall.data.toList.drop 0 = dktX0_setSnowfall_0 := by decide +kernel
theorem dX0_setSnowfall_0 : decode cX0_setSnowfall 0 = .ok (.aload_n 2, 1) := dk_44 (dk_at dksX0_setSnowfall_0 0 rfl rfl)
theorem dX0_setSnowfall_1 : decode cX0_setSnowfall 1 = .ok (.iconst 0, 1) := dk_3 (dk_at dksX0_setSnowfall_0 1 rfl rfl)
theorem dX0_setSnowfall_2 : decode cX0_setSnowfall 2 = .ok (.aload_n 0, 1) := dk_42 (dk_at dksX0_setSnowfall_0 2 rfl rfl)
theorem dX0_setSnowfall_3 : decode cX0_setSnowfall 3 = .ok (.iload_n 1, 1) := dk_27 (dk_at dksX0_setSnowfall_0 3 rfl rfl)
theorem dX0_setSnowfall_4 : decode cX0_setSnowfall 4 = .ok (.invokevirtual 103, 3) := dk_182 0 103 (dk_at dksX0_setSnowfall_0 4 rfl rfl)
theorem dX0_setSnowfall_7 : decode cX0_setSnowfall 7 = .ok (.i2l, 1) := dk_133 (dk_at dksX0_setSnowfall_0 7 rfl rfl)
theorem dX0_setSnowfall_8 : decode cX0_setSnowfall 8 = .ok (.lastore, 1) := dk_80 (dk_at dksX0_setSnowfall_0 8 rfl rfl)
theorem dX0_setSnowfall_9 : decode cX0_setSnowfall 9 = .ok (.goto 6, 3) := dk_167 0 6 (dk_at dksX0_setSnowfall_0 9 rfl rfl)
theorem dX0_setSnowfall_12 : decode cX0_setSnowfall 12 = .ok (.astore_n 3, 1) := dk_78 (dk_at dksX0_setSnowfall_0 12 rfl rfl)
theorem dX0_setSnowfall_13 : decode cX0_setSnowfall 13 = .ok (.iconst 1, 1) := dk_4 (dk_at dksX0_setSnowfall_0 13 rfl rfl)
theorem dX0_setSnowfall_14 : decode cX0_setSnowfall 14 = .ok (.ireturn, 1) := dk_172 (dk_at dksX0_setSnowfall_0 14 rfl rfl)
theorem dX0_setSnowfall_15 : decode cX0_setSnowfall 15 = .ok (.iconst 0, 1) := dk_3 (dk_at dksX0_setSnowfall_0 15 rfl rfl)
theorem dX0_setSnowfall_16 : decode cX0_setSnowfall 16 = .ok (.ireturn, 1) := dk_172 (dk_at dksX0_setSnowfall_0 16 rfl rfl)
abbrev cX0_setWind : ByteArray := method_31_code
def yX0_setWind : MethodName := ⟨RX0, "setWind", "(LSnowPass;I[J)I"⟩
def dkwX0_setWind_0 : List UInt8 := [44, 3, 42, 27, 182, 0, 106, 133, 80, 167, 0, 6, 78, 4, 172, 3, 172]
abbrev dktX0_setWind_0 : List UInt8 := dkwX0_setWind_0 ++ []
theorem dksX0_setWind_0 : cX0_setWind.data.toList.drop 0 = dktX0_setWind_0 := by decide +kernel
theorem dX0_setWind_0 : decode cX0_setWind 0 = .ok (.aload_n 2, 1) := dk_44 (dk_at dksX0_setWind_0 0 rfl rfl)
theorem dX0_setWind_1 : decode cX0_setWind 1 = .ok (.iconst 0, 1) := dk_3 (dk_at dksX0_setWind_0 1 rfl rfl)
theorem dX0_setWind_2 : decode cX0_setWind 2 = .ok (.aload_n 0, 1) := dk_42 (dk_at dksX0_setWind_0 2 rfl rfl)
theorem dX0_setWind_3 : decode cX0_setWind 3 = .ok (.iload_n 1, 1) := dk_27 (dk_at dksX0_setWind_0 3 rfl rfl)
theorem dX0_setWind_4 : decode cX0_setWind 4 = .ok (.invokevirtual 106, 3) := dk_182 0 106 (dk_at dksX0_setWind_0 4 rfl rfl)
theorem dX0_setWind_7 : decode cX0_setWind 7 = .ok (.i2l, 1) := dk_133 (dk_at dksX0_setWind_0 7 rfl rfl)
theorem dX0_setWind_8 : decode cX0_setWind 8 = .ok (.lastore, 1) := dk_80 (dk_at dksX0_setWind_0 8 rfl rfl)
theorem dX0_setWind_9 : decode cX0_setWind 9 = .ok (.goto 6, 3) := dk_167 0 6 (dk_at dksX0_setWind_0 9 rfl rfl)
theorem dX0_setWind_12 : decode cX0_setWind 12 = .ok (.astore_n 3, 1) := dk_78 (dk_at dksX0_setWind_0 12 rfl rfl)
theorem dX0_setWind_13 : decode cX0_setWind 13 = .ok (.iconst 1, 1) := dk_4 (dk_at dksX0_setWind_0 13 rfl rfl)
theorem dX0_setWind_14 : decode cX0_setWind 14 = .ok (.ireturn, 1) := dk_172 (dk_at dksX0_setWind_0 14 rfl rfl)
theorem dX0_setWind_15 : decode cX0_setWind 15 = .ok (.iconst 0, 1) := dk_3 (dk_at dksX0_setWind_0 15 rfl rfl)
theorem dX0_setWind_16 : decode cX0_setWind 16 = .ok (.ireturn, 1) := dk_172 (dk_at dksX0_setWind_0 16 rfl rfl)
abbrev cX0_queueCart : ByteArray := method_32_code
def yX0_queueCart : MethodName := ⟨RX0, "queueCart", "(LSnowPass;IZ[J)I"⟩
def dkwX0_queueCart_0 : List UInt8 := [45, 3, 42, 27, 28, 182, 0, 109, 133, 80, 167, 0, 11, 58, 4, 4, 172, 58, 4, 5, 172, 3, 172]
abbrev dktX0_queueCart_0 : List UInt8 := dkwX0_queueCart_0 ++ []
theorem dksX0_queueCart_0 : cX0_queueCart.data.toList.drop 0 = dktX0_queueCart_0 := by decide +kernel
theorem dX0_queueCart_0 : decode cX0_queueCart 0 = .ok (.aload_n 3, 1) := dk_45 (dk_at dksX0_queueCart_0 0 rfl rfl)
theorem dX0_queueCart_1 : decode cX0_queueCart 1 = .ok (.iconst 0, 1) := dk_3 (dk_at dksX0_queueCart_0 1 rfl rfl)
theorem dX0_queueCart_2 : decode cX0_queueCart 2 = .ok (.aload_n 0, 1) := dk_42 (dk_at dksX0_queueCart_0 2 rfl rfl)
theorem dX0_queueCart_3 : decode cX0_queueCart 3 = .ok (.iload_n 1, 1) := dk_27 (dk_at dksX0_queueCart_0 3 rfl rfl)
theorem dX0_queueCart_4 : decode cX0_queueCart 4 = .ok (.iload_n 2, 1) := dk_28 (dk_at dksX0_queueCart_0 4 rfl rfl)
theorem dX0_queueCart_5 : decode cX0_queueCart 5 = .ok (.invokevirtual 109, 3) := dk_182 0 109 (dk_at dksX0_queueCart_0 5 rfl rfl)
theorem dX0_queueCart_8 : decode cX0_queueCart 8 = .ok (.i2l, 1) := dk_133 (dk_at dksX0_queueCart_0 8 rfl rfl)
theorem dX0_queueCart_9 : decode cX0_queueCart 9 = .ok (.lastore, 1) := dk_80 (dk_at dksX0_queueCart_0 9 rfl rfl)
theorem dX0_queueCart_10 : decode cX0_queueCart 10 = .ok (.goto 11, 3) := dk_167 0 11 (dk_at dksX0_queueCart_0 10 rfl rfl)
theorem dX0_queueCart_13 : decode cX0_queueCart 13 = .ok (.astore 4, 2) := dk_58 4 (dk_at dksX0_queueCart_0 13 rfl rfl)
theorem dX0_queueCart_15 : decode cX0_queueCart 15 = .ok (.iconst 1, 1) := dk_4 (dk_at dksX0_queueCart_0 15 rfl rfl)
theorem dX0_queueCart_16 : decode cX0_queueCart 16 = .ok (.ireturn, 1) := dk_172 (dk_at dksX0_queueCart_0 16 rfl rfl)
theorem dX0_queueCart_17 : decode cX0_queueCart 17 = .ok (.astore 4, 2) := dk_58 4 (dk_at dksX0_queueCart_0 17 rfl rfl)
theorem dX0_queueCart_19 : decode cX0_queueCart 19 = .ok (.iconst 2, 1) := dk_5 (dk_at dksX0_queueCart_0 19 rfl rfl)
theorem dX0_queueCart_20 : decode cX0_queueCart 20 = .ok (.ireturn, 1) := dk_172 (dk_at dksX0_queueCart_0 20 rfl rfl)
theorem dX0_queueCart_21 : decode cX0_queueCart 21 = .ok (.iconst 0, 1) := dk_3 (dk_at dksX0_queueCart_0 21 rfl rfl)
theorem dX0_queueCart_22 : decode cX0_queueCart 22 = .ok (.ireturn, 1) := dk_172 (dk_at dksX0_queueCart_0 22 rfl rfl)
abbrev cX0_cancelCart : ByteArray := method_33_code
def yX0_cancelCart : MethodName := ⟨RX0, "cancelCart", "(LSnowPass;I[J)I"⟩
def dkwX0_cancelCart_0 : List UInt8 := [44, 3, 42, 27, 182, 0, 113, 133, 80, 167, 0, 6, 78, 4, 172, 3, 172]
abbrev dktX0_cancelCart_0 : List UInt8 := dkwX0_cancelCart_0 ++ []
theorem dksX0_cancelCart_0 : cX0_cancelCart.data.toList.drop 0 = dktX0_cancelCart_0 := by decide +kernel
theorem dX0_cancelCart_0 : decode cX0_cancelCart 0 = .ok (.aload_n 2, 1) := dk_44 (dk_at dksX0_cancelCart_0 0 rfl rfl)
theorem dX0_cancelCart_1 : decode cX0_cancelCart 1 = .ok (.iconst 0, 1) := dk_3 (dk_at dksX0_cancelCart_0 1 rfl rfl)
theorem dX0_cancelCart_2 : decode cX0_cancelCart 2 = .ok (.aload_n 0, 1) := dk_42 (dk_at dksX0_cancelCart_0 2 rfl rfl)
theorem dX0_cancelCart_3 : decode cX0_cancelCart 3 = .ok (.iload_n 1, 1) := dk_27 (dk_at dksX0_cancelCart_0 3 rfl rfl)
theorem dX0_cancelCart_4 : decode cX0_cancelCart 4 = .ok (.invokevirtual 113, 3) := dk_182 0 113 (dk_at dksX0_cancelCart_0 4 rfl rfl)
theorem dX0_cancelCart_7 : decode cX0_cancelCart 7 = .ok (.i2l, 1) := dk_133 (dk_at dksX0_cancelCart_0 7 rfl rfl)
theorem dX0_cancelCart_8 : decode cX0_cancelCart 8 = .ok (.lastore, 1) := dk_80 (dk_at dksX0_cancelCart_0 8 rfl rfl)
theorem dX0_cancelCart_9 : decode cX0_cancelCart 9 = .ok (.goto 6, 3) := dk_167 0 6 (dk_at dksX0_cancelCart_0 9 rfl rfl)
theorem dX0_cancelCart_12 : decode cX0_cancelCart 12 = .ok (.astore_n 3, 1) := dk_78 (dk_at dksX0_cancelCart_0 12 rfl rfl)
theorem dX0_cancelCart_13 : decode cX0_cancelCart 13 = .ok (.iconst 1, 1) := dk_4 (dk_at dksX0_cancelCart_0 13 rfl rfl)
theorem dX0_cancelCart_14 : decode cX0_cancelCart 14 = .ok (.ireturn, 1) := dk_172 (dk_at dksX0_cancelCart_0 14 rfl rfl)
theorem dX0_cancelCart_15 : decode cX0_cancelCart 15 = .ok (.iconst 0, 1) := dk_3 (dk_at dksX0_cancelCart_0 15 rfl rfl)
theorem dX0_cancelCart_16 : decode cX0_cancelCart 16 = .ok (.ireturn, 1) := dk_172 (dk_at dksX0_cancelCart_0 16 rfl rfl)
abbrev cX0_undo : ByteArray := method_34_code
def yX0_undo : MethodName := ⟨RX0, "undo", "(LSnowPass;[J)I"⟩
def dkwX0_undo_0 : List UInt8 := [43, 3, 42, 182, 0, 116, 133, 80, 167, 0, 6, 77, 4, 172, 3, 172]
abbrev dktX0_undo_0 : List UInt8 := dkwX0_undo_0 ++ []
theorem dksX0_undo_0 : cX0_undo.data.toList.drop 0 = dktX0_undo_0 := by decide +kernel
theorem dX0_undo_0 : decode cX0_undo 0 = .ok (.aload_n 1, 1) := dk_43 (dk_at dksX0_undo_0 0 rfl rfl)
theorem dX0_undo_1 : decode cX0_undo 1 = .ok (.iconst 0, 1) := dk_3 (dk_at dksX0_undo_0 1 rfl rfl)
theorem dX0_undo_2 : decode cX0_undo 2 = .ok (.aload_n 0, 1) := dk_42 (dk_at dksX0_undo_0 2 rfl rfl)
theorem dX0_undo_3 : decode cX0_undo 3 = .ok (.invokevirtual 116, 3) := dk_182 0 116 (dk_at dksX0_undo_0 3 rfl rfl)
theorem dX0_undo_6 : decode cX0_undo 6 = .ok (.i2l, 1) := dk_133 (dk_at dksX0_undo_0 6 rfl rfl)
theorem dX0_undo_7 : decode cX0_undo 7 = .ok (.lastore, 1) := dk_80 (dk_at dksX0_undo_0 7 rfl rfl)
theorem dX0_undo_8 : decode cX0_undo 8 = .ok (.goto 6, 3) := dk_167 0 6 (dk_at dksX0_undo_0 8 rfl rfl)
theorem dX0_undo_11 : decode cX0_undo 11 = .ok (.astore_n 2, 1) := dk_77 (dk_at dksX0_undo_0 11 rfl rfl)
theorem dX0_undo_12 : decode cX0_undo 12 = .ok (.iconst 1, 1) := dk_4 (dk_at dksX0_undo_0 12 rfl rfl)
theorem dX0_undo_13 : decode cX0_undo 13 = .ok (.ireturn, 1) := dk_172 (dk_at dksX0_undo_0 13 rfl rfl)
theorem dX0_undo_14 : decode cX0_undo 14 = .ok (.iconst 0, 1) := dk_3 (dk_at dksX0_undo_0 14 rfl rfl)
theorem dX0_undo_15 : decode cX0_undo 15 = .ok (.ireturn, 1) := dk_172 (dk_at dksX0_undo_0 15 rfl rfl)
abbrev cX0_restore : ByteArray := method_35_code
def yX0_restore : MethodName := ⟨RX0, "restore", "(LSnowPass;[J)I"⟩
def dkwX0_restore_0 : List UInt8 := [43, 3, 42, 182, 0, 119, 133, 80, 167, 0, 6, 77, 4, 172, 3, 172]
abbrev dktX0_restore_0 : List UInt8 := dkwX0_restore_0 ++ []
theorem dksX0_restore_0 : cX0_restore.data.toList.drop 0 = dktX0_restore_0 := by decide +kernel
theorem dX0_restore_0 : decode cX0_restore 0 = .ok (.aload_n 1, 1) := dk_43 (dk_at dksX0_restore_0 0 rfl rfl)
theorem dX0_restore_1 : decode cX0_restore 1 = .ok (.iconst 0, 1) := dk_3 (dk_at dksX0_restore_0 1 rfl rfl)
theorem dX0_restore_2 : decode cX0_restore 2 = .ok (.aload_n 0, 1) := dk_42 (dk_at dksX0_restore_0 2 rfl rfl)
theorem dX0_restore_3 : decode cX0_restore 3 = .ok (.invokevirtual 119, 3) := dk_182 0 119 (dk_at dksX0_restore_0 3 rfl rfl)
theorem dX0_restore_6 : decode cX0_restore 6 = .ok (.i2l, 1) := dk_133 (dk_at dksX0_restore_0 6 rfl rfl)
theorem dX0_restore_7 : decode cX0_restore 7 = .ok (.lastore, 1) := dk_80 (dk_at dksX0_restore_0 7 rfl rfl)
theorem dX0_restore_8 : decode cX0_restore 8 = .ok (.goto 6, 3) := dk_167 0 6 (dk_at dksX0_restore_0 8 rfl rfl)
theorem dX0_restore_11 : decode cX0_restore 11 = .ok (.astore_n 2, 1) := dk_77 (dk_at dksX0_restore_0 11 rfl rfl)
theorem dX0_restore_12 : decode cX0_restore 12 = .ok (.iconst 1, 1) := dk_4 (dk_at dksX0_restore_0 12 rfl rfl)
theorem dX0_restore_13 : decode cX0_restore 13 = .ok (.ireturn, 1) := dk_172 (dk_at dksX0_restore_0 13 rfl rfl)
theorem dX0_restore_14 : decode cX0_restore 14 = .ok (.iconst 0, 1) := dk_3 (dk_at dksX0_restore_0 14 rfl rfl)
theorem dX0_restore_15 : decode cX0_restore 15 = .ok (.ireturn, 1) := dk_172 (dk_at dksX0_restore_0 15 rfl rfl)
theorem q122 : (Jvm.Cond.initialized "SnowPassLaw") ∈ lw_all := lw_g (lw_at lw_m1 0 rfl) rfl
theorem q185 : (Jvm.Cond.classLink "SnowPassLaw" (8 : Nat) "SnowPass") ∈ lw_all := lw_g (lw_at lw_m1 63 rfl) rfl
theorem q187 : (Jvm.Cond.methodLink "SnowPassLaw" (122 : Nat) ({ cls := "SnowPass", name := "<init>", desc := "()V" } : Jvm.MethodName)) ∈ lw_all := lw_g (lw_at lw_m1 65 rfl) rfl
theorem q1561 : (Jvm.Cond.methodLink "SnowPassLaw" (146 : Nat) ({ cls := "SnowPass", name := "errorCode", desc := "()I" } : Jvm.MethodName)) ∈ lw_all := lw_g (lw_at lw_m6 239 rfl) rfl
theorem q1565 : (Jvm.Cond.methodLink "SnowPassLaw" (150 : Nat) ({ cls := "SnowPass", name := "errorPosition", desc := "()I" } : Jvm.MethodName)) ∈ lw_all := lw_g (lw_at lw_m7 3 rfl) rfl
theorem q1569 : (Jvm.Cond.methodLink "SnowPassLaw" (154 : Nat) ({ cls := "SnowPass", name := "segmentCount", desc := "()I" } : Jvm.MethodName)) ∈ lw_all := lw_g (lw_at lw_m7 7 rfl) rfl
theorem q1577 : (Jvm.Cond.methodLink "SnowPassLaw" (158 : Nat) ({ cls := "SnowPass", name := "summit", desc := "()I" } : Jvm.MethodName)) ∈ lw_all := lw_g (lw_at lw_m7 15 rfl) rfl
theorem q1581 : (Jvm.Cond.methodLink "SnowPassLaw" (162 : Nat) ({ cls := "SnowPass", name := "clock", desc := "()I" } : Jvm.MethodName)) ∈ lw_all := lw_g (lw_at lw_m7 19 rfl) rfl
theorem q1585 : (Jvm.Cond.methodLink "SnowPassLaw" (166 : Nat) ({ cls := "SnowPass", name := "isNight", desc := "()Z" } : Jvm.MethodName)) ∈ lw_all := lw_g (lw_at lw_m7 23 rfl) rfl
theorem q1593 : (Jvm.Cond.methodLink "SnowPassLaw" (183 : Nat) ({ cls := "SnowPass", name := "snowfall", desc := "()I" } : Jvm.MethodName)) ∈ lw_all := lw_g (lw_at lw_m7 31 rfl) rfl
theorem q1597 : (Jvm.Cond.methodLink "SnowPassLaw" (187 : Nat) ({ cls := "SnowPass", name := "wind", desc := "()I" } : Jvm.MethodName)) ∈ lw_all := lw_g (lw_at lw_m7 35 rfl) rfl
theorem q1601 : (Jvm.Cond.methodLink "SnowPassLaw" (191 : Nat) ({ cls := "SnowPass", name := "clearCount", desc := "()I" } : Jvm.MethodName)) ∈ lw_all := lw_g (lw_at lw_m7 39 rfl) rfl
theorem q1790 : (Jvm.Cond.methodLink "SnowPassLaw" (195 : Nat) ({ cls := "SnowPass", name := "deepestSegment", desc := "()I" } : Jvm.MethodName)) ∈ lw_all := lw_g (lw_at lw_m7 228 rfl) rfl
theorem q1798 : (Jvm.Cond.methodLink "SnowPassLaw" (199 : Nat) ({ cls := "SnowPass", name := "totalDepth", desc := "()I" } : Jvm.MethodName)) ∈ lw_all := lw_g (lw_at lw_m7 236 rfl) rfl
theorem q1802 : (Jvm.Cond.methodLink "SnowPassLaw" (215 : Nat) ({ cls := "SnowPass", name := "isOpen", desc := "()Z" } : Jvm.MethodName)) ∈ lw_all := lw_g (lw_at lw_m8 0 rfl) rfl
theorem q1810 : (Jvm.Cond.methodLink "SnowPassLaw" (222 : Nat) ({ cls := "SnowPass", name := "bookSize", desc := "()I" } : Jvm.MethodName)) ∈ lw_all := lw_g (lw_at lw_m8 8 rfl) rfl
theorem q1814 : (Jvm.Cond.methodLink "SnowPassLaw" (226 : Nat) ({ cls := "SnowPass", name := "entryKind", desc := "(I)I" } : Jvm.MethodName)) ∈ lw_all := lw_g (lw_at lw_m8 12 rfl) rfl
theorem q1825 : (Jvm.Cond.methodLink "SnowPassLaw" (230 : Nat) ({ cls := "SnowPass", name := "entryClock", desc := "(I)I" } : Jvm.MethodName)) ∈ lw_all := lw_g (lw_at lw_m8 23 rfl) rfl
theorem q1829 : (Jvm.Cond.methodLink "SnowPassLaw" (241 : Nat) ({ cls := "SnowPass", name := "sideOfTicket", desc := "(I)I" } : Jvm.MethodName)) ∈ lw_all := lw_g (lw_at lw_m8 27 rfl) rfl
theorem q1854 : (Jvm.Cond.methodLink "SnowPassLaw" (254 : Nat) ({ cls := "SnowPass", name := "hoursUntilOpen", desc := "()I" } : Jvm.MethodName)) ∈ lw_all := lw_g (lw_at lw_m8 52 rfl) rfl
theorem q1932 : (Jvm.Cond.methodLink "SnowPassLaw" (258 : Nat) ({ cls := "SnowPass", name := "hoursUntilClosed", desc := "()I" } : Jvm.MethodName)) ∈ lw_all := lw_g (lw_at lw_m8 130 rfl) rfl
theorem q1936 : (Jvm.Cond.methodLink "SnowPassLaw" (274 : Nat) ({ cls := "SnowPass", name := "snowFallen", desc := "()I" } : Jvm.MethodName)) ∈ lw_all := lw_g (lw_at lw_m8 134 rfl) rfl
theorem q1940 : (Jvm.Cond.methodLink "SnowPassLaw" (278 : Nat) ({ cls := "SnowPass", name := "snowCleared", desc := "()I" } : Jvm.MethodName)) ∈ lw_all := lw_g (lw_at lw_m8 138 rfl) rfl
theorem q1944 : (Jvm.Cond.methodLink "SnowPassLaw" (282 : Nat) ({ cls := "SnowPass", name := "snowMelted", desc := "()I" } : Jvm.MethodName)) ∈ lw_all := lw_g (lw_at lw_m8 142 rfl) rfl
theorem q1948 : (Jvm.Cond.methodLink "SnowPassLaw" (289 : Nat) ({ cls := "SnowPass", name := "cartsCancelled", desc := "()I" } : Jvm.MethodName)) ∈ lw_all := lw_g (lw_at lw_m8 146 rfl) rfl
theorem q1952 : (Jvm.Cond.methodLink "SnowPassLaw" (293 : Nat) ({ cls := "SnowPass", name := "ticketCount", desc := "()I" } : Jvm.MethodName)) ∈ lw_all := lw_g (lw_at lw_m8 150 rfl) rfl
theorem q1956 : (Jvm.Cond.methodLink "SnowPassLaw" (297 : Nat) ({ cls := "SnowPass", name := "sacksUsed", desc := "()I" } : Jvm.MethodName)) ∈ lw_all := lw_g (lw_at lw_m8 154 rfl) rfl
theorem q1960 : (Jvm.Cond.methodLink "SnowPassLaw" (301 : Nat) ({ cls := "SnowPass", name := "snowImbalance", desc := "()I" } : Jvm.MethodName)) ∈ lw_all := lw_g (lw_at lw_m8 158 rfl) rfl
theorem q1964 : (Jvm.Cond.methodLink "SnowPassLaw" (305 : Nat) ({ cls := "SnowPass", name := "cartImbalance", desc := "()I" } : Jvm.MethodName)) ∈ lw_all := lw_g (lw_at lw_m8 162 rfl) rfl
theorem q2051 : (Jvm.Cond.methodLink "SnowPassLaw" (309 : Nat) ({ cls := "SnowPass", name := "meanDepth", desc := "()D" } : Jvm.MethodName)) ∈ lw_all := lw_g (lw_at lw_m9 9 rfl) rfl
theorem q2055 : (Jvm.Cond.methodLink "SnowPassLaw" (314 : Nat) ({ cls := "SnowPass", name := "clearShare", desc := "()F" } : Jvm.MethodName)) ∈ lw_all := lw_g (lw_at lw_m9 13 rfl) rfl
theorem q2060 : (Jvm.Cond.methodLink "SnowPassLaw" (347 : Nat) ({ cls := "SnowPass", name := "save", desc := "()I" } : Jvm.MethodName)) ∈ lw_all := lw_g (lw_at lw_m9 18 rfl) rfl
theorem q2321 : (Jvm.Cond.methodLink "SnowPassLaw" (354 : Nat) ({ cls := "SnowPass", name := "formatRoad", desc := "()I" } : Jvm.MethodName)) ∈ lw_all := lw_g (lw_at lw_m10 39 rfl) rfl
theorem q2415 : (Jvm.Cond.methodLink "SnowPassLaw" (358 : Nat) ({ cls := "SnowPass", name := "outputByte", desc := "(I)I" } : Jvm.MethodName)) ∈ lw_all := lw_g (lw_at lw_m10 133 rfl) rfl
theorem q2430 : (Jvm.Cond.methodLink "SnowPassLaw" (126 : Nat) ({ cls := "SnowPassLaw", name := "append", desc := "(LSnowPass;IIIII[J)I" } : Jvm.MethodName)) ∈ lw_all := lw_g (lw_at lw_m10 148 rfl) rfl
theorem q2431 : (Jvm.Cond.static ({ cls := "SnowPassLaw", name := "append", desc := "(LSnowPass;IIIII[J)I" } : Jvm.MethodName)) ∈ lw_all := lw_g (lw_at lw_m10 149 rfl) rfl
theorem q2432 : (Jvm.Cond.codeWith ({ cls := "SnowPassLaw", name := "append", desc := "(LSnowPass;IIIII[J)I" } : Jvm.MethodName) method_3_code (8 : Nat) (Option.some Jvm.ClassFile.FieldType.int) [((0 : Nat), (16 : Nat), (19 : Nat), (13 : Nat))]) ∈ lw_all := lw_g (lw_at lw_m10 150 rfl) rfl
theorem q2433 : (Jvm.Cond.classLink "SnowPassLaw" (13 : Nat) "java/lang/IllegalStateException") ∈ lw_all := lw_g (lw_at lw_m10 151 rfl) rfl
theorem q2434 : (Jvm.Cond.methodLink "SnowPassLaw" (7 : Nat) ({ cls := "SnowPass", name := "append", desc := "(IIIII)I" } : Jvm.MethodName)) ∈ lw_all := lw_g (lw_at lw_m10 152 rfl) rfl
theorem q2460 : (Jvm.Cond.methodLink "SnowPassLaw" (135 : Nat) ({ cls := "SnowPassLaw", name := "truncate", desc := "(LSnowPass;I[J)I" } : Jvm.MethodName)) ∈ lw_all := lw_g (lw_at lw_m10 178 rfl) rfl
theorem q2461 : (Jvm.Cond.static ({ cls := "SnowPassLaw", name := "truncate", desc := "(LSnowPass;I[J)I" } : Jvm.MethodName)) ∈ lw_all := lw_g (lw_at lw_m10 179 rfl) rfl
theorem q2462 : (Jvm.Cond.codeWith ({ cls := "SnowPassLaw", name := "truncate", desc := "(LSnowPass;I[J)I" } : Jvm.MethodName) method_4_code (4 : Nat) (Option.some Jvm.ClassFile.FieldType.int) [((0 : Nat), (9 : Nat), (12 : Nat), (19 : Nat))]) ∈ lw_all := lw_g (lw_at lw_m10 180 rfl) rfl
theorem q2463 : (Jvm.Cond.classLink "SnowPassLaw" (19 : Nat) "java/lang/IllegalArgumentException") ∈ lw_all := lw_g (lw_at lw_m10 181 rfl) rfl
theorem q2464 : (Jvm.Cond.methodLink "SnowPassLaw" (15 : Nat) ({ cls := "SnowPass", name := "truncate", desc := "(I)I" } : Jvm.MethodName)) ∈ lw_all := lw_g (lw_at lw_m10 182 rfl) rfl
theorem q2476 : (Jvm.Cond.methodLink "SnowPassLaw" (139 : Nat) ({ cls := "SnowPassLaw", name := "load", desc := "(LSnowPass;[J)I" } : Jvm.MethodName)) ∈ lw_all := lw_g (lw_at lw_m10 194 rfl) rfl
theorem q2477 : (Jvm.Cond.static ({ cls := "SnowPassLaw", name := "load", desc := "(LSnowPass;[J)I" } : Jvm.MethodName)) ∈ lw_all := lw_g (lw_at lw_m10 195 rfl) rfl
theorem q2478 : (Jvm.Cond.codeWith ({ cls := "SnowPassLaw", name := "load", desc := "(LSnowPass;[J)I" } : Jvm.MethodName) method_5_code (3 : Nat) (Option.some Jvm.ClassFile.FieldType.int) [((0 : Nat), (8 : Nat), (11 : Nat), (19 : Nat))]) ∈ lw_all := lw_g (lw_at lw_m10 196 rfl) rfl
theorem q2479 : (Jvm.Cond.methodLink "SnowPassLaw" (21 : Nat) ({ cls := "SnowPass", name := "load", desc := "()I" } : Jvm.MethodName)) ∈ lw_all := lw_g (lw_at lw_m10 197 rfl) rfl
theorem q2654 : (Jvm.Cond.methodLink "SnowPassLaw" (143 : Nat) ({ cls := "SnowPassLaw", name := "executeCommands", desc := "(LSnowPass;[J)I" } : Jvm.MethodName)) ∈ lw_all := lw_g (lw_at lw_m11 132 rfl) rfl
theorem q2655 : (Jvm.Cond.static ({ cls := "SnowPassLaw", name := "executeCommands", desc := "(LSnowPass;[J)I" } : Jvm.MethodName)) ∈ lw_all := lw_g (lw_at lw_m11 133 rfl) rfl
theorem q2656 : (Jvm.Cond.codeWith ({ cls := "SnowPassLaw", name := "executeCommands", desc := "(LSnowPass;[J)I" } : Jvm.MethodName) method_6_code (3 : Nat) (Option.some Jvm.ClassFile.FieldType.int) [((0 : Nat), (8 : Nat), (11 : Nat), (19 : Nat))]) ∈ lw_all := lw_g (lw_at lw_m11 134 rfl) rfl
theorem q2657 : (Jvm.Cond.methodLink "SnowPassLaw" (25 : Nat) ({ cls := "SnowPass", name := "executeCommands", desc := "()I" } : Jvm.MethodName)) ∈ lw_all := lw_g (lw_at lw_m11 135 rfl) rfl
theorem q2906 : (Jvm.Cond.methodLink "SnowPassLaw" (171 : Nat) ({ cls := "SnowPassLaw", name := "depthOf", desc := "(LSnowPass;I[J)I" } : Jvm.MethodName)) ∈ lw_all := lw_g (lw_at lw_m12 144 rfl) rfl
theorem q2907 : (Jvm.Cond.static ({ cls := "SnowPassLaw", name := "depthOf", desc := "(LSnowPass;I[J)I" } : Jvm.MethodName)) ∈ lw_all := lw_g (lw_at lw_m12 145 rfl) rfl
theorem q2908 : (Jvm.Cond.codeWith ({ cls := "SnowPassLaw", name := "depthOf", desc := "(LSnowPass;I[J)I" } : Jvm.MethodName) method_7_code (4 : Nat) (Option.some Jvm.ClassFile.FieldType.int) [((0 : Nat), (9 : Nat), (12 : Nat), (31 : Nat))]) ∈ lw_all := lw_g (lw_at lw_m12 146 rfl) rfl
theorem q2909 : (Jvm.Cond.classLink "SnowPassLaw" (31 : Nat) "java/lang/IndexOutOfBoundsException") ∈ lw_all := lw_g (lw_at lw_m12 147 rfl) rfl
theorem q2912 : (Jvm.Cond.methodLink "SnowPassLaw" (28 : Nat) ({ cls := "SnowPass", name := "depthOf", desc := "(I)I" } : Jvm.MethodName)) ∈ lw_all := lw_g (lw_at lw_m12 150 rfl) rfl
theorem q2938 : (Jvm.Cond.methodLink "SnowPassLaw" (174 : Nat) ({ cls := "SnowPassLaw", name := "exposureOf", desc := "(LSnowPass;I[J)I" } : Jvm.MethodName)) ∈ lw_all := lw_g (lw_at lw_m12 176 rfl) rfl
theorem q2939 : (Jvm.Cond.static ({ cls := "SnowPassLaw", name := "exposureOf", desc := "(LSnowPass;I[J)I" } : Jvm.MethodName)) ∈ lw_all := lw_g (lw_at lw_m12 177 rfl) rfl
theorem q2940 : (Jvm.Cond.codeWith ({ cls := "SnowPassLaw", name := "exposureOf", desc := "(LSnowPass;I[J)I" } : Jvm.MethodName) method_8_code (4 : Nat) (Option.some Jvm.ClassFile.FieldType.int) [((0 : Nat), (9 : Nat), (12 : Nat), (31 : Nat))]) ∈ lw_all := lw_g (lw_at lw_m12 178 rfl) rfl
theorem q2941 : (Jvm.Cond.methodLink "SnowPassLaw" (33 : Nat) ({ cls := "SnowPass", name := "exposureOf", desc := "(I)I" } : Jvm.MethodName)) ∈ lw_all := lw_g (lw_at lw_m12 179 rfl) rfl
theorem q2945 : (Jvm.Cond.methodLink "SnowPassLaw" (177 : Nat) ({ cls := "SnowPassLaw", name := "saltHours", desc := "(LSnowPass;I[J)I" } : Jvm.MethodName)) ∈ lw_all := lw_g (lw_at lw_m12 183 rfl) rfl
theorem q2946 : (Jvm.Cond.static ({ cls := "SnowPassLaw", name := "saltHours", desc := "(LSnowPass;I[J)I" } : Jvm.MethodName)) ∈ lw_all := lw_g (lw_at lw_m12 184 rfl) rfl
theorem q2947 : (Jvm.Cond.codeWith ({ cls := "SnowPassLaw", name := "saltHours", desc := "(LSnowPass;I[J)I" } : Jvm.MethodName) method_9_code (4 : Nat) (Option.some Jvm.ClassFile.FieldType.int) [((0 : Nat), (9 : Nat), (12 : Nat), (31 : Nat))]) ∈ lw_all := lw_g (lw_at lw_m12 185 rfl) rfl
theorem q2948 : (Jvm.Cond.methodLink "SnowPassLaw" (36 : Nat) ({ cls := "SnowPass", name := "saltHours", desc := "(I)I" } : Jvm.MethodName)) ∈ lw_all := lw_g (lw_at lw_m12 186 rfl) rfl
theorem q2952 : (Jvm.Cond.methodLink "SnowPassLaw" (180 : Nat) ({ cls := "SnowPassLaw", name := "isClear", desc := "(LSnowPass;I[J)I" } : Jvm.MethodName)) ∈ lw_all := lw_g (lw_at lw_m12 190 rfl) rfl
theorem q2953 : (Jvm.Cond.static ({ cls := "SnowPassLaw", name := "isClear", desc := "(LSnowPass;I[J)I" } : Jvm.MethodName)) ∈ lw_all := lw_g (lw_at lw_m12 191 rfl) rfl
theorem q2954 : (Jvm.Cond.codeWith ({ cls := "SnowPassLaw", name := "isClear", desc := "(LSnowPass;I[J)I" } : Jvm.MethodName) method_10_code (4 : Nat) (Option.some Jvm.ClassFile.FieldType.int) [((0 : Nat), (16 : Nat), (19 : Nat), (31 : Nat))]) ∈ lw_all := lw_g (lw_at lw_m12 192 rfl) rfl
theorem q2955 : (Jvm.Cond.methodLink "SnowPassLaw" (39 : Nat) ({ cls := "SnowPass", name := "isClear", desc := "(I)Z" } : Jvm.MethodName)) ∈ lw_all := lw_g (lw_at lw_m12 193 rfl) rfl
theorem q2959 : (Jvm.Cond.methodLink "SnowPassLaw" (203 : Nat) ({ cls := "SnowPassLaw", name := "ploughPosition", desc := "(LSnowPass;I[J)I" } : Jvm.MethodName)) ∈ lw_all := lw_g (lw_at lw_m12 197 rfl) rfl
theorem q2960 : (Jvm.Cond.static ({ cls := "SnowPassLaw", name := "ploughPosition", desc := "(LSnowPass;I[J)I" } : Jvm.MethodName)) ∈ lw_all := lw_g (lw_at lw_m12 198 rfl) rfl
theorem q2961 : (Jvm.Cond.codeWith ({ cls := "SnowPassLaw", name := "ploughPosition", desc := "(LSnowPass;I[J)I" } : Jvm.MethodName) method_11_code (4 : Nat) (Option.some Jvm.ClassFile.FieldType.int) [((0 : Nat), (9 : Nat), (12 : Nat), (31 : Nat))]) ∈ lw_all := lw_g (lw_at lw_m12 199 rfl) rfl
theorem q2962 : (Jvm.Cond.methodLink "SnowPassLaw" (43 : Nat) ({ cls := "SnowPass", name := "ploughPosition", desc := "(I)I" } : Jvm.MethodName)) ∈ lw_all := lw_g (lw_at lw_m12 200 rfl) rfl
theorem q2973 : (Jvm.Cond.methodLink "SnowPassLaw" (206 : Nat) ({ cls := "SnowPassLaw", name := "ploughCapacity", desc := "(LSnowPass;I[J)I" } : Jvm.MethodName)) ∈ lw_all := lw_g (lw_at lw_m12 211 rfl) rfl
theorem q2974 : (Jvm.Cond.static ({ cls := "SnowPassLaw", name := "ploughCapacity", desc := "(LSnowPass;I[J)I" } : Jvm.MethodName)) ∈ lw_all := lw_g (lw_at lw_m12 212 rfl) rfl
theorem q2975 : (Jvm.Cond.codeWith ({ cls := "SnowPassLaw", name := "ploughCapacity", desc := "(LSnowPass;I[J)I" } : Jvm.MethodName) method_12_code (4 : Nat) (Option.some Jvm.ClassFile.FieldType.int) [((0 : Nat), (9 : Nat), (12 : Nat), (31 : Nat))]) ∈ lw_all := lw_g (lw_at lw_m12 213 rfl) rfl
theorem q2976 : (Jvm.Cond.methodLink "SnowPassLaw" (46 : Nat) ({ cls := "SnowPass", name := "ploughCapacity", desc := "(I)I" } : Jvm.MethodName)) ∈ lw_all := lw_g (lw_at lw_m12 214 rfl) rfl
theorem q2980 : (Jvm.Cond.methodLink "SnowPassLaw" (209 : Nat) ({ cls := "SnowPassLaw", name := "sackCount", desc := "(LSnowPass;I[J)I" } : Jvm.MethodName)) ∈ lw_all := lw_g (lw_at lw_m12 218 rfl) rfl
theorem q2981 : (Jvm.Cond.static ({ cls := "SnowPassLaw", name := "sackCount", desc := "(LSnowPass;I[J)I" } : Jvm.MethodName)) ∈ lw_all := lw_g (lw_at lw_m12 219 rfl) rfl
theorem q2982 : (Jvm.Cond.codeWith ({ cls := "SnowPassLaw", name := "sackCount", desc := "(LSnowPass;I[J)I" } : Jvm.MethodName) method_13_code (4 : Nat) (Option.some Jvm.ClassFile.FieldType.int) [((0 : Nat), (9 : Nat), (12 : Nat), (31 : Nat))]) ∈ lw_all := lw_g (lw_at lw_m12 220 rfl) rfl
theorem q2983 : (Jvm.Cond.methodLink "SnowPassLaw" (49 : Nat) ({ cls := "SnowPass", name := "sackCount", desc := "(I)I" } : Jvm.MethodName)) ∈ lw_all := lw_g (lw_at lw_m12 221 rfl) rfl
theorem q2987 : (Jvm.Cond.methodLink "SnowPassLaw" (212 : Nat) ({ cls := "SnowPassLaw", name := "hasSigned", desc := "(LSnowPass;I[J)I" } : Jvm.MethodName)) ∈ lw_all := lw_g (lw_at lw_m12 225 rfl) rfl
theorem q2988 : (Jvm.Cond.static ({ cls := "SnowPassLaw", name := "hasSigned", desc := "(LSnowPass;I[J)I" } : Jvm.MethodName)) ∈ lw_all := lw_g (lw_at lw_m12 226 rfl) rfl
theorem q2989 : (Jvm.Cond.codeWith ({ cls := "SnowPassLaw", name := "hasSigned", desc := "(LSnowPass;I[J)I" } : Jvm.MethodName) method_14_code (4 : Nat) (Option.some Jvm.ClassFile.FieldType.int) [((0 : Nat), (16 : Nat), (19 : Nat), (31 : Nat))]) ∈ lw_all := lw_g (lw_at lw_m12 227 rfl) rfl
theorem q2990 : (Jvm.Cond.methodLink "SnowPassLaw" (52 : Nat) ({ cls := "SnowPass", name := "hasSigned", desc := "(I)Z" } : Jvm.MethodName)) ∈ lw_all := lw_g (lw_at lw_m12 228 rfl) rfl
theorem q2994 : (Jvm.Cond.methodLink "SnowPassLaw" (219 : Nat) ({ cls := "SnowPassLaw", name := "unclearedOnSide", desc := "(LSnowPass;I[J)I" } : Jvm.MethodName)) ∈ lw_all := lw_g (lw_at lw_m12 232 rfl) rfl
theorem q2995 : (Jvm.Cond.static ({ cls := "SnowPassLaw", name := "unclearedOnSide", desc := "(LSnowPass;I[J)I" } : Jvm.MethodName)) ∈ lw_all := lw_g (lw_at lw_m12 233 rfl) rfl
theorem q2996 : (Jvm.Cond.codeWith ({ cls := "SnowPassLaw", name := "unclearedOnSide", desc := "(LSnowPass;I[J)I" } : Jvm.MethodName) method_15_code (4 : Nat) (Option.some Jvm.ClassFile.FieldType.int) [((0 : Nat), (9 : Nat), (12 : Nat), (31 : Nat))]) ∈ lw_all := lw_g (lw_at lw_m12 234 rfl) rfl
theorem q2997 : (Jvm.Cond.methodLink "SnowPassLaw" (55 : Nat) ({ cls := "SnowPass", name := "unclearedOnSide", desc := "(I)I" } : Jvm.MethodName)) ∈ lw_all := lw_g (lw_at lw_m12 235 rfl) rfl
theorem q3027 : (Jvm.Cond.methodLink "SnowPassLaw" (234 : Nat) ({ cls := "SnowPassLaw", name := "waitingCount", desc := "(LSnowPass;I[J)I" } : Jvm.MethodName)) ∈ lw_all := lw_g (lw_at lw_m13 25 rfl) rfl
theorem q3028 : (Jvm.Cond.static ({ cls := "SnowPassLaw", name := "waitingCount", desc := "(LSnowPass;I[J)I" } : Jvm.MethodName)) ∈ lw_all := lw_g (lw_at lw_m13 26 rfl) rfl
theorem q3029 : (Jvm.Cond.codeWith ({ cls := "SnowPassLaw", name := "waitingCount", desc := "(LSnowPass;I[J)I" } : Jvm.MethodName) method_16_code (4 : Nat) (Option.some Jvm.ClassFile.FieldType.int) [((0 : Nat), (9 : Nat), (12 : Nat), (31 : Nat))]) ∈ lw_all := lw_g (lw_at lw_m13 27 rfl) rfl
theorem q3030 : (Jvm.Cond.methodLink "SnowPassLaw" (58 : Nat) ({ cls := "SnowPass", name := "waitingCount", desc := "(I)I" } : Jvm.MethodName)) ∈ lw_all := lw_g (lw_at lw_m13 28 rfl) rfl
theorem q3043 : (Jvm.Cond.methodLink "SnowPassLaw" (237 : Nat) ({ cls := "SnowPassLaw", name := "waitingTicket", desc := "(LSnowPass;II[J)I" } : Jvm.MethodName)) ∈ lw_all := lw_g (lw_at lw_m13 41 rfl) rfl
theorem q3044 : (Jvm.Cond.static ({ cls := "SnowPassLaw", name := "waitingTicket", desc := "(LSnowPass;II[J)I" } : Jvm.MethodName)) ∈ lw_all := lw_g (lw_at lw_m13 42 rfl) rfl
theorem q3045 : (Jvm.Cond.codeWith ({ cls := "SnowPassLaw", name := "waitingTicket", desc := "(LSnowPass;II[J)I" } : Jvm.MethodName) method_17_code (5 : Nat) (Option.some Jvm.ClassFile.FieldType.int) [((0 : Nat), (10 : Nat), (13 : Nat), (31 : Nat))]) ∈ lw_all := lw_g (lw_at lw_m13 43 rfl) rfl
theorem q3046 : (Jvm.Cond.methodLink "SnowPassLaw" (61 : Nat) ({ cls := "SnowPass", name := "waitingTicket", desc := "(II)I" } : Jvm.MethodName)) ∈ lw_all := lw_g (lw_at lw_m13 44 rfl) rfl
theorem q3051 : (Jvm.Cond.methodLink "SnowPassLaw" (245 : Nat) ({ cls := "SnowPassLaw", name := "hasChains", desc := "(LSnowPass;I[J)I" } : Jvm.MethodName)) ∈ lw_all := lw_g (lw_at lw_m13 49 rfl) rfl
theorem q3052 : (Jvm.Cond.static ({ cls := "SnowPassLaw", name := "hasChains", desc := "(LSnowPass;I[J)I" } : Jvm.MethodName)) ∈ lw_all := lw_g (lw_at lw_m13 50 rfl) rfl
theorem q3053 : (Jvm.Cond.codeWith ({ cls := "SnowPassLaw", name := "hasChains", desc := "(LSnowPass;I[J)I" } : Jvm.MethodName) method_18_code (4 : Nat) (Option.some Jvm.ClassFile.FieldType.int) [((0 : Nat), (16 : Nat), (19 : Nat), (68 : Nat))]) ∈ lw_all := lw_g (lw_at lw_m13 51 rfl) rfl
theorem q3054 : (Jvm.Cond.classLink "SnowPassLaw" (68 : Nat) "java/util/NoSuchElementException") ∈ lw_all := lw_g (lw_at lw_m13 52 rfl) rfl
theorem q3055 : (Jvm.Cond.methodLink "SnowPassLaw" (65 : Nat) ({ cls := "SnowPass", name := "hasChains", desc := "(I)Z" } : Jvm.MethodName)) ∈ lw_all := lw_g (lw_at lw_m13 53 rfl) rfl
theorem q3064 : (Jvm.Cond.methodLink "SnowPassLaw" (248 : Nat) ({ cls := "SnowPassLaw", name := "crossingReason", desc := "(LSnowPass;I[J)I" } : Jvm.MethodName)) ∈ lw_all := lw_g (lw_at lw_m13 62 rfl) rfl
theorem q3065 : (Jvm.Cond.static ({ cls := "SnowPassLaw", name := "crossingReason", desc := "(LSnowPass;I[J)I" } : Jvm.MethodName)) ∈ lw_all := lw_g (lw_at lw_m13 63 rfl) rfl
theorem q3066 : (Jvm.Cond.codeWith ({ cls := "SnowPassLaw", name := "crossingReason", desc := "(LSnowPass;I[J)I" } : Jvm.MethodName) method_19_code (4 : Nat) (Option.some Jvm.ClassFile.FieldType.int) [((0 : Nat), (9 : Nat), (12 : Nat), (68 : Nat))]) ∈ lw_all := lw_g (lw_at lw_m13 64 rfl) rfl
theorem q3067 : (Jvm.Cond.methodLink "SnowPassLaw" (70 : Nat) ({ cls := "SnowPass", name := "crossingReason", desc := "(I)I" } : Jvm.MethodName)) ∈ lw_all := lw_g (lw_at lw_m13 65 rfl) rfl
theorem q3072 : (Jvm.Cond.methodLink "SnowPassLaw" (251 : Nat) ({ cls := "SnowPassLaw", name := "depthAfter", desc := "(LSnowPass;II[J)I" } : Jvm.MethodName)) ∈ lw_all := lw_g (lw_at lw_m13 70 rfl) rfl
theorem q3073 : (Jvm.Cond.static ({ cls := "SnowPassLaw", name := "depthAfter", desc := "(LSnowPass;II[J)I" } : Jvm.MethodName)) ∈ lw_all := lw_g (lw_at lw_m13 71 rfl) rfl
theorem q3074 : (Jvm.Cond.codeWith ({ cls := "SnowPassLaw", name := "depthAfter", desc := "(LSnowPass;II[J)I" } : Jvm.MethodName) method_20_code (5 : Nat) (Option.some Jvm.ClassFile.FieldType.int) [((0 : Nat), (10 : Nat), (13 : Nat), (31 : Nat)), ((0 : Nat), (10 : Nat), (17 : Nat), (19 : Nat))]) ∈ lw_all := lw_g (lw_at lw_m13 72 rfl) rfl
theorem q3075 : (Jvm.Cond.methodLink "SnowPassLaw" (73 : Nat) ({ cls := "SnowPass", name := "depthAfter", desc := "(II)I" } : Jvm.MethodName)) ∈ lw_all := lw_g (lw_at lw_m13 73 rfl) rfl
theorem q3083 : (Jvm.Cond.methodLink "SnowPassLaw" (262 : Nat) ({ cls := "SnowPassLaw", name := "hoursUntilCrossed", desc := "(LSnowPass;I[J)I" } : Jvm.MethodName)) ∈ lw_all := lw_g (lw_at lw_m13 81 rfl) rfl
theorem q3084 : (Jvm.Cond.static ({ cls := "SnowPassLaw", name := "hoursUntilCrossed", desc := "(LSnowPass;I[J)I" } : Jvm.MethodName)) ∈ lw_all := lw_g (lw_at lw_m13 82 rfl) rfl
theorem q3085 : (Jvm.Cond.codeWith ({ cls := "SnowPassLaw", name := "hoursUntilCrossed", desc := "(LSnowPass;I[J)I" } : Jvm.MethodName) method_21_code (4 : Nat) (Option.some Jvm.ClassFile.FieldType.int) [((0 : Nat), (9 : Nat), (12 : Nat), (68 : Nat))]) ∈ lw_all := lw_g (lw_at lw_m13 83 rfl) rfl
theorem q3086 : (Jvm.Cond.methodLink "SnowPassLaw" (76 : Nat) ({ cls := "SnowPass", name := "hoursUntilCrossed", desc := "(I)I" } : Jvm.MethodName)) ∈ lw_all := lw_g (lw_at lw_m13 84 rfl) rfl
theorem q3098 : (Jvm.Cond.methodLink "SnowPassLaw" (265 : Nat) ({ cls := "SnowPassLaw", name := "crossedAfter", desc := "(LSnowPass;II[J)I" } : Jvm.MethodName)) ∈ lw_all := lw_g (lw_at lw_m13 96 rfl) rfl
theorem q3099 : (Jvm.Cond.static ({ cls := "SnowPassLaw", name := "crossedAfter", desc := "(LSnowPass;II[J)I" } : Jvm.MethodName)) ∈ lw_all := lw_g (lw_at lw_m13 97 rfl) rfl
theorem q3100 : (Jvm.Cond.codeWith ({ cls := "SnowPassLaw", name := "crossedAfter", desc := "(LSnowPass;II[J)I" } : Jvm.MethodName) method_22_code (5 : Nat) (Option.some Jvm.ClassFile.FieldType.int) [((0 : Nat), (10 : Nat), (13 : Nat), (31 : Nat)), ((0 : Nat), (10 : Nat), (17 : Nat), (19 : Nat))]) ∈ lw_all := lw_g (lw_at lw_m13 98 rfl) rfl
theorem q3101 : (Jvm.Cond.methodLink "SnowPassLaw" (79 : Nat) ({ cls := "SnowPass", name := "crossedAfter", desc := "(II)I" } : Jvm.MethodName)) ∈ lw_all := lw_g (lw_at lw_m13 99 rfl) rfl
theorem q3106 : (Jvm.Cond.methodLink "SnowPassLaw" (268 : Nat) ({ cls := "SnowPassLaw", name := "leastCapacity", desc := "(LSnowPass;II[J)I" } : Jvm.MethodName)) ∈ lw_all := lw_g (lw_at lw_m13 104 rfl) rfl
theorem q3107 : (Jvm.Cond.static ({ cls := "SnowPassLaw", name := "leastCapacity", desc := "(LSnowPass;II[J)I" } : Jvm.MethodName)) ∈ lw_all := lw_g (lw_at lw_m13 105 rfl) rfl
theorem q3108 : (Jvm.Cond.codeWith ({ cls := "SnowPassLaw", name := "leastCapacity", desc := "(LSnowPass;II[J)I" } : Jvm.MethodName) method_23_code (5 : Nat) (Option.some Jvm.ClassFile.FieldType.int) [((0 : Nat), (10 : Nat), (13 : Nat), (31 : Nat)), ((0 : Nat), (10 : Nat), (17 : Nat), (19 : Nat))]) ∈ lw_all := lw_g (lw_at lw_m13 106 rfl) rfl
theorem q3109 : (Jvm.Cond.methodLink "SnowPassLaw" (82 : Nat) ({ cls := "SnowPass", name := "leastCapacity", desc := "(II)I" } : Jvm.MethodName)) ∈ lw_all := lw_g (lw_at lw_m13 107 rfl) rfl
theorem q3113 : (Jvm.Cond.methodLink "SnowPassLaw" (271 : Nat) ({ cls := "SnowPassLaw", name := "bestSaltSegment", desc := "(LSnowPass;I[J)I" } : Jvm.MethodName)) ∈ lw_all := lw_g (lw_at lw_m13 111 rfl) rfl
theorem q3114 : (Jvm.Cond.static ({ cls := "SnowPassLaw", name := "bestSaltSegment", desc := "(LSnowPass;I[J)I" } : Jvm.MethodName)) ∈ lw_all := lw_g (lw_at lw_m13 112 rfl) rfl
theorem q3115 : (Jvm.Cond.codeWith ({ cls := "SnowPassLaw", name := "bestSaltSegment", desc := "(LSnowPass;I[J)I" } : Jvm.MethodName) method_24_code (4 : Nat) (Option.some Jvm.ClassFile.FieldType.int) [((0 : Nat), (9 : Nat), (12 : Nat), (19 : Nat))]) ∈ lw_all := lw_g (lw_at lw_m13 113 rfl) rfl
theorem q3116 : (Jvm.Cond.methodLink "SnowPassLaw" (85 : Nat) ({ cls := "SnowPass", name := "bestSaltSegment", desc := "(I)I" } : Jvm.MethodName)) ∈ lw_all := lw_g (lw_at lw_m13 114 rfl) rfl
theorem q3147 : (Jvm.Cond.methodLink "SnowPassLaw" (286 : Nat) ({ cls := "SnowPassLaw", name := "cartsCrossed", desc := "(LSnowPass;I[J)I" } : Jvm.MethodName)) ∈ lw_all := lw_g (lw_at lw_m13 145 rfl) rfl
theorem q3148 : (Jvm.Cond.static ({ cls := "SnowPassLaw", name := "cartsCrossed", desc := "(LSnowPass;I[J)I" } : Jvm.MethodName)) ∈ lw_all := lw_g (lw_at lw_m13 146 rfl) rfl
theorem q3149 : (Jvm.Cond.codeWith ({ cls := "SnowPassLaw", name := "cartsCrossed", desc := "(LSnowPass;I[J)I" } : Jvm.MethodName) method_25_code (4 : Nat) (Option.some Jvm.ClassFile.FieldType.int) [((0 : Nat), (9 : Nat), (12 : Nat), (31 : Nat))]) ∈ lw_all := lw_g (lw_at lw_m13 147 rfl) rfl
theorem q3150 : (Jvm.Cond.methodLink "SnowPassLaw" (88 : Nat) ({ cls := "SnowPass", name := "cartsCrossed", desc := "(I)I" } : Jvm.MethodName)) ∈ lw_all := lw_g (lw_at lw_m13 148 rfl) rfl
theorem q3154 : (Jvm.Cond.methodLink "SnowPassLaw" (319 : Nat) ({ cls := "SnowPassLaw", name := "passHours", desc := "(LSnowPass;I[J)I" } : Jvm.MethodName)) ∈ lw_all := lw_g (lw_at lw_m13 152 rfl) rfl
theorem q3155 : (Jvm.Cond.static ({ cls := "SnowPassLaw", name := "passHours", desc := "(LSnowPass;I[J)I" } : Jvm.MethodName)) ∈ lw_all := lw_g (lw_at lw_m13 153 rfl) rfl
theorem q3156 : (Jvm.Cond.codeWith ({ cls := "SnowPassLaw", name := "passHours", desc := "(LSnowPass;I[J)I" } : Jvm.MethodName) method_26_code (4 : Nat) (Option.some Jvm.ClassFile.FieldType.int) [((0 : Nat), (9 : Nat), (12 : Nat), (19 : Nat))]) ∈ lw_all := lw_g (lw_at lw_m13 154 rfl) rfl
theorem q3157 : (Jvm.Cond.methodLink "SnowPassLaw" (91 : Nat) ({ cls := "SnowPass", name := "passHours", desc := "(I)I" } : Jvm.MethodName)) ∈ lw_all := lw_g (lw_at lw_m13 155 rfl) rfl
theorem q3169 : (Jvm.Cond.methodLink "SnowPassLaw" (322 : Nat) ({ cls := "SnowPassLaw", name := "spreadSalt", desc := "(LSnowPass;I[J)I" } : Jvm.MethodName)) ∈ lw_all := lw_g (lw_at lw_m13 167 rfl) rfl
theorem q3170 : (Jvm.Cond.static ({ cls := "SnowPassLaw", name := "spreadSalt", desc := "(LSnowPass;I[J)I" } : Jvm.MethodName)) ∈ lw_all := lw_g (lw_at lw_m13 168 rfl) rfl
theorem q3171 : (Jvm.Cond.codeWith ({ cls := "SnowPassLaw", name := "spreadSalt", desc := "(LSnowPass;I[J)I" } : Jvm.MethodName) method_27_code (4 : Nat) (Option.some Jvm.ClassFile.FieldType.int) [((0 : Nat), (9 : Nat), (12 : Nat), (31 : Nat)), ((0 : Nat), (9 : Nat), (15 : Nat), (13 : Nat))]) ∈ lw_all := lw_g (lw_at lw_m13 169 rfl) rfl
theorem q3172 : (Jvm.Cond.methodLink "SnowPassLaw" (94 : Nat) ({ cls := "SnowPass", name := "spreadSalt", desc := "(I)I" } : Jvm.MethodName)) ∈ lw_all := lw_g (lw_at lw_m13 170 rfl) rfl
theorem q3179 : (Jvm.Cond.methodLink "SnowPassLaw" (325 : Nat) ({ cls := "SnowPassLaw", name := "recall", desc := "(LSnowPass;I[J)I" } : Jvm.MethodName)) ∈ lw_all := lw_g (lw_at lw_m13 177 rfl) rfl
theorem q3180 : (Jvm.Cond.static ({ cls := "SnowPassLaw", name := "recall", desc := "(LSnowPass;I[J)I" } : Jvm.MethodName)) ∈ lw_all := lw_g (lw_at lw_m13 178 rfl) rfl
theorem q3181 : (Jvm.Cond.codeWith ({ cls := "SnowPassLaw", name := "recall", desc := "(LSnowPass;I[J)I" } : Jvm.MethodName) method_28_code (4 : Nat) (Option.some Jvm.ClassFile.FieldType.int) [((0 : Nat), (9 : Nat), (12 : Nat), (31 : Nat))]) ∈ lw_all := lw_g (lw_at lw_m13 179 rfl) rfl
theorem q3182 : (Jvm.Cond.methodLink "SnowPassLaw" (97 : Nat) ({ cls := "SnowPass", name := "recall", desc := "(I)I" } : Jvm.MethodName)) ∈ lw_all := lw_g (lw_at lw_m13 180 rfl) rfl
theorem q3189 : (Jvm.Cond.methodLink "SnowPassLaw" (328 : Nat) ({ cls := "SnowPassLaw", name := "addSacks", desc := "(LSnowPass;II[J)I" } : Jvm.MethodName)) ∈ lw_all := lw_g (lw_at lw_m13 187 rfl) rfl
theorem q3190 : (Jvm.Cond.static ({ cls := "SnowPassLaw", name := "addSacks", desc := "(LSnowPass;II[J)I" } : Jvm.MethodName)) ∈ lw_all := lw_g (lw_at lw_m13 188 rfl) rfl
theorem q3191 : (Jvm.Cond.codeWith ({ cls := "SnowPassLaw", name := "addSacks", desc := "(LSnowPass;II[J)I" } : Jvm.MethodName) method_29_code (5 : Nat) (Option.some Jvm.ClassFile.FieldType.int) [((0 : Nat), (10 : Nat), (13 : Nat), (31 : Nat)), ((0 : Nat), (10 : Nat), (17 : Nat), (19 : Nat))]) ∈ lw_all := lw_g (lw_at lw_m13 189 rfl) rfl
theorem q3192 : (Jvm.Cond.methodLink "SnowPassLaw" (100 : Nat) ({ cls := "SnowPass", name := "addSacks", desc := "(II)I" } : Jvm.MethodName)) ∈ lw_all := lw_g (lw_at lw_m13 190 rfl) rfl
theorem q3200 : (Jvm.Cond.methodLink "SnowPassLaw" (331 : Nat) ({ cls := "SnowPassLaw", name := "setSnowfall", desc := "(LSnowPass;I[J)I" } : Jvm.MethodName)) ∈ lw_all := lw_g (lw_at lw_m13 198 rfl) rfl
theorem q3201 : (Jvm.Cond.static ({ cls := "SnowPassLaw", name := "setSnowfall", desc := "(LSnowPass;I[J)I" } : Jvm.MethodName)) ∈ lw_all := lw_g (lw_at lw_m13 199 rfl) rfl
theorem q3202 : (Jvm.Cond.codeWith ({ cls := "SnowPassLaw", name := "setSnowfall", desc := "(LSnowPass;I[J)I" } : Jvm.MethodName) method_30_code (4 : Nat) (Option.some Jvm.ClassFile.FieldType.int) [((0 : Nat), (9 : Nat), (12 : Nat), (19 : Nat))]) ∈ lw_all := lw_g (lw_at lw_m13 200 rfl) rfl
theorem q3203 : (Jvm.Cond.methodLink "SnowPassLaw" (103 : Nat) ({ cls := "SnowPass", name := "setSnowfall", desc := "(I)I" } : Jvm.MethodName)) ∈ lw_all := lw_g (lw_at lw_m13 201 rfl) rfl
theorem q3210 : (Jvm.Cond.methodLink "SnowPassLaw" (334 : Nat) ({ cls := "SnowPassLaw", name := "setWind", desc := "(LSnowPass;I[J)I" } : Jvm.MethodName)) ∈ lw_all := lw_g (lw_at lw_m13 208 rfl) rfl
theorem q3211 : (Jvm.Cond.static ({ cls := "SnowPassLaw", name := "setWind", desc := "(LSnowPass;I[J)I" } : Jvm.MethodName)) ∈ lw_all := lw_g (lw_at lw_m13 209 rfl) rfl
theorem q3212 : (Jvm.Cond.codeWith ({ cls := "SnowPassLaw", name := "setWind", desc := "(LSnowPass;I[J)I" } : Jvm.MethodName) method_31_code (4 : Nat) (Option.some Jvm.ClassFile.FieldType.int) [((0 : Nat), (9 : Nat), (12 : Nat), (19 : Nat))]) ∈ lw_all := lw_g (lw_at lw_m13 210 rfl) rfl
theorem q3213 : (Jvm.Cond.methodLink "SnowPassLaw" (106 : Nat) ({ cls := "SnowPass", name := "setWind", desc := "(I)I" } : Jvm.MethodName)) ∈ lw_all := lw_g (lw_at lw_m13 211 rfl) rfl
theorem q3221 : (Jvm.Cond.methodLink "SnowPassLaw" (337 : Nat) ({ cls := "SnowPassLaw", name := "queueCart", desc := "(LSnowPass;IZ[J)I" } : Jvm.MethodName)) ∈ lw_all := lw_g (lw_at lw_m13 219 rfl) rfl
theorem q3222 : (Jvm.Cond.static ({ cls := "SnowPassLaw", name := "queueCart", desc := "(LSnowPass;IZ[J)I" } : Jvm.MethodName)) ∈ lw_all := lw_g (lw_at lw_m13 220 rfl) rfl
theorem q3223 : (Jvm.Cond.codeWith ({ cls := "SnowPassLaw", name := "queueCart", desc := "(LSnowPass;IZ[J)I" } : Jvm.MethodName) method_32_code (5 : Nat) (Option.some Jvm.ClassFile.FieldType.int) [((0 : Nat), (10 : Nat), (13 : Nat), (31 : Nat)), ((0 : Nat), (10 : Nat), (17 : Nat), (13 : Nat))]) ∈ lw_all := lw_g (lw_at lw_m13 221 rfl) rfl
theorem q3224 : (Jvm.Cond.methodLink "SnowPassLaw" (109 : Nat) ({ cls := "SnowPass", name := "queueCart", desc := "(IZ)I" } : Jvm.MethodName)) ∈ lw_all := lw_g (lw_at lw_m13 222 rfl) rfl
theorem q3231 : (Jvm.Cond.methodLink "SnowPassLaw" (341 : Nat) ({ cls := "SnowPassLaw", name := "cancelCart", desc := "(LSnowPass;I[J)I" } : Jvm.MethodName)) ∈ lw_all := lw_g (lw_at lw_m13 229 rfl) rfl
theorem q3232 : (Jvm.Cond.static ({ cls := "SnowPassLaw", name := "cancelCart", desc := "(LSnowPass;I[J)I" } : Jvm.MethodName)) ∈ lw_all := lw_g (lw_at lw_m13 230 rfl) rfl
theorem q3233 : (Jvm.Cond.codeWith ({ cls := "SnowPassLaw", name := "cancelCart", desc := "(LSnowPass;I[J)I" } : Jvm.MethodName) method_33_code (4 : Nat) (Option.some Jvm.ClassFile.FieldType.int) [((0 : Nat), (9 : Nat), (12 : Nat), (68 : Nat))]) ∈ lw_all := lw_g (lw_at lw_m13 231 rfl) rfl
theorem q3234 : (Jvm.Cond.methodLink "SnowPassLaw" (113 : Nat) ({ cls := "SnowPass", name := "cancelCart", desc := "(I)I" } : Jvm.MethodName)) ∈ lw_all := lw_g (lw_at lw_m13 232 rfl) rfl
theorem q3241 : (Jvm.Cond.methodLink "SnowPassLaw" (344 : Nat) ({ cls := "SnowPassLaw", name := "undo", desc := "(LSnowPass;[J)I" } : Jvm.MethodName)) ∈ lw_all := lw_g (lw_at lw_m13 239 rfl) rfl
theorem q3242 : (Jvm.Cond.static ({ cls := "SnowPassLaw", name := "undo", desc := "(LSnowPass;[J)I" } : Jvm.MethodName)) ∈ lw_all := lw_g (lw_at lw_m14 0 rfl) rfl
theorem q3243 : (Jvm.Cond.codeWith ({ cls := "SnowPassLaw", name := "undo", desc := "(LSnowPass;[J)I" } : Jvm.MethodName) method_34_code (3 : Nat) (Option.some Jvm.ClassFile.FieldType.int) [((0 : Nat), (8 : Nat), (11 : Nat), (13 : Nat))]) ∈ lw_all := lw_g (lw_at lw_m14 1 rfl) rfl
theorem q3244 : (Jvm.Cond.methodLink "SnowPassLaw" (116 : Nat) ({ cls := "SnowPass", name := "undo", desc := "()I" } : Jvm.MethodName)) ∈ lw_all := lw_g (lw_at lw_m14 2 rfl) rfl
theorem q3263 : (Jvm.Cond.methodLink "SnowPassLaw" (351 : Nat) ({ cls := "SnowPassLaw", name := "restore", desc := "(LSnowPass;[J)I" } : Jvm.MethodName)) ∈ lw_all := lw_g (lw_at lw_m14 21 rfl) rfl
theorem q3264 : (Jvm.Cond.static ({ cls := "SnowPassLaw", name := "restore", desc := "(LSnowPass;[J)I" } : Jvm.MethodName)) ∈ lw_all := lw_g (lw_at lw_m14 22 rfl) rfl
theorem q3265 : (Jvm.Cond.codeWith ({ cls := "SnowPassLaw", name := "restore", desc := "(LSnowPass;[J)I" } : Jvm.MethodName) method_35_code (3 : Nat) (Option.some Jvm.ClassFile.FieldType.int) [((0 : Nat), (8 : Nat), (11 : Nat), (13 : Nat))]) ∈ lw_all := lw_g (lw_at lw_m14 23 rfl) rfl
theorem q3266 : (Jvm.Cond.methodLink "SnowPassLaw" (119 : Nat) ({ cls := "SnowPass", name := "restore", desc := "()I" } : Jvm.MethodName)) ∈ lw_all := lw_g (lw_at lw_m14 24 rfl) rfl
theorem q3270 : (Jvm.Cond.classLink "SnowPassLaw" (123 : Nat) "SnowPassModel") ∈ lw_all := lw_g (lw_at lw_m14 28 rfl) rfl
theorem q3272 : (Jvm.Cond.methodLink "SnowPassLaw" (125 : Nat) ({ cls := "SnowPassModel", name := "<init>", desc := "()V" } : Jvm.MethodName)) ∈ lw_all := lw_g (lw_at lw_m14 30 rfl) rfl
theorem q3472 : (Jvm.Cond.methodLink "SnowPassLaw" (132 : Nat) ({ cls := "SnowPassModel", name := "thrown", desc := "()I" } : Jvm.MethodName)) ∈ lw_all := lw_g (lw_at lw_m14 230 rfl) rfl
theorem q3476 : (Jvm.Cond.methodLink "SnowPassLaw" (131 : Nat) ({ cls := "SnowPassModel", name := "append", desc := "(IIIII)I" } : Jvm.MethodName)) ∈ lw_all := lw_g (lw_at lw_m14 234 rfl) rfl
theorem q3484 : (Jvm.Cond.methodLink "SnowPassLaw" (138 : Nat) ({ cls := "SnowPassModel", name := "truncate", desc := "(I)I" } : Jvm.MethodName)) ∈ lw_all := lw_g (lw_at lw_m15 2 rfl) rfl
theorem q3488 : (Jvm.Cond.methodLink "SnowPassLaw" (149 : Nat) ({ cls := "SnowPassModel", name := "errorCode", desc := "()I" } : Jvm.MethodName)) ∈ lw_all := lw_g (lw_at lw_m15 6 rfl) rfl
theorem q3492 : (Jvm.Cond.methodLink "SnowPassLaw" (153 : Nat) ({ cls := "SnowPassModel", name := "errorPosition", desc := "()I" } : Jvm.MethodName)) ∈ lw_all := lw_g (lw_at lw_m15 10 rfl) rfl
theorem q3496 : (Jvm.Cond.methodLink "SnowPassLaw" (142 : Nat) ({ cls := "SnowPassModel", name := "load", desc := "()I" } : Jvm.MethodName)) ∈ lw_all := lw_g (lw_at lw_m15 14 rfl) rfl
theorem q3497 : (Jvm.Cond.methodLink "SnowPassLaw" (145 : Nat) ({ cls := "SnowPassModel", name := "executeCommands", desc := "()I" } : Jvm.MethodName)) ∈ lw_all := lw_g (lw_at lw_m15 15 rfl) rfl
theorem q3652 : (Jvm.Cond.methodLink "SnowPassLaw" (157 : Nat) ({ cls := "SnowPassModel", name := "segmentCount", desc := "()I" } : Jvm.MethodName)) ∈ lw_all := lw_g (lw_at lw_m15 170 rfl) rfl
theorem q3660 : (Jvm.Cond.methodLink "SnowPassLaw" (161 : Nat) ({ cls := "SnowPassModel", name := "summit", desc := "()I" } : Jvm.MethodName)) ∈ lw_all := lw_g (lw_at lw_m15 178 rfl) rfl
theorem q3664 : (Jvm.Cond.methodLink "SnowPassLaw" (165 : Nat) ({ cls := "SnowPassModel", name := "clock", desc := "()I" } : Jvm.MethodName)) ∈ lw_all := lw_g (lw_at lw_m15 182 rfl) rfl
theorem q3668 : (Jvm.Cond.methodLink "SnowPassLaw" (170 : Nat) ({ cls := "SnowPassModel", name := "isNight", desc := "()Z" } : Jvm.MethodName)) ∈ lw_all := lw_g (lw_at lw_m15 186 rfl) rfl
theorem q3672 : (Jvm.Cond.methodLink "SnowPassLaw" (173 : Nat) ({ cls := "SnowPassModel", name := "depthOf", desc := "(I)I" } : Jvm.MethodName)) ∈ lw_all := lw_g (lw_at lw_m15 190 rfl) rfl
theorem q3680 : (Jvm.Cond.methodLink "SnowPassLaw" (176 : Nat) ({ cls := "SnowPassModel", name := "exposureOf", desc := "(I)I" } : Jvm.MethodName)) ∈ lw_all := lw_g (lw_at lw_m15 198 rfl) rfl
theorem q3684 : (Jvm.Cond.methodLink "SnowPassLaw" (179 : Nat) ({ cls := "SnowPassModel", name := "saltHours", desc := "(I)I" } : Jvm.MethodName)) ∈ lw_all := lw_g (lw_at lw_m15 202 rfl) rfl
theorem q3688 : (Jvm.Cond.methodLink "SnowPassLaw" (182 : Nat) ({ cls := "SnowPassModel", name := "isClear", desc := "(I)Z" } : Jvm.MethodName)) ∈ lw_all := lw_g (lw_at lw_m15 206 rfl) rfl
theorem q3692 : (Jvm.Cond.methodLink "SnowPassLaw" (186 : Nat) ({ cls := "SnowPassModel", name := "snowfall", desc := "()I" } : Jvm.MethodName)) ∈ lw_all := lw_g (lw_at lw_m15 210 rfl) rfl
theorem q3696 : (Jvm.Cond.methodLink "SnowPassLaw" (190 : Nat) ({ cls := "SnowPassModel", name := "wind", desc := "()I" } : Jvm.MethodName)) ∈ lw_all := lw_g (lw_at lw_m15 214 rfl) rfl
theorem q3700 : (Jvm.Cond.methodLink "SnowPassLaw" (194 : Nat) ({ cls := "SnowPassModel", name := "clearCount", desc := "()I" } : Jvm.MethodName)) ∈ lw_all := lw_g (lw_at lw_m15 218 rfl) rfl
theorem q3711 : (Jvm.Cond.methodLink "SnowPassLaw" (198 : Nat) ({ cls := "SnowPassModel", name := "deepestSegment", desc := "()I" } : Jvm.MethodName)) ∈ lw_all := lw_g (lw_at lw_m15 229 rfl) rfl
theorem q3715 : (Jvm.Cond.methodLink "SnowPassLaw" (202 : Nat) ({ cls := "SnowPassModel", name := "totalDepth", desc := "()I" } : Jvm.MethodName)) ∈ lw_all := lw_g (lw_at lw_m15 233 rfl) rfl
theorem q3719 : (Jvm.Cond.methodLink "SnowPassLaw" (205 : Nat) ({ cls := "SnowPassModel", name := "ploughPosition", desc := "(I)I" } : Jvm.MethodName)) ∈ lw_all := lw_g (lw_at lw_m15 237 rfl) rfl
theorem q3726 : (Jvm.Cond.methodLink "SnowPassLaw" (208 : Nat) ({ cls := "SnowPassModel", name := "ploughCapacity", desc := "(I)I" } : Jvm.MethodName)) ∈ lw_all := lw_g (lw_at lw_m16 4 rfl) rfl
theorem q3730 : (Jvm.Cond.methodLink "SnowPassLaw" (211 : Nat) ({ cls := "SnowPassModel", name := "sackCount", desc := "(I)I" } : Jvm.MethodName)) ∈ lw_all := lw_g (lw_at lw_m16 8 rfl) rfl
theorem q3734 : (Jvm.Cond.methodLink "SnowPassLaw" (214 : Nat) ({ cls := "SnowPassModel", name := "hasSigned", desc := "(I)Z" } : Jvm.MethodName)) ∈ lw_all := lw_g (lw_at lw_m16 12 rfl) rfl
theorem q3738 : (Jvm.Cond.methodLink "SnowPassLaw" (218 : Nat) ({ cls := "SnowPassModel", name := "isOpen", desc := "()Z" } : Jvm.MethodName)) ∈ lw_all := lw_g (lw_at lw_m16 16 rfl) rfl
theorem q3742 : (Jvm.Cond.methodLink "SnowPassLaw" (221 : Nat) ({ cls := "SnowPassModel", name := "unclearedOnSide", desc := "(I)I" } : Jvm.MethodName)) ∈ lw_all := lw_g (lw_at lw_m16 20 rfl) rfl
theorem q3746 : (Jvm.Cond.methodLink "SnowPassLaw" (225 : Nat) ({ cls := "SnowPassModel", name := "bookSize", desc := "()I" } : Jvm.MethodName)) ∈ lw_all := lw_g (lw_at lw_m16 24 rfl) rfl
theorem q3750 : (Jvm.Cond.methodLink "SnowPassLaw" (229 : Nat) ({ cls := "SnowPassModel", name := "entryKind", desc := "(I)I" } : Jvm.MethodName)) ∈ lw_all := lw_g (lw_at lw_m16 28 rfl) rfl
theorem q3758 : (Jvm.Cond.methodLink "SnowPassLaw" (233 : Nat) ({ cls := "SnowPassModel", name := "entryClock", desc := "(I)I" } : Jvm.MethodName)) ∈ lw_all := lw_g (lw_at lw_m16 36 rfl) rfl
theorem q3762 : (Jvm.Cond.methodLink "SnowPassLaw" (236 : Nat) ({ cls := "SnowPassModel", name := "waitingCount", desc := "(I)I" } : Jvm.MethodName)) ∈ lw_all := lw_g (lw_at lw_m16 40 rfl) rfl
theorem q3766 : (Jvm.Cond.methodLink "SnowPassLaw" (240 : Nat) ({ cls := "SnowPassModel", name := "waitingTicket", desc := "(II)I" } : Jvm.MethodName)) ∈ lw_all := lw_g (lw_at lw_m16 44 rfl) rfl
theorem q3770 : (Jvm.Cond.methodLink "SnowPassLaw" (244 : Nat) ({ cls := "SnowPassModel", name := "sideOfTicket", desc := "(I)I" } : Jvm.MethodName)) ∈ lw_all := lw_g (lw_at lw_m16 48 rfl) rfl
theorem q3774 : (Jvm.Cond.methodLink "SnowPassLaw" (247 : Nat) ({ cls := "SnowPassModel", name := "hasChains", desc := "(I)Z" } : Jvm.MethodName)) ∈ lw_all := lw_g (lw_at lw_m16 52 rfl) rfl
theorem q3782 : (Jvm.Cond.methodLink "SnowPassLaw" (250 : Nat) ({ cls := "SnowPassModel", name := "crossingReason", desc := "(I)I" } : Jvm.MethodName)) ∈ lw_all := lw_g (lw_at lw_m16 60 rfl) rfl
theorem q3786 : (Jvm.Cond.methodLink "SnowPassLaw" (253 : Nat) ({ cls := "SnowPassModel", name := "depthAfter", desc := "(II)I" } : Jvm.MethodName)) ∈ lw_all := lw_g (lw_at lw_m16 64 rfl) rfl
theorem q3806 : (Jvm.Cond.methodLink "SnowPassLaw" (257 : Nat) ({ cls := "SnowPassModel", name := "hoursUntilOpen", desc := "()I" } : Jvm.MethodName)) ∈ lw_all := lw_g (lw_at lw_m16 84 rfl) rfl
theorem q3814 : (Jvm.Cond.methodLink "SnowPassLaw" (261 : Nat) ({ cls := "SnowPassModel", name := "hoursUntilClosed", desc := "()I" } : Jvm.MethodName)) ∈ lw_all := lw_g (lw_at lw_m16 92 rfl) rfl
theorem q3818 : (Jvm.Cond.methodLink "SnowPassLaw" (264 : Nat) ({ cls := "SnowPassModel", name := "hoursUntilCrossed", desc := "(I)I" } : Jvm.MethodName)) ∈ lw_all := lw_g (lw_at lw_m16 96 rfl) rfl
theorem q3822 : (Jvm.Cond.methodLink "SnowPassLaw" (267 : Nat) ({ cls := "SnowPassModel", name := "crossedAfter", desc := "(II)I" } : Jvm.MethodName)) ∈ lw_all := lw_g (lw_at lw_m16 100 rfl) rfl
theorem q3826 : (Jvm.Cond.methodLink "SnowPassLaw" (270 : Nat) ({ cls := "SnowPassModel", name := "leastCapacity", desc := "(II)I" } : Jvm.MethodName)) ∈ lw_all := lw_g (lw_at lw_m16 104 rfl) rfl
theorem q3830 : (Jvm.Cond.methodLink "SnowPassLaw" (273 : Nat) ({ cls := "SnowPassModel", name := "bestSaltSegment", desc := "(I)I" } : Jvm.MethodName)) ∈ lw_all := lw_g (lw_at lw_m16 108 rfl) rfl
theorem q3838 : (Jvm.Cond.methodLink "SnowPassLaw" (277 : Nat) ({ cls := "SnowPassModel", name := "snowFallen", desc := "()I" } : Jvm.MethodName)) ∈ lw_all := lw_g (lw_at lw_m16 116 rfl) rfl
theorem q3842 : (Jvm.Cond.methodLink "SnowPassLaw" (281 : Nat) ({ cls := "SnowPassModel", name := "snowCleared", desc := "()I" } : Jvm.MethodName)) ∈ lw_all := lw_g (lw_at lw_m16 120 rfl) rfl
theorem q3846 : (Jvm.Cond.methodLink "SnowPassLaw" (285 : Nat) ({ cls := "SnowPassModel", name := "snowMelted", desc := "()I" } : Jvm.MethodName)) ∈ lw_all := lw_g (lw_at lw_m16 124 rfl) rfl
theorem q3850 : (Jvm.Cond.methodLink "SnowPassLaw" (288 : Nat) ({ cls := "SnowPassModel", name := "cartsCrossed", desc := "(I)I" } : Jvm.MethodName)) ∈ lw_all := lw_g (lw_at lw_m16 128 rfl) rfl
theorem q3854 : (Jvm.Cond.methodLink "SnowPassLaw" (292 : Nat) ({ cls := "SnowPassModel", name := "cartsCancelled", desc := "()I" } : Jvm.MethodName)) ∈ lw_all := lw_g (lw_at lw_m16 132 rfl) rfl
theorem q3858 : (Jvm.Cond.methodLink "SnowPassLaw" (296 : Nat) ({ cls := "SnowPassModel", name := "ticketCount", desc := "()I" } : Jvm.MethodName)) ∈ lw_all := lw_g (lw_at lw_m16 136 rfl) rfl
theorem q3862 : (Jvm.Cond.methodLink "SnowPassLaw" (300 : Nat) ({ cls := "SnowPassModel", name := "sacksUsed", desc := "()I" } : Jvm.MethodName)) ∈ lw_all := lw_g (lw_at lw_m16 140 rfl) rfl
theorem q3866 : (Jvm.Cond.methodLink "SnowPassLaw" (304 : Nat) ({ cls := "SnowPassModel", name := "snowImbalance", desc := "()I" } : Jvm.MethodName)) ∈ lw_all := lw_g (lw_at lw_m16 144 rfl) rfl
theorem q3870 : (Jvm.Cond.methodLink "SnowPassLaw" (308 : Nat) ({ cls := "SnowPassModel", name := "cartImbalance", desc := "()I" } : Jvm.MethodName)) ∈ lw_all := lw_g (lw_at lw_m16 148 rfl) rfl
theorem q3874 : (Jvm.Cond.methodLink "SnowPassLaw" (313 : Nat) ({ cls := "SnowPassModel", name := "meanDepth", desc := "()D" } : Jvm.MethodName)) ∈ lw_all := lw_g (lw_at lw_m16 152 rfl) rfl
theorem q3878 : (Jvm.Cond.methodLink "SnowPassLaw" (318 : Nat) ({ cls := "SnowPassModel", name := "clearShare", desc := "()F" } : Jvm.MethodName)) ∈ lw_all := lw_g (lw_at lw_m16 156 rfl) rfl
theorem q3882 : (Jvm.Cond.methodLink "SnowPassLaw" (321 : Nat) ({ cls := "SnowPassModel", name := "passHours", desc := "(I)I" } : Jvm.MethodName)) ∈ lw_all := lw_g (lw_at lw_m16 160 rfl) rfl
theorem q3894 : (Jvm.Cond.methodLink "SnowPassLaw" (324 : Nat) ({ cls := "SnowPassModel", name := "spreadSalt", desc := "(I)I" } : Jvm.MethodName)) ∈ lw_all := lw_g (lw_at lw_m16 172 rfl) rfl
theorem q3898 : (Jvm.Cond.methodLink "SnowPassLaw" (327 : Nat) ({ cls := "SnowPassModel", name := "recall", desc := "(I)I" } : Jvm.MethodName)) ∈ lw_all := lw_g (lw_at lw_m16 176 rfl) rfl
theorem q3902 : (Jvm.Cond.methodLink "SnowPassLaw" (330 : Nat) ({ cls := "SnowPassModel", name := "addSacks", desc := "(II)I" } : Jvm.MethodName)) ∈ lw_all := lw_g (lw_at lw_m16 180 rfl) rfl
theorem q3907 : (Jvm.Cond.methodLink "SnowPassLaw" (333 : Nat) ({ cls := "SnowPassModel", name := "setSnowfall", desc := "(I)I" } : Jvm.MethodName)) ∈ lw_all := lw_g (lw_at lw_m16 185 rfl) rfl
theorem q3911 : (Jvm.Cond.methodLink "SnowPassLaw" (336 : Nat) ({ cls := "SnowPassModel", name := "setWind", desc := "(I)I" } : Jvm.MethodName)) ∈ lw_all := lw_g (lw_at lw_m16 189 rfl) rfl
theorem q3916 : (Jvm.Cond.methodLink "SnowPassLaw" (340 : Nat) ({ cls := "SnowPassModel", name := "queueCart", desc := "(IZ)I" } : Jvm.MethodName)) ∈ lw_all := lw_g (lw_at lw_m16 194 rfl) rfl
theorem q3920 : (Jvm.Cond.methodLink "SnowPassLaw" (343 : Nat) ({ cls := "SnowPassModel", name := "cancelCart", desc := "(I)I" } : Jvm.MethodName)) ∈ lw_all := lw_g (lw_at lw_m16 198 rfl) rfl
theorem q3924 : (Jvm.Cond.methodLink "SnowPassLaw" (346 : Nat) ({ cls := "SnowPassModel", name := "undo", desc := "()I" } : Jvm.MethodName)) ∈ lw_all := lw_g (lw_at lw_m16 202 rfl) rfl
theorem q3928 : (Jvm.Cond.methodLink "SnowPassLaw" (350 : Nat) ({ cls := "SnowPassModel", name := "save", desc := "()I" } : Jvm.MethodName)) ∈ lw_all := lw_g (lw_at lw_m16 206 rfl) rfl
theorem q3932 : (Jvm.Cond.methodLink "SnowPassLaw" (353 : Nat) ({ cls := "SnowPassModel", name := "restore", desc := "()I" } : Jvm.MethodName)) ∈ lw_all := lw_g (lw_at lw_m16 210 rfl) rfl
theorem q3936 : (Jvm.Cond.methodLink "SnowPassLaw" (357 : Nat) ({ cls := "SnowPassModel", name := "formatRoad", desc := "()I" } : Jvm.MethodName)) ∈ lw_all := lw_g (lw_at lw_m16 214 rfl) rfl
theorem q3952 : (Jvm.Cond.methodLink "SnowPassLaw" (361 : Nat) ({ cls := "SnowPassModel", name := "outputByte", desc := "(I)I" } : Jvm.MethodName)) ∈ lw_all := lw_g (lw_at lw_m16 230 rfl) rfl

/-! SnowPass -/
def RX1 : String := "SnowPass"
def TX1 : u_T := fun k => match k with
  | 0 => ("SnowPass", "state", "LSnowPass$State;", false)
  | 1 => ("SnowPass", "savedState", "LSnowPass$State;", false)
  | 2 => ("SnowPass", "history", "Ljava/util/ArrayDeque;", true)
  | 3 => ("SnowPass", "buffer", "[B", true)
  | 4 => ("SnowPass", "bufferLength", "I", false)
  | 5 => ("SnowPass", "errorCode", "I", false)
  | 6 => ("SnowPass", "errorPosition", "I", false)
  | _ => ("SnowPass", "output", "Ljava/lang/StringBuilder;", true)
def tyX1 : Nat → FieldType := fun k => match k with
  | 0 => .object "SnowPass$State"
  | 1 => .object "SnowPass$State"
  | 2 => .object "java/util/ArrayDeque"
  | 3 => .array .byte
  | 4 => .int
  | 5 => .int
  | 6 => .int
  | _ => .object "java/lang/StringBuilder"
abbrev wsX10 : List Cond := u_ws RX1 TX1 8
theorem nmX1 : ∀ a, a < 8 → ∀ b, b < 8 → a ≠ b → (TX1 a).2.1 ≠ (TX1 b).2.1 := by decide +kernel
theorem tyX1_ok : ∀ k, k < 8 → parseFieldDescriptor (TX1 k).2.2.1 = some (tyX1 k) := by decide +kernel
abbrev cX1_init : ByteArray := prog_1_method_5_code
def yX1_init : MethodName := ⟨RX1, "<init>", "()V"⟩
def dkwX1_init_2 : List UInt8 := [181, 0, 46, 177]
abbrev dktX1_init_2 : List UInt8 := dkwX1_init_2 ++ []
def dkwX1_init_1 : List UInt8 := [42, 17, 2, 188, 188, 8, 181, 0, 35, 42, 2, 181, 0, 39, 42, 187, 0, 43, 89, 183, 0, 45]
abbrev dktX1_init_1 : List UInt8 := dkwX1_init_1 ++ dktX1_init_2
def dkwX1_init_0 : List UInt8 := [42, 183, 0, 13, 42, 184, 0, 16, 181, 0, 22, 42, 187, 0, 26, 89, 16, 9, 183, 0, 28, 181, 0, 31]
abbrev dktX1_init_0 : List UInt8 := dkwX1_init_0 ++ dktX1_init_1
theorem dksX1_init_0 : cX1_init.data.toList.drop 0 = dktX1_init_0 := by decide +kernel
theorem dksX1_init_1 : cX1_init.data.toList.drop 24 = dktX1_init_1 := dk_seg dksX1_init_0 24 rfl rfl
theorem dksX1_init_2 : cX1_init.data.toList.drop 46 = dktX1_init_2 := dk_seg dksX1_init_1 22 rfl rfl
theorem dX1_init_0 : decode cX1_init 0 = .ok (.aload_n 0, 1) := dk_42 (dk_at dksX1_init_0 0 rfl rfl)
theorem dX1_init_1 : decode cX1_init 1 = .ok (.invokespecial 13, 3) := dk_183 0 13 (dk_at dksX1_init_0 1 rfl rfl)
theorem dX1_init_4 : decode cX1_init 4 = .ok (.aload_n 0, 1) := dk_42 (dk_at dksX1_init_0 4 rfl rfl)
theorem dX1_init_5 : decode cX1_init 5 = .ok (.invokestatic 16, 3) := dk_184 0 16 (dk_at dksX1_init_0 5 rfl rfl)
theorem dX1_init_8 : decode cX1_init 8 = .ok (.putfield 22, 3) := dk_181 0 22 (dk_at dksX1_init_0 8 rfl rfl)
theorem dX1_init_11 : decode cX1_init 11 = .ok (.aload_n 0, 1) := dk_42 (dk_at dksX1_init_0 11 rfl rfl)
theorem dX1_init_12 : decode cX1_init 12 = .ok (.new 26, 3) := dk_187 0 26 (dk_at dksX1_init_0 12 rfl rfl)
theorem dX1_init_15 : decode cX1_init 15 = .ok (.dup, 1) := dk_89 (dk_at dksX1_init_0 15 rfl rfl)
theorem dX1_init_16 : decode cX1_init 16 = .ok (.bipush 9, 2) := dk_16 9 (dk_at dksX1_init_0 16 rfl rfl)
theorem dX1_init_18 : decode cX1_init 18 = .ok (.invokespecial 28, 3) := dk_183 0 28 (dk_at dksX1_init_0 18 rfl rfl)
theorem dX1_init_21 : decode cX1_init 21 = .ok (.putfield 31, 3) := dk_181 0 31 (dk_at dksX1_init_0 21 rfl rfl)
theorem dX1_init_24 : decode cX1_init 24 = .ok (.aload_n 0, 1) := dk_42 (dk_at dksX1_init_1 0 rfl rfl)
theorem dX1_init_25 : decode cX1_init 25 = .ok (.sipush 700, 3) := dk_17 2 188 (dk_at dksX1_init_1 1 rfl rfl)
theorem dX1_init_28 : decode cX1_init 28 = .ok (.newarray .byte, 2) := dk_188_8 (dk_at dksX1_init_1 4 rfl rfl)
theorem dX1_init_30 : decode cX1_init 30 = .ok (.putfield 35, 3) := dk_181 0 35 (dk_at dksX1_init_1 6 rfl rfl)
theorem dX1_init_33 : decode cX1_init 33 = .ok (.aload_n 0, 1) := dk_42 (dk_at dksX1_init_1 9 rfl rfl)
theorem dX1_init_34 : decode cX1_init 34 = .ok (.iconst (-1), 1) := dk_2 (dk_at dksX1_init_1 10 rfl rfl)
theorem dX1_init_35 : decode cX1_init 35 = .ok (.putfield 39, 3) := dk_181 0 39 (dk_at dksX1_init_1 11 rfl rfl)
theorem dX1_init_38 : decode cX1_init 38 = .ok (.aload_n 0, 1) := dk_42 (dk_at dksX1_init_1 14 rfl rfl)
theorem dX1_init_39 : decode cX1_init 39 = .ok (.new 43, 3) := dk_187 0 43 (dk_at dksX1_init_1 15 rfl rfl)
theorem dX1_init_42 : decode cX1_init 42 = .ok (.dup, 1) := dk_89 (dk_at dksX1_init_1 18 rfl rfl)
theorem dX1_init_43 : decode cX1_init 43 = .ok (.invokespecial 45, 3) := dk_183 0 45 (dk_at dksX1_init_1 19 rfl rfl)
theorem dX1_init_46 : decode cX1_init 46 = .ok (.putfield 46, 3) := dk_181 0 46 (dk_at dksX1_init_2 0 rfl rfl)
theorem dX1_init_49 : decode cX1_init 49 = .ok (.return_, 1) := dk_177 (dk_at dksX1_init_2 3 rfl rfl)
abbrev cX1_initialState : ByteArray := prog_1_method_8_code
def yX1_initialState : MethodName := ⟨RX1, "initialState", "()LSnowPass$State;"⟩
def dkwX1_initialState_7 : List UInt8 := [176]
abbrev dktX1_initialState_7 : List UInt8 := dkwX1_initialState_7 ++ []
def dkwX1_initialState_6 : List UInt8 := [61, 43, 3, 3, 182, 0, 98, 61, 43, 4, 3, 182, 0, 98, 61, 187, 0, 102, 89, 42, 43, 183, 0, 104]
abbrev dktX1_initialState_6 : List UInt8 := dkwX1_initialState_6 ++ dktX1_initialState_7
def dkwX1_initialState_5 : List UInt8 := [3, 79, 89, 16, 13, 8, 79, 184, 0, 91, 187, 0, 95, 89, 183, 0, 97, 76, 43, 3, 4, 182, 0, 98]
abbrev dktX1_initialState_5 : List UInt8 := dkwX1_initialState_5 ++ dktX1_initialState_6
def dkwX1_initialState_4 : List UInt8 := [16, 8, 5, 79, 89, 16, 9, 16, 20, 79, 89, 16, 10, 4, 79, 89, 16, 11, 16, 45, 79, 89, 16, 12]
abbrev dktX1_initialState_4 : List UInt8 := dkwX1_initialState_4 ++ dktX1_initialState_5
def dkwX1_initialState_3 : List UInt8 := [16, 30, 79, 89, 7, 5, 79, 89, 8, 16, 25, 79, 89, 16, 6, 7, 79, 89, 16, 7, 16, 50, 79, 89]
abbrev dktX1_initialState_3 : List UInt8 := dkwX1_initialState_3 ++ dktX1_initialState_4
def dkwX1_initialState_2 : List UInt8 := [184, 0, 87, 42, 16, 14, 188, 10, 89, 3, 3, 79, 89, 4, 16, 10, 79, 89, 5, 4, 79, 89, 6]
abbrev dktX1_initialState_2 : List UInt8 := dkwX1_initialState_2 ++ dktX1_initialState_3
def dkwX1_initialState_1 : List UInt8 := [181, 0, 80, 42, 180, 0, 83, 3, 50, 16, 20, 5, 184, 0, 87, 42, 180, 0, 83, 4, 50, 16, 30, 4]
abbrev dktX1_initialState_1 : List UInt8 := dkwX1_initialState_1 ++ dktX1_initialState_2
def dkwX1_initialState_0 : List UInt8 := [187, 0, 51, 89, 16, 7, 6, 8, 16, 40, 16, 15, 183, 0, 74, 75, 42, 5, 181, 0, 77, 42, 6]
abbrev dktX1_initialState_0 : List UInt8 := dkwX1_initialState_0 ++ dktX1_initialState_1
theorem dksX1_initialState_0 : cX1_initialState.data.toList.drop 0 = dktX1_initialState_0 := by decide +kernel
theorem dksX1_initialState_1 : cX1_initialState.data.toList.drop 23 = dktX1_initialState_1 := dk_seg dksX1_initialState_0 23 rfl rfl
theorem dksX1_initialState_2 : cX1_initialState.data.toList.drop 47 = dktX1_initialState_2 := dk_seg dksX1_initialState_1 24 rfl rfl
theorem dksX1_initialState_3 : cX1_initialState.data.toList.drop 70 = dktX1_initialState_3 := dk_seg dksX1_initialState_2 23 rfl rfl
theorem dksX1_initialState_4 : cX1_initialState.data.toList.drop 94 = dktX1_initialState_4 := dk_seg dksX1_initialState_3 24 rfl rfl
theorem dksX1_initialState_5 : cX1_initialState.data.toList.drop 118 = dktX1_initialState_5 := dk_seg dksX1_initialState_4 24 rfl rfl
theorem dksX1_initialState_6 : cX1_initialState.data.toList.drop 142 = dktX1_initialState_6 := dk_seg dksX1_initialState_5 24 rfl rfl
theorem dksX1_initialState_7 : cX1_initialState.data.toList.drop 166 = dktX1_initialState_7 := dk_seg dksX1_initialState_6 24 rfl rfl
theorem dX1_initialState_0 : decode cX1_initialState 0 = .ok (.new 51, 3) := dk_187 0 51 (dk_at dksX1_initialState_0 0 rfl rfl)
theorem dX1_initialState_3 : decode cX1_initialState 3 = .ok (.dup, 1) := dk_89 (dk_at dksX1_initialState_0 3 rfl rfl)
theorem dX1_initialState_4 : decode cX1_initialState 4 = .ok (.bipush 7, 2) := dk_16 7 (dk_at dksX1_initialState_0 4 rfl rfl)
theorem dX1_initialState_6 : decode cX1_initialState 6 = .ok (.iconst 3, 1) := dk_6 (dk_at dksX1_initialState_0 6 rfl rfl)
theorem dX1_initialState_7 : decode cX1_initialState 7 = .ok (.iconst 5, 1) := dk_8 (dk_at dksX1_initialState_0 7 rfl rfl)
theorem dX1_initialState_8 : decode cX1_initialState 8 = .ok (.bipush 40, 2) := dk_16 40 (dk_at dksX1_initialState_0 8 rfl rfl)
theorem dX1_initialState_10 : decode cX1_initialState 10 = .ok (.bipush 15, 2) := dk_16 15 (dk_at dksX1_initialState_0 10 rfl rfl)
theorem dX1_initialState_12 : decode cX1_initialState 12 = .ok (.invokespecial 74, 3) := dk_183 0 74 (dk_at dksX1_initialState_0 12 rfl rfl)
theorem dX1_initialState_15 : decode cX1_initialState 15 = .ok (.astore_n 0, 1) := dk_75 (dk_at dksX1_initialState_0 15 rfl rfl)
theorem dX1_initialState_16 : decode cX1_initialState 16 = .ok (.aload_n 0, 1) := dk_42 (dk_at dksX1_initialState_0 16 rfl rfl)
theorem dX1_initialState_17 : decode cX1_initialState 17 = .ok (.iconst 2, 1) := dk_5 (dk_at dksX1_initialState_0 17 rfl rfl)
theorem dX1_initialState_18 : decode cX1_initialState 18 = .ok (.putfield 77, 3) := dk_181 0 77 (dk_at dksX1_initialState_0 18 rfl rfl)
theorem dX1_initialState_21 : decode cX1_initialState 21 = .ok (.aload_n 0, 1) := dk_42 (dk_at dksX1_initialState_0 21 rfl rfl)
theorem dX1_initialState_22 : decode cX1_initialState 22 = .ok (.iconst 3, 1) := dk_6 (dk_at dksX1_initialState_0 22 rfl rfl)
theorem dX1_initialState_23 : decode cX1_initialState 23 = .ok (.putfield 80, 3) := dk_181 0 80 (dk_at dksX1_initialState_1 0 rfl rfl)
theorem dX1_initialState_26 : decode cX1_initialState 26 = .ok (.aload_n 0, 1) := dk_42 (dk_at dksX1_initialState_1 3 rfl rfl)
theorem dX1_initialState_27 : decode cX1_initialState 27 = .ok (.getfield 83, 3) := dk_180 0 83 (dk_at dksX1_initialState_1 4 rfl rfl)
theorem dX1_initialState_30 : decode cX1_initialState 30 = .ok (.iconst 0, 1) := dk_3 (dk_at dksX1_initialState_1 7 rfl rfl)
theorem dX1_initialState_31 : decode cX1_initialState 31 = .ok (.aaload, 1) := dk_50 (dk_at dksX1_initialState_1 8 rfl rfl)
theorem dX1_initialState_32 : decode cX1_initialState 32 = .ok (.bipush 20, 2) := dk_16 20 (dk_at dksX1_initialState_1 9 rfl rfl)
theorem dX1_initialState_34 : decode cX1_initialState 34 = .ok (.iconst 2, 1) := dk_5 (dk_at dksX1_initialState_1 11 rfl rfl)
theorem dX1_initialState_35 : decode cX1_initialState 35 = .ok (.invokestatic 87, 3) := dk_184 0 87 (dk_at dksX1_initialState_1 12 rfl rfl)
theorem dX1_initialState_38 : decode cX1_initialState 38 = .ok (.aload_n 0, 1) := dk_42 (dk_at dksX1_initialState_1 15 rfl rfl)
theorem dX1_initialState_39 : decode cX1_initialState 39 = .ok (.getfield 83, 3) := dk_180 0 83 (dk_at dksX1_initialState_1 16 rfl rfl)
theorem dX1_initialState_42 : decode cX1_initialState 42 = .ok (.iconst 1, 1) := dk_4 (dk_at dksX1_initialState_1 19 rfl rfl)
theorem dX1_initialState_43 : decode cX1_initialState 43 = .ok (.aaload, 1) := dk_50 (dk_at dksX1_initialState_1 20 rfl rfl)
theorem dX1_initialState_44 : decode cX1_initialState 44 = .ok (.bipush 30, 2) := dk_16 30 (dk_at dksX1_initialState_1 21 rfl rfl)
theorem dX1_initialState_46 : decode cX1_initialState 46 = .ok (.iconst 1, 1) := dk_4 (dk_at dksX1_initialState_1 23 rfl rfl)
theorem dX1_initialState_47 : decode cX1_initialState 47 = .ok (.invokestatic 87, 3) := dk_184 0 87 (dk_at dksX1_initialState_2 0 rfl rfl)
theorem dX1_initialState_50 : decode cX1_initialState 50 = .ok (.aload_n 0, 1) := dk_42 (dk_at dksX1_initialState_2 3 rfl rfl)
theorem dX1_initialState_51 : decode cX1_initialState 51 = .ok (.bipush 14, 2) := dk_16 14 (dk_at dksX1_initialState_2 4 rfl rfl)
theorem dX1_initialState_53 : decode cX1_initialState 53 = .ok (.newarray .int, 2) := dk_188_10 (dk_at dksX1_initialState_2 6 rfl rfl)
theorem dX1_initialState_55 : decode cX1_initialState 55 = .ok (.dup, 1) := dk_89 (dk_at dksX1_initialState_2 8 rfl rfl)
theorem dX1_initialState_56 : decode cX1_initialState 56 = .ok (.iconst 0, 1) := dk_3 (dk_at dksX1_initialState_2 9 rfl rfl)
theorem dX1_initialState_57 : decode cX1_initialState 57 = .ok (.iconst 0, 1) := dk_3 (dk_at dksX1_initialState_2 10 rfl rfl)
theorem dX1_initialState_58 : decode cX1_initialState 58 = .ok (.iastore, 1) := dk_79 (dk_at dksX1_initialState_2 11 rfl rfl)
theorem dX1_initialState_59 : decode cX1_initialState 59 = .ok (.dup, 1) := dk_89 (dk_at dksX1_initialState_2 12 rfl rfl)
theorem dX1_initialState_60 : decode cX1_initialState 60 = .ok (.iconst 1, 1) := dk_4 (dk_at dksX1_initialState_2 13 rfl rfl)
theorem dX1_initialState_61 : decode cX1_initialState 61 = .ok (.bipush 10, 2) := dk_16 10 (dk_at dksX1_initialState_2 14 rfl rfl)
theorem dX1_initialState_63 : decode cX1_initialState 63 = .ok (.iastore, 1) := dk_79 (dk_at dksX1_initialState_2 16 rfl rfl)
theorem dX1_initialState_64 : decode cX1_initialState 64 = .ok (.dup, 1) := dk_89 (dk_at dksX1_initialState_2 17 rfl rfl)
theorem dX1_initialState_65 : decode cX1_initialState 65 = .ok (.iconst 2, 1) := dk_5 (dk_at dksX1_initialState_2 18 rfl rfl)
theorem dX1_initialState_66 : decode cX1_initialState 66 = .ok (.iconst 1, 1) := dk_4 (dk_at dksX1_initialState_2 19 rfl rfl)
theorem dX1_initialState_67 : decode cX1_initialState 67 = .ok (.iastore, 1) := dk_79 (dk_at dksX1_initialState_2 20 rfl rfl)
theorem dX1_initialState_68 : decode cX1_initialState 68 = .ok (.dup, 1) := dk_89 (dk_at dksX1_initialState_2 21 rfl rfl)
theorem dX1_initialState_69 : decode cX1_initialState 69 = .ok (.iconst 3, 1) := dk_6 (dk_at dksX1_initialState_2 22 rfl rfl)
theorem dX1_initialState_70 : decode cX1_initialState 70 = .ok (.bipush 30, 2) := dk_16 30 (dk_at dksX1_initialState_3 0 rfl rfl)
theorem dX1_initialState_72 : decode cX1_initialState 72 = .ok (.iastore, 1) := dk_79 (dk_at dksX1_initialState_3 2 rfl rfl)
theorem dX1_initialState_73 : decode cX1_initialState 73 = .ok (.dup, 1) := dk_89 (dk_at dksX1_initialState_3 3 rfl rfl)
theorem dX1_initialState_74 : decode cX1_initialState 74 = .ok (.iconst 4, 1) := dk_7 (dk_at dksX1_initialState_3 4 rfl rfl)
theorem dX1_initialState_75 : decode cX1_initialState 75 = .ok (.iconst 2, 1) := dk_5 (dk_at dksX1_initialState_3 5 rfl rfl)
theorem dX1_initialState_76 : decode cX1_initialState 76 = .ok (.iastore, 1) := dk_79 (dk_at dksX1_initialState_3 6 rfl rfl)
theorem dX1_initialState_77 : decode cX1_initialState 77 = .ok (.dup, 1) := dk_89 (dk_at dksX1_initialState_3 7 rfl rfl)
theorem dX1_initialState_78 : decode cX1_initialState 78 = .ok (.iconst 5, 1) := dk_8 (dk_at dksX1_initialState_3 8 rfl rfl)
theorem dX1_initialState_79 : decode cX1_initialState 79 = .ok (.bipush 25, 2) := dk_16 25 (dk_at dksX1_initialState_3 9 rfl rfl)
theorem dX1_initialState_81 : decode cX1_initialState 81 = .ok (.iastore, 1) := dk_79 (dk_at dksX1_initialState_3 11 rfl rfl)
theorem dX1_initialState_82 : decode cX1_initialState 82 = .ok (.dup, 1) := dk_89 (dk_at dksX1_initialState_3 12 rfl rfl)
theorem dX1_initialState_83 : decode cX1_initialState 83 = .ok (.bipush 6, 2) := dk_16 6 (dk_at dksX1_initialState_3 13 rfl rfl)
theorem dX1_initialState_85 : decode cX1_initialState 85 = .ok (.iconst 4, 1) := dk_7 (dk_at dksX1_initialState_3 15 rfl rfl)
theorem dX1_initialState_86 : decode cX1_initialState 86 = .ok (.iastore, 1) := dk_79 (dk_at dksX1_initialState_3 16 rfl rfl)
theorem dX1_initialState_87 : decode cX1_initialState 87 = .ok (.dup, 1) := dk_89 (dk_at dksX1_initialState_3 17 rfl rfl)
theorem dX1_initialState_88 : decode cX1_initialState 88 = .ok (.bipush 7, 2) := dk_16 7 (dk_at dksX1_initialState_3 18 rfl rfl)
theorem dX1_initialState_90 : decode cX1_initialState 90 = .ok (.bipush 50, 2) := dk_16 50 (dk_at dksX1_initialState_3 20 rfl rfl)
theorem dX1_initialState_92 : decode cX1_initialState 92 = .ok (.iastore, 1) := dk_79 (dk_at dksX1_initialState_3 22 rfl rfl)
theorem dX1_initialState_93 : decode cX1_initialState 93 = .ok (.dup, 1) := dk_89 (dk_at dksX1_initialState_3 23 rfl rfl)
theorem dX1_initialState_94 : decode cX1_initialState 94 = .ok (.bipush 8, 2) := dk_16 8 (dk_at dksX1_initialState_4 0 rfl rfl)
theorem dX1_initialState_96 : decode cX1_initialState 96 = .ok (.iconst 2, 1) := dk_5 (dk_at dksX1_initialState_4 2 rfl rfl)
theorem dX1_initialState_97 : decode cX1_initialState 97 = .ok (.iastore, 1) := dk_79 (dk_at dksX1_initialState_4 3 rfl rfl)
theorem dX1_initialState_98 : decode cX1_initialState 98 = .ok (.dup, 1) := dk_89 (dk_at dksX1_initialState_4 4 rfl rfl)
theorem dX1_initialState_99 : decode cX1_initialState 99 = .ok (.bipush 9, 2) := dk_16 9 (dk_at dksX1_initialState_4 5 rfl rfl)
theorem dX1_initialState_101 : decode cX1_initialState 101 = .ok (.bipush 20, 2) := dk_16 20 (dk_at dksX1_initialState_4 7 rfl rfl)
theorem dX1_initialState_103 : decode cX1_initialState 103 = .ok (.iastore, 1) := dk_79 (dk_at dksX1_initialState_4 9 rfl rfl)
theorem dX1_initialState_104 : decode cX1_initialState 104 = .ok (.dup, 1) := dk_89 (dk_at dksX1_initialState_4 10 rfl rfl)
theorem dX1_initialState_105 : decode cX1_initialState 105 = .ok (.bipush 10, 2) := dk_16 10 (dk_at dksX1_initialState_4 11 rfl rfl)
theorem dX1_initialState_107 : decode cX1_initialState 107 = .ok (.iconst 1, 1) := dk_4 (dk_at dksX1_initialState_4 13 rfl rfl)
theorem dX1_initialState_108 : decode cX1_initialState 108 = .ok (.iastore, 1) := dk_79 (dk_at dksX1_initialState_4 14 rfl rfl)
theorem dX1_initialState_109 : decode cX1_initialState 109 = .ok (.dup, 1) := dk_89 (dk_at dksX1_initialState_4 15 rfl rfl)
theorem dX1_initialState_110 : decode cX1_initialState 110 = .ok (.bipush 11, 2) := dk_16 11 (dk_at dksX1_initialState_4 16 rfl rfl)
theorem dX1_initialState_112 : decode cX1_initialState 112 = .ok (.bipush 45, 2) := dk_16 45 (dk_at dksX1_initialState_4 18 rfl rfl)
theorem dX1_initialState_114 : decode cX1_initialState 114 = .ok (.iastore, 1) := dk_79 (dk_at dksX1_initialState_4 20 rfl rfl)
theorem dX1_initialState_115 : decode cX1_initialState 115 = .ok (.dup, 1) := dk_89 (dk_at dksX1_initialState_4 21 rfl rfl)
theorem dX1_initialState_116 : decode cX1_initialState 116 = .ok (.bipush 12, 2) := dk_16 12 (dk_at dksX1_initialState_4 22 rfl rfl)
theorem dX1_initialState_118 : decode cX1_initialState 118 = .ok (.iconst 0, 1) := dk_3 (dk_at dksX1_initialState_5 0 rfl rfl)
theorem dX1_initialState_119 : decode cX1_initialState 119 = .ok (.iastore, 1) := dk_79 (dk_at dksX1_initialState_5 1 rfl rfl)
theorem dX1_initialState_120 : decode cX1_initialState 120 = .ok (.dup, 1) := dk_89 (dk_at dksX1_initialState_5 2 rfl rfl)
theorem dX1_initialState_121 : decode cX1_initialState 121 = .ok (.bipush 13, 2) := dk_16 13 (dk_at dksX1_initialState_5 3 rfl rfl)
theorem dX1_initialState_123 : decode cX1_initialState 123 = .ok (.iconst 5, 1) := dk_8 (dk_at dksX1_initialState_5 5 rfl rfl)
theorem dX1_initialState_124 : decode cX1_initialState 124 = .ok (.iastore, 1) := dk_79 (dk_at dksX1_initialState_5 6 rfl rfl)
theorem dX1_initialState_125 : decode cX1_initialState 125 = .ok (.invokestatic 91, 3) := dk_184 0 91 (dk_at dksX1_initialState_5 7 rfl rfl)
theorem dX1_initialState_128 : decode cX1_initialState 128 = .ok (.new 95, 3) := dk_187 0 95 (dk_at dksX1_initialState_5 10 rfl rfl)
theorem dX1_initialState_131 : decode cX1_initialState 131 = .ok (.dup, 1) := dk_89 (dk_at dksX1_initialState_5 13 rfl rfl)
theorem dX1_initialState_132 : decode cX1_initialState 132 = .ok (.invokespecial 97, 3) := dk_183 0 97 (dk_at dksX1_initialState_5 14 rfl rfl)
theorem dX1_initialState_135 : decode cX1_initialState 135 = .ok (.astore_n 1, 1) := dk_76 (dk_at dksX1_initialState_5 17 rfl rfl)
theorem dX1_initialState_136 : decode cX1_initialState 136 = .ok (.aload_n 1, 1) := dk_43 (dk_at dksX1_initialState_5 18 rfl rfl)
theorem dX1_initialState_137 : decode cX1_initialState 137 = .ok (.iconst 0, 1) := dk_3 (dk_at dksX1_initialState_5 19 rfl rfl)
theorem dX1_initialState_138 : decode cX1_initialState 138 = .ok (.iconst 1, 1) := dk_4 (dk_at dksX1_initialState_5 20 rfl rfl)
theorem dX1_initialState_139 : decode cX1_initialState 139 = .ok (.invokevirtual 98, 3) := dk_182 0 98 (dk_at dksX1_initialState_5 21 rfl rfl)
theorem dX1_initialState_142 : decode cX1_initialState 142 = .ok (.istore_n 2, 1) := dk_61 (dk_at dksX1_initialState_6 0 rfl rfl)
theorem dX1_initialState_143 : decode cX1_initialState 143 = .ok (.aload_n 1, 1) := dk_43 (dk_at dksX1_initialState_6 1 rfl rfl)
theorem dX1_initialState_144 : decode cX1_initialState 144 = .ok (.iconst 0, 1) := dk_3 (dk_at dksX1_initialState_6 2 rfl rfl)
theorem dX1_initialState_145 : decode cX1_initialState 145 = .ok (.iconst 0, 1) := dk_3 (dk_at dksX1_initialState_6 3 rfl rfl)
theorem dX1_initialState_146 : decode cX1_initialState 146 = .ok (.invokevirtual 98, 3) := dk_182 0 98 (dk_at dksX1_initialState_6 4 rfl rfl)
theorem dX1_initialState_149 : decode cX1_initialState 149 = .ok (.istore_n 2, 1) := dk_61 (dk_at dksX1_initialState_6 7 rfl rfl)
theorem dX1_initialState_150 : decode cX1_initialState 150 = .ok (.aload_n 1, 1) := dk_43 (dk_at dksX1_initialState_6 8 rfl rfl)
theorem dX1_initialState_151 : decode cX1_initialState 151 = .ok (.iconst 1, 1) := dk_4 (dk_at dksX1_initialState_6 9 rfl rfl)
theorem dX1_initialState_152 : decode cX1_initialState 152 = .ok (.iconst 0, 1) := dk_3 (dk_at dksX1_initialState_6 10 rfl rfl)
theorem dX1_initialState_153 : decode cX1_initialState 153 = .ok (.invokevirtual 98, 3) := dk_182 0 98 (dk_at dksX1_initialState_6 11 rfl rfl)
theorem dX1_initialState_156 : decode cX1_initialState 156 = .ok (.istore_n 2, 1) := dk_61 (dk_at dksX1_initialState_6 14 rfl rfl)
theorem dX1_initialState_157 : decode cX1_initialState 157 = .ok (.new 102, 3) := dk_187 0 102 (dk_at dksX1_initialState_6 15 rfl rfl)
theorem dX1_initialState_160 : decode cX1_initialState 160 = .ok (.dup, 1) := dk_89 (dk_at dksX1_initialState_6 18 rfl rfl)
theorem dX1_initialState_161 : decode cX1_initialState 161 = .ok (.aload_n 0, 1) := dk_42 (dk_at dksX1_initialState_6 19 rfl rfl)
theorem dX1_initialState_162 : decode cX1_initialState 162 = .ok (.aload_n 1, 1) := dk_43 (dk_at dksX1_initialState_6 20 rfl rfl)
theorem dX1_initialState_163 : decode cX1_initialState 163 = .ok (.invokespecial 104, 3) := dk_183 0 104 (dk_at dksX1_initialState_6 21 rfl rfl)
theorem dX1_initialState_166 : decode cX1_initialState 166 = .ok (.areturn, 1) := dk_176 (dk_at dksX1_initialState_7 0 rfl rfl)
abbrev cX1_equip : ByteArray := prog_1_method_7_code
def yX1_equip : MethodName := ⟨RX1, "equip", "(LSnowPass$Plough;II)V"⟩
def dkwX1_equip_0 : List UInt8 := [42, 27, 181, 0, 66, 42, 28, 181, 0, 71, 177]
abbrev dktX1_equip_0 : List UInt8 := dkwX1_equip_0 ++ []
theorem dksX1_equip_0 : cX1_equip.data.toList.drop 0 = dktX1_equip_0 := by decide +kernel
theorem dX1_equip_0 : decode cX1_equip 0 = .ok (.aload_n 0, 1) := dk_42 (dk_at dksX1_equip_0 0 rfl rfl)
theorem dX1_equip_1 : decode cX1_equip 1 = .ok (.iload_n 1, 1) := dk_27 (dk_at dksX1_equip_0 1 rfl rfl)
theorem dX1_equip_2 : decode cX1_equip 2 = .ok (.putfield 66, 3) := dk_181 0 66 (dk_at dksX1_equip_0 2 rfl rfl)
theorem dX1_equip_5 : decode cX1_equip 5 = .ok (.aload_n 0, 1) := dk_42 (dk_at dksX1_equip_0 5 rfl rfl)
theorem dX1_equip_6 : decode cX1_equip 6 = .ok (.iload_n 2, 1) := dk_28 (dk_at dksX1_equip_0 6 rfl rfl)
theorem dX1_equip_7 : decode cX1_equip 7 = .ok (.putfield 71, 3) := dk_181 0 71 (dk_at dksX1_equip_0 7 rfl rfl)
theorem dX1_equip_10 : decode cX1_equip 10 = .ok (.return_, 1) := dk_177 (dk_at dksX1_equip_0 10 rfl rfl)
abbrev cX1_describe : ByteArray := prog_1_method_6_code
def yX1_describe : MethodName := ⟨RX1, "describe", "(LSnowPass$Road;[I)V"⟩
def dkwX1_describe_1 : List UInt8 := [5, 108, 43, 28, 4, 96, 46, 79, 132, 2, 2, 167, 255, 223, 42, 42, 182, 0, 59, 181, 0, 63, 177]
abbrev dktX1_describe_1 : List UInt8 := dkwX1_describe_1 ++ []
def dkwX1_describe_0 : List UInt8 := [3, 61, 28, 43, 190, 162, 0, 33, 42, 180, 0, 50, 28, 5, 108, 43, 28, 46, 79, 42, 180, 0, 56, 28]
abbrev dktX1_describe_0 : List UInt8 := dkwX1_describe_0 ++ dktX1_describe_1
theorem dksX1_describe_0 : cX1_describe.data.toList.drop 0 = dktX1_describe_0 := by decide +kernel
theorem dksX1_describe_1 : cX1_describe.data.toList.drop 24 = dktX1_describe_1 := dk_seg dksX1_describe_0 24 rfl rfl
theorem dX1_describe_0 : decode cX1_describe 0 = .ok (.iconst 0, 1) := dk_3 (dk_at dksX1_describe_0 0 rfl rfl)
theorem dX1_describe_1 : decode cX1_describe 1 = .ok (.istore_n 2, 1) := dk_61 (dk_at dksX1_describe_0 1 rfl rfl)
theorem dX1_describe_2 : decode cX1_describe 2 = .ok (.iload_n 2, 1) := dk_28 (dk_at dksX1_describe_0 2 rfl rfl)
theorem dX1_describe_3 : decode cX1_describe 3 = .ok (.aload_n 1, 1) := dk_43 (dk_at dksX1_describe_0 3 rfl rfl)
theorem dX1_describe_4 : decode cX1_describe 4 = .ok (.arraylength, 1) := dk_190 (dk_at dksX1_describe_0 4 rfl rfl)
theorem dX1_describe_5 : decode cX1_describe 5 = .ok (.if_icmp .ge 33, 3) := dk_162 0 33 (dk_at dksX1_describe_0 5 rfl rfl)
theorem dX1_describe_8 : decode cX1_describe 8 = .ok (.aload_n 0, 1) := dk_42 (dk_at dksX1_describe_0 8 rfl rfl)
theorem dX1_describe_9 : decode cX1_describe 9 = .ok (.getfield 50, 3) := dk_180 0 50 (dk_at dksX1_describe_0 9 rfl rfl)
theorem dX1_describe_12 : decode cX1_describe 12 = .ok (.iload_n 2, 1) := dk_28 (dk_at dksX1_describe_0 12 rfl rfl)
theorem dX1_describe_13 : decode cX1_describe 13 = .ok (.iconst 2, 1) := dk_5 (dk_at dksX1_describe_0 13 rfl rfl)
theorem dX1_describe_14 : decode cX1_describe 14 = .ok (.idiv, 1) := dk_108 (dk_at dksX1_describe_0 14 rfl rfl)
theorem dX1_describe_15 : decode cX1_describe 15 = .ok (.aload_n 1, 1) := dk_43 (dk_at dksX1_describe_0 15 rfl rfl)
theorem dX1_describe_16 : decode cX1_describe 16 = .ok (.iload_n 2, 1) := dk_28 (dk_at dksX1_describe_0 16 rfl rfl)
theorem dX1_describe_17 : decode cX1_describe 17 = .ok (.iaload, 1) := dk_46 (dk_at dksX1_describe_0 17 rfl rfl)
theorem dX1_describe_18 : decode cX1_describe 18 = .ok (.iastore, 1) := dk_79 (dk_at dksX1_describe_0 18 rfl rfl)
theorem dX1_describe_19 : decode cX1_describe 19 = .ok (.aload_n 0, 1) := dk_42 (dk_at dksX1_describe_0 19 rfl rfl)
theorem dX1_describe_20 : decode cX1_describe 20 = .ok (.getfield 56, 3) := dk_180 0 56 (dk_at dksX1_describe_0 20 rfl rfl)
theorem dX1_describe_23 : decode cX1_describe 23 = .ok (.iload_n 2, 1) := dk_28 (dk_at dksX1_describe_0 23 rfl rfl)
theorem dX1_describe_24 : decode cX1_describe 24 = .ok (.iconst 2, 1) := dk_5 (dk_at dksX1_describe_1 0 rfl rfl)
theorem dX1_describe_25 : decode cX1_describe 25 = .ok (.idiv, 1) := dk_108 (dk_at dksX1_describe_1 1 rfl rfl)
theorem dX1_describe_26 : decode cX1_describe 26 = .ok (.aload_n 1, 1) := dk_43 (dk_at dksX1_describe_1 2 rfl rfl)
theorem dX1_describe_27 : decode cX1_describe 27 = .ok (.iload_n 2, 1) := dk_28 (dk_at dksX1_describe_1 3 rfl rfl)
theorem dX1_describe_28 : decode cX1_describe 28 = .ok (.iconst 1, 1) := dk_4 (dk_at dksX1_describe_1 4 rfl rfl)
theorem dX1_describe_29 : decode cX1_describe 29 = .ok (.iadd, 1) := dk_96 (dk_at dksX1_describe_1 5 rfl rfl)
theorem dX1_describe_30 : decode cX1_describe 30 = .ok (.iaload, 1) := dk_46 (dk_at dksX1_describe_1 6 rfl rfl)
theorem dX1_describe_31 : decode cX1_describe 31 = .ok (.iastore, 1) := dk_79 (dk_at dksX1_describe_1 7 rfl rfl)
theorem dX1_describe_32 : decode cX1_describe 32 = .ok (.iinc 2 2, 3) := dk_132 2 2 (dk_at dksX1_describe_1 8 rfl rfl)
theorem dX1_describe_35 : decode cX1_describe 35 = .ok (.goto (-33), 3) := dk_167 255 223 (dk_at dksX1_describe_1 11 rfl rfl)
theorem dX1_describe_38 : decode cX1_describe 38 = .ok (.aload_n 0, 1) := dk_42 (dk_at dksX1_describe_1 14 rfl rfl)
theorem dX1_describe_39 : decode cX1_describe 39 = .ok (.aload_n 0, 1) := dk_42 (dk_at dksX1_describe_1 15 rfl rfl)
theorem dX1_describe_40 : decode cX1_describe 40 = .ok (.invokevirtual 59, 3) := dk_182 0 59 (dk_at dksX1_describe_1 16 rfl rfl)
theorem dX1_describe_43 : decode cX1_describe 43 = .ok (.putfield 63, 3) := dk_181 0 63 (dk_at dksX1_describe_1 19 rfl rfl)
theorem dX1_describe_46 : decode cX1_describe 46 = .ok (.return_, 1) := dk_177 (dk_at dksX1_describe_1 22 rfl rfl)
abbrev cX1_errorCode : ByteArray := prog_1_method_20_code
def yX1_errorCode : MethodName := ⟨RX1, "errorCode", "()I"⟩
theorem dX1_errorCode_0 : decode cX1_errorCode 0 = .ok (.aload_n 0, 1) := by decide +kernel
theorem dX1_errorCode_1 : decode cX1_errorCode 1 = .ok (.getfield 176, 3) := by decide +kernel
theorem dX1_errorCode_4 : decode cX1_errorCode 4 = .ok (.ireturn, 1) := by decide +kernel
abbrev cX1_errorPosition : ByteArray := prog_1_method_21_code
def yX1_errorPosition : MethodName := ⟨RX1, "errorPosition", "()I"⟩
theorem dX1_errorPosition_0 : decode cX1_errorPosition 0 = .ok (.aload_n 0, 1) := by decide +kernel
theorem dX1_errorPosition_1 : decode cX1_errorPosition 1 = .ok (.getfield 39, 3) := by decide +kernel
theorem dX1_errorPosition_4 : decode cX1_errorPosition 4 = .ok (.ireturn, 1) := by decide +kernel
abbrev cX1_segmentCount : ByteArray := prog_1_method_23_code
def yX1_segmentCount : MethodName := ⟨RX1, "segmentCount", "()I"⟩
def dkwX1_segmentCount_0 : List UInt8 := [42, 180, 0, 22, 180, 0, 200, 182, 0, 204, 172]
abbrev dktX1_segmentCount_0 : List UInt8 := dkwX1_segmentCount_0 ++ []
theorem dksX1_segmentCount_0 : cX1_segmentCount.data.toList.drop 0 = dktX1_segmentCount_0 := by decide +kernel
theorem dX1_segmentCount_0 : decode cX1_segmentCount 0 = .ok (.aload_n 0, 1) := dk_42 (dk_at dksX1_segmentCount_0 0 rfl rfl)
theorem dX1_segmentCount_1 : decode cX1_segmentCount 1 = .ok (.getfield 22, 3) := dk_180 0 22 (dk_at dksX1_segmentCount_0 1 rfl rfl)
theorem dX1_segmentCount_4 : decode cX1_segmentCount 4 = .ok (.getfield 200, 3) := dk_180 0 200 (dk_at dksX1_segmentCount_0 4 rfl rfl)
theorem dX1_segmentCount_7 : decode cX1_segmentCount 7 = .ok (.invokevirtual 204, 3) := dk_182 0 204 (dk_at dksX1_segmentCount_0 7 rfl rfl)
theorem dX1_segmentCount_10 : decode cX1_segmentCount 10 = .ok (.ireturn, 1) := dk_172 (dk_at dksX1_segmentCount_0 10 rfl rfl)
abbrev cX1_summit : ByteArray := prog_1_method_24_code
def yX1_summit : MethodName := ⟨RX1, "summit", "()I"⟩
def dkwX1_summit_0 : List UInt8 := [42, 180, 0, 22, 180, 0, 200, 180, 0, 220, 172]
abbrev dktX1_summit_0 : List UInt8 := dkwX1_summit_0 ++ []
theorem dksX1_summit_0 : cX1_summit.data.toList.drop 0 = dktX1_summit_0 := by decide +kernel
theorem dX1_summit_0 : decode cX1_summit 0 = .ok (.aload_n 0, 1) := dk_42 (dk_at dksX1_summit_0 0 rfl rfl)
theorem dX1_summit_1 : decode cX1_summit 1 = .ok (.getfield 22, 3) := dk_180 0 22 (dk_at dksX1_summit_0 1 rfl rfl)
theorem dX1_summit_4 : decode cX1_summit 4 = .ok (.getfield 200, 3) := dk_180 0 200 (dk_at dksX1_summit_0 4 rfl rfl)
theorem dX1_summit_7 : decode cX1_summit 7 = .ok (.getfield 220, 3) := dk_180 0 220 (dk_at dksX1_summit_0 7 rfl rfl)
theorem dX1_summit_10 : decode cX1_summit 10 = .ok (.ireturn, 1) := dk_172 (dk_at dksX1_summit_0 10 rfl rfl)
abbrev cX1_clock : ByteArray := prog_1_method_25_code
def yX1_clock : MethodName := ⟨RX1, "clock", "()I"⟩
def dkwX1_clock_0 : List UInt8 := [42, 180, 0, 22, 180, 0, 200, 180, 0, 223, 172]
abbrev dktX1_clock_0 : List UInt8 := dkwX1_clock_0 ++ []
theorem dksX1_clock_0 : cX1_clock.data.toList.drop 0 = dktX1_clock_0 := by decide +kernel
theorem dX1_clock_0 : decode cX1_clock 0 = .ok (.aload_n 0, 1) := dk_42 (dk_at dksX1_clock_0 0 rfl rfl)
theorem dX1_clock_1 : decode cX1_clock 1 = .ok (.getfield 22, 3) := dk_180 0 22 (dk_at dksX1_clock_0 1 rfl rfl)
theorem dX1_clock_4 : decode cX1_clock 4 = .ok (.getfield 200, 3) := dk_180 0 200 (dk_at dksX1_clock_0 4 rfl rfl)
theorem dX1_clock_7 : decode cX1_clock 7 = .ok (.getfield 223, 3) := dk_180 0 223 (dk_at dksX1_clock_0 7 rfl rfl)
theorem dX1_clock_10 : decode cX1_clock 10 = .ok (.ireturn, 1) := dk_172 (dk_at dksX1_clock_0 10 rfl rfl)
abbrev cX1_isNight : ByteArray := prog_1_method_26_code
def yX1_isNight : MethodName := ⟨RX1, "isNight", "()Z"⟩
def dkwX1_isNight_0 : List UInt8 := [42, 180, 0, 22, 180, 0, 200, 182, 0, 226, 172]
abbrev dktX1_isNight_0 : List UInt8 := dkwX1_isNight_0 ++ []
theorem dksX1_isNight_0 : cX1_isNight.data.toList.drop 0 = dktX1_isNight_0 := by decide +kernel
theorem dX1_isNight_0 : decode cX1_isNight 0 = .ok (.aload_n 0, 1) := dk_42 (dk_at dksX1_isNight_0 0 rfl rfl)
theorem dX1_isNight_1 : decode cX1_isNight 1 = .ok (.getfield 22, 3) := dk_180 0 22 (dk_at dksX1_isNight_0 1 rfl rfl)
theorem dX1_isNight_4 : decode cX1_isNight 4 = .ok (.getfield 200, 3) := dk_180 0 200 (dk_at dksX1_isNight_0 4 rfl rfl)
theorem dX1_isNight_7 : decode cX1_isNight 7 = .ok (.invokevirtual 226, 3) := dk_182 0 226 (dk_at dksX1_isNight_0 7 rfl rfl)
theorem dX1_isNight_10 : decode cX1_isNight 10 = .ok (.ireturn, 1) := dk_172 (dk_at dksX1_isNight_0 10 rfl rfl)
abbrev cX1_snowfall : ByteArray := prog_1_method_31_code
def yX1_snowfall : MethodName := ⟨RX1, "snowfall", "()I"⟩
def dkwX1_snowfall_0 : List UInt8 := [42, 180, 0, 22, 180, 0, 200, 180, 0, 77, 172]
abbrev dktX1_snowfall_0 : List UInt8 := dkwX1_snowfall_0 ++ []
theorem dksX1_snowfall_0 : cX1_snowfall.data.toList.drop 0 = dktX1_snowfall_0 := by decide +kernel
theorem dX1_snowfall_0 : decode cX1_snowfall 0 = .ok (.aload_n 0, 1) := dk_42 (dk_at dksX1_snowfall_0 0 rfl rfl)
theorem dX1_snowfall_1 : decode cX1_snowfall 1 = .ok (.getfield 22, 3) := dk_180 0 22 (dk_at dksX1_snowfall_0 1 rfl rfl)
theorem dX1_snowfall_4 : decode cX1_snowfall 4 = .ok (.getfield 200, 3) := dk_180 0 200 (dk_at dksX1_snowfall_0 4 rfl rfl)
theorem dX1_snowfall_7 : decode cX1_snowfall 7 = .ok (.getfield 77, 3) := dk_180 0 77 (dk_at dksX1_snowfall_0 7 rfl rfl)
theorem dX1_snowfall_10 : decode cX1_snowfall 10 = .ok (.ireturn, 1) := dk_172 (dk_at dksX1_snowfall_0 10 rfl rfl)
abbrev cX1_wind : ByteArray := prog_1_method_32_code
def yX1_wind : MethodName := ⟨RX1, "wind", "()I"⟩
def dkwX1_wind_0 : List UInt8 := [42, 180, 0, 22, 180, 0, 200, 180, 0, 80, 172]
abbrev dktX1_wind_0 : List UInt8 := dkwX1_wind_0 ++ []
theorem dksX1_wind_0 : cX1_wind.data.toList.drop 0 = dktX1_wind_0 := by decide +kernel
theorem dX1_wind_0 : decode cX1_wind 0 = .ok (.aload_n 0, 1) := dk_42 (dk_at dksX1_wind_0 0 rfl rfl)
theorem dX1_wind_1 : decode cX1_wind 1 = .ok (.getfield 22, 3) := dk_180 0 22 (dk_at dksX1_wind_0 1 rfl rfl)
theorem dX1_wind_4 : decode cX1_wind 4 = .ok (.getfield 200, 3) := dk_180 0 200 (dk_at dksX1_wind_0 4 rfl rfl)
theorem dX1_wind_7 : decode cX1_wind 7 = .ok (.getfield 80, 3) := dk_180 0 80 (dk_at dksX1_wind_0 7 rfl rfl)
theorem dX1_wind_10 : decode cX1_wind 10 = .ok (.ireturn, 1) := dk_172 (dk_at dksX1_wind_0 10 rfl rfl)
abbrev cX1_clearCount : ByteArray := prog_1_method_33_code
def yX1_clearCount : MethodName := ⟨RX1, "clearCount", "()I"⟩
def dkwX1_clearCount_3 : List UInt8 := [96, 60, 167, 255, 212, 27, 172]
abbrev dktX1_clearCount_3 : List UInt8 := dkwX1_clearCount_3 ++ []
def dkwX1_clearCount_2 : List UInt8 := [182, 1, 2, 62, 27, 42, 180, 0, 22, 180, 0, 200, 29, 182, 0, 235, 153, 0, 7, 4, 167, 0, 4, 3]
abbrev dktX1_clearCount_2 : List UInt8 := dkwX1_clearCount_2 ++ dktX1_clearCount_3
def dkwX1_clearCount_1 : List UInt8 := [182, 0, 244, 77, 44, 185, 0, 248, 1, 0, 153, 0, 41, 44, 185, 0, 253, 1, 0, 192, 1, 0]
abbrev dktX1_clearCount_1 : List UInt8 := dkwX1_clearCount_1 ++ dktX1_clearCount_2
def dkwX1_clearCount_0 : List UInt8 := [3, 60, 187, 0, 239, 89, 3, 42, 180, 0, 22, 180, 0, 200, 182, 0, 204, 4, 100, 183, 0, 241]
abbrev dktX1_clearCount_0 : List UInt8 := dkwX1_clearCount_0 ++ dktX1_clearCount_1
theorem dksX1_clearCount_0 : cX1_clearCount.data.toList.drop 0 = dktX1_clearCount_0 := by decide +kernel
theorem dksX1_clearCount_1 : cX1_clearCount.data.toList.drop 22 = dktX1_clearCount_1 := dk_seg dksX1_clearCount_0 22 rfl rfl
theorem dksX1_clearCount_2 : cX1_clearCount.data.toList.drop 44 = dktX1_clearCount_2 := dk_seg dksX1_clearCount_1 22 rfl rfl
theorem dksX1_clearCount_3 : cX1_clearCount.data.toList.drop 68 = dktX1_clearCount_3 := dk_seg dksX1_clearCount_2 24 rfl rfl
theorem dX1_clearCount_0 : decode cX1_clearCount 0 = .ok (.iconst 0, 1) := dk_3 (dk_at dksX1_clearCount_0 0 rfl rfl)
theorem dX1_clearCount_1 : decode cX1_clearCount 1 = .ok (.istore_n 1, 1) := dk_60 (dk_at dksX1_clearCount_0 1 rfl rfl)
theorem dX1_clearCount_2 : decode cX1_clearCount 2 = .ok (.new 239, 3) := dk_187 0 239 (dk_at dksX1_clearCount_0 2 rfl rfl)
theorem dX1_clearCount_5 : decode cX1_clearCount 5 = .ok (.dup, 1) := dk_89 (dk_at dksX1_clearCount_0 5 rfl rfl)
theorem dX1_clearCount_6 : decode cX1_clearCount 6 = .ok (.iconst 0, 1) := dk_3 (dk_at dksX1_clearCount_0 6 rfl rfl)
theorem dX1_clearCount_7 : decode cX1_clearCount 7 = .ok (.aload_n 0, 1) := dk_42 (dk_at dksX1_clearCount_0 7 rfl rfl)
theorem dX1_clearCount_8 : decode cX1_clearCount 8 = .ok (.getfield 22, 3) := dk_180 0 22 (dk_at dksX1_clearCount_0 8 rfl rfl)
theorem dX1_clearCount_11 : decode cX1_clearCount 11 = .ok (.getfield 200, 3) := dk_180 0 200 (dk_at dksX1_clearCount_0 11 rfl rfl)
theorem dX1_clearCount_14 : decode cX1_clearCount 14 = .ok (.invokevirtual 204, 3) := dk_182 0 204 (dk_at dksX1_clearCount_0 14 rfl rfl)
theorem dX1_clearCount_17 : decode cX1_clearCount 17 = .ok (.iconst 1, 1) := dk_4 (dk_at dksX1_clearCount_0 17 rfl rfl)
theorem dX1_clearCount_18 : decode cX1_clearCount 18 = .ok (.isub, 1) := dk_100 (dk_at dksX1_clearCount_0 18 rfl rfl)
theorem dX1_clearCount_19 : decode cX1_clearCount 19 = .ok (.invokespecial 241, 3) := dk_183 0 241 (dk_at dksX1_clearCount_0 19 rfl rfl)
theorem dX1_clearCount_22 : decode cX1_clearCount 22 = .ok (.invokevirtual 244, 3) := dk_182 0 244 (dk_at dksX1_clearCount_1 0 rfl rfl)
theorem dX1_clearCount_25 : decode cX1_clearCount 25 = .ok (.astore_n 2, 1) := dk_77 (dk_at dksX1_clearCount_1 3 rfl rfl)
theorem dX1_clearCount_26 : decode cX1_clearCount 26 = .ok (.aload_n 2, 1) := dk_44 (dk_at dksX1_clearCount_1 4 rfl rfl)
theorem dX1_clearCount_27 : decode cX1_clearCount 27 = .ok (.invokeinterface 248 1, 5) := by decide +kernel
theorem dX1_clearCount_32 : decode cX1_clearCount 32 = .ok (.ifCond .eq 41, 3) := dk_153 0 41 (dk_at dksX1_clearCount_1 10 rfl rfl)
theorem dX1_clearCount_35 : decode cX1_clearCount 35 = .ok (.aload_n 2, 1) := dk_44 (dk_at dksX1_clearCount_1 13 rfl rfl)
theorem dX1_clearCount_36 : decode cX1_clearCount 36 = .ok (.invokeinterface 253 1, 5) := by decide +kernel
theorem dX1_clearCount_41 : decode cX1_clearCount 41 = .ok (.checkcast 256, 3) := dk_192 1 0 (dk_at dksX1_clearCount_1 19 rfl rfl)
theorem dX1_clearCount_44 : decode cX1_clearCount 44 = .ok (.invokevirtual 258, 3) := dk_182 1 2 (dk_at dksX1_clearCount_2 0 rfl rfl)
theorem dX1_clearCount_47 : decode cX1_clearCount 47 = .ok (.istore_n 3, 1) := dk_62 (dk_at dksX1_clearCount_2 3 rfl rfl)
theorem dX1_clearCount_48 : decode cX1_clearCount 48 = .ok (.iload_n 1, 1) := dk_27 (dk_at dksX1_clearCount_2 4 rfl rfl)
theorem dX1_clearCount_49 : decode cX1_clearCount 49 = .ok (.aload_n 0, 1) := dk_42 (dk_at dksX1_clearCount_2 5 rfl rfl)
theorem dX1_clearCount_50 : decode cX1_clearCount 50 = .ok (.getfield 22, 3) := dk_180 0 22 (dk_at dksX1_clearCount_2 6 rfl rfl)
theorem dX1_clearCount_53 : decode cX1_clearCount 53 = .ok (.getfield 200, 3) := dk_180 0 200 (dk_at dksX1_clearCount_2 9 rfl rfl)
theorem dX1_clearCount_56 : decode cX1_clearCount 56 = .ok (.iload_n 3, 1) := dk_29 (dk_at dksX1_clearCount_2 12 rfl rfl)
theorem dX1_clearCount_57 : decode cX1_clearCount 57 = .ok (.invokevirtual 235, 3) := dk_182 0 235 (dk_at dksX1_clearCount_2 13 rfl rfl)
theorem dX1_clearCount_60 : decode cX1_clearCount 60 = .ok (.ifCond .eq 7, 3) := dk_153 0 7 (dk_at dksX1_clearCount_2 16 rfl rfl)
theorem dX1_clearCount_63 : decode cX1_clearCount 63 = .ok (.iconst 1, 1) := dk_4 (dk_at dksX1_clearCount_2 19 rfl rfl)
theorem dX1_clearCount_64 : decode cX1_clearCount 64 = .ok (.goto 4, 3) := dk_167 0 4 (dk_at dksX1_clearCount_2 20 rfl rfl)
theorem dX1_clearCount_67 : decode cX1_clearCount 67 = .ok (.iconst 0, 1) := dk_3 (dk_at dksX1_clearCount_2 23 rfl rfl)
theorem dX1_clearCount_68 : decode cX1_clearCount 68 = .ok (.iadd, 1) := dk_96 (dk_at dksX1_clearCount_3 0 rfl rfl)
theorem dX1_clearCount_69 : decode cX1_clearCount 69 = .ok (.istore_n 1, 1) := dk_60 (dk_at dksX1_clearCount_3 1 rfl rfl)
theorem dX1_clearCount_70 : decode cX1_clearCount 70 = .ok (.goto (-44), 3) := dk_167 255 212 (dk_at dksX1_clearCount_3 2 rfl rfl)
theorem dX1_clearCount_73 : decode cX1_clearCount 73 = .ok (.iload_n 1, 1) := dk_27 (dk_at dksX1_clearCount_3 5 rfl rfl)
theorem dX1_clearCount_74 : decode cX1_clearCount 74 = .ok (.ireturn, 1) := dk_172 (dk_at dksX1_clearCount_3 6 rfl rfl)
abbrev cX1_deepestSegment : ByteArray := prog_1_method_34_code
def yX1_deepestSegment : MethodName := ⟨RX1, "deepestSegment", "()I"⟩
def dkwX1_deepestSegment_0 : List UInt8 := [42, 180, 0, 22, 180, 0, 200, 182, 1, 5, 172]
abbrev dktX1_deepestSegment_0 : List UInt8 := dkwX1_deepestSegment_0 ++ []
theorem dksX1_deepestSegment_0 : cX1_deepestSegment.data.toList.drop 0 = dktX1_deepestSegment_0 := by decide +kernel
theorem dX1_deepestSegment_0 : decode cX1_deepestSegment 0 = .ok (.aload_n 0, 1) := dk_42 (dk_at dksX1_deepestSegment_0 0 rfl rfl)
theorem dX1_deepestSegment_1 : decode cX1_deepestSegment 1 = .ok (.getfield 22, 3) := dk_180 0 22 (dk_at dksX1_deepestSegment_0 1 rfl rfl)
theorem dX1_deepestSegment_4 : decode cX1_deepestSegment 4 = .ok (.getfield 200, 3) := dk_180 0 200 (dk_at dksX1_deepestSegment_0 4 rfl rfl)
theorem dX1_deepestSegment_7 : decode cX1_deepestSegment 7 = .ok (.invokevirtual 261, 3) := dk_182 1 5 (dk_at dksX1_deepestSegment_0 7 rfl rfl)
theorem dX1_deepestSegment_10 : decode cX1_deepestSegment 10 = .ok (.ireturn, 1) := dk_172 (dk_at dksX1_deepestSegment_0 10 rfl rfl)
abbrev cX1_totalDepth : ByteArray := prog_1_method_35_code
def yX1_totalDepth : MethodName := ⟨RX1, "totalDepth", "()I"⟩
def dkwX1_totalDepth_0 : List UInt8 := [42, 180, 0, 22, 180, 0, 200, 182, 0, 59, 172]
abbrev dktX1_totalDepth_0 : List UInt8 := dkwX1_totalDepth_0 ++ []
theorem dksX1_totalDepth_0 : cX1_totalDepth.data.toList.drop 0 = dktX1_totalDepth_0 := by decide +kernel
theorem dX1_totalDepth_0 : decode cX1_totalDepth 0 = .ok (.aload_n 0, 1) := dk_42 (dk_at dksX1_totalDepth_0 0 rfl rfl)
theorem dX1_totalDepth_1 : decode cX1_totalDepth 1 = .ok (.getfield 22, 3) := dk_180 0 22 (dk_at dksX1_totalDepth_0 1 rfl rfl)
theorem dX1_totalDepth_4 : decode cX1_totalDepth 4 = .ok (.getfield 200, 3) := dk_180 0 200 (dk_at dksX1_totalDepth_0 4 rfl rfl)
theorem dX1_totalDepth_7 : decode cX1_totalDepth 7 = .ok (.invokevirtual 59, 3) := dk_182 0 59 (dk_at dksX1_totalDepth_0 7 rfl rfl)
theorem dX1_totalDepth_10 : decode cX1_totalDepth 10 = .ok (.ireturn, 1) := dk_172 (dk_at dksX1_totalDepth_0 10 rfl rfl)
abbrev cX1_isOpen : ByteArray := prog_1_method_42_code
def yX1_isOpen : MethodName := ⟨RX1, "isOpen", "()Z"⟩
def dkwX1_isOpen_0 : List UInt8 := [42, 180, 0, 22, 180, 0, 200, 182, 1, 20, 172]
abbrev dktX1_isOpen_0 : List UInt8 := dkwX1_isOpen_0 ++ []
theorem dksX1_isOpen_0 : cX1_isOpen.data.toList.drop 0 = dktX1_isOpen_0 := by decide +kernel
theorem dX1_isOpen_0 : decode cX1_isOpen 0 = .ok (.aload_n 0, 1) := dk_42 (dk_at dksX1_isOpen_0 0 rfl rfl)
theorem dX1_isOpen_1 : decode cX1_isOpen 1 = .ok (.getfield 22, 3) := dk_180 0 22 (dk_at dksX1_isOpen_0 1 rfl rfl)
theorem dX1_isOpen_4 : decode cX1_isOpen 4 = .ok (.getfield 200, 3) := dk_180 0 200 (dk_at dksX1_isOpen_0 4 rfl rfl)
theorem dX1_isOpen_7 : decode cX1_isOpen 7 = .ok (.invokevirtual 276, 3) := dk_182 1 20 (dk_at dksX1_isOpen_0 7 rfl rfl)
theorem dX1_isOpen_10 : decode cX1_isOpen 10 = .ok (.ireturn, 1) := dk_172 (dk_at dksX1_isOpen_0 10 rfl rfl)
abbrev cX1_bookSize : ByteArray := prog_1_method_44_code
def yX1_bookSize : MethodName := ⟨RX1, "bookSize", "()I"⟩
def dkwX1_bookSize_0 : List UInt8 := [42, 180, 0, 22, 180, 0, 200, 180, 1, 30, 180, 1, 34, 172]
abbrev dktX1_bookSize_0 : List UInt8 := dkwX1_bookSize_0 ++ []
theorem dksX1_bookSize_0 : cX1_bookSize.data.toList.drop 0 = dktX1_bookSize_0 := by decide +kernel
theorem dX1_bookSize_0 : decode cX1_bookSize 0 = .ok (.aload_n 0, 1) := dk_42 (dk_at dksX1_bookSize_0 0 rfl rfl)
theorem dX1_bookSize_1 : decode cX1_bookSize 1 = .ok (.getfield 22, 3) := dk_180 0 22 (dk_at dksX1_bookSize_0 1 rfl rfl)
theorem dX1_bookSize_4 : decode cX1_bookSize 4 = .ok (.getfield 200, 3) := dk_180 0 200 (dk_at dksX1_bookSize_0 4 rfl rfl)
theorem dX1_bookSize_7 : decode cX1_bookSize 7 = .ok (.getfield 286, 3) := dk_180 1 30 (dk_at dksX1_bookSize_0 7 rfl rfl)
theorem dX1_bookSize_10 : decode cX1_bookSize 10 = .ok (.getfield 290, 3) := dk_180 1 34 (dk_at dksX1_bookSize_0 10 rfl rfl)
theorem dX1_bookSize_13 : decode cX1_bookSize 13 = .ok (.ireturn, 1) := dk_172 (dk_at dksX1_bookSize_0 13 rfl rfl)
abbrev cX1_entryKind : ByteArray := prog_1_method_45_code
def yX1_entryKind : MethodName := ⟨RX1, "entryKind", "(I)I"⟩
def dkwX1_entryKind_1 : List UInt8 := [46, 167, 0, 4, 2, 172]
abbrev dktX1_entryKind_1 : List UInt8 := dkwX1_entryKind_1 ++ []
def dkwX1_entryKind_0 : List UInt8 := [42, 180, 0, 22, 180, 0, 200, 180, 1, 30, 77, 44, 27, 182, 1, 38, 153, 0, 12, 44, 180, 1, 41, 27]
abbrev dktX1_entryKind_0 : List UInt8 := dkwX1_entryKind_0 ++ dktX1_entryKind_1
theorem dksX1_entryKind_0 : cX1_entryKind.data.toList.drop 0 = dktX1_entryKind_0 := by decide +kernel
theorem dksX1_entryKind_1 : cX1_entryKind.data.toList.drop 24 = dktX1_entryKind_1 := dk_seg dksX1_entryKind_0 24 rfl rfl
theorem dX1_entryKind_0 : decode cX1_entryKind 0 = .ok (.aload_n 0, 1) := dk_42 (dk_at dksX1_entryKind_0 0 rfl rfl)
theorem dX1_entryKind_1 : decode cX1_entryKind 1 = .ok (.getfield 22, 3) := dk_180 0 22 (dk_at dksX1_entryKind_0 1 rfl rfl)
theorem dX1_entryKind_4 : decode cX1_entryKind 4 = .ok (.getfield 200, 3) := dk_180 0 200 (dk_at dksX1_entryKind_0 4 rfl rfl)
theorem dX1_entryKind_7 : decode cX1_entryKind 7 = .ok (.getfield 286, 3) := dk_180 1 30 (dk_at dksX1_entryKind_0 7 rfl rfl)
theorem dX1_entryKind_10 : decode cX1_entryKind 10 = .ok (.astore_n 2, 1) := dk_77 (dk_at dksX1_entryKind_0 10 rfl rfl)
theorem dX1_entryKind_11 : decode cX1_entryKind 11 = .ok (.aload_n 2, 1) := dk_44 (dk_at dksX1_entryKind_0 11 rfl rfl)
theorem dX1_entryKind_12 : decode cX1_entryKind 12 = .ok (.iload_n 1, 1) := dk_27 (dk_at dksX1_entryKind_0 12 rfl rfl)
theorem dX1_entryKind_13 : decode cX1_entryKind 13 = .ok (.invokevirtual 294, 3) := dk_182 1 38 (dk_at dksX1_entryKind_0 13 rfl rfl)
theorem dX1_entryKind_16 : decode cX1_entryKind 16 = .ok (.ifCond .eq 12, 3) := dk_153 0 12 (dk_at dksX1_entryKind_0 16 rfl rfl)
theorem dX1_entryKind_19 : decode cX1_entryKind 19 = .ok (.aload_n 2, 1) := dk_44 (dk_at dksX1_entryKind_0 19 rfl rfl)
theorem dX1_entryKind_20 : decode cX1_entryKind 20 = .ok (.getfield 297, 3) := dk_180 1 41 (dk_at dksX1_entryKind_0 20 rfl rfl)
theorem dX1_entryKind_23 : decode cX1_entryKind 23 = .ok (.iload_n 1, 1) := dk_27 (dk_at dksX1_entryKind_0 23 rfl rfl)
theorem dX1_entryKind_24 : decode cX1_entryKind 24 = .ok (.iaload, 1) := dk_46 (dk_at dksX1_entryKind_1 0 rfl rfl)
theorem dX1_entryKind_25 : decode cX1_entryKind 25 = .ok (.goto 4, 3) := dk_167 0 4 (dk_at dksX1_entryKind_1 1 rfl rfl)
theorem dX1_entryKind_28 : decode cX1_entryKind 28 = .ok (.iconst (-1), 1) := dk_2 (dk_at dksX1_entryKind_1 4 rfl rfl)
theorem dX1_entryKind_29 : decode cX1_entryKind 29 = .ok (.ireturn, 1) := dk_172 (dk_at dksX1_entryKind_1 5 rfl rfl)
abbrev cX1_inRange : ByteArray := prog_1_method_1_code
def yX1_inRange : MethodName := ⟨RX1, "inRange", "(JJJ)Z"⟩
def dkwX1_inRange_0 : List UInt8 := [30, 32, 148, 155, 0, 14, 30, 22, 4, 148, 157, 0, 7, 4, 167, 0, 4, 3, 172]
abbrev dktX1_inRange_0 : List UInt8 := dkwX1_inRange_0 ++ []
theorem dksX1_inRange_0 : cX1_inRange.data.toList.drop 0 = dktX1_inRange_0 := by decide +kernel
theorem dX1_inRange_0 : decode cX1_inRange 0 = .ok (.lload_n 0, 1) := dk_30 (dk_at dksX1_inRange_0 0 rfl rfl)
theorem dX1_inRange_1 : decode cX1_inRange 1 = .ok (.lload_n 2, 1) := dk_32 (dk_at dksX1_inRange_0 1 rfl rfl)
theorem dX1_inRange_2 : decode cX1_inRange 2 = .ok (.lcmp, 1) := dk_148 (dk_at dksX1_inRange_0 2 rfl rfl)
theorem dX1_inRange_3 : decode cX1_inRange 3 = .ok (.ifCond .lt 14, 3) := dk_155 0 14 (dk_at dksX1_inRange_0 3 rfl rfl)
theorem dX1_inRange_6 : decode cX1_inRange 6 = .ok (.lload_n 0, 1) := dk_30 (dk_at dksX1_inRange_0 6 rfl rfl)
theorem dX1_inRange_7 : decode cX1_inRange 7 = .ok (.lload 4, 2) := dk_22 4 (dk_at dksX1_inRange_0 7 rfl rfl)
theorem dX1_inRange_9 : decode cX1_inRange 9 = .ok (.lcmp, 1) := dk_148 (dk_at dksX1_inRange_0 9 rfl rfl)
theorem dX1_inRange_10 : decode cX1_inRange 10 = .ok (.ifCond .gt 7, 3) := dk_157 0 7 (dk_at dksX1_inRange_0 10 rfl rfl)
theorem dX1_inRange_13 : decode cX1_inRange 13 = .ok (.iconst 1, 1) := dk_4 (dk_at dksX1_inRange_0 13 rfl rfl)
theorem dX1_inRange_14 : decode cX1_inRange 14 = .ok (.goto 4, 3) := dk_167 0 4 (dk_at dksX1_inRange_0 14 rfl rfl)
theorem dX1_inRange_17 : decode cX1_inRange 17 = .ok (.iconst 0, 1) := dk_3 (dk_at dksX1_inRange_0 17 rfl rfl)
theorem dX1_inRange_18 : decode cX1_inRange 18 = .ok (.ireturn, 1) := dk_172 (dk_at dksX1_inRange_0 18 rfl rfl)
abbrev cX1_entryClock : ByteArray := prog_1_method_46_code
def yX1_entryClock : MethodName := ⟨RX1, "entryClock", "(I)I"⟩
def dkwX1_entryClock_1 : List UInt8 := [46, 167, 0, 4, 2, 172]
abbrev dktX1_entryClock_1 : List UInt8 := dkwX1_entryClock_1 ++ []
def dkwX1_entryClock_0 : List UInt8 := [42, 180, 0, 22, 180, 0, 200, 180, 1, 30, 77, 44, 27, 182, 1, 38, 153, 0, 12, 44, 180, 1, 44, 27]
abbrev dktX1_entryClock_0 : List UInt8 := dkwX1_entryClock_0 ++ dktX1_entryClock_1
theorem dksX1_entryClock_0 : cX1_entryClock.data.toList.drop 0 = dktX1_entryClock_0 := by decide +kernel
theorem dksX1_entryClock_1 : cX1_entryClock.data.toList.drop 24 = dktX1_entryClock_1 := dk_seg dksX1_entryClock_0 24 rfl rfl
theorem dX1_entryClock_0 : decode cX1_entryClock 0 = .ok (.aload_n 0, 1) := dk_42 (dk_at dksX1_entryClock_0 0 rfl rfl)
theorem dX1_entryClock_1 : decode cX1_entryClock 1 = .ok (.getfield 22, 3) := dk_180 0 22 (dk_at dksX1_entryClock_0 1 rfl rfl)
theorem dX1_entryClock_4 : decode cX1_entryClock 4 = .ok (.getfield 200, 3) := dk_180 0 200 (dk_at dksX1_entryClock_0 4 rfl rfl)
theorem dX1_entryClock_7 : decode cX1_entryClock 7 = .ok (.getfield 286, 3) := dk_180 1 30 (dk_at dksX1_entryClock_0 7 rfl rfl)
theorem dX1_entryClock_10 : decode cX1_entryClock 10 = .ok (.astore_n 2, 1) := dk_77 (dk_at dksX1_entryClock_0 10 rfl rfl)
theorem dX1_entryClock_11 : decode cX1_entryClock 11 = .ok (.aload_n 2, 1) := dk_44 (dk_at dksX1_entryClock_0 11 rfl rfl)
theorem dX1_entryClock_12 : decode cX1_entryClock 12 = .ok (.iload_n 1, 1) := dk_27 (dk_at dksX1_entryClock_0 12 rfl rfl)
theorem dX1_entryClock_13 : decode cX1_entryClock 13 = .ok (.invokevirtual 294, 3) := dk_182 1 38 (dk_at dksX1_entryClock_0 13 rfl rfl)
theorem dX1_entryClock_16 : decode cX1_entryClock 16 = .ok (.ifCond .eq 12, 3) := dk_153 0 12 (dk_at dksX1_entryClock_0 16 rfl rfl)
theorem dX1_entryClock_19 : decode cX1_entryClock 19 = .ok (.aload_n 2, 1) := dk_44 (dk_at dksX1_entryClock_0 19 rfl rfl)
theorem dX1_entryClock_20 : decode cX1_entryClock 20 = .ok (.getfield 300, 3) := dk_180 1 44 (dk_at dksX1_entryClock_0 20 rfl rfl)
theorem dX1_entryClock_23 : decode cX1_entryClock 23 = .ok (.iload_n 1, 1) := dk_27 (dk_at dksX1_entryClock_0 23 rfl rfl)
theorem dX1_entryClock_24 : decode cX1_entryClock 24 = .ok (.iaload, 1) := dk_46 (dk_at dksX1_entryClock_1 0 rfl rfl)
theorem dX1_entryClock_25 : decode cX1_entryClock 25 = .ok (.goto 4, 3) := dk_167 0 4 (dk_at dksX1_entryClock_1 1 rfl rfl)
theorem dX1_entryClock_28 : decode cX1_entryClock 28 = .ok (.iconst (-1), 1) := dk_2 (dk_at dksX1_entryClock_1 4 rfl rfl)
theorem dX1_entryClock_29 : decode cX1_entryClock 29 = .ok (.ireturn, 1) := dk_172 (dk_at dksX1_entryClock_1 5 rfl rfl)
abbrev cX1_sideOfTicket : ByteArray := prog_1_method_51_code
def yX1_sideOfTicket : MethodName := ⟨RX1, "sideOfTicket", "(I)I"⟩
def dkwX1_sideOfTicket_1 : List UInt8 := [172]
abbrev dktX1_sideOfTicket_1 : List UInt8 := dkwX1_sideOfTicket_1 ++ []
def dkwX1_sideOfTicket_0 : List UInt8 := [42, 180, 0, 22, 180, 1, 47, 27, 182, 1, 61, 77, 44, 199, 0, 7, 2, 167, 0, 7, 44, 180, 1, 82]
abbrev dktX1_sideOfTicket_0 : List UInt8 := dkwX1_sideOfTicket_0 ++ dktX1_sideOfTicket_1
theorem dksX1_sideOfTicket_0 : cX1_sideOfTicket.data.toList.drop 0 = dktX1_sideOfTicket_0 := by decide +kernel
theorem dksX1_sideOfTicket_1 : cX1_sideOfTicket.data.toList.drop 24 = dktX1_sideOfTicket_1 := dk_seg dksX1_sideOfTicket_0 24 rfl rfl
theorem dX1_sideOfTicket_0 : decode cX1_sideOfTicket 0 = .ok (.aload_n 0, 1) := dk_42 (dk_at dksX1_sideOfTicket_0 0 rfl rfl)
theorem dX1_sideOfTicket_1 : decode cX1_sideOfTicket 1 = .ok (.getfield 22, 3) := dk_180 0 22 (dk_at dksX1_sideOfTicket_0 1 rfl rfl)
theorem dX1_sideOfTicket_4 : decode cX1_sideOfTicket 4 = .ok (.getfield 303, 3) := dk_180 1 47 (dk_at dksX1_sideOfTicket_0 4 rfl rfl)
theorem dX1_sideOfTicket_7 : decode cX1_sideOfTicket 7 = .ok (.iload_n 1, 1) := dk_27 (dk_at dksX1_sideOfTicket_0 7 rfl rfl)
theorem dX1_sideOfTicket_8 : decode cX1_sideOfTicket 8 = .ok (.invokevirtual 317, 3) := dk_182 1 61 (dk_at dksX1_sideOfTicket_0 8 rfl rfl)
theorem dX1_sideOfTicket_11 : decode cX1_sideOfTicket 11 = .ok (.astore_n 2, 1) := dk_77 (dk_at dksX1_sideOfTicket_0 11 rfl rfl)
theorem dX1_sideOfTicket_12 : decode cX1_sideOfTicket 12 = .ok (.aload_n 2, 1) := dk_44 (dk_at dksX1_sideOfTicket_0 12 rfl rfl)
theorem dX1_sideOfTicket_13 : decode cX1_sideOfTicket 13 = .ok (.ifnonnull 7, 3) := dk_199 0 7 (dk_at dksX1_sideOfTicket_0 13 rfl rfl)
theorem dX1_sideOfTicket_16 : decode cX1_sideOfTicket 16 = .ok (.iconst (-1), 1) := dk_2 (dk_at dksX1_sideOfTicket_0 16 rfl rfl)
theorem dX1_sideOfTicket_17 : decode cX1_sideOfTicket 17 = .ok (.goto 7, 3) := dk_167 0 7 (dk_at dksX1_sideOfTicket_0 17 rfl rfl)
theorem dX1_sideOfTicket_20 : decode cX1_sideOfTicket 20 = .ok (.aload_n 2, 1) := dk_44 (dk_at dksX1_sideOfTicket_0 20 rfl rfl)
theorem dX1_sideOfTicket_21 : decode cX1_sideOfTicket 21 = .ok (.getfield 338, 3) := dk_180 1 82 (dk_at dksX1_sideOfTicket_0 21 rfl rfl)
theorem dX1_sideOfTicket_24 : decode cX1_sideOfTicket 24 = .ok (.ireturn, 1) := dk_172 (dk_at dksX1_sideOfTicket_1 0 rfl rfl)
abbrev cX1_hoursUntilOpen : ByteArray := prog_1_method_57_code
def yX1_hoursUntilOpen : MethodName := ⟨RX1, "hoursUntilOpen", "()I"⟩
def dkwX1_hoursUntilOpen_0 : List UInt8 := [42, 4, 182, 1, 106, 172]
abbrev dktX1_hoursUntilOpen_0 : List UInt8 := dkwX1_hoursUntilOpen_0 ++ []
theorem dksX1_hoursUntilOpen_0 : cX1_hoursUntilOpen.data.toList.drop 0 = dktX1_hoursUntilOpen_0 := by decide +kernel
theorem dX1_hoursUntilOpen_0 : decode cX1_hoursUntilOpen 0 = .ok (.aload_n 0, 1) := dk_42 (dk_at dksX1_hoursUntilOpen_0 0 rfl rfl)
theorem dX1_hoursUntilOpen_1 : decode cX1_hoursUntilOpen 1 = .ok (.iconst 1, 1) := dk_4 (dk_at dksX1_hoursUntilOpen_0 1 rfl rfl)
theorem dX1_hoursUntilOpen_2 : decode cX1_hoursUntilOpen 2 = .ok (.invokevirtual 362, 3) := dk_182 1 106 (dk_at dksX1_hoursUntilOpen_0 2 rfl rfl)
theorem dX1_hoursUntilOpen_5 : decode cX1_hoursUntilOpen 5 = .ok (.ireturn, 1) := dk_172 (dk_at dksX1_hoursUntilOpen_0 5 rfl rfl)
abbrev cX1_hoursUntil : ByteArray := prog_1_method_56_code
def yX1_hoursUntil : MethodName := ⟨RX1, "hoursUntil", "(Z)I"⟩
def dkwX1_hoursUntil_1 : List UInt8 := [27, 160, 0, 5, 29, 172, 44, 4, 182, 1, 102, 77, 132, 3, 1, 167, 255, 230, 2, 172]
abbrev dktX1_hoursUntil_1 : List UInt8 := dkwX1_hoursUntil_1 ++ []
def dkwX1_hoursUntil_0 : List UInt8 := [42, 180, 0, 22, 180, 0, 200, 182, 1, 99, 77, 3, 62, 29, 17, 0, 240, 163, 0, 25, 44, 182, 1, 20]
abbrev dktX1_hoursUntil_0 : List UInt8 := dkwX1_hoursUntil_0 ++ dktX1_hoursUntil_1
theorem dksX1_hoursUntil_0 : cX1_hoursUntil.data.toList.drop 0 = dktX1_hoursUntil_0 := by decide +kernel
theorem dksX1_hoursUntil_1 : cX1_hoursUntil.data.toList.drop 24 = dktX1_hoursUntil_1 := dk_seg dksX1_hoursUntil_0 24 rfl rfl
theorem dX1_hoursUntil_0 : decode cX1_hoursUntil 0 = .ok (.aload_n 0, 1) := dk_42 (dk_at dksX1_hoursUntil_0 0 rfl rfl)
theorem dX1_hoursUntil_1 : decode cX1_hoursUntil 1 = .ok (.getfield 22, 3) := dk_180 0 22 (dk_at dksX1_hoursUntil_0 1 rfl rfl)
theorem dX1_hoursUntil_4 : decode cX1_hoursUntil 4 = .ok (.getfield 200, 3) := dk_180 0 200 (dk_at dksX1_hoursUntil_0 4 rfl rfl)
theorem dX1_hoursUntil_7 : decode cX1_hoursUntil 7 = .ok (.invokevirtual 355, 3) := dk_182 1 99 (dk_at dksX1_hoursUntil_0 7 rfl rfl)
theorem dX1_hoursUntil_10 : decode cX1_hoursUntil 10 = .ok (.astore_n 2, 1) := dk_77 (dk_at dksX1_hoursUntil_0 10 rfl rfl)
theorem dX1_hoursUntil_11 : decode cX1_hoursUntil 11 = .ok (.iconst 0, 1) := dk_3 (dk_at dksX1_hoursUntil_0 11 rfl rfl)
theorem dX1_hoursUntil_12 : decode cX1_hoursUntil 12 = .ok (.istore_n 3, 1) := dk_62 (dk_at dksX1_hoursUntil_0 12 rfl rfl)
theorem dX1_hoursUntil_13 : decode cX1_hoursUntil 13 = .ok (.iload_n 3, 1) := dk_29 (dk_at dksX1_hoursUntil_0 13 rfl rfl)
theorem dX1_hoursUntil_14 : decode cX1_hoursUntil 14 = .ok (.sipush 240, 3) := dk_17 0 240 (dk_at dksX1_hoursUntil_0 14 rfl rfl)
theorem dX1_hoursUntil_17 : decode cX1_hoursUntil 17 = .ok (.if_icmp .gt 25, 3) := dk_163 0 25 (dk_at dksX1_hoursUntil_0 17 rfl rfl)
theorem dX1_hoursUntil_20 : decode cX1_hoursUntil 20 = .ok (.aload_n 2, 1) := dk_44 (dk_at dksX1_hoursUntil_0 20 rfl rfl)
theorem dX1_hoursUntil_21 : decode cX1_hoursUntil 21 = .ok (.invokevirtual 276, 3) := dk_182 1 20 (dk_at dksX1_hoursUntil_0 21 rfl rfl)
theorem dX1_hoursUntil_24 : decode cX1_hoursUntil 24 = .ok (.iload_n 1, 1) := dk_27 (dk_at dksX1_hoursUntil_1 0 rfl rfl)
theorem dX1_hoursUntil_25 : decode cX1_hoursUntil 25 = .ok (.if_icmp .ne 5, 3) := dk_160 0 5 (dk_at dksX1_hoursUntil_1 1 rfl rfl)
theorem dX1_hoursUntil_28 : decode cX1_hoursUntil 28 = .ok (.iload_n 3, 1) := dk_29 (dk_at dksX1_hoursUntil_1 4 rfl rfl)
theorem dX1_hoursUntil_29 : decode cX1_hoursUntil 29 = .ok (.ireturn, 1) := dk_172 (dk_at dksX1_hoursUntil_1 5 rfl rfl)
theorem dX1_hoursUntil_30 : decode cX1_hoursUntil 30 = .ok (.aload_n 2, 1) := dk_44 (dk_at dksX1_hoursUntil_1 6 rfl rfl)
theorem dX1_hoursUntil_31 : decode cX1_hoursUntil 31 = .ok (.iconst 1, 1) := dk_4 (dk_at dksX1_hoursUntil_1 7 rfl rfl)
theorem dX1_hoursUntil_32 : decode cX1_hoursUntil 32 = .ok (.invokevirtual 358, 3) := dk_182 1 102 (dk_at dksX1_hoursUntil_1 8 rfl rfl)
theorem dX1_hoursUntil_35 : decode cX1_hoursUntil 35 = .ok (.astore_n 2, 1) := dk_77 (dk_at dksX1_hoursUntil_1 11 rfl rfl)
theorem dX1_hoursUntil_36 : decode cX1_hoursUntil 36 = .ok (.iinc 3 1, 3) := dk_132 3 1 (dk_at dksX1_hoursUntil_1 12 rfl rfl)
theorem dX1_hoursUntil_39 : decode cX1_hoursUntil 39 = .ok (.goto (-26), 3) := dk_167 255 230 (dk_at dksX1_hoursUntil_1 15 rfl rfl)
theorem dX1_hoursUntil_42 : decode cX1_hoursUntil 42 = .ok (.iconst (-1), 1) := dk_2 (dk_at dksX1_hoursUntil_1 18 rfl rfl)
theorem dX1_hoursUntil_43 : decode cX1_hoursUntil 43 = .ok (.ireturn, 1) := dk_172 (dk_at dksX1_hoursUntil_1 19 rfl rfl)
abbrev cX1_hoursUntilClosed : ByteArray := prog_1_method_58_code
def yX1_hoursUntilClosed : MethodName := ⟨RX1, "hoursUntilClosed", "()I"⟩
def dkwX1_hoursUntilClosed_0 : List UInt8 := [42, 3, 182, 1, 106, 172]
abbrev dktX1_hoursUntilClosed_0 : List UInt8 := dkwX1_hoursUntilClosed_0 ++ []
theorem dksX1_hoursUntilClosed_0 : cX1_hoursUntilClosed.data.toList.drop 0 = dktX1_hoursUntilClosed_0 := by decide +kernel
theorem dX1_hoursUntilClosed_0 : decode cX1_hoursUntilClosed 0 = .ok (.aload_n 0, 1) := dk_42 (dk_at dksX1_hoursUntilClosed_0 0 rfl rfl)
theorem dX1_hoursUntilClosed_1 : decode cX1_hoursUntilClosed 1 = .ok (.iconst 0, 1) := dk_3 (dk_at dksX1_hoursUntilClosed_0 1 rfl rfl)
theorem dX1_hoursUntilClosed_2 : decode cX1_hoursUntilClosed 2 = .ok (.invokevirtual 362, 3) := dk_182 1 106 (dk_at dksX1_hoursUntilClosed_0 2 rfl rfl)
theorem dX1_hoursUntilClosed_5 : decode cX1_hoursUntilClosed 5 = .ok (.ireturn, 1) := dk_172 (dk_at dksX1_hoursUntilClosed_0 5 rfl rfl)
abbrev cX1_snowFallen : ByteArray := prog_1_method_63_code
def yX1_snowFallen : MethodName := ⟨RX1, "snowFallen", "()I"⟩
def dkwX1_snowFallen_0 : List UInt8 := [42, 180, 0, 22, 180, 0, 200, 180, 0, 63, 172]
abbrev dktX1_snowFallen_0 : List UInt8 := dkwX1_snowFallen_0 ++ []
theorem dksX1_snowFallen_0 : cX1_snowFallen.data.toList.drop 0 = dktX1_snowFallen_0 := by decide +kernel
theorem dX1_snowFallen_0 : decode cX1_snowFallen 0 = .ok (.aload_n 0, 1) := dk_42 (dk_at dksX1_snowFallen_0 0 rfl rfl)
theorem dX1_snowFallen_1 : decode cX1_snowFallen 1 = .ok (.getfield 22, 3) := dk_180 0 22 (dk_at dksX1_snowFallen_0 1 rfl rfl)
theorem dX1_snowFallen_4 : decode cX1_snowFallen 4 = .ok (.getfield 200, 3) := dk_180 0 200 (dk_at dksX1_snowFallen_0 4 rfl rfl)
theorem dX1_snowFallen_7 : decode cX1_snowFallen 7 = .ok (.getfield 63, 3) := dk_180 0 63 (dk_at dksX1_snowFallen_0 7 rfl rfl)
theorem dX1_snowFallen_10 : decode cX1_snowFallen 10 = .ok (.ireturn, 1) := dk_172 (dk_at dksX1_snowFallen_0 10 rfl rfl)
abbrev cX1_snowCleared : ByteArray := prog_1_method_64_code
def yX1_snowCleared : MethodName := ⟨RX1, "snowCleared", "()I"⟩
def dkwX1_snowCleared_0 : List UInt8 := [42, 180, 0, 22, 180, 0, 200, 180, 1, 138, 172]
abbrev dktX1_snowCleared_0 : List UInt8 := dkwX1_snowCleared_0 ++ []
theorem dksX1_snowCleared_0 : cX1_snowCleared.data.toList.drop 0 = dktX1_snowCleared_0 := by decide +kernel
theorem dX1_snowCleared_0 : decode cX1_snowCleared 0 = .ok (.aload_n 0, 1) := dk_42 (dk_at dksX1_snowCleared_0 0 rfl rfl)
theorem dX1_snowCleared_1 : decode cX1_snowCleared 1 = .ok (.getfield 22, 3) := dk_180 0 22 (dk_at dksX1_snowCleared_0 1 rfl rfl)
theorem dX1_snowCleared_4 : decode cX1_snowCleared 4 = .ok (.getfield 200, 3) := dk_180 0 200 (dk_at dksX1_snowCleared_0 4 rfl rfl)
theorem dX1_snowCleared_7 : decode cX1_snowCleared 7 = .ok (.getfield 394, 3) := dk_180 1 138 (dk_at dksX1_snowCleared_0 7 rfl rfl)
theorem dX1_snowCleared_10 : decode cX1_snowCleared 10 = .ok (.ireturn, 1) := dk_172 (dk_at dksX1_snowCleared_0 10 rfl rfl)
abbrev cX1_snowMelted : ByteArray := prog_1_method_65_code
def yX1_snowMelted : MethodName := ⟨RX1, "snowMelted", "()I"⟩
def dkwX1_snowMelted_0 : List UInt8 := [42, 180, 0, 22, 180, 0, 200, 180, 1, 141, 172]
abbrev dktX1_snowMelted_0 : List UInt8 := dkwX1_snowMelted_0 ++ []
theorem dksX1_snowMelted_0 : cX1_snowMelted.data.toList.drop 0 = dktX1_snowMelted_0 := by decide +kernel
theorem dX1_snowMelted_0 : decode cX1_snowMelted 0 = .ok (.aload_n 0, 1) := dk_42 (dk_at dksX1_snowMelted_0 0 rfl rfl)
theorem dX1_snowMelted_1 : decode cX1_snowMelted 1 = .ok (.getfield 22, 3) := dk_180 0 22 (dk_at dksX1_snowMelted_0 1 rfl rfl)
theorem dX1_snowMelted_4 : decode cX1_snowMelted 4 = .ok (.getfield 200, 3) := dk_180 0 200 (dk_at dksX1_snowMelted_0 4 rfl rfl)
theorem dX1_snowMelted_7 : decode cX1_snowMelted 7 = .ok (.getfield 397, 3) := dk_180 1 141 (dk_at dksX1_snowMelted_0 7 rfl rfl)
theorem dX1_snowMelted_10 : decode cX1_snowMelted 10 = .ok (.ireturn, 1) := dk_172 (dk_at dksX1_snowMelted_0 10 rfl rfl)
abbrev cX1_cartsCancelled : ByteArray := prog_1_method_67_code
def yX1_cartsCancelled : MethodName := ⟨RX1, "cartsCancelled", "()I"⟩
def dkwX1_cartsCancelled_0 : List UInt8 := [42, 180, 0, 22, 180, 1, 47, 180, 1, 144, 172]
abbrev dktX1_cartsCancelled_0 : List UInt8 := dkwX1_cartsCancelled_0 ++ []
theorem dksX1_cartsCancelled_0 : cX1_cartsCancelled.data.toList.drop 0 = dktX1_cartsCancelled_0 := by decide +kernel
theorem dX1_cartsCancelled_0 : decode cX1_cartsCancelled 0 = .ok (.aload_n 0, 1) := dk_42 (dk_at dksX1_cartsCancelled_0 0 rfl rfl)
theorem dX1_cartsCancelled_1 : decode cX1_cartsCancelled 1 = .ok (.getfield 22, 3) := dk_180 0 22 (dk_at dksX1_cartsCancelled_0 1 rfl rfl)
theorem dX1_cartsCancelled_4 : decode cX1_cartsCancelled 4 = .ok (.getfield 303, 3) := dk_180 1 47 (dk_at dksX1_cartsCancelled_0 4 rfl rfl)
theorem dX1_cartsCancelled_7 : decode cX1_cartsCancelled 7 = .ok (.getfield 400, 3) := dk_180 1 144 (dk_at dksX1_cartsCancelled_0 7 rfl rfl)
theorem dX1_cartsCancelled_10 : decode cX1_cartsCancelled 10 = .ok (.ireturn, 1) := dk_172 (dk_at dksX1_cartsCancelled_0 10 rfl rfl)
abbrev cX1_ticketCount : ByteArray := prog_1_method_68_code
def yX1_ticketCount : MethodName := ⟨RX1, "ticketCount", "()I"⟩
def dkwX1_ticketCount_0 : List UInt8 := [42, 180, 0, 22, 180, 1, 47, 180, 1, 147, 172]
abbrev dktX1_ticketCount_0 : List UInt8 := dkwX1_ticketCount_0 ++ []
theorem dksX1_ticketCount_0 : cX1_ticketCount.data.toList.drop 0 = dktX1_ticketCount_0 := by decide +kernel
theorem dX1_ticketCount_0 : decode cX1_ticketCount 0 = .ok (.aload_n 0, 1) := dk_42 (dk_at dksX1_ticketCount_0 0 rfl rfl)
theorem dX1_ticketCount_1 : decode cX1_ticketCount 1 = .ok (.getfield 22, 3) := dk_180 0 22 (dk_at dksX1_ticketCount_0 1 rfl rfl)
theorem dX1_ticketCount_4 : decode cX1_ticketCount 4 = .ok (.getfield 303, 3) := dk_180 1 47 (dk_at dksX1_ticketCount_0 4 rfl rfl)
theorem dX1_ticketCount_7 : decode cX1_ticketCount 7 = .ok (.getfield 403, 3) := dk_180 1 147 (dk_at dksX1_ticketCount_0 7 rfl rfl)
theorem dX1_ticketCount_10 : decode cX1_ticketCount 10 = .ok (.ireturn, 1) := dk_172 (dk_at dksX1_ticketCount_0 10 rfl rfl)
abbrev cX1_sacksUsed : ByteArray := prog_1_method_69_code
def yX1_sacksUsed : MethodName := ⟨RX1, "sacksUsed", "()I"⟩
def dkwX1_sacksUsed_0 : List UInt8 := [42, 180, 0, 22, 180, 0, 200, 180, 1, 150, 172]
abbrev dktX1_sacksUsed_0 : List UInt8 := dkwX1_sacksUsed_0 ++ []
theorem dksX1_sacksUsed_0 : cX1_sacksUsed.data.toList.drop 0 = dktX1_sacksUsed_0 := by decide +kernel
theorem dX1_sacksUsed_0 : decode cX1_sacksUsed 0 = .ok (.aload_n 0, 1) := dk_42 (dk_at dksX1_sacksUsed_0 0 rfl rfl)
theorem dX1_sacksUsed_1 : decode cX1_sacksUsed 1 = .ok (.getfield 22, 3) := dk_180 0 22 (dk_at dksX1_sacksUsed_0 1 rfl rfl)
theorem dX1_sacksUsed_4 : decode cX1_sacksUsed 4 = .ok (.getfield 200, 3) := dk_180 0 200 (dk_at dksX1_sacksUsed_0 4 rfl rfl)
theorem dX1_sacksUsed_7 : decode cX1_sacksUsed 7 = .ok (.getfield 406, 3) := dk_180 1 150 (dk_at dksX1_sacksUsed_0 7 rfl rfl)
theorem dX1_sacksUsed_10 : decode cX1_sacksUsed 10 = .ok (.ireturn, 1) := dk_172 (dk_at dksX1_sacksUsed_0 10 rfl rfl)
abbrev cX1_snowImbalance : ByteArray := prog_1_method_70_code
def yX1_snowImbalance : MethodName := ⟨RX1, "snowImbalance", "()I"⟩
def dkwX1_snowImbalance_1 : List UInt8 := [182, 0, 59, 100, 172]
abbrev dktX1_snowImbalance_1 : List UInt8 := dkwX1_snowImbalance_1 ++ []
def dkwX1_snowImbalance_0 : List UInt8 := [42, 180, 0, 22, 180, 0, 200, 76, 43, 180, 0, 63, 43, 180, 1, 138, 100, 43, 180, 1, 141, 100, 43]
abbrev dktX1_snowImbalance_0 : List UInt8 := dkwX1_snowImbalance_0 ++ dktX1_snowImbalance_1
theorem dksX1_snowImbalance_0 : cX1_snowImbalance.data.toList.drop 0 = dktX1_snowImbalance_0 := by decide +kernel
theorem dksX1_snowImbalance_1 : cX1_snowImbalance.data.toList.drop 23 = dktX1_snowImbalance_1 := dk_seg dksX1_snowImbalance_0 23 rfl rfl
theorem dX1_snowImbalance_0 : decode cX1_snowImbalance 0 = .ok (.aload_n 0, 1) := dk_42 (dk_at dksX1_snowImbalance_0 0 rfl rfl)
theorem dX1_snowImbalance_1 : decode cX1_snowImbalance 1 = .ok (.getfield 22, 3) := dk_180 0 22 (dk_at dksX1_snowImbalance_0 1 rfl rfl)
theorem dX1_snowImbalance_4 : decode cX1_snowImbalance 4 = .ok (.getfield 200, 3) := dk_180 0 200 (dk_at dksX1_snowImbalance_0 4 rfl rfl)
theorem dX1_snowImbalance_7 : decode cX1_snowImbalance 7 = .ok (.astore_n 1, 1) := dk_76 (dk_at dksX1_snowImbalance_0 7 rfl rfl)
theorem dX1_snowImbalance_8 : decode cX1_snowImbalance 8 = .ok (.aload_n 1, 1) := dk_43 (dk_at dksX1_snowImbalance_0 8 rfl rfl)
theorem dX1_snowImbalance_9 : decode cX1_snowImbalance 9 = .ok (.getfield 63, 3) := dk_180 0 63 (dk_at dksX1_snowImbalance_0 9 rfl rfl)
theorem dX1_snowImbalance_12 : decode cX1_snowImbalance 12 = .ok (.aload_n 1, 1) := dk_43 (dk_at dksX1_snowImbalance_0 12 rfl rfl)
theorem dX1_snowImbalance_13 : decode cX1_snowImbalance 13 = .ok (.getfield 394, 3) := dk_180 1 138 (dk_at dksX1_snowImbalance_0 13 rfl rfl)
theorem dX1_snowImbalance_16 : decode cX1_snowImbalance 16 = .ok (.isub, 1) := dk_100 (dk_at dksX1_snowImbalance_0 16 rfl rfl)
theorem dX1_snowImbalance_17 : decode cX1_snowImbalance 17 = .ok (.aload_n 1, 1) := dk_43 (dk_at dksX1_snowImbalance_0 17 rfl rfl)
theorem dX1_snowImbalance_18 : decode cX1_snowImbalance 18 = .ok (.getfield 397, 3) := dk_180 1 141 (dk_at dksX1_snowImbalance_0 18 rfl rfl)
theorem dX1_snowImbalance_21 : decode cX1_snowImbalance 21 = .ok (.isub, 1) := dk_100 (dk_at dksX1_snowImbalance_0 21 rfl rfl)
theorem dX1_snowImbalance_22 : decode cX1_snowImbalance 22 = .ok (.aload_n 1, 1) := dk_43 (dk_at dksX1_snowImbalance_0 22 rfl rfl)
theorem dX1_snowImbalance_23 : decode cX1_snowImbalance 23 = .ok (.invokevirtual 59, 3) := dk_182 0 59 (dk_at dksX1_snowImbalance_1 0 rfl rfl)
theorem dX1_snowImbalance_26 : decode cX1_snowImbalance 26 = .ok (.isub, 1) := dk_100 (dk_at dksX1_snowImbalance_1 3 rfl rfl)
theorem dX1_snowImbalance_27 : decode cX1_snowImbalance 27 = .ok (.ireturn, 1) := dk_172 (dk_at dksX1_snowImbalance_1 4 rfl rfl)
abbrev cX1_cartImbalance : ByteArray := prog_1_method_71_code
def yX1_cartImbalance : MethodName := ⟨RX1, "cartImbalance", "()I"⟩
def dkwX1_cartImbalance_3 : List UInt8 := [182, 1, 160, 100, 43, 180, 1, 144, 100, 28, 100, 172]
abbrev dktX1_cartImbalance_3 : List UInt8 := dkwX1_cartImbalance_3 ++ []
def dkwX1_cartImbalance_2 : List UInt8 := [180, 1, 77, 182, 1, 61, 199, 0, 7, 3, 167, 0, 4, 4, 96, 61, 167, 255, 216, 43, 180, 1, 147, 43]
abbrev dktX1_cartImbalance_2 : List UInt8 := dkwX1_cartImbalance_2 ++ dktX1_cartImbalance_3
def dkwX1_cartImbalance_1 : List UInt8 := [185, 0, 248, 1, 0, 153, 0, 37, 45, 185, 0, 253, 1, 0, 192, 1, 78, 58, 4, 28, 43, 25, 4]
abbrev dktX1_cartImbalance_1 : List UInt8 := dkwX1_cartImbalance_1 ++ dktX1_cartImbalance_2
def dkwX1_cartImbalance_0 : List UInt8 := [42, 180, 0, 22, 180, 1, 47, 76, 3, 61, 43, 180, 1, 113, 182, 1, 153, 185, 1, 157, 1, 0, 78, 45]
abbrev dktX1_cartImbalance_0 : List UInt8 := dkwX1_cartImbalance_0 ++ dktX1_cartImbalance_1
theorem dksX1_cartImbalance_0 : cX1_cartImbalance.data.toList.drop 0 = dktX1_cartImbalance_0 := by decide +kernel
theorem dksX1_cartImbalance_1 : cX1_cartImbalance.data.toList.drop 24 = dktX1_cartImbalance_1 := dk_seg dksX1_cartImbalance_0 24 rfl rfl
theorem dksX1_cartImbalance_2 : cX1_cartImbalance.data.toList.drop 47 = dktX1_cartImbalance_2 := dk_seg dksX1_cartImbalance_1 23 rfl rfl
theorem dksX1_cartImbalance_3 : cX1_cartImbalance.data.toList.drop 71 = dktX1_cartImbalance_3 := dk_seg dksX1_cartImbalance_2 24 rfl rfl
theorem dX1_cartImbalance_0 : decode cX1_cartImbalance 0 = .ok (.aload_n 0, 1) := dk_42 (dk_at dksX1_cartImbalance_0 0 rfl rfl)
theorem dX1_cartImbalance_1 : decode cX1_cartImbalance 1 = .ok (.getfield 22, 3) := dk_180 0 22 (dk_at dksX1_cartImbalance_0 1 rfl rfl)
theorem dX1_cartImbalance_4 : decode cX1_cartImbalance 4 = .ok (.getfield 303, 3) := dk_180 1 47 (dk_at dksX1_cartImbalance_0 4 rfl rfl)
theorem dX1_cartImbalance_7 : decode cX1_cartImbalance 7 = .ok (.astore_n 1, 1) := dk_76 (dk_at dksX1_cartImbalance_0 7 rfl rfl)
theorem dX1_cartImbalance_8 : decode cX1_cartImbalance 8 = .ok (.iconst 0, 1) := dk_3 (dk_at dksX1_cartImbalance_0 8 rfl rfl)
theorem dX1_cartImbalance_9 : decode cX1_cartImbalance 9 = .ok (.istore_n 2, 1) := dk_61 (dk_at dksX1_cartImbalance_0 9 rfl rfl)
theorem dX1_cartImbalance_10 : decode cX1_cartImbalance 10 = .ok (.aload_n 1, 1) := dk_43 (dk_at dksX1_cartImbalance_0 10 rfl rfl)
theorem dX1_cartImbalance_11 : decode cX1_cartImbalance 11 = .ok (.getfield 369, 3) := dk_180 1 113 (dk_at dksX1_cartImbalance_0 11 rfl rfl)
theorem dX1_cartImbalance_14 : decode cX1_cartImbalance 14 = .ok (.invokevirtual 409, 3) := dk_182 1 153 (dk_at dksX1_cartImbalance_0 14 rfl rfl)
theorem dX1_cartImbalance_17 : decode cX1_cartImbalance 17 = .ok (.invokeinterface 413 1, 5) := by decide +kernel
theorem dX1_cartImbalance_22 : decode cX1_cartImbalance 22 = .ok (.astore_n 3, 1) := dk_78 (dk_at dksX1_cartImbalance_0 22 rfl rfl)
theorem dX1_cartImbalance_23 : decode cX1_cartImbalance 23 = .ok (.aload_n 3, 1) := dk_45 (dk_at dksX1_cartImbalance_0 23 rfl rfl)
theorem dX1_cartImbalance_24 : decode cX1_cartImbalance 24 = .ok (.invokeinterface 248 1, 5) := by decide +kernel
theorem dX1_cartImbalance_29 : decode cX1_cartImbalance 29 = .ok (.ifCond .eq 37, 3) := dk_153 0 37 (dk_at dksX1_cartImbalance_1 5 rfl rfl)
theorem dX1_cartImbalance_32 : decode cX1_cartImbalance 32 = .ok (.aload_n 3, 1) := dk_45 (dk_at dksX1_cartImbalance_1 8 rfl rfl)
theorem dX1_cartImbalance_33 : decode cX1_cartImbalance 33 = .ok (.invokeinterface 253 1, 5) := by decide +kernel
theorem dX1_cartImbalance_38 : decode cX1_cartImbalance 38 = .ok (.checkcast 334, 3) := dk_192 1 78 (dk_at dksX1_cartImbalance_1 14 rfl rfl)
theorem dX1_cartImbalance_41 : decode cX1_cartImbalance 41 = .ok (.astore 4, 2) := dk_58 4 (dk_at dksX1_cartImbalance_1 17 rfl rfl)
theorem dX1_cartImbalance_43 : decode cX1_cartImbalance 43 = .ok (.iload_n 2, 1) := dk_28 (dk_at dksX1_cartImbalance_1 19 rfl rfl)
theorem dX1_cartImbalance_44 : decode cX1_cartImbalance 44 = .ok (.aload_n 1, 1) := dk_43 (dk_at dksX1_cartImbalance_1 20 rfl rfl)
theorem dX1_cartImbalance_45 : decode cX1_cartImbalance 45 = .ok (.aload 4, 2) := dk_25 4 (dk_at dksX1_cartImbalance_1 21 rfl rfl)
theorem dX1_cartImbalance_47 : decode cX1_cartImbalance 47 = .ok (.getfield 333, 3) := dk_180 1 77 (dk_at dksX1_cartImbalance_2 0 rfl rfl)
theorem dX1_cartImbalance_50 : decode cX1_cartImbalance 50 = .ok (.invokevirtual 317, 3) := dk_182 1 61 (dk_at dksX1_cartImbalance_2 3 rfl rfl)
theorem dX1_cartImbalance_53 : decode cX1_cartImbalance 53 = .ok (.ifnonnull 7, 3) := dk_199 0 7 (dk_at dksX1_cartImbalance_2 6 rfl rfl)
theorem dX1_cartImbalance_56 : decode cX1_cartImbalance 56 = .ok (.iconst 0, 1) := dk_3 (dk_at dksX1_cartImbalance_2 9 rfl rfl)
theorem dX1_cartImbalance_57 : decode cX1_cartImbalance 57 = .ok (.goto 4, 3) := dk_167 0 4 (dk_at dksX1_cartImbalance_2 10 rfl rfl)
theorem dX1_cartImbalance_60 : decode cX1_cartImbalance 60 = .ok (.iconst 1, 1) := dk_4 (dk_at dksX1_cartImbalance_2 13 rfl rfl)
theorem dX1_cartImbalance_61 : decode cX1_cartImbalance 61 = .ok (.iadd, 1) := dk_96 (dk_at dksX1_cartImbalance_2 14 rfl rfl)
theorem dX1_cartImbalance_62 : decode cX1_cartImbalance 62 = .ok (.istore_n 2, 1) := dk_61 (dk_at dksX1_cartImbalance_2 15 rfl rfl)
theorem dX1_cartImbalance_63 : decode cX1_cartImbalance 63 = .ok (.goto (-40), 3) := dk_167 255 216 (dk_at dksX1_cartImbalance_2 16 rfl rfl)
theorem dX1_cartImbalance_66 : decode cX1_cartImbalance 66 = .ok (.aload_n 1, 1) := dk_43 (dk_at dksX1_cartImbalance_2 19 rfl rfl)
theorem dX1_cartImbalance_67 : decode cX1_cartImbalance 67 = .ok (.getfield 403, 3) := dk_180 1 147 (dk_at dksX1_cartImbalance_2 20 rfl rfl)
theorem dX1_cartImbalance_70 : decode cX1_cartImbalance 70 = .ok (.aload_n 1, 1) := dk_43 (dk_at dksX1_cartImbalance_2 23 rfl rfl)
theorem dX1_cartImbalance_71 : decode cX1_cartImbalance 71 = .ok (.invokevirtual 416, 3) := dk_182 1 160 (dk_at dksX1_cartImbalance_3 0 rfl rfl)
theorem dX1_cartImbalance_74 : decode cX1_cartImbalance 74 = .ok (.isub, 1) := dk_100 (dk_at dksX1_cartImbalance_3 3 rfl rfl)
theorem dX1_cartImbalance_75 : decode cX1_cartImbalance 75 = .ok (.aload_n 1, 1) := dk_43 (dk_at dksX1_cartImbalance_3 4 rfl rfl)
theorem dX1_cartImbalance_76 : decode cX1_cartImbalance 76 = .ok (.getfield 400, 3) := dk_180 1 144 (dk_at dksX1_cartImbalance_3 5 rfl rfl)
theorem dX1_cartImbalance_79 : decode cX1_cartImbalance 79 = .ok (.isub, 1) := dk_100 (dk_at dksX1_cartImbalance_3 8 rfl rfl)
theorem dX1_cartImbalance_80 : decode cX1_cartImbalance 80 = .ok (.iload_n 2, 1) := dk_28 (dk_at dksX1_cartImbalance_3 9 rfl rfl)
theorem dX1_cartImbalance_81 : decode cX1_cartImbalance 81 = .ok (.isub, 1) := dk_100 (dk_at dksX1_cartImbalance_3 10 rfl rfl)
theorem dX1_cartImbalance_82 : decode cX1_cartImbalance 82 = .ok (.ireturn, 1) := dk_172 (dk_at dksX1_cartImbalance_3 11 rfl rfl)
abbrev cX1_meanDepth : ByteArray := prog_1_method_72_code
def yX1_meanDepth : MethodName := ⟨RX1, "meanDepth", "()D"⟩
def dkwX1_meanDepth_0 : List UInt8 := [42, 180, 0, 22, 180, 0, 200, 182, 0, 59, 135, 42, 180, 0, 22, 180, 0, 200, 182, 0, 204, 135, 111, 175]
abbrev dktX1_meanDepth_0 : List UInt8 := dkwX1_meanDepth_0 ++ []
theorem dksX1_meanDepth_0 : cX1_meanDepth.data.toList.drop 0 = dktX1_meanDepth_0 := by decide +kernel
theorem dX1_meanDepth_0 : decode cX1_meanDepth 0 = .ok (.aload_n 0, 1) := dk_42 (dk_at dksX1_meanDepth_0 0 rfl rfl)
theorem dX1_meanDepth_1 : decode cX1_meanDepth 1 = .ok (.getfield 22, 3) := dk_180 0 22 (dk_at dksX1_meanDepth_0 1 rfl rfl)
theorem dX1_meanDepth_4 : decode cX1_meanDepth 4 = .ok (.getfield 200, 3) := dk_180 0 200 (dk_at dksX1_meanDepth_0 4 rfl rfl)
theorem dX1_meanDepth_7 : decode cX1_meanDepth 7 = .ok (.invokevirtual 59, 3) := dk_182 0 59 (dk_at dksX1_meanDepth_0 7 rfl rfl)
theorem dX1_meanDepth_10 : decode cX1_meanDepth 10 = .ok (.i2d, 1) := dk_135 (dk_at dksX1_meanDepth_0 10 rfl rfl)
theorem dX1_meanDepth_11 : decode cX1_meanDepth 11 = .ok (.aload_n 0, 1) := dk_42 (dk_at dksX1_meanDepth_0 11 rfl rfl)
theorem dX1_meanDepth_12 : decode cX1_meanDepth 12 = .ok (.getfield 22, 3) := dk_180 0 22 (dk_at dksX1_meanDepth_0 12 rfl rfl)
theorem dX1_meanDepth_15 : decode cX1_meanDepth 15 = .ok (.getfield 200, 3) := dk_180 0 200 (dk_at dksX1_meanDepth_0 15 rfl rfl)
theorem dX1_meanDepth_18 : decode cX1_meanDepth 18 = .ok (.invokevirtual 204, 3) := dk_182 0 204 (dk_at dksX1_meanDepth_0 18 rfl rfl)
theorem dX1_meanDepth_21 : decode cX1_meanDepth 21 = .ok (.i2d, 1) := dk_135 (dk_at dksX1_meanDepth_0 21 rfl rfl)
theorem dX1_meanDepth_22 : decode cX1_meanDepth 22 = .ok (.ddiv, 1) := dk_111 (dk_at dksX1_meanDepth_0 22 rfl rfl)
theorem dX1_meanDepth_23 : decode cX1_meanDepth 23 = .ok (.dreturn, 1) := dk_175 (dk_at dksX1_meanDepth_0 23 rfl rfl)
abbrev cX1_clearShare : ByteArray := prog_1_method_73_code
def yX1_clearShare : MethodName := ⟨RX1, "clearShare", "()F"⟩
def dkwX1_clearShare_0 : List UInt8 := [42, 182, 1, 163, 134, 42, 180, 0, 22, 180, 0, 200, 182, 0, 204, 134, 110, 174]
abbrev dktX1_clearShare_0 : List UInt8 := dkwX1_clearShare_0 ++ []
theorem dksX1_clearShare_0 : cX1_clearShare.data.toList.drop 0 = dktX1_clearShare_0 := by decide +kernel
theorem dX1_clearShare_0 : decode cX1_clearShare 0 = .ok (.aload_n 0, 1) := dk_42 (dk_at dksX1_clearShare_0 0 rfl rfl)
theorem dX1_clearShare_1 : decode cX1_clearShare 1 = .ok (.invokevirtual 419, 3) := dk_182 1 163 (dk_at dksX1_clearShare_0 1 rfl rfl)
theorem dX1_clearShare_4 : decode cX1_clearShare 4 = .ok (.i2f, 1) := dk_134 (dk_at dksX1_clearShare_0 4 rfl rfl)
theorem dX1_clearShare_5 : decode cX1_clearShare 5 = .ok (.aload_n 0, 1) := dk_42 (dk_at dksX1_clearShare_0 5 rfl rfl)
theorem dX1_clearShare_6 : decode cX1_clearShare 6 = .ok (.getfield 22, 3) := dk_180 0 22 (dk_at dksX1_clearShare_0 6 rfl rfl)
theorem dX1_clearShare_9 : decode cX1_clearShare 9 = .ok (.getfield 200, 3) := dk_180 0 200 (dk_at dksX1_clearShare_0 9 rfl rfl)
theorem dX1_clearShare_12 : decode cX1_clearShare 12 = .ok (.invokevirtual 204, 3) := dk_182 0 204 (dk_at dksX1_clearShare_0 12 rfl rfl)
theorem dX1_clearShare_15 : decode cX1_clearShare 15 = .ok (.i2f, 1) := dk_134 (dk_at dksX1_clearShare_0 15 rfl rfl)
theorem dX1_clearShare_16 : decode cX1_clearShare 16 = .ok (.fdiv, 1) := dk_110 (dk_at dksX1_clearShare_0 16 rfl rfl)
theorem dX1_clearShare_17 : decode cX1_clearShare 17 = .ok (.freturn, 1) := dk_174 (dk_at dksX1_clearShare_0 17 rfl rfl)
abbrev cX1_save : ByteArray := prog_1_method_83_code
def yX1_save : MethodName := ⟨RX1, "save", "()I"⟩
def dkwX1_save_0 : List UInt8 := [42, 42, 180, 0, 22, 182, 0, 107, 181, 1, 196, 42, 180, 0, 22, 180, 0, 200, 180, 0, 223, 172]
abbrev dktX1_save_0 : List UInt8 := dkwX1_save_0 ++ []
theorem dksX1_save_0 : cX1_save.data.toList.drop 0 = dktX1_save_0 := by decide +kernel
theorem dX1_save_0 : decode cX1_save 0 = .ok (.aload_n 0, 1) := dk_42 (dk_at dksX1_save_0 0 rfl rfl)
theorem dX1_save_1 : decode cX1_save 1 = .ok (.aload_n 0, 1) := dk_42 (dk_at dksX1_save_0 1 rfl rfl)
theorem dX1_save_2 : decode cX1_save 2 = .ok (.getfield 22, 3) := dk_180 0 22 (dk_at dksX1_save_0 2 rfl rfl)
theorem dX1_save_5 : decode cX1_save 5 = .ok (.invokevirtual 107, 3) := dk_182 0 107 (dk_at dksX1_save_0 5 rfl rfl)
theorem dX1_save_8 : decode cX1_save 8 = .ok (.putfield 452, 3) := dk_181 1 196 (dk_at dksX1_save_0 8 rfl rfl)
theorem dX1_save_11 : decode cX1_save 11 = .ok (.aload_n 0, 1) := dk_42 (dk_at dksX1_save_0 11 rfl rfl)
theorem dX1_save_12 : decode cX1_save 12 = .ok (.getfield 22, 3) := dk_180 0 22 (dk_at dksX1_save_0 12 rfl rfl)
theorem dX1_save_15 : decode cX1_save 15 = .ok (.getfield 200, 3) := dk_180 0 200 (dk_at dksX1_save_0 15 rfl rfl)
theorem dX1_save_18 : decode cX1_save 18 = .ok (.getfield 223, 3) := dk_180 0 223 (dk_at dksX1_save_0 18 rfl rfl)
theorem dX1_save_21 : decode cX1_save 21 = .ok (.ireturn, 1) := dk_172 (dk_at dksX1_save_0 21 rfl rfl)
abbrev cX1_formatRoad : ByteArray := prog_1_method_85_code
def yX1_formatRoad : MethodName := ⟨RX1, "formatRoad", "()I"⟩
def dkwX1_formatRoad_5 : List UInt8 := [182, 1, 202, 87, 132, 2, 1, 167, 255, 152, 42, 180, 0, 46, 182, 1, 209, 172]
abbrev dktX1_formatRoad_5 : List UInt8 := dkwX1_formatRoad_5 ++ []
def dkwX1_formatRoad_4 : List UInt8 := [182, 1, 202, 87, 43, 180, 0, 83, 4, 50, 180, 1, 15, 28, 160, 0, 13, 42, 180, 0, 46, 16, 62]
abbrev dktX1_formatRoad_4 : List UInt8 := dkwX1_formatRoad_4 ++ dktX1_formatRoad_5
def dkwX1_formatRoad_3 : List UInt8 := [182, 1, 202, 87, 43, 180, 0, 83, 3, 50, 180, 1, 15, 28, 160, 0, 13, 42, 180, 0, 46, 16, 60]
abbrev dktX1_formatRoad_3 : List UInt8 := dkwX1_formatRoad_3 ++ dktX1_formatRoad_4
def dkwX1_formatRoad_2 : List UInt8 := [180, 0, 56, 28, 46, 182, 1, 206, 87, 43, 180, 0, 233, 28, 46, 158, 0, 13, 42, 180, 0, 46, 16, 42]
abbrev dktX1_formatRoad_2 : List UInt8 := dkwX1_formatRoad_2 ++ dktX1_formatRoad_3
def dkwX1_formatRoad_1 : List UInt8 := [162, 0, 102, 28, 158, 0, 13, 42, 180, 0, 46, 16, 32, 182, 1, 202, 87, 42, 180, 0, 46, 43]
abbrev dktX1_formatRoad_1 : List UInt8 := dkwX1_formatRoad_1 ++ dktX1_formatRoad_2
def dkwX1_formatRoad_0 : List UInt8 := [42, 180, 0, 46, 3, 182, 1, 199, 42, 180, 0, 22, 180, 0, 200, 76, 3, 61, 28, 43, 182, 0, 204]
abbrev dktX1_formatRoad_0 : List UInt8 := dkwX1_formatRoad_0 ++ dktX1_formatRoad_1
theorem dksX1_formatRoad_0 : cX1_formatRoad.data.toList.drop 0 = dktX1_formatRoad_0 := by decide +kernel
theorem dksX1_formatRoad_1 : cX1_formatRoad.data.toList.drop 23 = dktX1_formatRoad_1 := dk_seg dksX1_formatRoad_0 23 rfl rfl
theorem dksX1_formatRoad_2 : cX1_formatRoad.data.toList.drop 45 = dktX1_formatRoad_2 := dk_seg dksX1_formatRoad_1 22 rfl rfl
theorem dksX1_formatRoad_3 : cX1_formatRoad.data.toList.drop 69 = dktX1_formatRoad_3 := dk_seg dksX1_formatRoad_2 24 rfl rfl
theorem dksX1_formatRoad_4 : cX1_formatRoad.data.toList.drop 92 = dktX1_formatRoad_4 := dk_seg dksX1_formatRoad_3 23 rfl rfl
theorem dksX1_formatRoad_5 : cX1_formatRoad.data.toList.drop 115 = dktX1_formatRoad_5 := dk_seg dksX1_formatRoad_4 23 rfl rfl
theorem dX1_formatRoad_0 : decode cX1_formatRoad 0 = .ok (.aload_n 0, 1) := dk_42 (dk_at dksX1_formatRoad_0 0 rfl rfl)
theorem dX1_formatRoad_1 : decode cX1_formatRoad 1 = .ok (.getfield 46, 3) := dk_180 0 46 (dk_at dksX1_formatRoad_0 1 rfl rfl)
theorem dX1_formatRoad_4 : decode cX1_formatRoad 4 = .ok (.iconst 0, 1) := dk_3 (dk_at dksX1_formatRoad_0 4 rfl rfl)
theorem dX1_formatRoad_5 : decode cX1_formatRoad 5 = .ok (.invokevirtual 455, 3) := dk_182 1 199 (dk_at dksX1_formatRoad_0 5 rfl rfl)
theorem dX1_formatRoad_8 : decode cX1_formatRoad 8 = .ok (.aload_n 0, 1) := dk_42 (dk_at dksX1_formatRoad_0 8 rfl rfl)
theorem dX1_formatRoad_9 : decode cX1_formatRoad 9 = .ok (.getfield 22, 3) := dk_180 0 22 (dk_at dksX1_formatRoad_0 9 rfl rfl)
theorem dX1_formatRoad_12 : decode cX1_formatRoad 12 = .ok (.getfield 200, 3) := dk_180 0 200 (dk_at dksX1_formatRoad_0 12 rfl rfl)
theorem dX1_formatRoad_15 : decode cX1_formatRoad 15 = .ok (.astore_n 1, 1) := dk_76 (dk_at dksX1_formatRoad_0 15 rfl rfl)
theorem dX1_formatRoad_16 : decode cX1_formatRoad 16 = .ok (.iconst 0, 1) := dk_3 (dk_at dksX1_formatRoad_0 16 rfl rfl)
theorem dX1_formatRoad_17 : decode cX1_formatRoad 17 = .ok (.istore_n 2, 1) := dk_61 (dk_at dksX1_formatRoad_0 17 rfl rfl)
theorem dX1_formatRoad_18 : decode cX1_formatRoad 18 = .ok (.iload_n 2, 1) := dk_28 (dk_at dksX1_formatRoad_0 18 rfl rfl)
theorem dX1_formatRoad_19 : decode cX1_formatRoad 19 = .ok (.aload_n 1, 1) := dk_43 (dk_at dksX1_formatRoad_0 19 rfl rfl)
theorem dX1_formatRoad_20 : decode cX1_formatRoad 20 = .ok (.invokevirtual 204, 3) := dk_182 0 204 (dk_at dksX1_formatRoad_0 20 rfl rfl)
theorem dX1_formatRoad_23 : decode cX1_formatRoad 23 = .ok (.if_icmp .ge 102, 3) := dk_162 0 102 (dk_at dksX1_formatRoad_1 0 rfl rfl)
theorem dX1_formatRoad_26 : decode cX1_formatRoad 26 = .ok (.iload_n 2, 1) := dk_28 (dk_at dksX1_formatRoad_1 3 rfl rfl)
theorem dX1_formatRoad_27 : decode cX1_formatRoad 27 = .ok (.ifCond .le 13, 3) := dk_158 0 13 (dk_at dksX1_formatRoad_1 4 rfl rfl)
theorem dX1_formatRoad_30 : decode cX1_formatRoad 30 = .ok (.aload_n 0, 1) := dk_42 (dk_at dksX1_formatRoad_1 7 rfl rfl)
theorem dX1_formatRoad_31 : decode cX1_formatRoad 31 = .ok (.getfield 46, 3) := dk_180 0 46 (dk_at dksX1_formatRoad_1 8 rfl rfl)
theorem dX1_formatRoad_34 : decode cX1_formatRoad 34 = .ok (.bipush 32, 2) := dk_16 32 (dk_at dksX1_formatRoad_1 11 rfl rfl)
theorem dX1_formatRoad_36 : decode cX1_formatRoad 36 = .ok (.invokevirtual 458, 3) := dk_182 1 202 (dk_at dksX1_formatRoad_1 13 rfl rfl)
theorem dX1_formatRoad_39 : decode cX1_formatRoad 39 = .ok (.pop, 1) := dk_87 (dk_at dksX1_formatRoad_1 16 rfl rfl)
theorem dX1_formatRoad_40 : decode cX1_formatRoad 40 = .ok (.aload_n 0, 1) := dk_42 (dk_at dksX1_formatRoad_1 17 rfl rfl)
theorem dX1_formatRoad_41 : decode cX1_formatRoad 41 = .ok (.getfield 46, 3) := dk_180 0 46 (dk_at dksX1_formatRoad_1 18 rfl rfl)
theorem dX1_formatRoad_44 : decode cX1_formatRoad 44 = .ok (.aload_n 1, 1) := dk_43 (dk_at dksX1_formatRoad_1 21 rfl rfl)
theorem dX1_formatRoad_45 : decode cX1_formatRoad 45 = .ok (.getfield 56, 3) := dk_180 0 56 (dk_at dksX1_formatRoad_2 0 rfl rfl)
theorem dX1_formatRoad_48 : decode cX1_formatRoad 48 = .ok (.iload_n 2, 1) := dk_28 (dk_at dksX1_formatRoad_2 3 rfl rfl)
theorem dX1_formatRoad_49 : decode cX1_formatRoad 49 = .ok (.iaload, 1) := dk_46 (dk_at dksX1_formatRoad_2 4 rfl rfl)
theorem dX1_formatRoad_50 : decode cX1_formatRoad 50 = .ok (.invokevirtual 462, 3) := dk_182 1 206 (dk_at dksX1_formatRoad_2 5 rfl rfl)
theorem dX1_formatRoad_53 : decode cX1_formatRoad 53 = .ok (.pop, 1) := dk_87 (dk_at dksX1_formatRoad_2 8 rfl rfl)
theorem dX1_formatRoad_54 : decode cX1_formatRoad 54 = .ok (.aload_n 1, 1) := dk_43 (dk_at dksX1_formatRoad_2 9 rfl rfl)
theorem dX1_formatRoad_55 : decode cX1_formatRoad 55 = .ok (.getfield 233, 3) := dk_180 0 233 (dk_at dksX1_formatRoad_2 10 rfl rfl)
theorem dX1_formatRoad_58 : decode cX1_formatRoad 58 = .ok (.iload_n 2, 1) := dk_28 (dk_at dksX1_formatRoad_2 13 rfl rfl)
theorem dX1_formatRoad_59 : decode cX1_formatRoad 59 = .ok (.iaload, 1) := dk_46 (dk_at dksX1_formatRoad_2 14 rfl rfl)
theorem dX1_formatRoad_60 : decode cX1_formatRoad 60 = .ok (.ifCond .le 13, 3) := dk_158 0 13 (dk_at dksX1_formatRoad_2 15 rfl rfl)
theorem dX1_formatRoad_63 : decode cX1_formatRoad 63 = .ok (.aload_n 0, 1) := dk_42 (dk_at dksX1_formatRoad_2 18 rfl rfl)
theorem dX1_formatRoad_64 : decode cX1_formatRoad 64 = .ok (.getfield 46, 3) := dk_180 0 46 (dk_at dksX1_formatRoad_2 19 rfl rfl)
theorem dX1_formatRoad_67 : decode cX1_formatRoad 67 = .ok (.bipush 42, 2) := dk_16 42 (dk_at dksX1_formatRoad_2 22 rfl rfl)
theorem dX1_formatRoad_69 : decode cX1_formatRoad 69 = .ok (.invokevirtual 458, 3) := dk_182 1 202 (dk_at dksX1_formatRoad_3 0 rfl rfl)
theorem dX1_formatRoad_72 : decode cX1_formatRoad 72 = .ok (.pop, 1) := dk_87 (dk_at dksX1_formatRoad_3 3 rfl rfl)
theorem dX1_formatRoad_73 : decode cX1_formatRoad 73 = .ok (.aload_n 1, 1) := dk_43 (dk_at dksX1_formatRoad_3 4 rfl rfl)
theorem dX1_formatRoad_74 : decode cX1_formatRoad 74 = .ok (.getfield 83, 3) := dk_180 0 83 (dk_at dksX1_formatRoad_3 5 rfl rfl)
theorem dX1_formatRoad_77 : decode cX1_formatRoad 77 = .ok (.iconst 0, 1) := dk_3 (dk_at dksX1_formatRoad_3 8 rfl rfl)
theorem dX1_formatRoad_78 : decode cX1_formatRoad 78 = .ok (.aaload, 1) := dk_50 (dk_at dksX1_formatRoad_3 9 rfl rfl)
theorem dX1_formatRoad_79 : decode cX1_formatRoad 79 = .ok (.getfield 271, 3) := dk_180 1 15 (dk_at dksX1_formatRoad_3 10 rfl rfl)
theorem dX1_formatRoad_82 : decode cX1_formatRoad 82 = .ok (.iload_n 2, 1) := dk_28 (dk_at dksX1_formatRoad_3 13 rfl rfl)
theorem dX1_formatRoad_83 : decode cX1_formatRoad 83 = .ok (.if_icmp .ne 13, 3) := dk_160 0 13 (dk_at dksX1_formatRoad_3 14 rfl rfl)
theorem dX1_formatRoad_86 : decode cX1_formatRoad 86 = .ok (.aload_n 0, 1) := dk_42 (dk_at dksX1_formatRoad_3 17 rfl rfl)
theorem dX1_formatRoad_87 : decode cX1_formatRoad 87 = .ok (.getfield 46, 3) := dk_180 0 46 (dk_at dksX1_formatRoad_3 18 rfl rfl)
theorem dX1_formatRoad_90 : decode cX1_formatRoad 90 = .ok (.bipush 60, 2) := dk_16 60 (dk_at dksX1_formatRoad_3 21 rfl rfl)
theorem dX1_formatRoad_92 : decode cX1_formatRoad 92 = .ok (.invokevirtual 458, 3) := dk_182 1 202 (dk_at dksX1_formatRoad_4 0 rfl rfl)
theorem dX1_formatRoad_95 : decode cX1_formatRoad 95 = .ok (.pop, 1) := dk_87 (dk_at dksX1_formatRoad_4 3 rfl rfl)
theorem dX1_formatRoad_96 : decode cX1_formatRoad 96 = .ok (.aload_n 1, 1) := dk_43 (dk_at dksX1_formatRoad_4 4 rfl rfl)
theorem dX1_formatRoad_97 : decode cX1_formatRoad 97 = .ok (.getfield 83, 3) := dk_180 0 83 (dk_at dksX1_formatRoad_4 5 rfl rfl)
theorem dX1_formatRoad_100 : decode cX1_formatRoad 100 = .ok (.iconst 1, 1) := dk_4 (dk_at dksX1_formatRoad_4 8 rfl rfl)
theorem dX1_formatRoad_101 : decode cX1_formatRoad 101 = .ok (.aaload, 1) := dk_50 (dk_at dksX1_formatRoad_4 9 rfl rfl)
theorem dX1_formatRoad_102 : decode cX1_formatRoad 102 = .ok (.getfield 271, 3) := dk_180 1 15 (dk_at dksX1_formatRoad_4 10 rfl rfl)
theorem dX1_formatRoad_105 : decode cX1_formatRoad 105 = .ok (.iload_n 2, 1) := dk_28 (dk_at dksX1_formatRoad_4 13 rfl rfl)
theorem dX1_formatRoad_106 : decode cX1_formatRoad 106 = .ok (.if_icmp .ne 13, 3) := dk_160 0 13 (dk_at dksX1_formatRoad_4 14 rfl rfl)
theorem dX1_formatRoad_109 : decode cX1_formatRoad 109 = .ok (.aload_n 0, 1) := dk_42 (dk_at dksX1_formatRoad_4 17 rfl rfl)
theorem dX1_formatRoad_110 : decode cX1_formatRoad 110 = .ok (.getfield 46, 3) := dk_180 0 46 (dk_at dksX1_formatRoad_4 18 rfl rfl)
theorem dX1_formatRoad_113 : decode cX1_formatRoad 113 = .ok (.bipush 62, 2) := dk_16 62 (dk_at dksX1_formatRoad_4 21 rfl rfl)
theorem dX1_formatRoad_115 : decode cX1_formatRoad 115 = .ok (.invokevirtual 458, 3) := dk_182 1 202 (dk_at dksX1_formatRoad_5 0 rfl rfl)
theorem dX1_formatRoad_118 : decode cX1_formatRoad 118 = .ok (.pop, 1) := dk_87 (dk_at dksX1_formatRoad_5 3 rfl rfl)
theorem dX1_formatRoad_119 : decode cX1_formatRoad 119 = .ok (.iinc 2 1, 3) := dk_132 2 1 (dk_at dksX1_formatRoad_5 4 rfl rfl)
theorem dX1_formatRoad_122 : decode cX1_formatRoad 122 = .ok (.goto (-104), 3) := dk_167 255 152 (dk_at dksX1_formatRoad_5 7 rfl rfl)
theorem dX1_formatRoad_125 : decode cX1_formatRoad 125 = .ok (.aload_n 0, 1) := dk_42 (dk_at dksX1_formatRoad_5 10 rfl rfl)
theorem dX1_formatRoad_126 : decode cX1_formatRoad 126 = .ok (.getfield 46, 3) := dk_180 0 46 (dk_at dksX1_formatRoad_5 11 rfl rfl)
theorem dX1_formatRoad_129 : decode cX1_formatRoad 129 = .ok (.invokevirtual 465, 3) := dk_182 1 209 (dk_at dksX1_formatRoad_5 14 rfl rfl)
theorem dX1_formatRoad_132 : decode cX1_formatRoad 132 = .ok (.ireturn, 1) := dk_172 (dk_at dksX1_formatRoad_5 17 rfl rfl)
abbrev cX1_outputByte : ByteArray := prog_1_method_86_code
def yX1_outputByte : MethodName := ⟨RX1, "outputByte", "(I)I"⟩
def dkwX1_outputByte_1 : List UInt8 := [182, 1, 212, 167, 0, 4, 2, 172]
abbrev dktX1_outputByte_1 : List UInt8 := dkwX1_outputByte_1 ++ []
def dkwX1_outputByte_0 : List UInt8 := [27, 133, 9, 42, 180, 0, 46, 182, 1, 209, 4, 100, 133, 184, 0, 142, 153, 0, 14, 42, 180, 0, 46, 27]
abbrev dktX1_outputByte_0 : List UInt8 := dkwX1_outputByte_0 ++ dktX1_outputByte_1
theorem dksX1_outputByte_0 : cX1_outputByte.data.toList.drop 0 = dktX1_outputByte_0 := by decide +kernel
theorem dksX1_outputByte_1 : cX1_outputByte.data.toList.drop 24 = dktX1_outputByte_1 := dk_seg dksX1_outputByte_0 24 rfl rfl
theorem dX1_outputByte_0 : decode cX1_outputByte 0 = .ok (.iload_n 1, 1) := dk_27 (dk_at dksX1_outputByte_0 0 rfl rfl)
theorem dX1_outputByte_1 : decode cX1_outputByte 1 = .ok (.i2l, 1) := dk_133 (dk_at dksX1_outputByte_0 1 rfl rfl)
theorem dX1_outputByte_2 : decode cX1_outputByte 2 = .ok (.lconst 0, 1) := dk_9 (dk_at dksX1_outputByte_0 2 rfl rfl)
theorem dX1_outputByte_3 : decode cX1_outputByte 3 = .ok (.aload_n 0, 1) := dk_42 (dk_at dksX1_outputByte_0 3 rfl rfl)
theorem dX1_outputByte_4 : decode cX1_outputByte 4 = .ok (.getfield 46, 3) := dk_180 0 46 (dk_at dksX1_outputByte_0 4 rfl rfl)
theorem dX1_outputByte_7 : decode cX1_outputByte 7 = .ok (.invokevirtual 465, 3) := dk_182 1 209 (dk_at dksX1_outputByte_0 7 rfl rfl)
theorem dX1_outputByte_10 : decode cX1_outputByte 10 = .ok (.iconst 1, 1) := dk_4 (dk_at dksX1_outputByte_0 10 rfl rfl)
theorem dX1_outputByte_11 : decode cX1_outputByte 11 = .ok (.isub, 1) := dk_100 (dk_at dksX1_outputByte_0 11 rfl rfl)
theorem dX1_outputByte_12 : decode cX1_outputByte 12 = .ok (.i2l, 1) := dk_133 (dk_at dksX1_outputByte_0 12 rfl rfl)
theorem dX1_outputByte_13 : decode cX1_outputByte 13 = .ok (.invokestatic 142, 3) := dk_184 0 142 (dk_at dksX1_outputByte_0 13 rfl rfl)
theorem dX1_outputByte_16 : decode cX1_outputByte 16 = .ok (.ifCond .eq 14, 3) := dk_153 0 14 (dk_at dksX1_outputByte_0 16 rfl rfl)
theorem dX1_outputByte_19 : decode cX1_outputByte 19 = .ok (.aload_n 0, 1) := dk_42 (dk_at dksX1_outputByte_0 19 rfl rfl)
theorem dX1_outputByte_20 : decode cX1_outputByte 20 = .ok (.getfield 46, 3) := dk_180 0 46 (dk_at dksX1_outputByte_0 20 rfl rfl)
theorem dX1_outputByte_23 : decode cX1_outputByte 23 = .ok (.iload_n 1, 1) := dk_27 (dk_at dksX1_outputByte_0 23 rfl rfl)
theorem dX1_outputByte_24 : decode cX1_outputByte 24 = .ok (.invokevirtual 468, 3) := dk_182 1 212 (dk_at dksX1_outputByte_1 0 rfl rfl)
theorem dX1_outputByte_27 : decode cX1_outputByte 27 = .ok (.goto 4, 3) := dk_167 0 4 (dk_at dksX1_outputByte_1 3 rfl rfl)
theorem dX1_outputByte_30 : decode cX1_outputByte 30 = .ok (.iconst (-1), 1) := dk_2 (dk_at dksX1_outputByte_1 6 rfl rfl)
theorem dX1_outputByte_31 : decode cX1_outputByte 31 = .ok (.ireturn, 1) := dk_172 (dk_at dksX1_outputByte_1 7 rfl rfl)
abbrev cX1_append : ByteArray := prog_1_method_12_code
def yX1_append : MethodName := ⟨RX1, "append", "(IIIII)I"⟩
def dkwX1_append_2 : List UInt8 := [182, 0, 138, 42, 180, 0, 131, 172]
abbrev dktX1_append_2 : List UInt8 := dkwX1_append_2 ++ []
def dkwX1_append_1 : List UInt8 := [188, 10, 89, 3, 27, 79, 89, 4, 28, 79, 89, 5, 29, 79, 89, 6, 21, 4, 79, 89, 7, 21, 5, 79]
abbrev dktX1_append_1 : List UInt8 := dkwX1_append_1 ++ dktX1_append_2
def dkwX1_append_0 : List UInt8 := [42, 180, 0, 131, 16, 20, 96, 17, 2, 188, 163, 0, 7, 4, 167, 0, 4, 3, 184, 0, 134, 42, 8]
abbrev dktX1_append_0 : List UInt8 := dkwX1_append_0 ++ dktX1_append_1
theorem dksX1_append_0 : cX1_append.data.toList.drop 0 = dktX1_append_0 := by decide +kernel
theorem dksX1_append_1 : cX1_append.data.toList.drop 23 = dktX1_append_1 := dk_seg dksX1_append_0 23 rfl rfl
theorem dksX1_append_2 : cX1_append.data.toList.drop 47 = dktX1_append_2 := dk_seg dksX1_append_1 24 rfl rfl
theorem dX1_append_0 : decode cX1_append 0 = .ok (.aload_n 0, 1) := dk_42 (dk_at dksX1_append_0 0 rfl rfl)
theorem dX1_append_1 : decode cX1_append 1 = .ok (.getfield 131, 3) := dk_180 0 131 (dk_at dksX1_append_0 1 rfl rfl)
theorem dX1_append_4 : decode cX1_append 4 = .ok (.bipush 20, 2) := dk_16 20 (dk_at dksX1_append_0 4 rfl rfl)
theorem dX1_append_6 : decode cX1_append 6 = .ok (.iadd, 1) := dk_96 (dk_at dksX1_append_0 6 rfl rfl)
theorem dX1_append_7 : decode cX1_append 7 = .ok (.sipush 700, 3) := dk_17 2 188 (dk_at dksX1_append_0 7 rfl rfl)
theorem dX1_append_10 : decode cX1_append 10 = .ok (.if_icmp .gt 7, 3) := dk_163 0 7 (dk_at dksX1_append_0 10 rfl rfl)
theorem dX1_append_13 : decode cX1_append 13 = .ok (.iconst 1, 1) := dk_4 (dk_at dksX1_append_0 13 rfl rfl)
theorem dX1_append_14 : decode cX1_append 14 = .ok (.goto 4, 3) := dk_167 0 4 (dk_at dksX1_append_0 14 rfl rfl)
theorem dX1_append_17 : decode cX1_append 17 = .ok (.iconst 0, 1) := dk_3 (dk_at dksX1_append_0 17 rfl rfl)
theorem dX1_append_18 : decode cX1_append 18 = .ok (.invokestatic 134, 3) := dk_184 0 134 (dk_at dksX1_append_0 18 rfl rfl)
theorem dX1_append_21 : decode cX1_append 21 = .ok (.aload_n 0, 1) := dk_42 (dk_at dksX1_append_0 21 rfl rfl)
theorem dX1_append_22 : decode cX1_append 22 = .ok (.iconst 5, 1) := dk_8 (dk_at dksX1_append_0 22 rfl rfl)
theorem dX1_append_23 : decode cX1_append 23 = .ok (.newarray .int, 2) := dk_188_10 (dk_at dksX1_append_1 0 rfl rfl)
theorem dX1_append_25 : decode cX1_append 25 = .ok (.dup, 1) := dk_89 (dk_at dksX1_append_1 2 rfl rfl)
theorem dX1_append_26 : decode cX1_append 26 = .ok (.iconst 0, 1) := dk_3 (dk_at dksX1_append_1 3 rfl rfl)
theorem dX1_append_27 : decode cX1_append 27 = .ok (.iload_n 1, 1) := dk_27 (dk_at dksX1_append_1 4 rfl rfl)
theorem dX1_append_28 : decode cX1_append 28 = .ok (.iastore, 1) := dk_79 (dk_at dksX1_append_1 5 rfl rfl)
theorem dX1_append_29 : decode cX1_append 29 = .ok (.dup, 1) := dk_89 (dk_at dksX1_append_1 6 rfl rfl)
theorem dX1_append_30 : decode cX1_append 30 = .ok (.iconst 1, 1) := dk_4 (dk_at dksX1_append_1 7 rfl rfl)
theorem dX1_append_31 : decode cX1_append 31 = .ok (.iload_n 2, 1) := dk_28 (dk_at dksX1_append_1 8 rfl rfl)
theorem dX1_append_32 : decode cX1_append 32 = .ok (.iastore, 1) := dk_79 (dk_at dksX1_append_1 9 rfl rfl)
theorem dX1_append_33 : decode cX1_append 33 = .ok (.dup, 1) := dk_89 (dk_at dksX1_append_1 10 rfl rfl)
theorem dX1_append_34 : decode cX1_append 34 = .ok (.iconst 2, 1) := dk_5 (dk_at dksX1_append_1 11 rfl rfl)
theorem dX1_append_35 : decode cX1_append 35 = .ok (.iload_n 3, 1) := dk_29 (dk_at dksX1_append_1 12 rfl rfl)
theorem dX1_append_36 : decode cX1_append 36 = .ok (.iastore, 1) := dk_79 (dk_at dksX1_append_1 13 rfl rfl)
theorem dX1_append_37 : decode cX1_append 37 = .ok (.dup, 1) := dk_89 (dk_at dksX1_append_1 14 rfl rfl)
theorem dX1_append_38 : decode cX1_append 38 = .ok (.iconst 3, 1) := dk_6 (dk_at dksX1_append_1 15 rfl rfl)
theorem dX1_append_39 : decode cX1_append 39 = .ok (.iload 4, 2) := dk_21 4 (dk_at dksX1_append_1 16 rfl rfl)
theorem dX1_append_41 : decode cX1_append 41 = .ok (.iastore, 1) := dk_79 (dk_at dksX1_append_1 18 rfl rfl)
theorem dX1_append_42 : decode cX1_append 42 = .ok (.dup, 1) := dk_89 (dk_at dksX1_append_1 19 rfl rfl)
theorem dX1_append_43 : decode cX1_append 43 = .ok (.iconst 4, 1) := dk_7 (dk_at dksX1_append_1 20 rfl rfl)
theorem dX1_append_44 : decode cX1_append 44 = .ok (.iload 5, 2) := dk_21 5 (dk_at dksX1_append_1 21 rfl rfl)
theorem dX1_append_46 : decode cX1_append 46 = .ok (.iastore, 1) := dk_79 (dk_at dksX1_append_1 23 rfl rfl)
theorem dX1_append_47 : decode cX1_append 47 = .ok (.invokevirtual 138, 3) := dk_182 0 138 (dk_at dksX1_append_2 0 rfl rfl)
theorem dX1_append_50 : decode cX1_append 50 = .ok (.aload_n 0, 1) := dk_42 (dk_at dksX1_append_2 3 rfl rfl)
theorem dX1_append_51 : decode cX1_append 51 = .ok (.getfield 131, 3) := dk_180 0 131 (dk_at dksX1_append_2 4 rfl rfl)
theorem dX1_append_54 : decode cX1_append 54 = .ok (.ireturn, 1) := dk_172 (dk_at dksX1_append_2 7 rfl rfl)
abbrev cX1_checkState : ByteArray := prog_1_method_4_code
def yX1_checkState : MethodName := ⟨RX1, "checkState", "(Z)V"⟩
def dkwX1_checkState_0 : List UInt8 := [26, 154, 0, 11, 187, 0, 10, 89, 183, 0, 12, 191, 177]
abbrev dktX1_checkState_0 : List UInt8 := dkwX1_checkState_0 ++ []
theorem dksX1_checkState_0 : cX1_checkState.data.toList.drop 0 = dktX1_checkState_0 := by decide +kernel
theorem dX1_checkState_0 : decode cX1_checkState 0 = .ok (.iload_n 0, 1) := dk_26 (dk_at dksX1_checkState_0 0 rfl rfl)
theorem dX1_checkState_1 : decode cX1_checkState 1 = .ok (.ifCond .ne 11, 3) := dk_154 0 11 (dk_at dksX1_checkState_0 1 rfl rfl)
theorem dX1_checkState_4 : decode cX1_checkState 4 = .ok (.new 10, 3) := dk_187 0 10 (dk_at dksX1_checkState_0 4 rfl rfl)
theorem dX1_checkState_7 : decode cX1_checkState 7 = .ok (.dup, 1) := dk_89 (dk_at dksX1_checkState_0 7 rfl rfl)
theorem dX1_checkState_8 : decode cX1_checkState 8 = .ok (.invokespecial 12, 3) := dk_183 0 12 (dk_at dksX1_checkState_0 8 rfl rfl)
theorem dX1_checkState_11 : decode cX1_checkState 11 = .ok (.athrow, 1) := dk_191 (dk_at dksX1_checkState_0 11 rfl rfl)
theorem dX1_checkState_12 : decode cX1_checkState 12 = .ok (.return_, 1) := dk_177 (dk_at dksX1_checkState_0 12 rfl rfl)
abbrev cX1_appendWords : ByteArray := prog_1_method_11_code
def yX1_appendWords : MethodName := ⟨RX1, "appendWords", "([I)V"⟩
def dkwX1_appendWords_2 : List UInt8 := [180, 0, 131, 4, 96, 181, 0, 131, 132, 6, 248, 167, 255, 223, 132, 4, 1, 167, 255, 201, 177]
abbrev dktX1_appendWords_2 : List UInt8 := dkwX1_appendWords_2 ++ []
def dkwX1_appendWords_1 : List UInt8 := [21, 6, 155, 0, 34, 42, 180, 0, 35, 42, 180, 0, 131, 21, 5, 21, 6, 122, 145, 84, 42, 89]
abbrev dktX1_appendWords_1 : List UInt8 := dkwX1_appendWords_1 ++ dktX1_appendWords_2
def dkwX1_appendWords_0 : List UInt8 := [43, 77, 44, 190, 62, 3, 54, 4, 21, 4, 29, 162, 0, 55, 44, 21, 4, 46, 54, 5, 16, 24, 54, 6]
abbrev dktX1_appendWords_0 : List UInt8 := dkwX1_appendWords_0 ++ dktX1_appendWords_1
theorem dksX1_appendWords_0 : cX1_appendWords.data.toList.drop 0 = dktX1_appendWords_0 := by decide +kernel
theorem dksX1_appendWords_1 : cX1_appendWords.data.toList.drop 24 = dktX1_appendWords_1 := dk_seg dksX1_appendWords_0 24 rfl rfl
theorem dksX1_appendWords_2 : cX1_appendWords.data.toList.drop 46 = dktX1_appendWords_2 := dk_seg dksX1_appendWords_1 22 rfl rfl
theorem dX1_appendWords_0 : decode cX1_appendWords 0 = .ok (.aload_n 1, 1) := dk_43 (dk_at dksX1_appendWords_0 0 rfl rfl)
theorem dX1_appendWords_1 : decode cX1_appendWords 1 = .ok (.astore_n 2, 1) := dk_77 (dk_at dksX1_appendWords_0 1 rfl rfl)
theorem dX1_appendWords_2 : decode cX1_appendWords 2 = .ok (.aload_n 2, 1) := dk_44 (dk_at dksX1_appendWords_0 2 rfl rfl)
theorem dX1_appendWords_3 : decode cX1_appendWords 3 = .ok (.arraylength, 1) := dk_190 (dk_at dksX1_appendWords_0 3 rfl rfl)
theorem dX1_appendWords_4 : decode cX1_appendWords 4 = .ok (.istore_n 3, 1) := dk_62 (dk_at dksX1_appendWords_0 4 rfl rfl)
theorem dX1_appendWords_5 : decode cX1_appendWords 5 = .ok (.iconst 0, 1) := dk_3 (dk_at dksX1_appendWords_0 5 rfl rfl)
theorem dX1_appendWords_6 : decode cX1_appendWords 6 = .ok (.istore 4, 2) := dk_54 4 (dk_at dksX1_appendWords_0 6 rfl rfl)
theorem dX1_appendWords_8 : decode cX1_appendWords 8 = .ok (.iload 4, 2) := dk_21 4 (dk_at dksX1_appendWords_0 8 rfl rfl)
theorem dX1_appendWords_10 : decode cX1_appendWords 10 = .ok (.iload_n 3, 1) := dk_29 (dk_at dksX1_appendWords_0 10 rfl rfl)
theorem dX1_appendWords_11 : decode cX1_appendWords 11 = .ok (.if_icmp .ge 55, 3) := dk_162 0 55 (dk_at dksX1_appendWords_0 11 rfl rfl)
theorem dX1_appendWords_14 : decode cX1_appendWords 14 = .ok (.aload_n 2, 1) := dk_44 (dk_at dksX1_appendWords_0 14 rfl rfl)
theorem dX1_appendWords_15 : decode cX1_appendWords 15 = .ok (.iload 4, 2) := dk_21 4 (dk_at dksX1_appendWords_0 15 rfl rfl)
theorem dX1_appendWords_17 : decode cX1_appendWords 17 = .ok (.iaload, 1) := dk_46 (dk_at dksX1_appendWords_0 17 rfl rfl)
theorem dX1_appendWords_18 : decode cX1_appendWords 18 = .ok (.istore 5, 2) := dk_54 5 (dk_at dksX1_appendWords_0 18 rfl rfl)
theorem dX1_appendWords_20 : decode cX1_appendWords 20 = .ok (.bipush 24, 2) := dk_16 24 (dk_at dksX1_appendWords_0 20 rfl rfl)
theorem dX1_appendWords_22 : decode cX1_appendWords 22 = .ok (.istore 6, 2) := dk_54 6 (dk_at dksX1_appendWords_0 22 rfl rfl)
theorem dX1_appendWords_24 : decode cX1_appendWords 24 = .ok (.iload 6, 2) := dk_21 6 (dk_at dksX1_appendWords_1 0 rfl rfl)
theorem dX1_appendWords_26 : decode cX1_appendWords 26 = .ok (.ifCond .lt 34, 3) := dk_155 0 34 (dk_at dksX1_appendWords_1 2 rfl rfl)
theorem dX1_appendWords_29 : decode cX1_appendWords 29 = .ok (.aload_n 0, 1) := dk_42 (dk_at dksX1_appendWords_1 5 rfl rfl)
theorem dX1_appendWords_30 : decode cX1_appendWords 30 = .ok (.getfield 35, 3) := dk_180 0 35 (dk_at dksX1_appendWords_1 6 rfl rfl)
theorem dX1_appendWords_33 : decode cX1_appendWords 33 = .ok (.aload_n 0, 1) := dk_42 (dk_at dksX1_appendWords_1 9 rfl rfl)
theorem dX1_appendWords_34 : decode cX1_appendWords 34 = .ok (.getfield 131, 3) := dk_180 0 131 (dk_at dksX1_appendWords_1 10 rfl rfl)
theorem dX1_appendWords_37 : decode cX1_appendWords 37 = .ok (.iload 5, 2) := dk_21 5 (dk_at dksX1_appendWords_1 13 rfl rfl)
theorem dX1_appendWords_39 : decode cX1_appendWords 39 = .ok (.iload 6, 2) := dk_21 6 (dk_at dksX1_appendWords_1 15 rfl rfl)
theorem dX1_appendWords_41 : decode cX1_appendWords 41 = .ok (.ishr, 1) := dk_122 (dk_at dksX1_appendWords_1 17 rfl rfl)
theorem dX1_appendWords_42 : decode cX1_appendWords 42 = .ok (.i2b, 1) := dk_145 (dk_at dksX1_appendWords_1 18 rfl rfl)
theorem dX1_appendWords_43 : decode cX1_appendWords 43 = .ok (.bastore, 1) := dk_84 (dk_at dksX1_appendWords_1 19 rfl rfl)
theorem dX1_appendWords_44 : decode cX1_appendWords 44 = .ok (.aload_n 0, 1) := dk_42 (dk_at dksX1_appendWords_1 20 rfl rfl)
theorem dX1_appendWords_45 : decode cX1_appendWords 45 = .ok (.dup, 1) := dk_89 (dk_at dksX1_appendWords_1 21 rfl rfl)
theorem dX1_appendWords_46 : decode cX1_appendWords 46 = .ok (.getfield 131, 3) := dk_180 0 131 (dk_at dksX1_appendWords_2 0 rfl rfl)
theorem dX1_appendWords_49 : decode cX1_appendWords 49 = .ok (.iconst 1, 1) := dk_4 (dk_at dksX1_appendWords_2 3 rfl rfl)
theorem dX1_appendWords_50 : decode cX1_appendWords 50 = .ok (.iadd, 1) := dk_96 (dk_at dksX1_appendWords_2 4 rfl rfl)
theorem dX1_appendWords_51 : decode cX1_appendWords 51 = .ok (.putfield 131, 3) := dk_181 0 131 (dk_at dksX1_appendWords_2 5 rfl rfl)
theorem dX1_appendWords_54 : decode cX1_appendWords 54 = .ok (.iinc 6 (-8), 3) := dk_132 6 248 (dk_at dksX1_appendWords_2 8 rfl rfl)
theorem dX1_appendWords_57 : decode cX1_appendWords 57 = .ok (.goto (-33), 3) := dk_167 255 223 (dk_at dksX1_appendWords_2 11 rfl rfl)
theorem dX1_appendWords_60 : decode cX1_appendWords 60 = .ok (.iinc 4 1, 3) := dk_132 4 1 (dk_at dksX1_appendWords_2 14 rfl rfl)
theorem dX1_appendWords_63 : decode cX1_appendWords 63 = .ok (.goto (-55), 3) := dk_167 255 201 (dk_at dksX1_appendWords_2 17 rfl rfl)
theorem dX1_appendWords_66 : decode cX1_appendWords 66 = .ok (.return_, 1) := dk_177 (dk_at dksX1_appendWords_2 20 rfl rfl)
abbrev cX1_truncate : ByteArray := prog_1_method_13_code
def yX1_truncate : MethodName := ⟨RX1, "truncate", "(I)I"⟩
def dkwX1_truncate_0 : List UInt8 := [27, 133, 9, 42, 180, 0, 131, 133, 184, 0, 142, 184, 0, 146, 42, 27, 181, 0, 131, 27, 172]
abbrev dktX1_truncate_0 : List UInt8 := dkwX1_truncate_0 ++ []
theorem dksX1_truncate_0 : cX1_truncate.data.toList.drop 0 = dktX1_truncate_0 := by decide +kernel
theorem dX1_truncate_0 : decode cX1_truncate 0 = .ok (.iload_n 1, 1) := dk_27 (dk_at dksX1_truncate_0 0 rfl rfl)
theorem dX1_truncate_1 : decode cX1_truncate 1 = .ok (.i2l, 1) := dk_133 (dk_at dksX1_truncate_0 1 rfl rfl)
theorem dX1_truncate_2 : decode cX1_truncate 2 = .ok (.lconst 0, 1) := dk_9 (dk_at dksX1_truncate_0 2 rfl rfl)
theorem dX1_truncate_3 : decode cX1_truncate 3 = .ok (.aload_n 0, 1) := dk_42 (dk_at dksX1_truncate_0 3 rfl rfl)
theorem dX1_truncate_4 : decode cX1_truncate 4 = .ok (.getfield 131, 3) := dk_180 0 131 (dk_at dksX1_truncate_0 4 rfl rfl)
theorem dX1_truncate_7 : decode cX1_truncate 7 = .ok (.i2l, 1) := dk_133 (dk_at dksX1_truncate_0 7 rfl rfl)
theorem dX1_truncate_8 : decode cX1_truncate 8 = .ok (.invokestatic 142, 3) := dk_184 0 142 (dk_at dksX1_truncate_0 8 rfl rfl)
theorem dX1_truncate_11 : decode cX1_truncate 11 = .ok (.invokestatic 146, 3) := dk_184 0 146 (dk_at dksX1_truncate_0 11 rfl rfl)
theorem dX1_truncate_14 : decode cX1_truncate 14 = .ok (.aload_n 0, 1) := dk_42 (dk_at dksX1_truncate_0 14 rfl rfl)
theorem dX1_truncate_15 : decode cX1_truncate 15 = .ok (.iload_n 1, 1) := dk_27 (dk_at dksX1_truncate_0 15 rfl rfl)
theorem dX1_truncate_16 : decode cX1_truncate 16 = .ok (.putfield 131, 3) := dk_181 0 131 (dk_at dksX1_truncate_0 16 rfl rfl)
theorem dX1_truncate_19 : decode cX1_truncate 19 = .ok (.iload_n 1, 1) := dk_27 (dk_at dksX1_truncate_0 19 rfl rfl)
theorem dX1_truncate_20 : decode cX1_truncate 20 = .ok (.ireturn, 1) := dk_172 (dk_at dksX1_truncate_0 20 rfl rfl)
abbrev cX1_checkArgument : ByteArray := prog_1_method_3_code
def yX1_checkArgument : MethodName := ⟨RX1, "checkArgument", "(Z)V"⟩
def dkwX1_checkArgument_0 : List UInt8 := [26, 154, 0, 11, 187, 0, 7, 89, 183, 0, 9, 191, 177]
abbrev dktX1_checkArgument_0 : List UInt8 := dkwX1_checkArgument_0 ++ []
theorem dksX1_checkArgument_0 : cX1_checkArgument.data.toList.drop 0 = dktX1_checkArgument_0 := by decide +kernel
theorem dX1_checkArgument_0 : decode cX1_checkArgument 0 = .ok (.iload_n 0, 1) := dk_26 (dk_at dksX1_checkArgument_0 0 rfl rfl)
theorem dX1_checkArgument_1 : decode cX1_checkArgument 1 = .ok (.ifCond .ne 11, 3) := dk_154 0 11 (dk_at dksX1_checkArgument_0 1 rfl rfl)
theorem dX1_checkArgument_4 : decode cX1_checkArgument 4 = .ok (.new 7, 3) := dk_187 0 7 (dk_at dksX1_checkArgument_0 4 rfl rfl)
theorem dX1_checkArgument_7 : decode cX1_checkArgument 7 = .ok (.dup, 1) := dk_89 (dk_at dksX1_checkArgument_0 7 rfl rfl)
theorem dX1_checkArgument_8 : decode cX1_checkArgument 8 = .ok (.invokespecial 9, 3) := dk_183 0 9 (dk_at dksX1_checkArgument_0 8 rfl rfl)
theorem dX1_checkArgument_11 : decode cX1_checkArgument 11 = .ok (.athrow, 1) := dk_191 (dk_at dksX1_checkArgument_0 11 rfl rfl)
theorem dX1_checkArgument_12 : decode cX1_checkArgument 12 = .ok (.return_, 1) := dk_177 (dk_at dksX1_checkArgument_0 12 rfl rfl)
abbrev cX1_load : ByteArray := prog_1_method_17_code
def yX1_load : MethodName := ⟨RX1, "load", "()I"⟩
def dkwX1_load_2 : List UInt8 := [180, 0, 31, 182, 0, 197, 43, 180, 0, 200, 182, 0, 204, 172]
abbrev dktX1_load_2 : List UInt8 := dkwX1_load_2 ++ []
def dkwX1_load_1 : List UInt8 := [182, 0, 190, 191, 78, 42, 3, 181, 0, 131, 45, 191, 42, 182, 0, 194, 42, 43, 181, 0, 22, 42]
abbrev dktX1_load_1 : List UInt8 := dkwX1_load_1 ++ dktX1_load_2
def dkwX1_load_0 : List UInt8 := [187, 0, 182, 89, 42, 183, 0, 184, 182, 0, 187, 76, 42, 3, 181, 0, 131, 167, 0, 18, 77, 42, 44]
abbrev dktX1_load_0 : List UInt8 := dkwX1_load_0 ++ dktX1_load_1
theorem dksX1_load_0 : cX1_load.data.toList.drop 0 = dktX1_load_0 := by decide +kernel
theorem dksX1_load_1 : cX1_load.data.toList.drop 23 = dktX1_load_1 := dk_seg dksX1_load_0 23 rfl rfl
theorem dksX1_load_2 : cX1_load.data.toList.drop 45 = dktX1_load_2 := dk_seg dksX1_load_1 22 rfl rfl
theorem dX1_load_0 : decode cX1_load 0 = .ok (.new 182, 3) := dk_187 0 182 (dk_at dksX1_load_0 0 rfl rfl)
theorem dX1_load_3 : decode cX1_load 3 = .ok (.dup, 1) := dk_89 (dk_at dksX1_load_0 3 rfl rfl)
theorem dX1_load_4 : decode cX1_load 4 = .ok (.aload_n 0, 1) := dk_42 (dk_at dksX1_load_0 4 rfl rfl)
theorem dX1_load_5 : decode cX1_load 5 = .ok (.invokespecial 184, 3) := dk_183 0 184 (dk_at dksX1_load_0 5 rfl rfl)
theorem dX1_load_8 : decode cX1_load 8 = .ok (.invokevirtual 187, 3) := dk_182 0 187 (dk_at dksX1_load_0 8 rfl rfl)
theorem dX1_load_11 : decode cX1_load 11 = .ok (.astore_n 1, 1) := dk_76 (dk_at dksX1_load_0 11 rfl rfl)
theorem dX1_load_12 : decode cX1_load 12 = .ok (.aload_n 0, 1) := dk_42 (dk_at dksX1_load_0 12 rfl rfl)
theorem dX1_load_13 : decode cX1_load 13 = .ok (.iconst 0, 1) := dk_3 (dk_at dksX1_load_0 13 rfl rfl)
theorem dX1_load_14 : decode cX1_load 14 = .ok (.putfield 131, 3) := dk_181 0 131 (dk_at dksX1_load_0 14 rfl rfl)
theorem dX1_load_17 : decode cX1_load 17 = .ok (.goto 18, 3) := dk_167 0 18 (dk_at dksX1_load_0 17 rfl rfl)
theorem dX1_load_20 : decode cX1_load 20 = .ok (.astore_n 2, 1) := dk_77 (dk_at dksX1_load_0 20 rfl rfl)
theorem dX1_load_21 : decode cX1_load 21 = .ok (.aload_n 0, 1) := dk_42 (dk_at dksX1_load_0 21 rfl rfl)
theorem dX1_load_22 : decode cX1_load 22 = .ok (.aload_n 2, 1) := dk_44 (dk_at dksX1_load_0 22 rfl rfl)
theorem dX1_load_23 : decode cX1_load 23 = .ok (.invokevirtual 190, 3) := dk_182 0 190 (dk_at dksX1_load_1 0 rfl rfl)
theorem dX1_load_26 : decode cX1_load 26 = .ok (.athrow, 1) := dk_191 (dk_at dksX1_load_1 3 rfl rfl)
theorem dX1_load_27 : decode cX1_load 27 = .ok (.astore_n 3, 1) := dk_78 (dk_at dksX1_load_1 4 rfl rfl)
theorem dX1_load_28 : decode cX1_load 28 = .ok (.aload_n 0, 1) := dk_42 (dk_at dksX1_load_1 5 rfl rfl)
theorem dX1_load_29 : decode cX1_load 29 = .ok (.iconst 0, 1) := dk_3 (dk_at dksX1_load_1 6 rfl rfl)
theorem dX1_load_30 : decode cX1_load 30 = .ok (.putfield 131, 3) := dk_181 0 131 (dk_at dksX1_load_1 7 rfl rfl)
theorem dX1_load_33 : decode cX1_load 33 = .ok (.aload_n 3, 1) := dk_45 (dk_at dksX1_load_1 10 rfl rfl)
theorem dX1_load_34 : decode cX1_load 34 = .ok (.athrow, 1) := dk_191 (dk_at dksX1_load_1 11 rfl rfl)
theorem dX1_load_35 : decode cX1_load 35 = .ok (.aload_n 0, 1) := dk_42 (dk_at dksX1_load_1 12 rfl rfl)
theorem dX1_load_36 : decode cX1_load 36 = .ok (.invokevirtual 194, 3) := dk_182 0 194 (dk_at dksX1_load_1 13 rfl rfl)
theorem dX1_load_39 : decode cX1_load 39 = .ok (.aload_n 0, 1) := dk_42 (dk_at dksX1_load_1 16 rfl rfl)
theorem dX1_load_40 : decode cX1_load 40 = .ok (.aload_n 1, 1) := dk_43 (dk_at dksX1_load_1 17 rfl rfl)
theorem dX1_load_41 : decode cX1_load 41 = .ok (.putfield 22, 3) := dk_181 0 22 (dk_at dksX1_load_1 18 rfl rfl)
theorem dX1_load_44 : decode cX1_load 44 = .ok (.aload_n 0, 1) := dk_42 (dk_at dksX1_load_1 21 rfl rfl)
theorem dX1_load_45 : decode cX1_load 45 = .ok (.getfield 31, 3) := dk_180 0 31 (dk_at dksX1_load_2 0 rfl rfl)
theorem dX1_load_48 : decode cX1_load 48 = .ok (.invokevirtual 197, 3) := dk_182 0 197 (dk_at dksX1_load_2 3 rfl rfl)
theorem dX1_load_51 : decode cX1_load 51 = .ok (.aload_n 1, 1) := dk_43 (dk_at dksX1_load_2 6 rfl rfl)
theorem dX1_load_52 : decode cX1_load 52 = .ok (.getfield 200, 3) := dk_180 0 200 (dk_at dksX1_load_2 7 rfl rfl)
theorem dX1_load_55 : decode cX1_load 55 = .ok (.invokevirtual 204, 3) := dk_182 0 204 (dk_at dksX1_load_2 10 rfl rfl)
theorem dX1_load_58 : decode cX1_load 58 = .ok (.ireturn, 1) := dk_172 (dk_at dksX1_load_2 13 rfl rfl)
abbrev cX1_report : ByteArray := prog_1_method_15_code
def yX1_report : MethodName := ⟨RX1, "report", "(LSnowPass$ParseError;)Ljava/lang/IllegalArgumentException;"⟩
def dkwX1_report_0 : List UInt8 := [42, 43, 180, 0, 171, 181, 0, 176, 42, 43, 180, 0, 179, 181, 0, 39, 187, 0, 7, 89, 183, 0, 9, 176]
abbrev dktX1_report_0 : List UInt8 := dkwX1_report_0 ++ []
theorem dksX1_report_0 : cX1_report.data.toList.drop 0 = dktX1_report_0 := by decide +kernel
theorem dX1_report_0 : decode cX1_report 0 = .ok (.aload_n 0, 1) := dk_42 (dk_at dksX1_report_0 0 rfl rfl)
theorem dX1_report_1 : decode cX1_report 1 = .ok (.aload_n 1, 1) := dk_43 (dk_at dksX1_report_0 1 rfl rfl)
theorem dX1_report_2 : decode cX1_report 2 = .ok (.getfield 171, 3) := dk_180 0 171 (dk_at dksX1_report_0 2 rfl rfl)
theorem dX1_report_5 : decode cX1_report 5 = .ok (.putfield 176, 3) := dk_181 0 176 (dk_at dksX1_report_0 5 rfl rfl)
theorem dX1_report_8 : decode cX1_report 8 = .ok (.aload_n 0, 1) := dk_42 (dk_at dksX1_report_0 8 rfl rfl)
theorem dX1_report_9 : decode cX1_report 9 = .ok (.aload_n 1, 1) := dk_43 (dk_at dksX1_report_0 9 rfl rfl)
theorem dX1_report_10 : decode cX1_report 10 = .ok (.getfield 179, 3) := dk_180 0 179 (dk_at dksX1_report_0 10 rfl rfl)
theorem dX1_report_13 : decode cX1_report 13 = .ok (.putfield 39, 3) := dk_181 0 39 (dk_at dksX1_report_0 13 rfl rfl)
theorem dX1_report_16 : decode cX1_report 16 = .ok (.new 7, 3) := dk_187 0 7 (dk_at dksX1_report_0 16 rfl rfl)
theorem dX1_report_19 : decode cX1_report 19 = .ok (.dup, 1) := dk_89 (dk_at dksX1_report_0 19 rfl rfl)
theorem dX1_report_20 : decode cX1_report 20 = .ok (.invokespecial 9, 3) := dk_183 0 9 (dk_at dksX1_report_0 20 rfl rfl)
theorem dX1_report_23 : decode cX1_report 23 = .ok (.areturn, 1) := dk_176 (dk_at dksX1_report_0 23 rfl rfl)
abbrev cX1_clearError : ByteArray := prog_1_method_16_code
def yX1_clearError : MethodName := ⟨RX1, "clearError", "()V"⟩
def dkwX1_clearError_0 : List UInt8 := [42, 3, 181, 0, 176, 42, 2, 181, 0, 39, 177]
abbrev dktX1_clearError_0 : List UInt8 := dkwX1_clearError_0 ++ []
theorem dksX1_clearError_0 : cX1_clearError.data.toList.drop 0 = dktX1_clearError_0 := by decide +kernel
theorem dX1_clearError_0 : decode cX1_clearError 0 = .ok (.aload_n 0, 1) := dk_42 (dk_at dksX1_clearError_0 0 rfl rfl)
theorem dX1_clearError_1 : decode cX1_clearError 1 = .ok (.iconst 0, 1) := dk_3 (dk_at dksX1_clearError_0 1 rfl rfl)
theorem dX1_clearError_2 : decode cX1_clearError 2 = .ok (.putfield 176, 3) := dk_181 0 176 (dk_at dksX1_clearError_0 2 rfl rfl)
theorem dX1_clearError_5 : decode cX1_clearError 5 = .ok (.aload_n 0, 1) := dk_42 (dk_at dksX1_clearError_0 5 rfl rfl)
theorem dX1_clearError_6 : decode cX1_clearError 6 = .ok (.iconst (-1), 1) := dk_2 (dk_at dksX1_clearError_0 6 rfl rfl)
theorem dX1_clearError_7 : decode cX1_clearError 7 = .ok (.putfield 39, 3) := dk_181 0 39 (dk_at dksX1_clearError_0 7 rfl rfl)
theorem dX1_clearError_10 : decode cX1_clearError 10 = .ok (.return_, 1) := dk_177 (dk_at dksX1_clearError_0 10 rfl rfl)
abbrev cX1_executeCommands : ByteArray := prog_1_method_19_code
def yX1_executeCommands : MethodName := ⟨RX1, "executeCommands", "()I"⟩
def dkwX1_executeCommands_2 : List UInt8 := [44, 43, 184, 0, 213, 62, 42, 44, 182, 0, 116, 29, 172]
abbrev dktX1_executeCommands_2 : List UInt8 := dkwX1_executeCommands_2 ++ []
def dkwX1_executeCommands_1 : List UInt8 := [182, 0, 190, 191, 78, 42, 3, 181, 0, 131, 45, 191, 42, 182, 0, 194, 42, 180, 0, 22, 182, 0, 107, 77]
abbrev dktX1_executeCommands_1 : List UInt8 := dkwX1_executeCommands_1 ++ dktX1_executeCommands_2
def dkwX1_executeCommands_0 : List UInt8 := [187, 0, 182, 89, 42, 183, 0, 184, 182, 0, 209, 76, 42, 3, 181, 0, 131, 167, 0, 18, 77, 42, 44]
abbrev dktX1_executeCommands_0 : List UInt8 := dkwX1_executeCommands_0 ++ dktX1_executeCommands_1
theorem dksX1_executeCommands_0 : cX1_executeCommands.data.toList.drop 0 = dktX1_executeCommands_0 := by decide +kernel
theorem dksX1_executeCommands_1 : cX1_executeCommands.data.toList.drop 23 = dktX1_executeCommands_1 := dk_seg dksX1_executeCommands_0 23 rfl rfl
theorem dksX1_executeCommands_2 : cX1_executeCommands.data.toList.drop 47 = dktX1_executeCommands_2 := dk_seg dksX1_executeCommands_1 24 rfl rfl
theorem dX1_executeCommands_0 : decode cX1_executeCommands 0 = .ok (.new 182, 3) := dk_187 0 182 (dk_at dksX1_executeCommands_0 0 rfl rfl)
theorem dX1_executeCommands_3 : decode cX1_executeCommands 3 = .ok (.dup, 1) := dk_89 (dk_at dksX1_executeCommands_0 3 rfl rfl)
theorem dX1_executeCommands_4 : decode cX1_executeCommands 4 = .ok (.aload_n 0, 1) := dk_42 (dk_at dksX1_executeCommands_0 4 rfl rfl)
theorem dX1_executeCommands_5 : decode cX1_executeCommands 5 = .ok (.invokespecial 184, 3) := dk_183 0 184 (dk_at dksX1_executeCommands_0 5 rfl rfl)
theorem dX1_executeCommands_8 : decode cX1_executeCommands 8 = .ok (.invokevirtual 209, 3) := dk_182 0 209 (dk_at dksX1_executeCommands_0 8 rfl rfl)
theorem dX1_executeCommands_11 : decode cX1_executeCommands 11 = .ok (.astore_n 1, 1) := dk_76 (dk_at dksX1_executeCommands_0 11 rfl rfl)
theorem dX1_executeCommands_12 : decode cX1_executeCommands 12 = .ok (.aload_n 0, 1) := dk_42 (dk_at dksX1_executeCommands_0 12 rfl rfl)
theorem dX1_executeCommands_13 : decode cX1_executeCommands 13 = .ok (.iconst 0, 1) := dk_3 (dk_at dksX1_executeCommands_0 13 rfl rfl)
theorem dX1_executeCommands_14 : decode cX1_executeCommands 14 = .ok (.putfield 131, 3) := dk_181 0 131 (dk_at dksX1_executeCommands_0 14 rfl rfl)
theorem dX1_executeCommands_17 : decode cX1_executeCommands 17 = .ok (.goto 18, 3) := dk_167 0 18 (dk_at dksX1_executeCommands_0 17 rfl rfl)
theorem dX1_executeCommands_20 : decode cX1_executeCommands 20 = .ok (.astore_n 2, 1) := dk_77 (dk_at dksX1_executeCommands_0 20 rfl rfl)
theorem dX1_executeCommands_21 : decode cX1_executeCommands 21 = .ok (.aload_n 0, 1) := dk_42 (dk_at dksX1_executeCommands_0 21 rfl rfl)
theorem dX1_executeCommands_22 : decode cX1_executeCommands 22 = .ok (.aload_n 2, 1) := dk_44 (dk_at dksX1_executeCommands_0 22 rfl rfl)
theorem dX1_executeCommands_23 : decode cX1_executeCommands 23 = .ok (.invokevirtual 190, 3) := dk_182 0 190 (dk_at dksX1_executeCommands_1 0 rfl rfl)
theorem dX1_executeCommands_26 : decode cX1_executeCommands 26 = .ok (.athrow, 1) := dk_191 (dk_at dksX1_executeCommands_1 3 rfl rfl)
theorem dX1_executeCommands_27 : decode cX1_executeCommands 27 = .ok (.astore_n 3, 1) := dk_78 (dk_at dksX1_executeCommands_1 4 rfl rfl)
theorem dX1_executeCommands_28 : decode cX1_executeCommands 28 = .ok (.aload_n 0, 1) := dk_42 (dk_at dksX1_executeCommands_1 5 rfl rfl)
theorem dX1_executeCommands_29 : decode cX1_executeCommands 29 = .ok (.iconst 0, 1) := dk_3 (dk_at dksX1_executeCommands_1 6 rfl rfl)
theorem dX1_executeCommands_30 : decode cX1_executeCommands 30 = .ok (.putfield 131, 3) := dk_181 0 131 (dk_at dksX1_executeCommands_1 7 rfl rfl)
theorem dX1_executeCommands_33 : decode cX1_executeCommands 33 = .ok (.aload_n 3, 1) := dk_45 (dk_at dksX1_executeCommands_1 10 rfl rfl)
theorem dX1_executeCommands_34 : decode cX1_executeCommands 34 = .ok (.athrow, 1) := dk_191 (dk_at dksX1_executeCommands_1 11 rfl rfl)
theorem dX1_executeCommands_35 : decode cX1_executeCommands 35 = .ok (.aload_n 0, 1) := dk_42 (dk_at dksX1_executeCommands_1 12 rfl rfl)
theorem dX1_executeCommands_36 : decode cX1_executeCommands 36 = .ok (.invokevirtual 194, 3) := dk_182 0 194 (dk_at dksX1_executeCommands_1 13 rfl rfl)
theorem dX1_executeCommands_39 : decode cX1_executeCommands 39 = .ok (.aload_n 0, 1) := dk_42 (dk_at dksX1_executeCommands_1 16 rfl rfl)
theorem dX1_executeCommands_40 : decode cX1_executeCommands 40 = .ok (.getfield 22, 3) := dk_180 0 22 (dk_at dksX1_executeCommands_1 17 rfl rfl)
theorem dX1_executeCommands_43 : decode cX1_executeCommands 43 = .ok (.invokevirtual 107, 3) := dk_182 0 107 (dk_at dksX1_executeCommands_1 20 rfl rfl)
theorem dX1_executeCommands_46 : decode cX1_executeCommands 46 = .ok (.astore_n 2, 1) := dk_77 (dk_at dksX1_executeCommands_1 23 rfl rfl)
theorem dX1_executeCommands_47 : decode cX1_executeCommands 47 = .ok (.aload_n 2, 1) := dk_44 (dk_at dksX1_executeCommands_2 0 rfl rfl)
theorem dX1_executeCommands_48 : decode cX1_executeCommands 48 = .ok (.aload_n 1, 1) := dk_43 (dk_at dksX1_executeCommands_2 1 rfl rfl)
theorem dX1_executeCommands_49 : decode cX1_executeCommands 49 = .ok (.invokestatic 213, 3) := dk_184 0 213 (dk_at dksX1_executeCommands_2 2 rfl rfl)
theorem dX1_executeCommands_52 : decode cX1_executeCommands 52 = .ok (.istore_n 3, 1) := dk_62 (dk_at dksX1_executeCommands_2 5 rfl rfl)
theorem dX1_executeCommands_53 : decode cX1_executeCommands 53 = .ok (.aload_n 0, 1) := dk_42 (dk_at dksX1_executeCommands_2 6 rfl rfl)
theorem dX1_executeCommands_54 : decode cX1_executeCommands 54 = .ok (.aload_n 2, 1) := dk_44 (dk_at dksX1_executeCommands_2 7 rfl rfl)
theorem dX1_executeCommands_55 : decode cX1_executeCommands 55 = .ok (.invokevirtual 116, 3) := dk_182 0 116 (dk_at dksX1_executeCommands_2 8 rfl rfl)
theorem dX1_executeCommands_58 : decode cX1_executeCommands 58 = .ok (.iload_n 3, 1) := dk_29 (dk_at dksX1_executeCommands_2 11 rfl rfl)
theorem dX1_executeCommands_59 : decode cX1_executeCommands 59 = .ok (.ireturn, 1) := dk_172 (dk_at dksX1_executeCommands_2 12 rfl rfl)
abbrev cX1_isCommand : ByteArray := prog_1_method_14_code
def yX1_isCommand : MethodName := ⟨RX1, "isCommand", "(Ljava/lang/String;)Z"⟩
def dkwX1_isCommand_8 : List UInt8 := [4, 167, 0, 4, 3, 172]
abbrev dktX1_isCommand_8 : List UInt8 := dkwX1_isCommand_8 ++ []
def dkwX1_isCommand_7 : List UInt8 := [170, 0, 0, 0, 0, 0, 0, 52, 0, 0, 0, 0, 0, 0, 0, 7, 0, 0, 0, 48, 0, 0, 0, 48, 0, 0, 0, 48, 0, 0, 0, 48, 0, 0, 0, 48, 0, 0, 0, 48, 0, 0, 0, 48, 0, 0, 0, 48]
abbrev dktX1_isCommand_7 : List UInt8 := dkwX1_isCommand_7 ++ dktX1_isCommand_8
def dkwX1_isCommand_6 : List UInt8 := [61, 167, 0, 15, 43, 18, 169, 182, 0, 156, 153, 0, 6, 16, 7, 61, 28]
abbrev dktX1_isCommand_6 : List UInt8 := dkwX1_isCommand_6 ++ dktX1_isCommand_7
def dkwX1_isCommand_5 : List UInt8 := [18, 166, 182, 0, 156, 153, 0, 35, 8, 61, 167, 0, 30, 43, 18, 167, 182, 0, 156, 153, 0, 21, 16, 6]
abbrev dktX1_isCommand_5 : List UInt8 := dkwX1_isCommand_5 ++ dktX1_isCommand_6
def dkwX1_isCommand_4 : List UInt8 := [153, 0, 63, 6, 61, 167, 0, 58, 43, 18, 165, 182, 0, 156, 153, 0, 49, 7, 61, 167, 0, 44, 43]
abbrev dktX1_isCommand_4 : List UInt8 := dkwX1_isCommand_4 ++ dktX1_isCommand_5
def dkwX1_isCommand_3 : List UInt8 := [61, 167, 0, 86, 43, 18, 162, 182, 0, 156, 153, 0, 77, 5, 61, 167, 0, 72, 43, 18, 164, 182, 0, 156]
abbrev dktX1_isCommand_3 : List UInt8 := dkwX1_isCommand_3 ++ dktX1_isCommand_4
def dkwX1_isCommand_2 : List UInt8 := [43, 18, 154, 182, 0, 156, 153, 0, 105, 3, 61, 167, 0, 100, 43, 18, 160, 182, 0, 156, 153, 0, 91, 4]
abbrev dktX1_isCommand_2 : List UInt8 := dkwX1_isCommand_2 ++ dktX1_isCommand_3
def dkwX1_isCommand_1 : List UInt8 := [171, 0, 0, 0, 0, 0, 0, 187, 0, 0, 0, 8, 174, 122, 46, 122, 0, 0, 0, 175, 200, 70, 55, 17, 0, 0, 0, 104, 0, 46, 123, 32, 0, 0, 0, 160, 0, 52, 100, 17, 0, 0, 0, 76, 0, 53, 192, 86, 0, 0, 0, 90, 0, 55, 176, 8, 0, 0, 0, 146, 6, 130, 39, 253, 0, 0, 0, 118, 41, 59, 79, 126, 0, 0, 0, 132]
abbrev dktX1_isCommand_1 : List UInt8 := dkwX1_isCommand_1 ++ dktX1_isCommand_2
def dkwX1_isCommand_0 : List UInt8 := [42, 76, 2, 61, 43, 182, 0, 149]
abbrev dktX1_isCommand_0 : List UInt8 := dkwX1_isCommand_0 ++ dktX1_isCommand_1
theorem dksX1_isCommand_0 : cX1_isCommand.data.toList.drop 0 = dktX1_isCommand_0 := by decide +kernel
theorem dksX1_isCommand_1 : cX1_isCommand.data.toList.drop 8 = dktX1_isCommand_1 := dk_seg dksX1_isCommand_0 8 rfl rfl
theorem dksX1_isCommand_2 : cX1_isCommand.data.toList.drop 84 = dktX1_isCommand_2 := dk_seg dksX1_isCommand_1 76 rfl rfl
theorem dksX1_isCommand_3 : cX1_isCommand.data.toList.drop 108 = dktX1_isCommand_3 := dk_seg dksX1_isCommand_2 24 rfl rfl
theorem dksX1_isCommand_4 : cX1_isCommand.data.toList.drop 132 = dktX1_isCommand_4 := dk_seg dksX1_isCommand_3 24 rfl rfl
theorem dksX1_isCommand_5 : cX1_isCommand.data.toList.drop 155 = dktX1_isCommand_5 := dk_seg dksX1_isCommand_4 23 rfl rfl
theorem dksX1_isCommand_6 : cX1_isCommand.data.toList.drop 179 = dktX1_isCommand_6 := dk_seg dksX1_isCommand_5 24 rfl rfl
theorem dksX1_isCommand_7 : cX1_isCommand.data.toList.drop 196 = dktX1_isCommand_7 := dk_seg dksX1_isCommand_6 17 rfl rfl
theorem dksX1_isCommand_8 : cX1_isCommand.data.toList.drop 244 = dktX1_isCommand_8 := dk_seg dksX1_isCommand_7 48 rfl rfl
theorem dX1_isCommand_0 : decode cX1_isCommand 0 = .ok (.aload_n 0, 1) := dk_42 (dk_at dksX1_isCommand_0 0 rfl rfl)
theorem dX1_isCommand_1 : decode cX1_isCommand 1 = .ok (.astore_n 1, 1) := dk_76 (dk_at dksX1_isCommand_0 1 rfl rfl)
theorem dX1_isCommand_2 : decode cX1_isCommand 2 = .ok (.iconst (-1), 1) := dk_2 (dk_at dksX1_isCommand_0 2 rfl rfl)
theorem dX1_isCommand_3 : decode cX1_isCommand 3 = .ok (.istore_n 2, 1) := dk_61 (dk_at dksX1_isCommand_0 3 rfl rfl)
theorem dX1_isCommand_4 : decode cX1_isCommand 4 = .ok (.aload_n 1, 1) := dk_43 (dk_at dksX1_isCommand_0 4 rfl rfl)
theorem dX1_isCommand_5 : decode cX1_isCommand 5 = .ok (.invokevirtual 149, 3) := dk_182 0 149 (dk_at dksX1_isCommand_0 5 rfl rfl)
theorem dX1_isCommand_8 : decode cX1_isCommand 8 = .ok (.lookupswitch 187 #[(-1367724422, 175), (-934922479, 104), (3046176, 160), (3433489, 76), (3522646, 90), (3649544, 146), (109193213, 118), (691752830, 132)], 76) := by decide +kernel
theorem dX1_isCommand_84 : decode cX1_isCommand 84 = .ok (.aload_n 1, 1) := dk_43 (dk_at dksX1_isCommand_2 0 rfl rfl)
theorem dX1_isCommand_85 : decode cX1_isCommand 85 = .ok (.ldc 154, 2) := dk_18 154 (dk_at dksX1_isCommand_2 1 rfl rfl)
theorem dX1_isCommand_87 : decode cX1_isCommand 87 = .ok (.invokevirtual 156, 3) := dk_182 0 156 (dk_at dksX1_isCommand_2 3 rfl rfl)
theorem dX1_isCommand_90 : decode cX1_isCommand 90 = .ok (.ifCond .eq 105, 3) := dk_153 0 105 (dk_at dksX1_isCommand_2 6 rfl rfl)
theorem dX1_isCommand_93 : decode cX1_isCommand 93 = .ok (.iconst 0, 1) := dk_3 (dk_at dksX1_isCommand_2 9 rfl rfl)
theorem dX1_isCommand_94 : decode cX1_isCommand 94 = .ok (.istore_n 2, 1) := dk_61 (dk_at dksX1_isCommand_2 10 rfl rfl)
theorem dX1_isCommand_95 : decode cX1_isCommand 95 = .ok (.goto 100, 3) := dk_167 0 100 (dk_at dksX1_isCommand_2 11 rfl rfl)
theorem dX1_isCommand_98 : decode cX1_isCommand 98 = .ok (.aload_n 1, 1) := dk_43 (dk_at dksX1_isCommand_2 14 rfl rfl)
theorem dX1_isCommand_99 : decode cX1_isCommand 99 = .ok (.ldc 160, 2) := dk_18 160 (dk_at dksX1_isCommand_2 15 rfl rfl)
theorem dX1_isCommand_101 : decode cX1_isCommand 101 = .ok (.invokevirtual 156, 3) := dk_182 0 156 (dk_at dksX1_isCommand_2 17 rfl rfl)
theorem dX1_isCommand_104 : decode cX1_isCommand 104 = .ok (.ifCond .eq 91, 3) := dk_153 0 91 (dk_at dksX1_isCommand_2 20 rfl rfl)
theorem dX1_isCommand_107 : decode cX1_isCommand 107 = .ok (.iconst 1, 1) := dk_4 (dk_at dksX1_isCommand_2 23 rfl rfl)
theorem dX1_isCommand_108 : decode cX1_isCommand 108 = .ok (.istore_n 2, 1) := dk_61 (dk_at dksX1_isCommand_3 0 rfl rfl)
theorem dX1_isCommand_109 : decode cX1_isCommand 109 = .ok (.goto 86, 3) := dk_167 0 86 (dk_at dksX1_isCommand_3 1 rfl rfl)
theorem dX1_isCommand_112 : decode cX1_isCommand 112 = .ok (.aload_n 1, 1) := dk_43 (dk_at dksX1_isCommand_3 4 rfl rfl)
theorem dX1_isCommand_113 : decode cX1_isCommand 113 = .ok (.ldc 162, 2) := dk_18 162 (dk_at dksX1_isCommand_3 5 rfl rfl)
theorem dX1_isCommand_115 : decode cX1_isCommand 115 = .ok (.invokevirtual 156, 3) := dk_182 0 156 (dk_at dksX1_isCommand_3 7 rfl rfl)
theorem dX1_isCommand_118 : decode cX1_isCommand 118 = .ok (.ifCond .eq 77, 3) := dk_153 0 77 (dk_at dksX1_isCommand_3 10 rfl rfl)
theorem dX1_isCommand_121 : decode cX1_isCommand 121 = .ok (.iconst 2, 1) := dk_5 (dk_at dksX1_isCommand_3 13 rfl rfl)
theorem dX1_isCommand_122 : decode cX1_isCommand 122 = .ok (.istore_n 2, 1) := dk_61 (dk_at dksX1_isCommand_3 14 rfl rfl)
theorem dX1_isCommand_123 : decode cX1_isCommand 123 = .ok (.goto 72, 3) := dk_167 0 72 (dk_at dksX1_isCommand_3 15 rfl rfl)
theorem dX1_isCommand_126 : decode cX1_isCommand 126 = .ok (.aload_n 1, 1) := dk_43 (dk_at dksX1_isCommand_3 18 rfl rfl)
theorem dX1_isCommand_127 : decode cX1_isCommand 127 = .ok (.ldc 164, 2) := dk_18 164 (dk_at dksX1_isCommand_3 19 rfl rfl)
theorem dX1_isCommand_129 : decode cX1_isCommand 129 = .ok (.invokevirtual 156, 3) := dk_182 0 156 (dk_at dksX1_isCommand_3 21 rfl rfl)
theorem dX1_isCommand_132 : decode cX1_isCommand 132 = .ok (.ifCond .eq 63, 3) := dk_153 0 63 (dk_at dksX1_isCommand_4 0 rfl rfl)
theorem dX1_isCommand_135 : decode cX1_isCommand 135 = .ok (.iconst 3, 1) := dk_6 (dk_at dksX1_isCommand_4 3 rfl rfl)
theorem dX1_isCommand_136 : decode cX1_isCommand 136 = .ok (.istore_n 2, 1) := dk_61 (dk_at dksX1_isCommand_4 4 rfl rfl)
theorem dX1_isCommand_137 : decode cX1_isCommand 137 = .ok (.goto 58, 3) := dk_167 0 58 (dk_at dksX1_isCommand_4 5 rfl rfl)
theorem dX1_isCommand_140 : decode cX1_isCommand 140 = .ok (.aload_n 1, 1) := dk_43 (dk_at dksX1_isCommand_4 8 rfl rfl)
theorem dX1_isCommand_141 : decode cX1_isCommand 141 = .ok (.ldc 165, 2) := dk_18 165 (dk_at dksX1_isCommand_4 9 rfl rfl)
theorem dX1_isCommand_143 : decode cX1_isCommand 143 = .ok (.invokevirtual 156, 3) := dk_182 0 156 (dk_at dksX1_isCommand_4 11 rfl rfl)
theorem dX1_isCommand_146 : decode cX1_isCommand 146 = .ok (.ifCond .eq 49, 3) := dk_153 0 49 (dk_at dksX1_isCommand_4 14 rfl rfl)
theorem dX1_isCommand_149 : decode cX1_isCommand 149 = .ok (.iconst 4, 1) := dk_7 (dk_at dksX1_isCommand_4 17 rfl rfl)
theorem dX1_isCommand_150 : decode cX1_isCommand 150 = .ok (.istore_n 2, 1) := dk_61 (dk_at dksX1_isCommand_4 18 rfl rfl)
theorem dX1_isCommand_151 : decode cX1_isCommand 151 = .ok (.goto 44, 3) := dk_167 0 44 (dk_at dksX1_isCommand_4 19 rfl rfl)
theorem dX1_isCommand_154 : decode cX1_isCommand 154 = .ok (.aload_n 1, 1) := dk_43 (dk_at dksX1_isCommand_4 22 rfl rfl)
theorem dX1_isCommand_155 : decode cX1_isCommand 155 = .ok (.ldc 166, 2) := dk_18 166 (dk_at dksX1_isCommand_5 0 rfl rfl)
theorem dX1_isCommand_157 : decode cX1_isCommand 157 = .ok (.invokevirtual 156, 3) := dk_182 0 156 (dk_at dksX1_isCommand_5 2 rfl rfl)
theorem dX1_isCommand_160 : decode cX1_isCommand 160 = .ok (.ifCond .eq 35, 3) := dk_153 0 35 (dk_at dksX1_isCommand_5 5 rfl rfl)
theorem dX1_isCommand_163 : decode cX1_isCommand 163 = .ok (.iconst 5, 1) := dk_8 (dk_at dksX1_isCommand_5 8 rfl rfl)
theorem dX1_isCommand_164 : decode cX1_isCommand 164 = .ok (.istore_n 2, 1) := dk_61 (dk_at dksX1_isCommand_5 9 rfl rfl)
theorem dX1_isCommand_165 : decode cX1_isCommand 165 = .ok (.goto 30, 3) := dk_167 0 30 (dk_at dksX1_isCommand_5 10 rfl rfl)
theorem dX1_isCommand_168 : decode cX1_isCommand 168 = .ok (.aload_n 1, 1) := dk_43 (dk_at dksX1_isCommand_5 13 rfl rfl)
theorem dX1_isCommand_169 : decode cX1_isCommand 169 = .ok (.ldc 167, 2) := dk_18 167 (dk_at dksX1_isCommand_5 14 rfl rfl)
theorem dX1_isCommand_171 : decode cX1_isCommand 171 = .ok (.invokevirtual 156, 3) := dk_182 0 156 (dk_at dksX1_isCommand_5 16 rfl rfl)
theorem dX1_isCommand_174 : decode cX1_isCommand 174 = .ok (.ifCond .eq 21, 3) := dk_153 0 21 (dk_at dksX1_isCommand_5 19 rfl rfl)
theorem dX1_isCommand_177 : decode cX1_isCommand 177 = .ok (.bipush 6, 2) := dk_16 6 (dk_at dksX1_isCommand_5 22 rfl rfl)
theorem dX1_isCommand_179 : decode cX1_isCommand 179 = .ok (.istore_n 2, 1) := dk_61 (dk_at dksX1_isCommand_6 0 rfl rfl)
theorem dX1_isCommand_180 : decode cX1_isCommand 180 = .ok (.goto 15, 3) := dk_167 0 15 (dk_at dksX1_isCommand_6 1 rfl rfl)
theorem dX1_isCommand_183 : decode cX1_isCommand 183 = .ok (.aload_n 1, 1) := dk_43 (dk_at dksX1_isCommand_6 4 rfl rfl)
theorem dX1_isCommand_184 : decode cX1_isCommand 184 = .ok (.ldc 169, 2) := dk_18 169 (dk_at dksX1_isCommand_6 5 rfl rfl)
theorem dX1_isCommand_186 : decode cX1_isCommand 186 = .ok (.invokevirtual 156, 3) := dk_182 0 156 (dk_at dksX1_isCommand_6 7 rfl rfl)
theorem dX1_isCommand_189 : decode cX1_isCommand 189 = .ok (.ifCond .eq 6, 3) := dk_153 0 6 (dk_at dksX1_isCommand_6 10 rfl rfl)
theorem dX1_isCommand_192 : decode cX1_isCommand 192 = .ok (.bipush 7, 2) := dk_16 7 (dk_at dksX1_isCommand_6 13 rfl rfl)
theorem dX1_isCommand_194 : decode cX1_isCommand 194 = .ok (.istore_n 2, 1) := dk_61 (dk_at dksX1_isCommand_6 15 rfl rfl)
theorem dX1_isCommand_195 : decode cX1_isCommand 195 = .ok (.iload_n 2, 1) := dk_28 (dk_at dksX1_isCommand_6 16 rfl rfl)
theorem dX1_isCommand_196 : decode cX1_isCommand 196 = .ok (.tableswitch 52 0 7 #[48, 48, 48, 48, 48, 48, 48, 48], 48) := by decide +kernel
theorem dX1_isCommand_244 : decode cX1_isCommand 244 = .ok (.iconst 1, 1) := dk_4 (dk_at dksX1_isCommand_8 0 rfl rfl)
theorem dX1_isCommand_245 : decode cX1_isCommand 245 = .ok (.goto 4, 3) := dk_167 0 4 (dk_at dksX1_isCommand_8 1 rfl rfl)
theorem dX1_isCommand_248 : decode cX1_isCommand 248 = .ok (.iconst 0, 1) := dk_3 (dk_at dksX1_isCommand_8 4 rfl rfl)
theorem dX1_isCommand_249 : decode cX1_isCommand 249 = .ok (.ireturn, 1) := dk_172 (dk_at dksX1_isCommand_8 5 rfl rfl)
abbrev cX1_execute : ByteArray := prog_1_method_18_code
def yX1_execute : MethodName := ⟨RX1, "execute", "(LSnowPass$State;[LSnowPass$Operation;)I"⟩
def dkwX1_execute_1 : List UInt8 := [167, 0, 6, 78, 28, 172, 28, 172]
abbrev dktX1_execute_1 : List UInt8 := dkwX1_execute_1 ++ []
def dkwX1_execute_0 : List UInt8 := [3, 61, 43, 28, 50, 198, 0, 19, 43, 28, 50, 42, 185, 0, 110, 2, 0, 62, 132, 2, 1, 167, 255, 237]
abbrev dktX1_execute_0 : List UInt8 := dkwX1_execute_0 ++ dktX1_execute_1
theorem dksX1_execute_0 : cX1_execute.data.toList.drop 0 = dktX1_execute_0 := by decide +kernel
theorem dksX1_execute_1 : cX1_execute.data.toList.drop 24 = dktX1_execute_1 := dk_seg dksX1_execute_0 24 rfl rfl
theorem dX1_execute_0 : decode cX1_execute 0 = .ok (.iconst 0, 1) := dk_3 (dk_at dksX1_execute_0 0 rfl rfl)
theorem dX1_execute_1 : decode cX1_execute 1 = .ok (.istore_n 2, 1) := dk_61 (dk_at dksX1_execute_0 1 rfl rfl)
theorem dX1_execute_2 : decode cX1_execute 2 = .ok (.aload_n 1, 1) := dk_43 (dk_at dksX1_execute_0 2 rfl rfl)
theorem dX1_execute_3 : decode cX1_execute 3 = .ok (.iload_n 2, 1) := dk_28 (dk_at dksX1_execute_0 3 rfl rfl)
theorem dX1_execute_4 : decode cX1_execute 4 = .ok (.aaload, 1) := dk_50 (dk_at dksX1_execute_0 4 rfl rfl)
theorem dX1_execute_5 : decode cX1_execute 5 = .ok (.ifnull 19, 3) := dk_198 0 19 (dk_at dksX1_execute_0 5 rfl rfl)
theorem dX1_execute_8 : decode cX1_execute 8 = .ok (.aload_n 1, 1) := dk_43 (dk_at dksX1_execute_0 8 rfl rfl)
theorem dX1_execute_9 : decode cX1_execute 9 = .ok (.iload_n 2, 1) := dk_28 (dk_at dksX1_execute_0 9 rfl rfl)
theorem dX1_execute_10 : decode cX1_execute 10 = .ok (.aaload, 1) := dk_50 (dk_at dksX1_execute_0 10 rfl rfl)
theorem dX1_execute_11 : decode cX1_execute 11 = .ok (.aload_n 0, 1) := dk_42 (dk_at dksX1_execute_0 11 rfl rfl)
theorem dX1_execute_12 : decode cX1_execute 12 = .ok (.invokeinterface 110 2, 5) := by decide +kernel
theorem dX1_execute_17 : decode cX1_execute 17 = .ok (.istore_n 3, 1) := dk_62 (dk_at dksX1_execute_0 17 rfl rfl)
theorem dX1_execute_18 : decode cX1_execute 18 = .ok (.iinc 2 1, 3) := dk_132 2 1 (dk_at dksX1_execute_0 18 rfl rfl)
theorem dX1_execute_21 : decode cX1_execute 21 = .ok (.goto (-19), 3) := dk_167 255 237 (dk_at dksX1_execute_0 21 rfl rfl)
theorem dX1_execute_24 : decode cX1_execute 24 = .ok (.goto 6, 3) := dk_167 0 6 (dk_at dksX1_execute_1 0 rfl rfl)
theorem dX1_execute_27 : decode cX1_execute 27 = .ok (.astore_n 3, 1) := dk_78 (dk_at dksX1_execute_1 3 rfl rfl)
theorem dX1_execute_28 : decode cX1_execute 28 = .ok (.iload_n 2, 1) := dk_28 (dk_at dksX1_execute_1 4 rfl rfl)
theorem dX1_execute_29 : decode cX1_execute 29 = .ok (.ireturn, 1) := dk_172 (dk_at dksX1_execute_1 5 rfl rfl)
theorem dX1_execute_30 : decode cX1_execute 30 = .ok (.iload_n 2, 1) := dk_28 (dk_at dksX1_execute_1 6 rfl rfl)
theorem dX1_execute_31 : decode cX1_execute 31 = .ok (.ireturn, 1) := dk_172 (dk_at dksX1_execute_1 7 rfl rfl)
abbrev cX1_record : ByteArray := prog_1_method_10_code
def yX1_record : MethodName := ⟨RX1, "record", "(LSnowPass$State;)V"⟩
def dkwX1_record_1 : List UInt8 := [180, 0, 31, 42, 180, 0, 22, 182, 0, 127, 42, 43, 181, 0, 22, 177]
abbrev dktX1_record_1 : List UInt8 := dkwX1_record_1 ++ []
def dkwX1_record_0 : List UInt8 := [42, 180, 0, 31, 182, 0, 120, 16, 8, 160, 0, 14, 42, 180, 0, 31, 182, 0, 123, 192, 0, 102, 77, 42]
abbrev dktX1_record_0 : List UInt8 := dkwX1_record_0 ++ dktX1_record_1
theorem dksX1_record_0 : cX1_record.data.toList.drop 0 = dktX1_record_0 := by decide +kernel
theorem dksX1_record_1 : cX1_record.data.toList.drop 24 = dktX1_record_1 := dk_seg dksX1_record_0 24 rfl rfl
theorem dX1_record_0 : decode cX1_record 0 = .ok (.aload_n 0, 1) := dk_42 (dk_at dksX1_record_0 0 rfl rfl)
theorem dX1_record_1 : decode cX1_record 1 = .ok (.getfield 31, 3) := dk_180 0 31 (dk_at dksX1_record_0 1 rfl rfl)
theorem dX1_record_4 : decode cX1_record 4 = .ok (.invokevirtual 120, 3) := dk_182 0 120 (dk_at dksX1_record_0 4 rfl rfl)
theorem dX1_record_7 : decode cX1_record 7 = .ok (.bipush 8, 2) := dk_16 8 (dk_at dksX1_record_0 7 rfl rfl)
theorem dX1_record_9 : decode cX1_record 9 = .ok (.if_icmp .ne 14, 3) := dk_160 0 14 (dk_at dksX1_record_0 9 rfl rfl)
theorem dX1_record_12 : decode cX1_record 12 = .ok (.aload_n 0, 1) := dk_42 (dk_at dksX1_record_0 12 rfl rfl)
theorem dX1_record_13 : decode cX1_record 13 = .ok (.getfield 31, 3) := dk_180 0 31 (dk_at dksX1_record_0 13 rfl rfl)
theorem dX1_record_16 : decode cX1_record 16 = .ok (.invokevirtual 123, 3) := dk_182 0 123 (dk_at dksX1_record_0 16 rfl rfl)
theorem dX1_record_19 : decode cX1_record 19 = .ok (.checkcast 102, 3) := dk_192 0 102 (dk_at dksX1_record_0 19 rfl rfl)
theorem dX1_record_22 : decode cX1_record 22 = .ok (.astore_n 2, 1) := dk_77 (dk_at dksX1_record_0 22 rfl rfl)
theorem dX1_record_23 : decode cX1_record 23 = .ok (.aload_n 0, 1) := dk_42 (dk_at dksX1_record_0 23 rfl rfl)
theorem dX1_record_24 : decode cX1_record 24 = .ok (.getfield 31, 3) := dk_180 0 31 (dk_at dksX1_record_1 0 rfl rfl)
theorem dX1_record_27 : decode cX1_record 27 = .ok (.aload_n 0, 1) := dk_42 (dk_at dksX1_record_1 3 rfl rfl)
theorem dX1_record_28 : decode cX1_record 28 = .ok (.getfield 22, 3) := dk_180 0 22 (dk_at dksX1_record_1 4 rfl rfl)
theorem dX1_record_31 : decode cX1_record 31 = .ok (.invokevirtual 127, 3) := dk_182 0 127 (dk_at dksX1_record_1 7 rfl rfl)
theorem dX1_record_34 : decode cX1_record 34 = .ok (.aload_n 0, 1) := dk_42 (dk_at dksX1_record_1 10 rfl rfl)
theorem dX1_record_35 : decode cX1_record 35 = .ok (.aload_n 1, 1) := dk_43 (dk_at dksX1_record_1 11 rfl rfl)
theorem dX1_record_36 : decode cX1_record 36 = .ok (.putfield 22, 3) := dk_181 0 22 (dk_at dksX1_record_1 12 rfl rfl)
theorem dX1_record_39 : decode cX1_record 39 = .ok (.return_, 1) := dk_177 (dk_at dksX1_record_1 15 rfl rfl)
abbrev cX1_depthOf : ByteArray := prog_1_method_27_code
def yX1_depthOf : MethodName := ⟨RX1, "depthOf", "(I)I"⟩
def dkwX1_depthOf_0 : List UInt8 := [42, 27, 182, 0, 230, 42, 180, 0, 22, 180, 0, 200, 180, 0, 56, 27, 46, 172]
abbrev dktX1_depthOf_0 : List UInt8 := dkwX1_depthOf_0 ++ []
theorem dksX1_depthOf_0 : cX1_depthOf.data.toList.drop 0 = dktX1_depthOf_0 := by decide +kernel
theorem dX1_depthOf_0 : decode cX1_depthOf 0 = .ok (.aload_n 0, 1) := dk_42 (dk_at dksX1_depthOf_0 0 rfl rfl)
theorem dX1_depthOf_1 : decode cX1_depthOf 1 = .ok (.iload_n 1, 1) := dk_27 (dk_at dksX1_depthOf_0 1 rfl rfl)
theorem dX1_depthOf_2 : decode cX1_depthOf 2 = .ok (.invokevirtual 230, 3) := dk_182 0 230 (dk_at dksX1_depthOf_0 2 rfl rfl)
theorem dX1_depthOf_5 : decode cX1_depthOf 5 = .ok (.aload_n 0, 1) := dk_42 (dk_at dksX1_depthOf_0 5 rfl rfl)
theorem dX1_depthOf_6 : decode cX1_depthOf 6 = .ok (.getfield 22, 3) := dk_180 0 22 (dk_at dksX1_depthOf_0 6 rfl rfl)
theorem dX1_depthOf_9 : decode cX1_depthOf 9 = .ok (.getfield 200, 3) := dk_180 0 200 (dk_at dksX1_depthOf_0 9 rfl rfl)
theorem dX1_depthOf_12 : decode cX1_depthOf 12 = .ok (.getfield 56, 3) := dk_180 0 56 (dk_at dksX1_depthOf_0 12 rfl rfl)
theorem dX1_depthOf_15 : decode cX1_depthOf 15 = .ok (.iload_n 1, 1) := dk_27 (dk_at dksX1_depthOf_0 15 rfl rfl)
theorem dX1_depthOf_16 : decode cX1_depthOf 16 = .ok (.iaload, 1) := dk_46 (dk_at dksX1_depthOf_0 16 rfl rfl)
theorem dX1_depthOf_17 : decode cX1_depthOf 17 = .ok (.ireturn, 1) := dk_172 (dk_at dksX1_depthOf_0 17 rfl rfl)
abbrev cX1_checkSegment : ByteArray := prog_1_method_22_code
def yX1_checkSegment : MethodName := ⟨RX1, "checkSegment", "(I)V"⟩
def dkwX1_checkSegment_0 : List UInt8 := [27, 133, 9, 42, 180, 0, 22, 180, 0, 200, 182, 0, 204, 4, 100, 133, 184, 0, 142, 184, 0, 217, 177]
abbrev dktX1_checkSegment_0 : List UInt8 := dkwX1_checkSegment_0 ++ []
theorem dksX1_checkSegment_0 : cX1_checkSegment.data.toList.drop 0 = dktX1_checkSegment_0 := by decide +kernel
theorem dX1_checkSegment_0 : decode cX1_checkSegment 0 = .ok (.iload_n 1, 1) := dk_27 (dk_at dksX1_checkSegment_0 0 rfl rfl)
theorem dX1_checkSegment_1 : decode cX1_checkSegment 1 = .ok (.i2l, 1) := dk_133 (dk_at dksX1_checkSegment_0 1 rfl rfl)
theorem dX1_checkSegment_2 : decode cX1_checkSegment 2 = .ok (.lconst 0, 1) := dk_9 (dk_at dksX1_checkSegment_0 2 rfl rfl)
theorem dX1_checkSegment_3 : decode cX1_checkSegment 3 = .ok (.aload_n 0, 1) := dk_42 (dk_at dksX1_checkSegment_0 3 rfl rfl)
theorem dX1_checkSegment_4 : decode cX1_checkSegment 4 = .ok (.getfield 22, 3) := dk_180 0 22 (dk_at dksX1_checkSegment_0 4 rfl rfl)
theorem dX1_checkSegment_7 : decode cX1_checkSegment 7 = .ok (.getfield 200, 3) := dk_180 0 200 (dk_at dksX1_checkSegment_0 7 rfl rfl)
theorem dX1_checkSegment_10 : decode cX1_checkSegment 10 = .ok (.invokevirtual 204, 3) := dk_182 0 204 (dk_at dksX1_checkSegment_0 10 rfl rfl)
theorem dX1_checkSegment_13 : decode cX1_checkSegment 13 = .ok (.iconst 1, 1) := dk_4 (dk_at dksX1_checkSegment_0 13 rfl rfl)
theorem dX1_checkSegment_14 : decode cX1_checkSegment 14 = .ok (.isub, 1) := dk_100 (dk_at dksX1_checkSegment_0 14 rfl rfl)
theorem dX1_checkSegment_15 : decode cX1_checkSegment 15 = .ok (.i2l, 1) := dk_133 (dk_at dksX1_checkSegment_0 15 rfl rfl)
theorem dX1_checkSegment_16 : decode cX1_checkSegment 16 = .ok (.invokestatic 142, 3) := dk_184 0 142 (dk_at dksX1_checkSegment_0 16 rfl rfl)
theorem dX1_checkSegment_19 : decode cX1_checkSegment 19 = .ok (.invokestatic 217, 3) := dk_184 0 217 (dk_at dksX1_checkSegment_0 19 rfl rfl)
theorem dX1_checkSegment_22 : decode cX1_checkSegment 22 = .ok (.return_, 1) := dk_177 (dk_at dksX1_checkSegment_0 22 rfl rfl)
abbrev cX1_checkIndex : ByteArray := prog_1_method_2_code
def yX1_checkIndex : MethodName := ⟨RX1, "checkIndex", "(Z)V"⟩
def dkwX1_checkIndex_0 : List UInt8 := [26, 154, 0, 11, 187, 0, 1, 89, 183, 0, 3, 191, 177]
abbrev dktX1_checkIndex_0 : List UInt8 := dkwX1_checkIndex_0 ++ []
theorem dksX1_checkIndex_0 : cX1_checkIndex.data.toList.drop 0 = dktX1_checkIndex_0 := by decide +kernel
theorem dX1_checkIndex_0 : decode cX1_checkIndex 0 = .ok (.iload_n 0, 1) := dk_26 (dk_at dksX1_checkIndex_0 0 rfl rfl)
theorem dX1_checkIndex_1 : decode cX1_checkIndex 1 = .ok (.ifCond .ne 11, 3) := dk_154 0 11 (dk_at dksX1_checkIndex_0 1 rfl rfl)
theorem dX1_checkIndex_4 : decode cX1_checkIndex 4 = .ok (.new 1, 3) := dk_187 0 1 (dk_at dksX1_checkIndex_0 4 rfl rfl)
theorem dX1_checkIndex_7 : decode cX1_checkIndex 7 = .ok (.dup, 1) := dk_89 (dk_at dksX1_checkIndex_0 7 rfl rfl)
theorem dX1_checkIndex_8 : decode cX1_checkIndex 8 = .ok (.invokespecial 3, 3) := dk_183 0 3 (dk_at dksX1_checkIndex_0 8 rfl rfl)
theorem dX1_checkIndex_11 : decode cX1_checkIndex 11 = .ok (.athrow, 1) := dk_191 (dk_at dksX1_checkIndex_0 11 rfl rfl)
theorem dX1_checkIndex_12 : decode cX1_checkIndex 12 = .ok (.return_, 1) := dk_177 (dk_at dksX1_checkIndex_0 12 rfl rfl)
abbrev cX1_exposureOf : ByteArray := prog_1_method_28_code
def yX1_exposureOf : MethodName := ⟨RX1, "exposureOf", "(I)I"⟩
def dkwX1_exposureOf_0 : List UInt8 := [42, 27, 182, 0, 230, 42, 180, 0, 22, 180, 0, 200, 180, 0, 50, 27, 46, 172]
abbrev dktX1_exposureOf_0 : List UInt8 := dkwX1_exposureOf_0 ++ []
theorem dksX1_exposureOf_0 : cX1_exposureOf.data.toList.drop 0 = dktX1_exposureOf_0 := by decide +kernel
theorem dX1_exposureOf_0 : decode cX1_exposureOf 0 = .ok (.aload_n 0, 1) := dk_42 (dk_at dksX1_exposureOf_0 0 rfl rfl)
theorem dX1_exposureOf_1 : decode cX1_exposureOf 1 = .ok (.iload_n 1, 1) := dk_27 (dk_at dksX1_exposureOf_0 1 rfl rfl)
theorem dX1_exposureOf_2 : decode cX1_exposureOf 2 = .ok (.invokevirtual 230, 3) := dk_182 0 230 (dk_at dksX1_exposureOf_0 2 rfl rfl)
theorem dX1_exposureOf_5 : decode cX1_exposureOf 5 = .ok (.aload_n 0, 1) := dk_42 (dk_at dksX1_exposureOf_0 5 rfl rfl)
theorem dX1_exposureOf_6 : decode cX1_exposureOf 6 = .ok (.getfield 22, 3) := dk_180 0 22 (dk_at dksX1_exposureOf_0 6 rfl rfl)
theorem dX1_exposureOf_9 : decode cX1_exposureOf 9 = .ok (.getfield 200, 3) := dk_180 0 200 (dk_at dksX1_exposureOf_0 9 rfl rfl)
theorem dX1_exposureOf_12 : decode cX1_exposureOf 12 = .ok (.getfield 50, 3) := dk_180 0 50 (dk_at dksX1_exposureOf_0 12 rfl rfl)
theorem dX1_exposureOf_15 : decode cX1_exposureOf 15 = .ok (.iload_n 1, 1) := dk_27 (dk_at dksX1_exposureOf_0 15 rfl rfl)
theorem dX1_exposureOf_16 : decode cX1_exposureOf 16 = .ok (.iaload, 1) := dk_46 (dk_at dksX1_exposureOf_0 16 rfl rfl)
theorem dX1_exposureOf_17 : decode cX1_exposureOf 17 = .ok (.ireturn, 1) := dk_172 (dk_at dksX1_exposureOf_0 17 rfl rfl)
abbrev cX1_saltHours : ByteArray := prog_1_method_29_code
def yX1_saltHours : MethodName := ⟨RX1, "saltHours", "(I)I"⟩
def dkwX1_saltHours_0 : List UInt8 := [42, 27, 182, 0, 230, 42, 180, 0, 22, 180, 0, 200, 180, 0, 233, 27, 46, 172]
abbrev dktX1_saltHours_0 : List UInt8 := dkwX1_saltHours_0 ++ []
theorem dksX1_saltHours_0 : cX1_saltHours.data.toList.drop 0 = dktX1_saltHours_0 := by decide +kernel
theorem dX1_saltHours_0 : decode cX1_saltHours 0 = .ok (.aload_n 0, 1) := dk_42 (dk_at dksX1_saltHours_0 0 rfl rfl)
theorem dX1_saltHours_1 : decode cX1_saltHours 1 = .ok (.iload_n 1, 1) := dk_27 (dk_at dksX1_saltHours_0 1 rfl rfl)
theorem dX1_saltHours_2 : decode cX1_saltHours 2 = .ok (.invokevirtual 230, 3) := dk_182 0 230 (dk_at dksX1_saltHours_0 2 rfl rfl)
theorem dX1_saltHours_5 : decode cX1_saltHours 5 = .ok (.aload_n 0, 1) := dk_42 (dk_at dksX1_saltHours_0 5 rfl rfl)
theorem dX1_saltHours_6 : decode cX1_saltHours 6 = .ok (.getfield 22, 3) := dk_180 0 22 (dk_at dksX1_saltHours_0 6 rfl rfl)
theorem dX1_saltHours_9 : decode cX1_saltHours 9 = .ok (.getfield 200, 3) := dk_180 0 200 (dk_at dksX1_saltHours_0 9 rfl rfl)
theorem dX1_saltHours_12 : decode cX1_saltHours 12 = .ok (.getfield 233, 3) := dk_180 0 233 (dk_at dksX1_saltHours_0 12 rfl rfl)
theorem dX1_saltHours_15 : decode cX1_saltHours 15 = .ok (.iload_n 1, 1) := dk_27 (dk_at dksX1_saltHours_0 15 rfl rfl)
theorem dX1_saltHours_16 : decode cX1_saltHours 16 = .ok (.iaload, 1) := dk_46 (dk_at dksX1_saltHours_0 16 rfl rfl)
theorem dX1_saltHours_17 : decode cX1_saltHours 17 = .ok (.ireturn, 1) := dk_172 (dk_at dksX1_saltHours_0 17 rfl rfl)
abbrev cX1_isClear : ByteArray := prog_1_method_30_code
def yX1_isClear : MethodName := ⟨RX1, "isClear", "(I)Z"⟩
def dkwX1_isClear_0 : List UInt8 := [42, 27, 182, 0, 230, 42, 180, 0, 22, 180, 0, 200, 27, 182, 0, 235, 172]
abbrev dktX1_isClear_0 : List UInt8 := dkwX1_isClear_0 ++ []
theorem dksX1_isClear_0 : cX1_isClear.data.toList.drop 0 = dktX1_isClear_0 := by decide +kernel
theorem dX1_isClear_0 : decode cX1_isClear 0 = .ok (.aload_n 0, 1) := dk_42 (dk_at dksX1_isClear_0 0 rfl rfl)
theorem dX1_isClear_1 : decode cX1_isClear 1 = .ok (.iload_n 1, 1) := dk_27 (dk_at dksX1_isClear_0 1 rfl rfl)
theorem dX1_isClear_2 : decode cX1_isClear 2 = .ok (.invokevirtual 230, 3) := dk_182 0 230 (dk_at dksX1_isClear_0 2 rfl rfl)
theorem dX1_isClear_5 : decode cX1_isClear 5 = .ok (.aload_n 0, 1) := dk_42 (dk_at dksX1_isClear_0 5 rfl rfl)
theorem dX1_isClear_6 : decode cX1_isClear 6 = .ok (.getfield 22, 3) := dk_180 0 22 (dk_at dksX1_isClear_0 6 rfl rfl)
theorem dX1_isClear_9 : decode cX1_isClear 9 = .ok (.getfield 200, 3) := dk_180 0 200 (dk_at dksX1_isClear_0 9 rfl rfl)
theorem dX1_isClear_12 : decode cX1_isClear 12 = .ok (.iload_n 1, 1) := dk_27 (dk_at dksX1_isClear_0 12 rfl rfl)
theorem dX1_isClear_13 : decode cX1_isClear 13 = .ok (.invokevirtual 235, 3) := dk_182 0 235 (dk_at dksX1_isClear_0 13 rfl rfl)
theorem dX1_isClear_16 : decode cX1_isClear 16 = .ok (.ireturn, 1) := dk_172 (dk_at dksX1_isClear_0 16 rfl rfl)
abbrev cX1_ploughPosition : ByteArray := prog_1_method_38_code
def yX1_ploughPosition : MethodName := ⟨RX1, "ploughPosition", "(I)I"⟩
def dkwX1_ploughPosition_0 : List UInt8 := [42, 27, 182, 1, 11, 180, 1, 15, 172]
abbrev dktX1_ploughPosition_0 : List UInt8 := dkwX1_ploughPosition_0 ++ []
theorem dksX1_ploughPosition_0 : cX1_ploughPosition.data.toList.drop 0 = dktX1_ploughPosition_0 := by decide +kernel
theorem dX1_ploughPosition_0 : decode cX1_ploughPosition 0 = .ok (.aload_n 0, 1) := dk_42 (dk_at dksX1_ploughPosition_0 0 rfl rfl)
theorem dX1_ploughPosition_1 : decode cX1_ploughPosition 1 = .ok (.iload_n 1, 1) := dk_27 (dk_at dksX1_ploughPosition_0 1 rfl rfl)
theorem dX1_ploughPosition_2 : decode cX1_ploughPosition 2 = .ok (.invokevirtual 267, 3) := dk_182 1 11 (dk_at dksX1_ploughPosition_0 2 rfl rfl)
theorem dX1_ploughPosition_5 : decode cX1_ploughPosition 5 = .ok (.getfield 271, 3) := dk_180 1 15 (dk_at dksX1_ploughPosition_0 5 rfl rfl)
theorem dX1_ploughPosition_8 : decode cX1_ploughPosition 8 = .ok (.ireturn, 1) := dk_172 (dk_at dksX1_ploughPosition_0 8 rfl rfl)
abbrev cX1_ploughAt : ByteArray := prog_1_method_37_code
def yX1_ploughAt : MethodName := ⟨RX1, "ploughAt", "(I)LSnowPass$Plough;"⟩
def dkwX1_ploughAt_0 : List UInt8 := [27, 184, 1, 8, 42, 180, 0, 22, 180, 0, 200, 180, 0, 83, 27, 50, 176]
abbrev dktX1_ploughAt_0 : List UInt8 := dkwX1_ploughAt_0 ++ []
theorem dksX1_ploughAt_0 : cX1_ploughAt.data.toList.drop 0 = dktX1_ploughAt_0 := by decide +kernel
theorem dX1_ploughAt_0 : decode cX1_ploughAt 0 = .ok (.iload_n 1, 1) := dk_27 (dk_at dksX1_ploughAt_0 0 rfl rfl)
theorem dX1_ploughAt_1 : decode cX1_ploughAt 1 = .ok (.invokestatic 264, 3) := dk_184 1 8 (dk_at dksX1_ploughAt_0 1 rfl rfl)
theorem dX1_ploughAt_4 : decode cX1_ploughAt 4 = .ok (.aload_n 0, 1) := dk_42 (dk_at dksX1_ploughAt_0 4 rfl rfl)
theorem dX1_ploughAt_5 : decode cX1_ploughAt 5 = .ok (.getfield 22, 3) := dk_180 0 22 (dk_at dksX1_ploughAt_0 5 rfl rfl)
theorem dX1_ploughAt_8 : decode cX1_ploughAt 8 = .ok (.getfield 200, 3) := dk_180 0 200 (dk_at dksX1_ploughAt_0 8 rfl rfl)
theorem dX1_ploughAt_11 : decode cX1_ploughAt 11 = .ok (.getfield 83, 3) := dk_180 0 83 (dk_at dksX1_ploughAt_0 11 rfl rfl)
theorem dX1_ploughAt_14 : decode cX1_ploughAt 14 = .ok (.iload_n 1, 1) := dk_27 (dk_at dksX1_ploughAt_0 14 rfl rfl)
theorem dX1_ploughAt_15 : decode cX1_ploughAt 15 = .ok (.aaload, 1) := dk_50 (dk_at dksX1_ploughAt_0 15 rfl rfl)
theorem dX1_ploughAt_16 : decode cX1_ploughAt 16 = .ok (.areturn, 1) := dk_176 (dk_at dksX1_ploughAt_0 16 rfl rfl)
abbrev cX1_checkSide : ByteArray := prog_1_method_36_code
def yX1_checkSide : MethodName := ⟨RX1, "checkSide", "(I)V"⟩
def dkwX1_checkSide_0 : List UInt8 := [26, 133, 9, 10, 184, 0, 142, 184, 0, 217, 177]
abbrev dktX1_checkSide_0 : List UInt8 := dkwX1_checkSide_0 ++ []
theorem dksX1_checkSide_0 : cX1_checkSide.data.toList.drop 0 = dktX1_checkSide_0 := by decide +kernel
theorem dX1_checkSide_0 : decode cX1_checkSide 0 = .ok (.iload_n 0, 1) := dk_26 (dk_at dksX1_checkSide_0 0 rfl rfl)
theorem dX1_checkSide_1 : decode cX1_checkSide 1 = .ok (.i2l, 1) := dk_133 (dk_at dksX1_checkSide_0 1 rfl rfl)
theorem dX1_checkSide_2 : decode cX1_checkSide 2 = .ok (.lconst 0, 1) := dk_9 (dk_at dksX1_checkSide_0 2 rfl rfl)
theorem dX1_checkSide_3 : decode cX1_checkSide 3 = .ok (.lconst 1, 1) := dk_10 (dk_at dksX1_checkSide_0 3 rfl rfl)
theorem dX1_checkSide_4 : decode cX1_checkSide 4 = .ok (.invokestatic 142, 3) := dk_184 0 142 (dk_at dksX1_checkSide_0 4 rfl rfl)
theorem dX1_checkSide_7 : decode cX1_checkSide 7 = .ok (.invokestatic 217, 3) := dk_184 0 217 (dk_at dksX1_checkSide_0 7 rfl rfl)
theorem dX1_checkSide_10 : decode cX1_checkSide 10 = .ok (.return_, 1) := dk_177 (dk_at dksX1_checkSide_0 10 rfl rfl)
abbrev cX1_ploughCapacity : ByteArray := prog_1_method_39_code
def yX1_ploughCapacity : MethodName := ⟨RX1, "ploughCapacity", "(I)I"⟩
def dkwX1_ploughCapacity_0 : List UInt8 := [42, 27, 182, 1, 11, 180, 0, 66, 172]
abbrev dktX1_ploughCapacity_0 : List UInt8 := dkwX1_ploughCapacity_0 ++ []
theorem dksX1_ploughCapacity_0 : cX1_ploughCapacity.data.toList.drop 0 = dktX1_ploughCapacity_0 := by decide +kernel
theorem dX1_ploughCapacity_0 : decode cX1_ploughCapacity 0 = .ok (.aload_n 0, 1) := dk_42 (dk_at dksX1_ploughCapacity_0 0 rfl rfl)
theorem dX1_ploughCapacity_1 : decode cX1_ploughCapacity 1 = .ok (.iload_n 1, 1) := dk_27 (dk_at dksX1_ploughCapacity_0 1 rfl rfl)
theorem dX1_ploughCapacity_2 : decode cX1_ploughCapacity 2 = .ok (.invokevirtual 267, 3) := dk_182 1 11 (dk_at dksX1_ploughCapacity_0 2 rfl rfl)
theorem dX1_ploughCapacity_5 : decode cX1_ploughCapacity 5 = .ok (.getfield 66, 3) := dk_180 0 66 (dk_at dksX1_ploughCapacity_0 5 rfl rfl)
theorem dX1_ploughCapacity_8 : decode cX1_ploughCapacity 8 = .ok (.ireturn, 1) := dk_172 (dk_at dksX1_ploughCapacity_0 8 rfl rfl)
abbrev cX1_sackCount : ByteArray := prog_1_method_40_code
def yX1_sackCount : MethodName := ⟨RX1, "sackCount", "(I)I"⟩
def dkwX1_sackCount_0 : List UInt8 := [42, 27, 182, 1, 11, 180, 0, 71, 172]
abbrev dktX1_sackCount_0 : List UInt8 := dkwX1_sackCount_0 ++ []
theorem dksX1_sackCount_0 : cX1_sackCount.data.toList.drop 0 = dktX1_sackCount_0 := by decide +kernel
theorem dX1_sackCount_0 : decode cX1_sackCount 0 = .ok (.aload_n 0, 1) := dk_42 (dk_at dksX1_sackCount_0 0 rfl rfl)
theorem dX1_sackCount_1 : decode cX1_sackCount 1 = .ok (.iload_n 1, 1) := dk_27 (dk_at dksX1_sackCount_0 1 rfl rfl)
theorem dX1_sackCount_2 : decode cX1_sackCount 2 = .ok (.invokevirtual 267, 3) := dk_182 1 11 (dk_at dksX1_sackCount_0 2 rfl rfl)
theorem dX1_sackCount_5 : decode cX1_sackCount 5 = .ok (.getfield 71, 3) := dk_180 0 71 (dk_at dksX1_sackCount_0 5 rfl rfl)
theorem dX1_sackCount_8 : decode cX1_sackCount 8 = .ok (.ireturn, 1) := dk_172 (dk_at dksX1_sackCount_0 8 rfl rfl)
abbrev cX1_hasSigned : ByteArray := prog_1_method_41_code
def yX1_hasSigned : MethodName := ⟨RX1, "hasSigned", "(I)Z"⟩
def dkwX1_hasSigned_0 : List UInt8 := [42, 27, 182, 1, 11, 180, 1, 16, 172]
abbrev dktX1_hasSigned_0 : List UInt8 := dkwX1_hasSigned_0 ++ []
theorem dksX1_hasSigned_0 : cX1_hasSigned.data.toList.drop 0 = dktX1_hasSigned_0 := by decide +kernel
theorem dX1_hasSigned_0 : decode cX1_hasSigned 0 = .ok (.aload_n 0, 1) := dk_42 (dk_at dksX1_hasSigned_0 0 rfl rfl)
theorem dX1_hasSigned_1 : decode cX1_hasSigned 1 = .ok (.iload_n 1, 1) := dk_27 (dk_at dksX1_hasSigned_0 1 rfl rfl)
theorem dX1_hasSigned_2 : decode cX1_hasSigned 2 = .ok (.invokevirtual 267, 3) := dk_182 1 11 (dk_at dksX1_hasSigned_0 2 rfl rfl)
theorem dX1_hasSigned_5 : decode cX1_hasSigned 5 = .ok (.getfield 272, 3) := dk_180 1 16 (dk_at dksX1_hasSigned_0 5 rfl rfl)
theorem dX1_hasSigned_8 : decode cX1_hasSigned 8 = .ok (.ireturn, 1) := dk_172 (dk_at dksX1_hasSigned_0 8 rfl rfl)
abbrev cX1_unclearedOnSide : ByteArray := prog_1_method_43_code
def yX1_unclearedOnSide : MethodName := ⟨RX1, "unclearedOnSide", "(I)I"⟩
def dkwX1_unclearedOnSide_3 : List UInt8 := [28, 172]
abbrev dktX1_unclearedOnSide_3 : List UInt8 := dkwX1_unclearedOnSide_3 ++ []
def dkwX1_unclearedOnSide_2 : List UInt8 := [180, 0, 22, 180, 0, 200, 21, 4, 182, 0, 235, 153, 0, 7, 3, 167, 0, 4, 4, 96, 61, 167, 255, 210]
abbrev dktX1_unclearedOnSide_2 : List UInt8 := dkwX1_unclearedOnSide_2 ++ dktX1_unclearedOnSide_3
def dkwX1_unclearedOnSide_1 : List UInt8 := [185, 0, 248, 1, 0, 153, 0, 43, 45, 185, 0, 253, 1, 0, 192, 1, 0, 182, 1, 2, 54, 4, 28, 42]
abbrev dktX1_unclearedOnSide_1 : List UInt8 := dkwX1_unclearedOnSide_1 ++ dktX1_unclearedOnSide_2
def dkwX1_unclearedOnSide_0 : List UInt8 := [27, 184, 1, 8, 3, 61, 42, 180, 0, 22, 180, 0, 200, 27, 182, 1, 23, 185, 1, 27, 1, 0, 78, 45]
abbrev dktX1_unclearedOnSide_0 : List UInt8 := dkwX1_unclearedOnSide_0 ++ dktX1_unclearedOnSide_1
theorem dksX1_unclearedOnSide_0 : cX1_unclearedOnSide.data.toList.drop 0 = dktX1_unclearedOnSide_0 := by decide +kernel
theorem dksX1_unclearedOnSide_1 : cX1_unclearedOnSide.data.toList.drop 24 = dktX1_unclearedOnSide_1 := dk_seg dksX1_unclearedOnSide_0 24 rfl rfl
theorem dksX1_unclearedOnSide_2 : cX1_unclearedOnSide.data.toList.drop 48 = dktX1_unclearedOnSide_2 := dk_seg dksX1_unclearedOnSide_1 24 rfl rfl
theorem dksX1_unclearedOnSide_3 : cX1_unclearedOnSide.data.toList.drop 72 = dktX1_unclearedOnSide_3 := dk_seg dksX1_unclearedOnSide_2 24 rfl rfl
theorem dX1_unclearedOnSide_0 : decode cX1_unclearedOnSide 0 = .ok (.iload_n 1, 1) := dk_27 (dk_at dksX1_unclearedOnSide_0 0 rfl rfl)
theorem dX1_unclearedOnSide_1 : decode cX1_unclearedOnSide 1 = .ok (.invokestatic 264, 3) := dk_184 1 8 (dk_at dksX1_unclearedOnSide_0 1 rfl rfl)
theorem dX1_unclearedOnSide_4 : decode cX1_unclearedOnSide 4 = .ok (.iconst 0, 1) := dk_3 (dk_at dksX1_unclearedOnSide_0 4 rfl rfl)
theorem dX1_unclearedOnSide_5 : decode cX1_unclearedOnSide 5 = .ok (.istore_n 2, 1) := dk_61 (dk_at dksX1_unclearedOnSide_0 5 rfl rfl)
theorem dX1_unclearedOnSide_6 : decode cX1_unclearedOnSide 6 = .ok (.aload_n 0, 1) := dk_42 (dk_at dksX1_unclearedOnSide_0 6 rfl rfl)
theorem dX1_unclearedOnSide_7 : decode cX1_unclearedOnSide 7 = .ok (.getfield 22, 3) := dk_180 0 22 (dk_at dksX1_unclearedOnSide_0 7 rfl rfl)
theorem dX1_unclearedOnSide_10 : decode cX1_unclearedOnSide 10 = .ok (.getfield 200, 3) := dk_180 0 200 (dk_at dksX1_unclearedOnSide_0 10 rfl rfl)
theorem dX1_unclearedOnSide_13 : decode cX1_unclearedOnSide 13 = .ok (.iload_n 1, 1) := dk_27 (dk_at dksX1_unclearedOnSide_0 13 rfl rfl)
theorem dX1_unclearedOnSide_14 : decode cX1_unclearedOnSide 14 = .ok (.invokevirtual 279, 3) := dk_182 1 23 (dk_at dksX1_unclearedOnSide_0 14 rfl rfl)
theorem dX1_unclearedOnSide_17 : decode cX1_unclearedOnSide 17 = .ok (.invokeinterface 283 1, 5) := by decide +kernel
theorem dX1_unclearedOnSide_22 : decode cX1_unclearedOnSide 22 = .ok (.astore_n 3, 1) := dk_78 (dk_at dksX1_unclearedOnSide_0 22 rfl rfl)
theorem dX1_unclearedOnSide_23 : decode cX1_unclearedOnSide 23 = .ok (.aload_n 3, 1) := dk_45 (dk_at dksX1_unclearedOnSide_0 23 rfl rfl)
theorem dX1_unclearedOnSide_24 : decode cX1_unclearedOnSide 24 = .ok (.invokeinterface 248 1, 5) := by decide +kernel
theorem dX1_unclearedOnSide_29 : decode cX1_unclearedOnSide 29 = .ok (.ifCond .eq 43, 3) := dk_153 0 43 (dk_at dksX1_unclearedOnSide_1 5 rfl rfl)
theorem dX1_unclearedOnSide_32 : decode cX1_unclearedOnSide 32 = .ok (.aload_n 3, 1) := dk_45 (dk_at dksX1_unclearedOnSide_1 8 rfl rfl)
theorem dX1_unclearedOnSide_33 : decode cX1_unclearedOnSide 33 = .ok (.invokeinterface 253 1, 5) := by decide +kernel
theorem dX1_unclearedOnSide_38 : decode cX1_unclearedOnSide 38 = .ok (.checkcast 256, 3) := dk_192 1 0 (dk_at dksX1_unclearedOnSide_1 14 rfl rfl)
theorem dX1_unclearedOnSide_41 : decode cX1_unclearedOnSide 41 = .ok (.invokevirtual 258, 3) := dk_182 1 2 (dk_at dksX1_unclearedOnSide_1 17 rfl rfl)
theorem dX1_unclearedOnSide_44 : decode cX1_unclearedOnSide 44 = .ok (.istore 4, 2) := dk_54 4 (dk_at dksX1_unclearedOnSide_1 20 rfl rfl)
theorem dX1_unclearedOnSide_46 : decode cX1_unclearedOnSide 46 = .ok (.iload_n 2, 1) := dk_28 (dk_at dksX1_unclearedOnSide_1 22 rfl rfl)
theorem dX1_unclearedOnSide_47 : decode cX1_unclearedOnSide 47 = .ok (.aload_n 0, 1) := dk_42 (dk_at dksX1_unclearedOnSide_1 23 rfl rfl)
theorem dX1_unclearedOnSide_48 : decode cX1_unclearedOnSide 48 = .ok (.getfield 22, 3) := dk_180 0 22 (dk_at dksX1_unclearedOnSide_2 0 rfl rfl)
theorem dX1_unclearedOnSide_51 : decode cX1_unclearedOnSide 51 = .ok (.getfield 200, 3) := dk_180 0 200 (dk_at dksX1_unclearedOnSide_2 3 rfl rfl)
theorem dX1_unclearedOnSide_54 : decode cX1_unclearedOnSide 54 = .ok (.iload 4, 2) := dk_21 4 (dk_at dksX1_unclearedOnSide_2 6 rfl rfl)
theorem dX1_unclearedOnSide_56 : decode cX1_unclearedOnSide 56 = .ok (.invokevirtual 235, 3) := dk_182 0 235 (dk_at dksX1_unclearedOnSide_2 8 rfl rfl)
theorem dX1_unclearedOnSide_59 : decode cX1_unclearedOnSide 59 = .ok (.ifCond .eq 7, 3) := dk_153 0 7 (dk_at dksX1_unclearedOnSide_2 11 rfl rfl)
theorem dX1_unclearedOnSide_62 : decode cX1_unclearedOnSide 62 = .ok (.iconst 0, 1) := dk_3 (dk_at dksX1_unclearedOnSide_2 14 rfl rfl)
theorem dX1_unclearedOnSide_63 : decode cX1_unclearedOnSide 63 = .ok (.goto 4, 3) := dk_167 0 4 (dk_at dksX1_unclearedOnSide_2 15 rfl rfl)
theorem dX1_unclearedOnSide_66 : decode cX1_unclearedOnSide 66 = .ok (.iconst 1, 1) := dk_4 (dk_at dksX1_unclearedOnSide_2 18 rfl rfl)
theorem dX1_unclearedOnSide_67 : decode cX1_unclearedOnSide 67 = .ok (.iadd, 1) := dk_96 (dk_at dksX1_unclearedOnSide_2 19 rfl rfl)
theorem dX1_unclearedOnSide_68 : decode cX1_unclearedOnSide 68 = .ok (.istore_n 2, 1) := dk_61 (dk_at dksX1_unclearedOnSide_2 20 rfl rfl)
theorem dX1_unclearedOnSide_69 : decode cX1_unclearedOnSide 69 = .ok (.goto (-46), 3) := dk_167 255 210 (dk_at dksX1_unclearedOnSide_2 21 rfl rfl)
theorem dX1_unclearedOnSide_72 : decode cX1_unclearedOnSide 72 = .ok (.iload_n 2, 1) := dk_28 (dk_at dksX1_unclearedOnSide_3 0 rfl rfl)
theorem dX1_unclearedOnSide_73 : decode cX1_unclearedOnSide 73 = .ok (.ireturn, 1) := dk_172 (dk_at dksX1_unclearedOnSide_3 1 rfl rfl)
abbrev cX1_waitingCount : ByteArray := prog_1_method_49_code
def yX1_waitingCount : MethodName := ⟨RX1, "waitingCount", "(I)I"⟩
def dkwX1_waitingCount_0 : List UInt8 := [42, 27, 182, 1, 66, 185, 1, 70, 1, 0, 172]
abbrev dktX1_waitingCount_0 : List UInt8 := dkwX1_waitingCount_0 ++ []
theorem dksX1_waitingCount_0 : cX1_waitingCount.data.toList.drop 0 = dktX1_waitingCount_0 := by decide +kernel
theorem dX1_waitingCount_0 : decode cX1_waitingCount 0 = .ok (.aload_n 0, 1) := dk_42 (dk_at dksX1_waitingCount_0 0 rfl rfl)
theorem dX1_waitingCount_1 : decode cX1_waitingCount 1 = .ok (.iload_n 1, 1) := dk_27 (dk_at dksX1_waitingCount_0 1 rfl rfl)
theorem dX1_waitingCount_2 : decode cX1_waitingCount 2 = .ok (.invokevirtual 322, 3) := dk_182 1 66 (dk_at dksX1_waitingCount_0 2 rfl rfl)
theorem dX1_waitingCount_5 : decode cX1_waitingCount 5 = .ok (.invokeinterface 326 1, 5) := by decide +kernel
theorem dX1_waitingCount_10 : decode cX1_waitingCount 10 = .ok (.ireturn, 1) := dk_172 (dk_at dksX1_waitingCount_0 10 rfl rfl)
abbrev cX1_queueOf : ByteArray := prog_1_method_47_code
def yX1_queueOf : MethodName := ⟨RX1, "queueOf", "(I)Ljava/util/List;"⟩
def dkwX1_queueOf_0 : List UInt8 := [27, 184, 1, 8, 42, 180, 0, 22, 180, 1, 47, 180, 1, 51, 27, 185, 1, 55, 2, 0, 192, 1, 56, 176]
abbrev dktX1_queueOf_0 : List UInt8 := dkwX1_queueOf_0 ++ []
theorem dksX1_queueOf_0 : cX1_queueOf.data.toList.drop 0 = dktX1_queueOf_0 := by decide +kernel
theorem dX1_queueOf_0 : decode cX1_queueOf 0 = .ok (.iload_n 1, 1) := dk_27 (dk_at dksX1_queueOf_0 0 rfl rfl)
theorem dX1_queueOf_1 : decode cX1_queueOf 1 = .ok (.invokestatic 264, 3) := dk_184 1 8 (dk_at dksX1_queueOf_0 1 rfl rfl)
theorem dX1_queueOf_4 : decode cX1_queueOf 4 = .ok (.aload_n 0, 1) := dk_42 (dk_at dksX1_queueOf_0 4 rfl rfl)
theorem dX1_queueOf_5 : decode cX1_queueOf 5 = .ok (.getfield 22, 3) := dk_180 0 22 (dk_at dksX1_queueOf_0 5 rfl rfl)
theorem dX1_queueOf_8 : decode cX1_queueOf 8 = .ok (.getfield 303, 3) := dk_180 1 47 (dk_at dksX1_queueOf_0 8 rfl rfl)
theorem dX1_queueOf_11 : decode cX1_queueOf 11 = .ok (.getfield 307, 3) := dk_180 1 51 (dk_at dksX1_queueOf_0 11 rfl rfl)
theorem dX1_queueOf_14 : decode cX1_queueOf 14 = .ok (.iload_n 1, 1) := dk_27 (dk_at dksX1_queueOf_0 14 rfl rfl)
theorem dX1_queueOf_15 : decode cX1_queueOf 15 = .ok (.invokeinterface 311 2, 5) := by decide +kernel
theorem dX1_queueOf_20 : decode cX1_queueOf 20 = .ok (.checkcast 312, 3) := dk_192 1 56 (dk_at dksX1_queueOf_0 20 rfl rfl)
theorem dX1_queueOf_23 : decode cX1_queueOf 23 = .ok (.areturn, 1) := dk_176 (dk_at dksX1_queueOf_0 23 rfl rfl)
abbrev cX1_waitingTicket : ByteArray := prog_1_method_50_code
def yX1_waitingTicket : MethodName := ⟨RX1, "waitingTicket", "(II)I"⟩
def dkwX1_waitingTicket_1 : List UInt8 := [45, 28, 185, 1, 55, 2, 0, 192, 1, 71, 180, 1, 73, 180, 1, 77, 167, 0, 4, 2, 172]
abbrev dktX1_waitingTicket_1 : List UInt8 := dkwX1_waitingTicket_1 ++ []
def dkwX1_waitingTicket_0 : List UInt8 := [42, 27, 182, 1, 66, 78, 28, 133, 9, 45, 185, 1, 70, 1, 0, 4, 100, 133, 184, 0, 142, 153, 0, 22]
abbrev dktX1_waitingTicket_0 : List UInt8 := dkwX1_waitingTicket_0 ++ dktX1_waitingTicket_1
theorem dksX1_waitingTicket_0 : cX1_waitingTicket.data.toList.drop 0 = dktX1_waitingTicket_0 := by decide +kernel
theorem dksX1_waitingTicket_1 : cX1_waitingTicket.data.toList.drop 24 = dktX1_waitingTicket_1 := dk_seg dksX1_waitingTicket_0 24 rfl rfl
theorem dX1_waitingTicket_0 : decode cX1_waitingTicket 0 = .ok (.aload_n 0, 1) := dk_42 (dk_at dksX1_waitingTicket_0 0 rfl rfl)
theorem dX1_waitingTicket_1 : decode cX1_waitingTicket 1 = .ok (.iload_n 1, 1) := dk_27 (dk_at dksX1_waitingTicket_0 1 rfl rfl)
theorem dX1_waitingTicket_2 : decode cX1_waitingTicket 2 = .ok (.invokevirtual 322, 3) := dk_182 1 66 (dk_at dksX1_waitingTicket_0 2 rfl rfl)
theorem dX1_waitingTicket_5 : decode cX1_waitingTicket 5 = .ok (.astore_n 3, 1) := dk_78 (dk_at dksX1_waitingTicket_0 5 rfl rfl)
theorem dX1_waitingTicket_6 : decode cX1_waitingTicket 6 = .ok (.iload_n 2, 1) := dk_28 (dk_at dksX1_waitingTicket_0 6 rfl rfl)
theorem dX1_waitingTicket_7 : decode cX1_waitingTicket 7 = .ok (.i2l, 1) := dk_133 (dk_at dksX1_waitingTicket_0 7 rfl rfl)
theorem dX1_waitingTicket_8 : decode cX1_waitingTicket 8 = .ok (.lconst 0, 1) := dk_9 (dk_at dksX1_waitingTicket_0 8 rfl rfl)
theorem dX1_waitingTicket_9 : decode cX1_waitingTicket 9 = .ok (.aload_n 3, 1) := dk_45 (dk_at dksX1_waitingTicket_0 9 rfl rfl)
theorem dX1_waitingTicket_10 : decode cX1_waitingTicket 10 = .ok (.invokeinterface 326 1, 5) := by decide +kernel
theorem dX1_waitingTicket_15 : decode cX1_waitingTicket 15 = .ok (.iconst 1, 1) := dk_4 (dk_at dksX1_waitingTicket_0 15 rfl rfl)
theorem dX1_waitingTicket_16 : decode cX1_waitingTicket 16 = .ok (.isub, 1) := dk_100 (dk_at dksX1_waitingTicket_0 16 rfl rfl)
theorem dX1_waitingTicket_17 : decode cX1_waitingTicket 17 = .ok (.i2l, 1) := dk_133 (dk_at dksX1_waitingTicket_0 17 rfl rfl)
theorem dX1_waitingTicket_18 : decode cX1_waitingTicket 18 = .ok (.invokestatic 142, 3) := dk_184 0 142 (dk_at dksX1_waitingTicket_0 18 rfl rfl)
theorem dX1_waitingTicket_21 : decode cX1_waitingTicket 21 = .ok (.ifCond .eq 22, 3) := dk_153 0 22 (dk_at dksX1_waitingTicket_0 21 rfl rfl)
theorem dX1_waitingTicket_24 : decode cX1_waitingTicket 24 = .ok (.aload_n 3, 1) := dk_45 (dk_at dksX1_waitingTicket_1 0 rfl rfl)
theorem dX1_waitingTicket_25 : decode cX1_waitingTicket 25 = .ok (.iload_n 2, 1) := dk_28 (dk_at dksX1_waitingTicket_1 1 rfl rfl)
theorem dX1_waitingTicket_26 : decode cX1_waitingTicket 26 = .ok (.invokeinterface 311 2, 5) := by decide +kernel
theorem dX1_waitingTicket_31 : decode cX1_waitingTicket 31 = .ok (.checkcast 327, 3) := dk_192 1 71 (dk_at dksX1_waitingTicket_1 7 rfl rfl)
theorem dX1_waitingTicket_34 : decode cX1_waitingTicket 34 = .ok (.getfield 329, 3) := dk_180 1 73 (dk_at dksX1_waitingTicket_1 10 rfl rfl)
theorem dX1_waitingTicket_37 : decode cX1_waitingTicket 37 = .ok (.getfield 333, 3) := dk_180 1 77 (dk_at dksX1_waitingTicket_1 13 rfl rfl)
theorem dX1_waitingTicket_40 : decode cX1_waitingTicket 40 = .ok (.goto 4, 3) := dk_167 0 4 (dk_at dksX1_waitingTicket_1 16 rfl rfl)
theorem dX1_waitingTicket_43 : decode cX1_waitingTicket 43 = .ok (.iconst (-1), 1) := dk_2 (dk_at dksX1_waitingTicket_1 19 rfl rfl)
theorem dX1_waitingTicket_44 : decode cX1_waitingTicket 44 = .ok (.ireturn, 1) := dk_172 (dk_at dksX1_waitingTicket_1 20 rfl rfl)
abbrev cX1_hasChains : ByteArray := prog_1_method_52_code
def yX1_hasChains : MethodName := ⟨RX1, "hasChains", "(I)Z"⟩
def dkwX1_hasChains_0 : List UInt8 := [42, 27, 182, 1, 84, 180, 1, 87, 172]
abbrev dktX1_hasChains_0 : List UInt8 := dkwX1_hasChains_0 ++ []
theorem dksX1_hasChains_0 : cX1_hasChains.data.toList.drop 0 = dktX1_hasChains_0 := by decide +kernel
theorem dX1_hasChains_0 : decode cX1_hasChains 0 = .ok (.aload_n 0, 1) := dk_42 (dk_at dksX1_hasChains_0 0 rfl rfl)
theorem dX1_hasChains_1 : decode cX1_hasChains 1 = .ok (.iload_n 1, 1) := dk_27 (dk_at dksX1_hasChains_0 1 rfl rfl)
theorem dX1_hasChains_2 : decode cX1_hasChains 2 = .ok (.invokevirtual 340, 3) := dk_182 1 84 (dk_at dksX1_hasChains_0 2 rfl rfl)
theorem dX1_hasChains_5 : decode cX1_hasChains 5 = .ok (.getfield 343, 3) := dk_180 1 87 (dk_at dksX1_hasChains_0 5 rfl rfl)
theorem dX1_hasChains_8 : decode cX1_hasChains 8 = .ok (.ireturn, 1) := dk_172 (dk_at dksX1_hasChains_0 8 rfl rfl)
abbrev cX1_cartWith : ByteArray := prog_1_method_48_code
def yX1_cartWith : MethodName := ⟨RX1, "cartWith", "(I)LSnowPass$Cart;"⟩
def dkwX1_cartWith_1 : List UInt8 := [44, 176]
abbrev dktX1_cartWith_1 : List UInt8 := dkwX1_cartWith_1 ++ []
def dkwX1_cartWith_0 : List UInt8 := [42, 180, 0, 22, 180, 1, 47, 27, 182, 1, 61, 77, 44, 199, 0, 11, 187, 0, 207, 89, 183, 1, 65, 191]
abbrev dktX1_cartWith_0 : List UInt8 := dkwX1_cartWith_0 ++ dktX1_cartWith_1
theorem dksX1_cartWith_0 : cX1_cartWith.data.toList.drop 0 = dktX1_cartWith_0 := by decide +kernel
theorem dksX1_cartWith_1 : cX1_cartWith.data.toList.drop 24 = dktX1_cartWith_1 := dk_seg dksX1_cartWith_0 24 rfl rfl
theorem dX1_cartWith_0 : decode cX1_cartWith 0 = .ok (.aload_n 0, 1) := dk_42 (dk_at dksX1_cartWith_0 0 rfl rfl)
theorem dX1_cartWith_1 : decode cX1_cartWith 1 = .ok (.getfield 22, 3) := dk_180 0 22 (dk_at dksX1_cartWith_0 1 rfl rfl)
theorem dX1_cartWith_4 : decode cX1_cartWith 4 = .ok (.getfield 303, 3) := dk_180 1 47 (dk_at dksX1_cartWith_0 4 rfl rfl)
theorem dX1_cartWith_7 : decode cX1_cartWith 7 = .ok (.iload_n 1, 1) := dk_27 (dk_at dksX1_cartWith_0 7 rfl rfl)
theorem dX1_cartWith_8 : decode cX1_cartWith 8 = .ok (.invokevirtual 317, 3) := dk_182 1 61 (dk_at dksX1_cartWith_0 8 rfl rfl)
theorem dX1_cartWith_11 : decode cX1_cartWith 11 = .ok (.astore_n 2, 1) := dk_77 (dk_at dksX1_cartWith_0 11 rfl rfl)
theorem dX1_cartWith_12 : decode cX1_cartWith 12 = .ok (.aload_n 2, 1) := dk_44 (dk_at dksX1_cartWith_0 12 rfl rfl)
theorem dX1_cartWith_13 : decode cX1_cartWith 13 = .ok (.ifnonnull 11, 3) := dk_199 0 11 (dk_at dksX1_cartWith_0 13 rfl rfl)
theorem dX1_cartWith_16 : decode cX1_cartWith 16 = .ok (.new 207, 3) := dk_187 0 207 (dk_at dksX1_cartWith_0 16 rfl rfl)
theorem dX1_cartWith_19 : decode cX1_cartWith 19 = .ok (.dup, 1) := dk_89 (dk_at dksX1_cartWith_0 19 rfl rfl)
theorem dX1_cartWith_20 : decode cX1_cartWith 20 = .ok (.invokespecial 321, 3) := dk_183 1 65 (dk_at dksX1_cartWith_0 20 rfl rfl)
theorem dX1_cartWith_23 : decode cX1_cartWith 23 = .ok (.athrow, 1) := dk_191 (dk_at dksX1_cartWith_0 23 rfl rfl)
theorem dX1_cartWith_24 : decode cX1_cartWith 24 = .ok (.aload_n 2, 1) := dk_44 (dk_at dksX1_cartWith_1 0 rfl rfl)
theorem dX1_cartWith_25 : decode cX1_cartWith 25 = .ok (.areturn, 1) := dk_176 (dk_at dksX1_cartWith_1 1 rfl rfl)
abbrev cX1_crossingReason : ByteArray := prog_1_method_53_code
def yX1_crossingReason : MethodName := ⟨RX1, "crossingReason", "(I)I"⟩
def dkwX1_crossingReason_2 : List UInt8 := [180, 0, 200, 182, 1, 90, 167, 0, 4, 4, 172]
abbrev dktX1_crossingReason_2 : List UInt8 := dkwX1_crossingReason_2 ++ []
def dkwX1_crossingReason_1 : List UInt8 := [185, 1, 55, 2, 0, 192, 1, 56, 3, 185, 1, 55, 2, 0, 44, 166, 0, 17, 44, 42, 180, 0, 22]
abbrev dktX1_crossingReason_1 : List UInt8 := dkwX1_crossingReason_1 ++ dktX1_crossingReason_2
def dkwX1_crossingReason_0 : List UInt8 := [42, 27, 182, 1, 84, 77, 42, 180, 0, 22, 180, 1, 47, 180, 1, 51, 44, 180, 1, 82]
abbrev dktX1_crossingReason_0 : List UInt8 := dkwX1_crossingReason_0 ++ dktX1_crossingReason_1
theorem dksX1_crossingReason_0 : cX1_crossingReason.data.toList.drop 0 = dktX1_crossingReason_0 := by decide +kernel
theorem dksX1_crossingReason_1 : cX1_crossingReason.data.toList.drop 20 = dktX1_crossingReason_1 := dk_seg dksX1_crossingReason_0 20 rfl rfl
theorem dksX1_crossingReason_2 : cX1_crossingReason.data.toList.drop 43 = dktX1_crossingReason_2 := dk_seg dksX1_crossingReason_1 23 rfl rfl
theorem dX1_crossingReason_0 : decode cX1_crossingReason 0 = .ok (.aload_n 0, 1) := dk_42 (dk_at dksX1_crossingReason_0 0 rfl rfl)
theorem dX1_crossingReason_1 : decode cX1_crossingReason 1 = .ok (.iload_n 1, 1) := dk_27 (dk_at dksX1_crossingReason_0 1 rfl rfl)
theorem dX1_crossingReason_2 : decode cX1_crossingReason 2 = .ok (.invokevirtual 340, 3) := dk_182 1 84 (dk_at dksX1_crossingReason_0 2 rfl rfl)
theorem dX1_crossingReason_5 : decode cX1_crossingReason 5 = .ok (.astore_n 2, 1) := dk_77 (dk_at dksX1_crossingReason_0 5 rfl rfl)
theorem dX1_crossingReason_6 : decode cX1_crossingReason 6 = .ok (.aload_n 0, 1) := dk_42 (dk_at dksX1_crossingReason_0 6 rfl rfl)
theorem dX1_crossingReason_7 : decode cX1_crossingReason 7 = .ok (.getfield 22, 3) := dk_180 0 22 (dk_at dksX1_crossingReason_0 7 rfl rfl)
theorem dX1_crossingReason_10 : decode cX1_crossingReason 10 = .ok (.getfield 303, 3) := dk_180 1 47 (dk_at dksX1_crossingReason_0 10 rfl rfl)
theorem dX1_crossingReason_13 : decode cX1_crossingReason 13 = .ok (.getfield 307, 3) := dk_180 1 51 (dk_at dksX1_crossingReason_0 13 rfl rfl)
theorem dX1_crossingReason_16 : decode cX1_crossingReason 16 = .ok (.aload_n 2, 1) := dk_44 (dk_at dksX1_crossingReason_0 16 rfl rfl)
theorem dX1_crossingReason_17 : decode cX1_crossingReason 17 = .ok (.getfield 338, 3) := dk_180 1 82 (dk_at dksX1_crossingReason_0 17 rfl rfl)
theorem dX1_crossingReason_20 : decode cX1_crossingReason 20 = .ok (.invokeinterface 311 2, 5) := by decide +kernel
theorem dX1_crossingReason_25 : decode cX1_crossingReason 25 = .ok (.checkcast 312, 3) := dk_192 1 56 (dk_at dksX1_crossingReason_1 5 rfl rfl)
theorem dX1_crossingReason_28 : decode cX1_crossingReason 28 = .ok (.iconst 0, 1) := dk_3 (dk_at dksX1_crossingReason_1 8 rfl rfl)
theorem dX1_crossingReason_29 : decode cX1_crossingReason 29 = .ok (.invokeinterface 311 2, 5) := by decide +kernel
theorem dX1_crossingReason_34 : decode cX1_crossingReason 34 = .ok (.aload_n 2, 1) := dk_44 (dk_at dksX1_crossingReason_1 14 rfl rfl)
theorem dX1_crossingReason_35 : decode cX1_crossingReason 35 = .ok (.if_acmp .ne 17, 3) := dk_166 0 17 (dk_at dksX1_crossingReason_1 15 rfl rfl)
theorem dX1_crossingReason_38 : decode cX1_crossingReason 38 = .ok (.aload_n 2, 1) := dk_44 (dk_at dksX1_crossingReason_1 18 rfl rfl)
theorem dX1_crossingReason_39 : decode cX1_crossingReason 39 = .ok (.aload_n 0, 1) := dk_42 (dk_at dksX1_crossingReason_1 19 rfl rfl)
theorem dX1_crossingReason_40 : decode cX1_crossingReason 40 = .ok (.getfield 22, 3) := dk_180 0 22 (dk_at dksX1_crossingReason_1 20 rfl rfl)
theorem dX1_crossingReason_43 : decode cX1_crossingReason 43 = .ok (.getfield 200, 3) := dk_180 0 200 (dk_at dksX1_crossingReason_2 0 rfl rfl)
theorem dX1_crossingReason_46 : decode cX1_crossingReason 46 = .ok (.invokevirtual 346, 3) := dk_182 1 90 (dk_at dksX1_crossingReason_2 3 rfl rfl)
theorem dX1_crossingReason_49 : decode cX1_crossingReason 49 = .ok (.goto 4, 3) := dk_167 0 4 (dk_at dksX1_crossingReason_2 6 rfl rfl)
theorem dX1_crossingReason_52 : decode cX1_crossingReason 52 = .ok (.iconst 1, 1) := dk_4 (dk_at dksX1_crossingReason_2 9 rfl rfl)
theorem dX1_crossingReason_53 : decode cX1_crossingReason 53 = .ok (.ireturn, 1) := dk_172 (dk_at dksX1_crossingReason_2 10 rfl rfl)
abbrev cX1_depthAfter : ByteArray := prog_1_method_55_code
def yX1_depthAfter : MethodName := ⟨RX1, "depthAfter", "(II)I"⟩
def dkwX1_depthAfter_1 : List UInt8 := [180, 0, 56, 27, 46, 172]
abbrev dktX1_depthAfter_1 : List UInt8 := dkwX1_depthAfter_1 ++ []
def dkwX1_depthAfter_0 : List UInt8 := [42, 27, 182, 0, 230, 28, 184, 1, 96, 42, 180, 0, 22, 180, 0, 200, 182, 1, 99, 28, 182, 1, 102]
abbrev dktX1_depthAfter_0 : List UInt8 := dkwX1_depthAfter_0 ++ dktX1_depthAfter_1
theorem dksX1_depthAfter_0 : cX1_depthAfter.data.toList.drop 0 = dktX1_depthAfter_0 := by decide +kernel
theorem dksX1_depthAfter_1 : cX1_depthAfter.data.toList.drop 23 = dktX1_depthAfter_1 := dk_seg dksX1_depthAfter_0 23 rfl rfl
theorem dX1_depthAfter_0 : decode cX1_depthAfter 0 = .ok (.aload_n 0, 1) := dk_42 (dk_at dksX1_depthAfter_0 0 rfl rfl)
theorem dX1_depthAfter_1 : decode cX1_depthAfter 1 = .ok (.iload_n 1, 1) := dk_27 (dk_at dksX1_depthAfter_0 1 rfl rfl)
theorem dX1_depthAfter_2 : decode cX1_depthAfter 2 = .ok (.invokevirtual 230, 3) := dk_182 0 230 (dk_at dksX1_depthAfter_0 2 rfl rfl)
theorem dX1_depthAfter_5 : decode cX1_depthAfter 5 = .ok (.iload_n 2, 1) := dk_28 (dk_at dksX1_depthAfter_0 5 rfl rfl)
theorem dX1_depthAfter_6 : decode cX1_depthAfter 6 = .ok (.invokestatic 352, 3) := dk_184 1 96 (dk_at dksX1_depthAfter_0 6 rfl rfl)
theorem dX1_depthAfter_9 : decode cX1_depthAfter 9 = .ok (.aload_n 0, 1) := dk_42 (dk_at dksX1_depthAfter_0 9 rfl rfl)
theorem dX1_depthAfter_10 : decode cX1_depthAfter 10 = .ok (.getfield 22, 3) := dk_180 0 22 (dk_at dksX1_depthAfter_0 10 rfl rfl)
theorem dX1_depthAfter_13 : decode cX1_depthAfter 13 = .ok (.getfield 200, 3) := dk_180 0 200 (dk_at dksX1_depthAfter_0 13 rfl rfl)
theorem dX1_depthAfter_16 : decode cX1_depthAfter 16 = .ok (.invokevirtual 355, 3) := dk_182 1 99 (dk_at dksX1_depthAfter_0 16 rfl rfl)
theorem dX1_depthAfter_19 : decode cX1_depthAfter 19 = .ok (.iload_n 2, 1) := dk_28 (dk_at dksX1_depthAfter_0 19 rfl rfl)
theorem dX1_depthAfter_20 : decode cX1_depthAfter 20 = .ok (.invokevirtual 358, 3) := dk_182 1 102 (dk_at dksX1_depthAfter_0 20 rfl rfl)
theorem dX1_depthAfter_23 : decode cX1_depthAfter 23 = .ok (.getfield 56, 3) := dk_180 0 56 (dk_at dksX1_depthAfter_1 0 rfl rfl)
theorem dX1_depthAfter_26 : decode cX1_depthAfter 26 = .ok (.iload_n 1, 1) := dk_27 (dk_at dksX1_depthAfter_1 3 rfl rfl)
theorem dX1_depthAfter_27 : decode cX1_depthAfter 27 = .ok (.iaload, 1) := dk_46 (dk_at dksX1_depthAfter_1 4 rfl rfl)
theorem dX1_depthAfter_28 : decode cX1_depthAfter 28 = .ok (.ireturn, 1) := dk_172 (dk_at dksX1_depthAfter_1 5 rfl rfl)
abbrev cX1_checkHours : ByteArray := prog_1_method_54_code
def yX1_checkHours : MethodName := ⟨RX1, "checkHours", "(I)V"⟩
def dkwX1_checkHours_0 : List UInt8 := [26, 133, 9, 20, 1, 94, 184, 0, 142, 184, 0, 146, 177]
abbrev dktX1_checkHours_0 : List UInt8 := dkwX1_checkHours_0 ++ []
theorem dksX1_checkHours_0 : cX1_checkHours.data.toList.drop 0 = dktX1_checkHours_0 := by decide +kernel
theorem dX1_checkHours_0 : decode cX1_checkHours 0 = .ok (.iload_n 0, 1) := dk_26 (dk_at dksX1_checkHours_0 0 rfl rfl)
theorem dX1_checkHours_1 : decode cX1_checkHours 1 = .ok (.i2l, 1) := dk_133 (dk_at dksX1_checkHours_0 1 rfl rfl)
theorem dX1_checkHours_2 : decode cX1_checkHours 2 = .ok (.lconst 0, 1) := dk_9 (dk_at dksX1_checkHours_0 2 rfl rfl)
theorem dX1_checkHours_3 : decode cX1_checkHours 3 = .ok (.ldc2_w 350, 3) := dk_20 1 94 (dk_at dksX1_checkHours_0 3 rfl rfl)
theorem dX1_checkHours_6 : decode cX1_checkHours 6 = .ok (.invokestatic 142, 3) := dk_184 0 142 (dk_at dksX1_checkHours_0 6 rfl rfl)
theorem dX1_checkHours_9 : decode cX1_checkHours 9 = .ok (.invokestatic 146, 3) := dk_184 0 146 (dk_at dksX1_checkHours_0 9 rfl rfl)
theorem dX1_checkHours_12 : decode cX1_checkHours 12 = .ok (.return_, 1) := dk_177 (dk_at dksX1_checkHours_0 12 rfl rfl)
abbrev cX1_hoursUntilCrossed : ByteArray := prog_1_method_59_code
def yX1_hoursUntilCrossed : MethodName := ⟨RX1, "hoursUntilCrossed", "(I)I"⟩
def dkwX1_hoursUntilCrossed_2 : List UInt8 := [21, 4, 172, 132, 4, 1, 167, 255, 221, 2, 172]
abbrev dktX1_hoursUntilCrossed_2 : List UInt8 := dkwX1_hoursUntilCrossed_2 ++ []
def dkwX1_hoursUntilCrossed_1 : List UInt8 := [163, 0, 33, 45, 182, 1, 110, 45, 180, 1, 47, 180, 1, 113, 44, 180, 1, 73, 182, 1, 117, 154, 0, 6]
abbrev dktX1_hoursUntilCrossed_1 : List UInt8 := dkwX1_hoursUntilCrossed_1 ++ dktX1_hoursUntilCrossed_2
def dkwX1_hoursUntilCrossed_0 : List UInt8 := [42, 27, 182, 1, 84, 77, 42, 180, 0, 22, 182, 0, 107, 78, 4, 54, 4, 21, 4, 17, 0, 240]
abbrev dktX1_hoursUntilCrossed_0 : List UInt8 := dkwX1_hoursUntilCrossed_0 ++ dktX1_hoursUntilCrossed_1
theorem dksX1_hoursUntilCrossed_0 : cX1_hoursUntilCrossed.data.toList.drop 0 = dktX1_hoursUntilCrossed_0 := by decide +kernel
theorem dksX1_hoursUntilCrossed_1 : cX1_hoursUntilCrossed.data.toList.drop 22 = dktX1_hoursUntilCrossed_1 := dk_seg dksX1_hoursUntilCrossed_0 22 rfl rfl
theorem dksX1_hoursUntilCrossed_2 : cX1_hoursUntilCrossed.data.toList.drop 46 = dktX1_hoursUntilCrossed_2 := dk_seg dksX1_hoursUntilCrossed_1 24 rfl rfl
theorem dX1_hoursUntilCrossed_0 : decode cX1_hoursUntilCrossed 0 = .ok (.aload_n 0, 1) := dk_42 (dk_at dksX1_hoursUntilCrossed_0 0 rfl rfl)
theorem dX1_hoursUntilCrossed_1 : decode cX1_hoursUntilCrossed 1 = .ok (.iload_n 1, 1) := dk_27 (dk_at dksX1_hoursUntilCrossed_0 1 rfl rfl)
theorem dX1_hoursUntilCrossed_2 : decode cX1_hoursUntilCrossed 2 = .ok (.invokevirtual 340, 3) := dk_182 1 84 (dk_at dksX1_hoursUntilCrossed_0 2 rfl rfl)
theorem dX1_hoursUntilCrossed_5 : decode cX1_hoursUntilCrossed 5 = .ok (.astore_n 2, 1) := dk_77 (dk_at dksX1_hoursUntilCrossed_0 5 rfl rfl)
theorem dX1_hoursUntilCrossed_6 : decode cX1_hoursUntilCrossed 6 = .ok (.aload_n 0, 1) := dk_42 (dk_at dksX1_hoursUntilCrossed_0 6 rfl rfl)
theorem dX1_hoursUntilCrossed_7 : decode cX1_hoursUntilCrossed 7 = .ok (.getfield 22, 3) := dk_180 0 22 (dk_at dksX1_hoursUntilCrossed_0 7 rfl rfl)
theorem dX1_hoursUntilCrossed_10 : decode cX1_hoursUntilCrossed 10 = .ok (.invokevirtual 107, 3) := dk_182 0 107 (dk_at dksX1_hoursUntilCrossed_0 10 rfl rfl)
theorem dX1_hoursUntilCrossed_13 : decode cX1_hoursUntilCrossed 13 = .ok (.astore_n 3, 1) := dk_78 (dk_at dksX1_hoursUntilCrossed_0 13 rfl rfl)
theorem dX1_hoursUntilCrossed_14 : decode cX1_hoursUntilCrossed 14 = .ok (.iconst 1, 1) := dk_4 (dk_at dksX1_hoursUntilCrossed_0 14 rfl rfl)
theorem dX1_hoursUntilCrossed_15 : decode cX1_hoursUntilCrossed 15 = .ok (.istore 4, 2) := dk_54 4 (dk_at dksX1_hoursUntilCrossed_0 15 rfl rfl)
theorem dX1_hoursUntilCrossed_17 : decode cX1_hoursUntilCrossed 17 = .ok (.iload 4, 2) := dk_21 4 (dk_at dksX1_hoursUntilCrossed_0 17 rfl rfl)
theorem dX1_hoursUntilCrossed_19 : decode cX1_hoursUntilCrossed 19 = .ok (.sipush 240, 3) := dk_17 0 240 (dk_at dksX1_hoursUntilCrossed_0 19 rfl rfl)
theorem dX1_hoursUntilCrossed_22 : decode cX1_hoursUntilCrossed 22 = .ok (.if_icmp .gt 33, 3) := dk_163 0 33 (dk_at dksX1_hoursUntilCrossed_1 0 rfl rfl)
theorem dX1_hoursUntilCrossed_25 : decode cX1_hoursUntilCrossed 25 = .ok (.aload_n 3, 1) := dk_45 (dk_at dksX1_hoursUntilCrossed_1 3 rfl rfl)
theorem dX1_hoursUntilCrossed_26 : decode cX1_hoursUntilCrossed 26 = .ok (.invokevirtual 366, 3) := dk_182 1 110 (dk_at dksX1_hoursUntilCrossed_1 4 rfl rfl)
theorem dX1_hoursUntilCrossed_29 : decode cX1_hoursUntilCrossed 29 = .ok (.aload_n 3, 1) := dk_45 (dk_at dksX1_hoursUntilCrossed_1 7 rfl rfl)
theorem dX1_hoursUntilCrossed_30 : decode cX1_hoursUntilCrossed 30 = .ok (.getfield 303, 3) := dk_180 1 47 (dk_at dksX1_hoursUntilCrossed_1 8 rfl rfl)
theorem dX1_hoursUntilCrossed_33 : decode cX1_hoursUntilCrossed 33 = .ok (.getfield 369, 3) := dk_180 1 113 (dk_at dksX1_hoursUntilCrossed_1 11 rfl rfl)
theorem dX1_hoursUntilCrossed_36 : decode cX1_hoursUntilCrossed 36 = .ok (.aload_n 2, 1) := dk_44 (dk_at dksX1_hoursUntilCrossed_1 14 rfl rfl)
theorem dX1_hoursUntilCrossed_37 : decode cX1_hoursUntilCrossed 37 = .ok (.getfield 329, 3) := dk_180 1 73 (dk_at dksX1_hoursUntilCrossed_1 15 rfl rfl)
theorem dX1_hoursUntilCrossed_40 : decode cX1_hoursUntilCrossed 40 = .ok (.invokevirtual 373, 3) := dk_182 1 117 (dk_at dksX1_hoursUntilCrossed_1 18 rfl rfl)
theorem dX1_hoursUntilCrossed_43 : decode cX1_hoursUntilCrossed 43 = .ok (.ifCond .ne 6, 3) := dk_154 0 6 (dk_at dksX1_hoursUntilCrossed_1 21 rfl rfl)
theorem dX1_hoursUntilCrossed_46 : decode cX1_hoursUntilCrossed 46 = .ok (.iload 4, 2) := dk_21 4 (dk_at dksX1_hoursUntilCrossed_2 0 rfl rfl)
theorem dX1_hoursUntilCrossed_48 : decode cX1_hoursUntilCrossed 48 = .ok (.ireturn, 1) := dk_172 (dk_at dksX1_hoursUntilCrossed_2 2 rfl rfl)
theorem dX1_hoursUntilCrossed_49 : decode cX1_hoursUntilCrossed 49 = .ok (.iinc 4 1, 3) := dk_132 4 1 (dk_at dksX1_hoursUntilCrossed_2 3 rfl rfl)
theorem dX1_hoursUntilCrossed_52 : decode cX1_hoursUntilCrossed 52 = .ok (.goto (-35), 3) := dk_167 255 221 (dk_at dksX1_hoursUntilCrossed_2 6 rfl rfl)
theorem dX1_hoursUntilCrossed_55 : decode cX1_hoursUntilCrossed 55 = .ok (.iconst (-1), 1) := dk_2 (dk_at dksX1_hoursUntilCrossed_2 9 rfl rfl)
theorem dX1_hoursUntilCrossed_56 : decode cX1_hoursUntilCrossed 56 = .ok (.ireturn, 1) := dk_172 (dk_at dksX1_hoursUntilCrossed_2 10 rfl rfl)
abbrev cX1_crossedAfter : ByteArray := prog_1_method_60_code
def yX1_crossedAfter : MethodName := ⟨RX1, "crossedAfter", "(II)I"⟩
def dkwX1_crossedAfter_1 : List UInt8 := [180, 1, 125, 27, 46, 42, 180, 0, 22, 180, 1, 47, 180, 1, 125, 27, 46, 100, 172]
abbrev dktX1_crossedAfter_1 : List UInt8 := dkwX1_crossedAfter_1 ++ []
def dkwX1_crossedAfter_0 : List UInt8 := [27, 184, 1, 8, 28, 184, 1, 96, 42, 180, 0, 22, 182, 0, 107, 28, 182, 1, 122, 180, 1, 47]
abbrev dktX1_crossedAfter_0 : List UInt8 := dkwX1_crossedAfter_0 ++ dktX1_crossedAfter_1
theorem dksX1_crossedAfter_0 : cX1_crossedAfter.data.toList.drop 0 = dktX1_crossedAfter_0 := by decide +kernel
theorem dksX1_crossedAfter_1 : cX1_crossedAfter.data.toList.drop 22 = dktX1_crossedAfter_1 := dk_seg dksX1_crossedAfter_0 22 rfl rfl
theorem dX1_crossedAfter_0 : decode cX1_crossedAfter 0 = .ok (.iload_n 1, 1) := dk_27 (dk_at dksX1_crossedAfter_0 0 rfl rfl)
theorem dX1_crossedAfter_1 : decode cX1_crossedAfter 1 = .ok (.invokestatic 264, 3) := dk_184 1 8 (dk_at dksX1_crossedAfter_0 1 rfl rfl)
theorem dX1_crossedAfter_4 : decode cX1_crossedAfter 4 = .ok (.iload_n 2, 1) := dk_28 (dk_at dksX1_crossedAfter_0 4 rfl rfl)
theorem dX1_crossedAfter_5 : decode cX1_crossedAfter 5 = .ok (.invokestatic 352, 3) := dk_184 1 96 (dk_at dksX1_crossedAfter_0 5 rfl rfl)
theorem dX1_crossedAfter_8 : decode cX1_crossedAfter 8 = .ok (.aload_n 0, 1) := dk_42 (dk_at dksX1_crossedAfter_0 8 rfl rfl)
theorem dX1_crossedAfter_9 : decode cX1_crossedAfter 9 = .ok (.getfield 22, 3) := dk_180 0 22 (dk_at dksX1_crossedAfter_0 9 rfl rfl)
theorem dX1_crossedAfter_12 : decode cX1_crossedAfter 12 = .ok (.invokevirtual 107, 3) := dk_182 0 107 (dk_at dksX1_crossedAfter_0 12 rfl rfl)
theorem dX1_crossedAfter_15 : decode cX1_crossedAfter 15 = .ok (.iload_n 2, 1) := dk_28 (dk_at dksX1_crossedAfter_0 15 rfl rfl)
theorem dX1_crossedAfter_16 : decode cX1_crossedAfter 16 = .ok (.invokevirtual 378, 3) := dk_182 1 122 (dk_at dksX1_crossedAfter_0 16 rfl rfl)
theorem dX1_crossedAfter_19 : decode cX1_crossedAfter 19 = .ok (.getfield 303, 3) := dk_180 1 47 (dk_at dksX1_crossedAfter_0 19 rfl rfl)
theorem dX1_crossedAfter_22 : decode cX1_crossedAfter 22 = .ok (.getfield 381, 3) := dk_180 1 125 (dk_at dksX1_crossedAfter_1 0 rfl rfl)
theorem dX1_crossedAfter_25 : decode cX1_crossedAfter 25 = .ok (.iload_n 1, 1) := dk_27 (dk_at dksX1_crossedAfter_1 3 rfl rfl)
theorem dX1_crossedAfter_26 : decode cX1_crossedAfter 26 = .ok (.iaload, 1) := dk_46 (dk_at dksX1_crossedAfter_1 4 rfl rfl)
theorem dX1_crossedAfter_27 : decode cX1_crossedAfter 27 = .ok (.aload_n 0, 1) := dk_42 (dk_at dksX1_crossedAfter_1 5 rfl rfl)
theorem dX1_crossedAfter_28 : decode cX1_crossedAfter 28 = .ok (.getfield 22, 3) := dk_180 0 22 (dk_at dksX1_crossedAfter_1 6 rfl rfl)
theorem dX1_crossedAfter_31 : decode cX1_crossedAfter 31 = .ok (.getfield 303, 3) := dk_180 1 47 (dk_at dksX1_crossedAfter_1 9 rfl rfl)
theorem dX1_crossedAfter_34 : decode cX1_crossedAfter 34 = .ok (.getfield 381, 3) := dk_180 1 125 (dk_at dksX1_crossedAfter_1 12 rfl rfl)
theorem dX1_crossedAfter_37 : decode cX1_crossedAfter 37 = .ok (.iload_n 1, 1) := dk_27 (dk_at dksX1_crossedAfter_1 15 rfl rfl)
theorem dX1_crossedAfter_38 : decode cX1_crossedAfter 38 = .ok (.iaload, 1) := dk_46 (dk_at dksX1_crossedAfter_1 16 rfl rfl)
theorem dX1_crossedAfter_39 : decode cX1_crossedAfter 39 = .ok (.isub, 1) := dk_100 (dk_at dksX1_crossedAfter_1 17 rfl rfl)
theorem dX1_crossedAfter_40 : decode cX1_crossedAfter 40 = .ok (.ireturn, 1) := dk_172 (dk_at dksX1_crossedAfter_1 18 rfl rfl)
abbrev cX1_leastCapacity : ByteArray := prog_1_method_61_code
def yX1_leastCapacity : MethodName := ⟨RX1, "leastCapacity", "(II)I"⟩
def dkwX1_leastCapacity_2 : List UInt8 := [180, 0, 83, 27, 50, 180, 1, 16, 153, 0, 5, 29, 172, 132, 3, 1, 167, 255, 204, 2, 172]
abbrev dktX1_leastCapacity_2 : List UInt8 := dkwX1_leastCapacity_2 ++ []
def dkwX1_leastCapacity_1 : List UInt8 := [182, 1, 99, 58, 4, 25, 4, 180, 0, 83, 27, 50, 29, 181, 0, 66, 25, 4, 28, 182, 1, 102]
abbrev dktX1_leastCapacity_1 : List UInt8 := dkwX1_leastCapacity_1 ++ dktX1_leastCapacity_2
def dkwX1_leastCapacity_0 : List UInt8 := [27, 184, 1, 8, 28, 184, 1, 96, 4, 62, 29, 17, 0, 200, 163, 0, 51, 42, 180, 0, 22, 180, 0, 200]
abbrev dktX1_leastCapacity_0 : List UInt8 := dkwX1_leastCapacity_0 ++ dktX1_leastCapacity_1
theorem dksX1_leastCapacity_0 : cX1_leastCapacity.data.toList.drop 0 = dktX1_leastCapacity_0 := by decide +kernel
theorem dksX1_leastCapacity_1 : cX1_leastCapacity.data.toList.drop 24 = dktX1_leastCapacity_1 := dk_seg dksX1_leastCapacity_0 24 rfl rfl
theorem dksX1_leastCapacity_2 : cX1_leastCapacity.data.toList.drop 46 = dktX1_leastCapacity_2 := dk_seg dksX1_leastCapacity_1 22 rfl rfl
theorem dX1_leastCapacity_0 : decode cX1_leastCapacity 0 = .ok (.iload_n 1, 1) := dk_27 (dk_at dksX1_leastCapacity_0 0 rfl rfl)
theorem dX1_leastCapacity_1 : decode cX1_leastCapacity 1 = .ok (.invokestatic 264, 3) := dk_184 1 8 (dk_at dksX1_leastCapacity_0 1 rfl rfl)
theorem dX1_leastCapacity_4 : decode cX1_leastCapacity 4 = .ok (.iload_n 2, 1) := dk_28 (dk_at dksX1_leastCapacity_0 4 rfl rfl)
theorem dX1_leastCapacity_5 : decode cX1_leastCapacity 5 = .ok (.invokestatic 352, 3) := dk_184 1 96 (dk_at dksX1_leastCapacity_0 5 rfl rfl)
theorem dX1_leastCapacity_8 : decode cX1_leastCapacity 8 = .ok (.iconst 1, 1) := dk_4 (dk_at dksX1_leastCapacity_0 8 rfl rfl)
theorem dX1_leastCapacity_9 : decode cX1_leastCapacity 9 = .ok (.istore_n 3, 1) := dk_62 (dk_at dksX1_leastCapacity_0 9 rfl rfl)
theorem dX1_leastCapacity_10 : decode cX1_leastCapacity 10 = .ok (.iload_n 3, 1) := dk_29 (dk_at dksX1_leastCapacity_0 10 rfl rfl)
theorem dX1_leastCapacity_11 : decode cX1_leastCapacity 11 = .ok (.sipush 200, 3) := dk_17 0 200 (dk_at dksX1_leastCapacity_0 11 rfl rfl)
theorem dX1_leastCapacity_14 : decode cX1_leastCapacity 14 = .ok (.if_icmp .gt 51, 3) := dk_163 0 51 (dk_at dksX1_leastCapacity_0 14 rfl rfl)
theorem dX1_leastCapacity_17 : decode cX1_leastCapacity 17 = .ok (.aload_n 0, 1) := dk_42 (dk_at dksX1_leastCapacity_0 17 rfl rfl)
theorem dX1_leastCapacity_18 : decode cX1_leastCapacity 18 = .ok (.getfield 22, 3) := dk_180 0 22 (dk_at dksX1_leastCapacity_0 18 rfl rfl)
theorem dX1_leastCapacity_21 : decode cX1_leastCapacity 21 = .ok (.getfield 200, 3) := dk_180 0 200 (dk_at dksX1_leastCapacity_0 21 rfl rfl)
theorem dX1_leastCapacity_24 : decode cX1_leastCapacity 24 = .ok (.invokevirtual 355, 3) := dk_182 1 99 (dk_at dksX1_leastCapacity_1 0 rfl rfl)
theorem dX1_leastCapacity_27 : decode cX1_leastCapacity 27 = .ok (.astore 4, 2) := dk_58 4 (dk_at dksX1_leastCapacity_1 3 rfl rfl)
theorem dX1_leastCapacity_29 : decode cX1_leastCapacity 29 = .ok (.aload 4, 2) := dk_25 4 (dk_at dksX1_leastCapacity_1 5 rfl rfl)
theorem dX1_leastCapacity_31 : decode cX1_leastCapacity 31 = .ok (.getfield 83, 3) := dk_180 0 83 (dk_at dksX1_leastCapacity_1 7 rfl rfl)
theorem dX1_leastCapacity_34 : decode cX1_leastCapacity 34 = .ok (.iload_n 1, 1) := dk_27 (dk_at dksX1_leastCapacity_1 10 rfl rfl)
theorem dX1_leastCapacity_35 : decode cX1_leastCapacity 35 = .ok (.aaload, 1) := dk_50 (dk_at dksX1_leastCapacity_1 11 rfl rfl)
theorem dX1_leastCapacity_36 : decode cX1_leastCapacity 36 = .ok (.iload_n 3, 1) := dk_29 (dk_at dksX1_leastCapacity_1 12 rfl rfl)
theorem dX1_leastCapacity_37 : decode cX1_leastCapacity 37 = .ok (.putfield 66, 3) := dk_181 0 66 (dk_at dksX1_leastCapacity_1 13 rfl rfl)
theorem dX1_leastCapacity_40 : decode cX1_leastCapacity 40 = .ok (.aload 4, 2) := dk_25 4 (dk_at dksX1_leastCapacity_1 16 rfl rfl)
theorem dX1_leastCapacity_42 : decode cX1_leastCapacity 42 = .ok (.iload_n 2, 1) := dk_28 (dk_at dksX1_leastCapacity_1 18 rfl rfl)
theorem dX1_leastCapacity_43 : decode cX1_leastCapacity 43 = .ok (.invokevirtual 358, 3) := dk_182 1 102 (dk_at dksX1_leastCapacity_1 19 rfl rfl)
theorem dX1_leastCapacity_46 : decode cX1_leastCapacity 46 = .ok (.getfield 83, 3) := dk_180 0 83 (dk_at dksX1_leastCapacity_2 0 rfl rfl)
theorem dX1_leastCapacity_49 : decode cX1_leastCapacity 49 = .ok (.iload_n 1, 1) := dk_27 (dk_at dksX1_leastCapacity_2 3 rfl rfl)
theorem dX1_leastCapacity_50 : decode cX1_leastCapacity 50 = .ok (.aaload, 1) := dk_50 (dk_at dksX1_leastCapacity_2 4 rfl rfl)
theorem dX1_leastCapacity_51 : decode cX1_leastCapacity 51 = .ok (.getfield 272, 3) := dk_180 1 16 (dk_at dksX1_leastCapacity_2 5 rfl rfl)
theorem dX1_leastCapacity_54 : decode cX1_leastCapacity 54 = .ok (.ifCond .eq 5, 3) := dk_153 0 5 (dk_at dksX1_leastCapacity_2 8 rfl rfl)
theorem dX1_leastCapacity_57 : decode cX1_leastCapacity 57 = .ok (.iload_n 3, 1) := dk_29 (dk_at dksX1_leastCapacity_2 11 rfl rfl)
theorem dX1_leastCapacity_58 : decode cX1_leastCapacity 58 = .ok (.ireturn, 1) := dk_172 (dk_at dksX1_leastCapacity_2 12 rfl rfl)
theorem dX1_leastCapacity_59 : decode cX1_leastCapacity 59 = .ok (.iinc 3 1, 3) := dk_132 3 1 (dk_at dksX1_leastCapacity_2 13 rfl rfl)
theorem dX1_leastCapacity_62 : decode cX1_leastCapacity 62 = .ok (.goto (-52), 3) := dk_167 255 204 (dk_at dksX1_leastCapacity_2 16 rfl rfl)
theorem dX1_leastCapacity_65 : decode cX1_leastCapacity 65 = .ok (.iconst (-1), 1) := dk_2 (dk_at dksX1_leastCapacity_2 19 rfl rfl)
theorem dX1_leastCapacity_66 : decode cX1_leastCapacity 66 = .ok (.ireturn, 1) := dk_172 (dk_at dksX1_leastCapacity_2 20 rfl rfl)
abbrev cX1_bestSaltSegment : ByteArray := prog_1_method_62_code
def yX1_bestSaltSegment : MethodName := ⟨RX1, "bestSaltSegment", "(I)I"⟩
def dkwX1_bestSaltSegment_2 : List UInt8 := [182, 1, 133, 132, 3, 1, 167, 255, 219, 44, 180, 1, 135, 172]
abbrev dktX1_bestSaltSegment_2 : List UInt8 := dkwX1_bestSaltSegment_2 ++ []
def dkwX1_bestSaltSegment_1 : List UInt8 := [182, 0, 204, 162, 0, 29, 42, 180, 0, 22, 180, 0, 200, 180, 0, 233, 29, 46, 154, 0, 8, 44, 29]
abbrev dktX1_bestSaltSegment_1 : List UInt8 := dkwX1_bestSaltSegment_1 ++ dktX1_bestSaltSegment_2
def dkwX1_bestSaltSegment_0 : List UInt8 := [27, 184, 1, 96, 187, 1, 128, 89, 42, 27, 183, 1, 130, 77, 3, 62, 29, 42, 180, 0, 22, 180, 0, 200]
abbrev dktX1_bestSaltSegment_0 : List UInt8 := dkwX1_bestSaltSegment_0 ++ dktX1_bestSaltSegment_1
theorem dksX1_bestSaltSegment_0 : cX1_bestSaltSegment.data.toList.drop 0 = dktX1_bestSaltSegment_0 := by decide +kernel
theorem dksX1_bestSaltSegment_1 : cX1_bestSaltSegment.data.toList.drop 24 = dktX1_bestSaltSegment_1 := dk_seg dksX1_bestSaltSegment_0 24 rfl rfl
theorem dksX1_bestSaltSegment_2 : cX1_bestSaltSegment.data.toList.drop 47 = dktX1_bestSaltSegment_2 := dk_seg dksX1_bestSaltSegment_1 23 rfl rfl
theorem dX1_bestSaltSegment_0 : decode cX1_bestSaltSegment 0 = .ok (.iload_n 1, 1) := dk_27 (dk_at dksX1_bestSaltSegment_0 0 rfl rfl)
theorem dX1_bestSaltSegment_1 : decode cX1_bestSaltSegment 1 = .ok (.invokestatic 352, 3) := dk_184 1 96 (dk_at dksX1_bestSaltSegment_0 1 rfl rfl)
theorem dX1_bestSaltSegment_4 : decode cX1_bestSaltSegment 4 = .ok (.new 384, 3) := dk_187 1 128 (dk_at dksX1_bestSaltSegment_0 4 rfl rfl)
theorem dX1_bestSaltSegment_7 : decode cX1_bestSaltSegment 7 = .ok (.dup, 1) := dk_89 (dk_at dksX1_bestSaltSegment_0 7 rfl rfl)
theorem dX1_bestSaltSegment_8 : decode cX1_bestSaltSegment 8 = .ok (.aload_n 0, 1) := dk_42 (dk_at dksX1_bestSaltSegment_0 8 rfl rfl)
theorem dX1_bestSaltSegment_9 : decode cX1_bestSaltSegment 9 = .ok (.iload_n 1, 1) := dk_27 (dk_at dksX1_bestSaltSegment_0 9 rfl rfl)
theorem dX1_bestSaltSegment_10 : decode cX1_bestSaltSegment 10 = .ok (.invokespecial 386, 3) := dk_183 1 130 (dk_at dksX1_bestSaltSegment_0 10 rfl rfl)
theorem dX1_bestSaltSegment_13 : decode cX1_bestSaltSegment 13 = .ok (.astore_n 2, 1) := dk_77 (dk_at dksX1_bestSaltSegment_0 13 rfl rfl)
theorem dX1_bestSaltSegment_14 : decode cX1_bestSaltSegment 14 = .ok (.iconst 0, 1) := dk_3 (dk_at dksX1_bestSaltSegment_0 14 rfl rfl)
theorem dX1_bestSaltSegment_15 : decode cX1_bestSaltSegment 15 = .ok (.istore_n 3, 1) := dk_62 (dk_at dksX1_bestSaltSegment_0 15 rfl rfl)
theorem dX1_bestSaltSegment_16 : decode cX1_bestSaltSegment 16 = .ok (.iload_n 3, 1) := dk_29 (dk_at dksX1_bestSaltSegment_0 16 rfl rfl)
theorem dX1_bestSaltSegment_17 : decode cX1_bestSaltSegment 17 = .ok (.aload_n 0, 1) := dk_42 (dk_at dksX1_bestSaltSegment_0 17 rfl rfl)
theorem dX1_bestSaltSegment_18 : decode cX1_bestSaltSegment 18 = .ok (.getfield 22, 3) := dk_180 0 22 (dk_at dksX1_bestSaltSegment_0 18 rfl rfl)
theorem dX1_bestSaltSegment_21 : decode cX1_bestSaltSegment 21 = .ok (.getfield 200, 3) := dk_180 0 200 (dk_at dksX1_bestSaltSegment_0 21 rfl rfl)
theorem dX1_bestSaltSegment_24 : decode cX1_bestSaltSegment 24 = .ok (.invokevirtual 204, 3) := dk_182 0 204 (dk_at dksX1_bestSaltSegment_1 0 rfl rfl)
theorem dX1_bestSaltSegment_27 : decode cX1_bestSaltSegment 27 = .ok (.if_icmp .ge 29, 3) := dk_162 0 29 (dk_at dksX1_bestSaltSegment_1 3 rfl rfl)
theorem dX1_bestSaltSegment_30 : decode cX1_bestSaltSegment 30 = .ok (.aload_n 0, 1) := dk_42 (dk_at dksX1_bestSaltSegment_1 6 rfl rfl)
theorem dX1_bestSaltSegment_31 : decode cX1_bestSaltSegment 31 = .ok (.getfield 22, 3) := dk_180 0 22 (dk_at dksX1_bestSaltSegment_1 7 rfl rfl)
theorem dX1_bestSaltSegment_34 : decode cX1_bestSaltSegment 34 = .ok (.getfield 200, 3) := dk_180 0 200 (dk_at dksX1_bestSaltSegment_1 10 rfl rfl)
theorem dX1_bestSaltSegment_37 : decode cX1_bestSaltSegment 37 = .ok (.getfield 233, 3) := dk_180 0 233 (dk_at dksX1_bestSaltSegment_1 13 rfl rfl)
theorem dX1_bestSaltSegment_40 : decode cX1_bestSaltSegment 40 = .ok (.iload_n 3, 1) := dk_29 (dk_at dksX1_bestSaltSegment_1 16 rfl rfl)
theorem dX1_bestSaltSegment_41 : decode cX1_bestSaltSegment 41 = .ok (.iaload, 1) := dk_46 (dk_at dksX1_bestSaltSegment_1 17 rfl rfl)
theorem dX1_bestSaltSegment_42 : decode cX1_bestSaltSegment 42 = .ok (.ifCond .ne 8, 3) := dk_154 0 8 (dk_at dksX1_bestSaltSegment_1 18 rfl rfl)
theorem dX1_bestSaltSegment_45 : decode cX1_bestSaltSegment 45 = .ok (.aload_n 2, 1) := dk_44 (dk_at dksX1_bestSaltSegment_1 21 rfl rfl)
theorem dX1_bestSaltSegment_46 : decode cX1_bestSaltSegment 46 = .ok (.iload_n 3, 1) := dk_29 (dk_at dksX1_bestSaltSegment_1 22 rfl rfl)
theorem dX1_bestSaltSegment_47 : decode cX1_bestSaltSegment 47 = .ok (.invokevirtual 389, 3) := dk_182 1 133 (dk_at dksX1_bestSaltSegment_2 0 rfl rfl)
theorem dX1_bestSaltSegment_50 : decode cX1_bestSaltSegment 50 = .ok (.iinc 3 1, 3) := dk_132 3 1 (dk_at dksX1_bestSaltSegment_2 3 rfl rfl)
theorem dX1_bestSaltSegment_53 : decode cX1_bestSaltSegment 53 = .ok (.goto (-37), 3) := dk_167 255 219 (dk_at dksX1_bestSaltSegment_2 6 rfl rfl)
theorem dX1_bestSaltSegment_56 : decode cX1_bestSaltSegment 56 = .ok (.aload_n 2, 1) := dk_44 (dk_at dksX1_bestSaltSegment_2 9 rfl rfl)
theorem dX1_bestSaltSegment_57 : decode cX1_bestSaltSegment 57 = .ok (.getfield 391, 3) := dk_180 1 135 (dk_at dksX1_bestSaltSegment_2 10 rfl rfl)
theorem dX1_bestSaltSegment_60 : decode cX1_bestSaltSegment 60 = .ok (.ireturn, 1) := dk_172 (dk_at dksX1_bestSaltSegment_2 13 rfl rfl)
abbrev cX1_cartsCrossed : ByteArray := prog_1_method_66_code
def yX1_cartsCrossed : MethodName := ⟨RX1, "cartsCrossed", "(I)I"⟩
def dkwX1_cartsCrossed_0 : List UInt8 := [27, 184, 1, 8, 42, 180, 0, 22, 180, 1, 47, 180, 1, 125, 27, 46, 172]
abbrev dktX1_cartsCrossed_0 : List UInt8 := dkwX1_cartsCrossed_0 ++ []
theorem dksX1_cartsCrossed_0 : cX1_cartsCrossed.data.toList.drop 0 = dktX1_cartsCrossed_0 := by decide +kernel
theorem dX1_cartsCrossed_0 : decode cX1_cartsCrossed 0 = .ok (.iload_n 1, 1) := dk_27 (dk_at dksX1_cartsCrossed_0 0 rfl rfl)
theorem dX1_cartsCrossed_1 : decode cX1_cartsCrossed 1 = .ok (.invokestatic 264, 3) := dk_184 1 8 (dk_at dksX1_cartsCrossed_0 1 rfl rfl)
theorem dX1_cartsCrossed_4 : decode cX1_cartsCrossed 4 = .ok (.aload_n 0, 1) := dk_42 (dk_at dksX1_cartsCrossed_0 4 rfl rfl)
theorem dX1_cartsCrossed_5 : decode cX1_cartsCrossed 5 = .ok (.getfield 22, 3) := dk_180 0 22 (dk_at dksX1_cartsCrossed_0 5 rfl rfl)
theorem dX1_cartsCrossed_8 : decode cX1_cartsCrossed 8 = .ok (.getfield 303, 3) := dk_180 1 47 (dk_at dksX1_cartsCrossed_0 8 rfl rfl)
theorem dX1_cartsCrossed_11 : decode cX1_cartsCrossed 11 = .ok (.getfield 381, 3) := dk_180 1 125 (dk_at dksX1_cartsCrossed_0 11 rfl rfl)
theorem dX1_cartsCrossed_14 : decode cX1_cartsCrossed 14 = .ok (.iload_n 1, 1) := dk_27 (dk_at dksX1_cartsCrossed_0 14 rfl rfl)
theorem dX1_cartsCrossed_15 : decode cX1_cartsCrossed 15 = .ok (.iaload, 1) := dk_46 (dk_at dksX1_cartsCrossed_0 15 rfl rfl)
theorem dX1_cartsCrossed_16 : decode cX1_cartsCrossed 16 = .ok (.ireturn, 1) := dk_172 (dk_at dksX1_cartsCrossed_0 16 rfl rfl)
abbrev cX1_passHours : ByteArray := prog_1_method_74_code
def yX1_passHours : MethodName := ⟨RX1, "passHours", "(I)I"⟩
def dkwX1_passHours_0 : List UInt8 := [27, 133, 10, 20, 1, 166, 184, 0, 142, 184, 0, 146, 42, 27, 186, 1, 168, 0, 0, 182, 1, 171, 172]
abbrev dktX1_passHours_0 : List UInt8 := dkwX1_passHours_0 ++ []
theorem dksX1_passHours_0 : cX1_passHours.data.toList.drop 0 = dktX1_passHours_0 := by decide +kernel
theorem dX1_passHours_0 : decode cX1_passHours 0 = .ok (.iload_n 1, 1) := dk_27 (dk_at dksX1_passHours_0 0 rfl rfl)
theorem dX1_passHours_1 : decode cX1_passHours 1 = .ok (.i2l, 1) := dk_133 (dk_at dksX1_passHours_0 1 rfl rfl)
theorem dX1_passHours_2 : decode cX1_passHours 2 = .ok (.lconst 1, 1) := dk_10 (dk_at dksX1_passHours_0 2 rfl rfl)
theorem dX1_passHours_3 : decode cX1_passHours 3 = .ok (.ldc2_w 422, 3) := dk_20 1 166 (dk_at dksX1_passHours_0 3 rfl rfl)
theorem dX1_passHours_6 : decode cX1_passHours 6 = .ok (.invokestatic 142, 3) := dk_184 0 142 (dk_at dksX1_passHours_0 6 rfl rfl)
theorem dX1_passHours_9 : decode cX1_passHours 9 = .ok (.invokestatic 146, 3) := dk_184 0 146 (dk_at dksX1_passHours_0 9 rfl rfl)
theorem dX1_passHours_12 : decode cX1_passHours 12 = .ok (.aload_n 0, 1) := dk_42 (dk_at dksX1_passHours_0 12 rfl rfl)
theorem dX1_passHours_13 : decode cX1_passHours 13 = .ok (.iload_n 1, 1) := dk_27 (dk_at dksX1_passHours_0 13 rfl rfl)
theorem dX1_passHours_14 : decode cX1_passHours 14 = .ok (.invokedynamic 424, 5) := by decide +kernel
theorem dX1_passHours_19 : decode cX1_passHours 19 = .ok (.invokevirtual 427, 3) := dk_182 1 171 (dk_at dksX1_passHours_0 19 rfl rfl)
theorem dX1_passHours_22 : decode cX1_passHours 22 = .ok (.ireturn, 1) := dk_172 (dk_at dksX1_passHours_0 22 rfl rfl)
abbrev cX1_lambda_passHours_0 : ByteArray := prog_1_method_94_code
def yX1_lambda_passHours_0 : MethodName := ⟨RX1, "lambda$passHours$0", "(ILSnowPass$State;)I"⟩
def dkwX1_lambda_passHours_0_0 : List UInt8 := [43, 26, 182, 1, 238, 172]
abbrev dktX1_lambda_passHours_0_0 : List UInt8 := dkwX1_lambda_passHours_0_0 ++ []
theorem dksX1_lambda_passHours_0_0 : cX1_lambda_passHours_0.data.toList.drop 0 = dktX1_lambda_passHours_0_0 := by decide +kernel
theorem dX1_lambda_passHours_0_0 : decode cX1_lambda_passHours_0 0 = .ok (.aload_n 1, 1) := dk_43 (dk_at dksX1_lambda_passHours_0_0 0 rfl rfl)
theorem dX1_lambda_passHours_0_1 : decode cX1_lambda_passHours_0 1 = .ok (.iload_n 0, 1) := dk_26 (dk_at dksX1_lambda_passHours_0_0 1 rfl rfl)
theorem dX1_lambda_passHours_0_2 : decode cX1_lambda_passHours_0 2 = .ok (.invokevirtual 494, 3) := dk_182 1 238 (dk_at dksX1_lambda_passHours_0_0 2 rfl rfl)
theorem dX1_lambda_passHours_0_5 : decode cX1_lambda_passHours_0 5 = .ok (.ireturn, 1) := dk_172 (dk_at dksX1_lambda_passHours_0_0 5 rfl rfl)
abbrev cX1_perform : ByteArray := prog_1_method_9_code
def yX1_perform : MethodName := ⟨RX1, "perform", "(LSnowPass$Operation;)I"⟩
def dkwX1_perform_0 : List UInt8 := [42, 180, 0, 22, 182, 0, 107, 77, 43, 44, 185, 0, 110, 2, 0, 62, 42, 44, 182, 0, 116, 29, 172]
abbrev dktX1_perform_0 : List UInt8 := dkwX1_perform_0 ++ []
theorem dksX1_perform_0 : cX1_perform.data.toList.drop 0 = dktX1_perform_0 := by decide +kernel
theorem dX1_perform_0 : decode cX1_perform 0 = .ok (.aload_n 0, 1) := dk_42 (dk_at dksX1_perform_0 0 rfl rfl)
theorem dX1_perform_1 : decode cX1_perform 1 = .ok (.getfield 22, 3) := dk_180 0 22 (dk_at dksX1_perform_0 1 rfl rfl)
theorem dX1_perform_4 : decode cX1_perform 4 = .ok (.invokevirtual 107, 3) := dk_182 0 107 (dk_at dksX1_perform_0 4 rfl rfl)
theorem dX1_perform_7 : decode cX1_perform 7 = .ok (.astore_n 2, 1) := dk_77 (dk_at dksX1_perform_0 7 rfl rfl)
theorem dX1_perform_8 : decode cX1_perform 8 = .ok (.aload_n 1, 1) := dk_43 (dk_at dksX1_perform_0 8 rfl rfl)
theorem dX1_perform_9 : decode cX1_perform 9 = .ok (.aload_n 2, 1) := dk_44 (dk_at dksX1_perform_0 9 rfl rfl)
theorem dX1_perform_10 : decode cX1_perform 10 = .ok (.invokeinterface 110 2, 5) := by decide +kernel
theorem dX1_perform_15 : decode cX1_perform 15 = .ok (.istore_n 3, 1) := dk_62 (dk_at dksX1_perform_0 15 rfl rfl)
theorem dX1_perform_16 : decode cX1_perform 16 = .ok (.aload_n 0, 1) := dk_42 (dk_at dksX1_perform_0 16 rfl rfl)
theorem dX1_perform_17 : decode cX1_perform 17 = .ok (.aload_n 2, 1) := dk_44 (dk_at dksX1_perform_0 17 rfl rfl)
theorem dX1_perform_18 : decode cX1_perform 18 = .ok (.invokevirtual 116, 3) := dk_182 0 116 (dk_at dksX1_perform_0 18 rfl rfl)
theorem dX1_perform_21 : decode cX1_perform 21 = .ok (.iload_n 3, 1) := dk_29 (dk_at dksX1_perform_0 21 rfl rfl)
theorem dX1_perform_22 : decode cX1_perform 22 = .ok (.ireturn, 1) := dk_172 (dk_at dksX1_perform_0 22 rfl rfl)
abbrev cX1_spreadSalt : ByteArray := prog_1_method_75_code
def yX1_spreadSalt : MethodName := ⟨RX1, "spreadSalt", "(I)I"⟩
def dkwX1_spreadSalt_0 : List UInt8 := [27, 184, 1, 8, 42, 27, 186, 1, 175, 0, 0, 182, 1, 171, 172]
abbrev dktX1_spreadSalt_0 : List UInt8 := dkwX1_spreadSalt_0 ++ []
theorem dksX1_spreadSalt_0 : cX1_spreadSalt.data.toList.drop 0 = dktX1_spreadSalt_0 := by decide +kernel
theorem dX1_spreadSalt_0 : decode cX1_spreadSalt 0 = .ok (.iload_n 1, 1) := dk_27 (dk_at dksX1_spreadSalt_0 0 rfl rfl)
theorem dX1_spreadSalt_1 : decode cX1_spreadSalt 1 = .ok (.invokestatic 264, 3) := dk_184 1 8 (dk_at dksX1_spreadSalt_0 1 rfl rfl)
theorem dX1_spreadSalt_4 : decode cX1_spreadSalt 4 = .ok (.aload_n 0, 1) := dk_42 (dk_at dksX1_spreadSalt_0 4 rfl rfl)
theorem dX1_spreadSalt_5 : decode cX1_spreadSalt 5 = .ok (.iload_n 1, 1) := dk_27 (dk_at dksX1_spreadSalt_0 5 rfl rfl)
theorem dX1_spreadSalt_6 : decode cX1_spreadSalt 6 = .ok (.invokedynamic 431, 5) := by decide +kernel
theorem dX1_spreadSalt_11 : decode cX1_spreadSalt 11 = .ok (.invokevirtual 427, 3) := dk_182 1 171 (dk_at dksX1_spreadSalt_0 11 rfl rfl)
theorem dX1_spreadSalt_14 : decode cX1_spreadSalt 14 = .ok (.ireturn, 1) := dk_172 (dk_at dksX1_spreadSalt_0 14 rfl rfl)
abbrev cX1_lambda_spreadSalt_1 : ByteArray := prog_1_method_93_code
def yX1_lambda_spreadSalt_1 : MethodName := ⟨RX1, "lambda$spreadSalt$1", "(ILSnowPass$State;)I"⟩
def dkwX1_lambda_spreadSalt_1_0 : List UInt8 := [43, 26, 182, 1, 235, 172]
abbrev dktX1_lambda_spreadSalt_1_0 : List UInt8 := dkwX1_lambda_spreadSalt_1_0 ++ []
theorem dksX1_lambda_spreadSalt_1_0 : cX1_lambda_spreadSalt_1.data.toList.drop 0 = dktX1_lambda_spreadSalt_1_0 := by decide +kernel
theorem dX1_lambda_spreadSalt_1_0 : decode cX1_lambda_spreadSalt_1 0 = .ok (.aload_n 1, 1) := dk_43 (dk_at dksX1_lambda_spreadSalt_1_0 0 rfl rfl)
theorem dX1_lambda_spreadSalt_1_1 : decode cX1_lambda_spreadSalt_1 1 = .ok (.iload_n 0, 1) := dk_26 (dk_at dksX1_lambda_spreadSalt_1_0 1 rfl rfl)
theorem dX1_lambda_spreadSalt_1_2 : decode cX1_lambda_spreadSalt_1 2 = .ok (.invokevirtual 491, 3) := dk_182 1 235 (dk_at dksX1_lambda_spreadSalt_1_0 2 rfl rfl)
theorem dX1_lambda_spreadSalt_1_5 : decode cX1_lambda_spreadSalt_1 5 = .ok (.ireturn, 1) := dk_172 (dk_at dksX1_lambda_spreadSalt_1_0 5 rfl rfl)
abbrev cX1_recall : ByteArray := prog_1_method_76_code
def yX1_recall : MethodName := ⟨RX1, "recall", "(I)I"⟩
def dkwX1_recall_0 : List UInt8 := [27, 184, 1, 8, 42, 27, 186, 1, 176, 0, 0, 182, 1, 171, 172]
abbrev dktX1_recall_0 : List UInt8 := dkwX1_recall_0 ++ []
theorem dksX1_recall_0 : cX1_recall.data.toList.drop 0 = dktX1_recall_0 := by decide +kernel
theorem dX1_recall_0 : decode cX1_recall 0 = .ok (.iload_n 1, 1) := dk_27 (dk_at dksX1_recall_0 0 rfl rfl)
theorem dX1_recall_1 : decode cX1_recall 1 = .ok (.invokestatic 264, 3) := dk_184 1 8 (dk_at dksX1_recall_0 1 rfl rfl)
theorem dX1_recall_4 : decode cX1_recall 4 = .ok (.aload_n 0, 1) := dk_42 (dk_at dksX1_recall_0 4 rfl rfl)
theorem dX1_recall_5 : decode cX1_recall 5 = .ok (.iload_n 1, 1) := dk_27 (dk_at dksX1_recall_0 5 rfl rfl)
theorem dX1_recall_6 : decode cX1_recall 6 = .ok (.invokedynamic 432, 5) := by decide +kernel
theorem dX1_recall_11 : decode cX1_recall 11 = .ok (.invokevirtual 427, 3) := dk_182 1 171 (dk_at dksX1_recall_0 11 rfl rfl)
theorem dX1_recall_14 : decode cX1_recall 14 = .ok (.ireturn, 1) := dk_172 (dk_at dksX1_recall_0 14 rfl rfl)
abbrev cX1_lambda_recall_2 : ByteArray := prog_1_method_92_code
def yX1_lambda_recall_2 : MethodName := ⟨RX1, "lambda$recall$2", "(ILSnowPass$State;)I"⟩
def dkwX1_lambda_recall_2_0 : List UInt8 := [43, 26, 182, 1, 233, 172]
abbrev dktX1_lambda_recall_2_0 : List UInt8 := dkwX1_lambda_recall_2_0 ++ []
theorem dksX1_lambda_recall_2_0 : cX1_lambda_recall_2.data.toList.drop 0 = dktX1_lambda_recall_2_0 := by decide +kernel
theorem dX1_lambda_recall_2_0 : decode cX1_lambda_recall_2 0 = .ok (.aload_n 1, 1) := dk_43 (dk_at dksX1_lambda_recall_2_0 0 rfl rfl)
theorem dX1_lambda_recall_2_1 : decode cX1_lambda_recall_2 1 = .ok (.iload_n 0, 1) := dk_26 (dk_at dksX1_lambda_recall_2_0 1 rfl rfl)
theorem dX1_lambda_recall_2_2 : decode cX1_lambda_recall_2 2 = .ok (.invokevirtual 489, 3) := dk_182 1 233 (dk_at dksX1_lambda_recall_2_0 2 rfl rfl)
theorem dX1_lambda_recall_2_5 : decode cX1_lambda_recall_2 5 = .ok (.ireturn, 1) := dk_172 (dk_at dksX1_lambda_recall_2_0 5 rfl rfl)
abbrev cX1_addSacks : ByteArray := prog_1_method_77_code
def yX1_addSacks : MethodName := ⟨RX1, "addSacks", "(II)I"⟩
def dkwX1_addSacks_1 : List UInt8 := [182, 1, 171, 172]
abbrev dktX1_addSacks_1 : List UInt8 := dkwX1_addSacks_1 ++ []
def dkwX1_addSacks_0 : List UInt8 := [27, 184, 1, 8, 28, 133, 10, 20, 1, 177, 184, 0, 142, 184, 0, 146, 42, 27, 28, 186, 1, 179, 0, 0]
abbrev dktX1_addSacks_0 : List UInt8 := dkwX1_addSacks_0 ++ dktX1_addSacks_1
theorem dksX1_addSacks_0 : cX1_addSacks.data.toList.drop 0 = dktX1_addSacks_0 := by decide +kernel
theorem dksX1_addSacks_1 : cX1_addSacks.data.toList.drop 24 = dktX1_addSacks_1 := dk_seg dksX1_addSacks_0 24 rfl rfl
theorem dX1_addSacks_0 : decode cX1_addSacks 0 = .ok (.iload_n 1, 1) := dk_27 (dk_at dksX1_addSacks_0 0 rfl rfl)
theorem dX1_addSacks_1 : decode cX1_addSacks 1 = .ok (.invokestatic 264, 3) := dk_184 1 8 (dk_at dksX1_addSacks_0 1 rfl rfl)
theorem dX1_addSacks_4 : decode cX1_addSacks 4 = .ok (.iload_n 2, 1) := dk_28 (dk_at dksX1_addSacks_0 4 rfl rfl)
theorem dX1_addSacks_5 : decode cX1_addSacks 5 = .ok (.i2l, 1) := dk_133 (dk_at dksX1_addSacks_0 5 rfl rfl)
theorem dX1_addSacks_6 : decode cX1_addSacks 6 = .ok (.lconst 1, 1) := dk_10 (dk_at dksX1_addSacks_0 6 rfl rfl)
theorem dX1_addSacks_7 : decode cX1_addSacks 7 = .ok (.ldc2_w 433, 3) := dk_20 1 177 (dk_at dksX1_addSacks_0 7 rfl rfl)
theorem dX1_addSacks_10 : decode cX1_addSacks 10 = .ok (.invokestatic 142, 3) := dk_184 0 142 (dk_at dksX1_addSacks_0 10 rfl rfl)
theorem dX1_addSacks_13 : decode cX1_addSacks 13 = .ok (.invokestatic 146, 3) := dk_184 0 146 (dk_at dksX1_addSacks_0 13 rfl rfl)
theorem dX1_addSacks_16 : decode cX1_addSacks 16 = .ok (.aload_n 0, 1) := dk_42 (dk_at dksX1_addSacks_0 16 rfl rfl)
theorem dX1_addSacks_17 : decode cX1_addSacks 17 = .ok (.iload_n 1, 1) := dk_27 (dk_at dksX1_addSacks_0 17 rfl rfl)
theorem dX1_addSacks_18 : decode cX1_addSacks 18 = .ok (.iload_n 2, 1) := dk_28 (dk_at dksX1_addSacks_0 18 rfl rfl)
theorem dX1_addSacks_19 : decode cX1_addSacks 19 = .ok (.invokedynamic 435, 5) := by decide +kernel
theorem dX1_addSacks_24 : decode cX1_addSacks 24 = .ok (.invokevirtual 427, 3) := dk_182 1 171 (dk_at dksX1_addSacks_1 0 rfl rfl)
theorem dX1_addSacks_27 : decode cX1_addSacks 27 = .ok (.ireturn, 1) := dk_172 (dk_at dksX1_addSacks_1 3 rfl rfl)
abbrev cX1_lambda_addSacks_3 : ByteArray := prog_1_method_91_code
def yX1_lambda_addSacks_3 : MethodName := ⟨RX1, "lambda$addSacks$3", "(IILSnowPass$State;)I"⟩
def dkwX1_lambda_addSacks_3_0 : List UInt8 := [44, 26, 27, 182, 1, 229, 172]
abbrev dktX1_lambda_addSacks_3_0 : List UInt8 := dkwX1_lambda_addSacks_3_0 ++ []
theorem dksX1_lambda_addSacks_3_0 : cX1_lambda_addSacks_3.data.toList.drop 0 = dktX1_lambda_addSacks_3_0 := by decide +kernel
theorem dX1_lambda_addSacks_3_0 : decode cX1_lambda_addSacks_3 0 = .ok (.aload_n 2, 1) := dk_44 (dk_at dksX1_lambda_addSacks_3_0 0 rfl rfl)
theorem dX1_lambda_addSacks_3_1 : decode cX1_lambda_addSacks_3 1 = .ok (.iload_n 0, 1) := dk_26 (dk_at dksX1_lambda_addSacks_3_0 1 rfl rfl)
theorem dX1_lambda_addSacks_3_2 : decode cX1_lambda_addSacks_3 2 = .ok (.iload_n 1, 1) := dk_27 (dk_at dksX1_lambda_addSacks_3_0 2 rfl rfl)
theorem dX1_lambda_addSacks_3_3 : decode cX1_lambda_addSacks_3 3 = .ok (.invokevirtual 485, 3) := dk_182 1 229 (dk_at dksX1_lambda_addSacks_3_0 3 rfl rfl)
theorem dX1_lambda_addSacks_3_6 : decode cX1_lambda_addSacks_3 6 = .ok (.ireturn, 1) := dk_172 (dk_at dksX1_lambda_addSacks_3_0 6 rfl rfl)
abbrev cX1_setSnowfall : ByteArray := prog_1_method_78_code
def yX1_setSnowfall : MethodName := ⟨RX1, "setSnowfall", "(I)I"⟩
def dkwX1_setSnowfall_0 : List UInt8 := [27, 133, 9, 20, 1, 177, 184, 0, 142, 184, 0, 146, 42, 27, 186, 1, 182, 0, 0, 182, 1, 171, 172]
abbrev dktX1_setSnowfall_0 : List UInt8 := dkwX1_setSnowfall_0 ++ []
theorem dksX1_setSnowfall_0 : cX1_setSnowfall.data.toList.drop 0 = dktX1_setSnowfall_0 := by decide +kernel
theorem dX1_setSnowfall_0 : decode cX1_setSnowfall 0 = .ok (.iload_n 1, 1) := dk_27 (dk_at dksX1_setSnowfall_0 0 rfl rfl)
theorem dX1_setSnowfall_1 : decode cX1_setSnowfall 1 = .ok (.i2l, 1) := dk_133 (dk_at dksX1_setSnowfall_0 1 rfl rfl)
theorem dX1_setSnowfall_2 : decode cX1_setSnowfall 2 = .ok (.lconst 0, 1) := dk_9 (dk_at dksX1_setSnowfall_0 2 rfl rfl)
theorem dX1_setSnowfall_3 : decode cX1_setSnowfall 3 = .ok (.ldc2_w 433, 3) := dk_20 1 177 (dk_at dksX1_setSnowfall_0 3 rfl rfl)
theorem dX1_setSnowfall_6 : decode cX1_setSnowfall 6 = .ok (.invokestatic 142, 3) := dk_184 0 142 (dk_at dksX1_setSnowfall_0 6 rfl rfl)
theorem dX1_setSnowfall_9 : decode cX1_setSnowfall 9 = .ok (.invokestatic 146, 3) := dk_184 0 146 (dk_at dksX1_setSnowfall_0 9 rfl rfl)
theorem dX1_setSnowfall_12 : decode cX1_setSnowfall 12 = .ok (.aload_n 0, 1) := dk_42 (dk_at dksX1_setSnowfall_0 12 rfl rfl)
theorem dX1_setSnowfall_13 : decode cX1_setSnowfall 13 = .ok (.iload_n 1, 1) := dk_27 (dk_at dksX1_setSnowfall_0 13 rfl rfl)
theorem dX1_setSnowfall_14 : decode cX1_setSnowfall 14 = .ok (.invokedynamic 438, 5) := by decide +kernel
theorem dX1_setSnowfall_19 : decode cX1_setSnowfall 19 = .ok (.invokevirtual 427, 3) := dk_182 1 171 (dk_at dksX1_setSnowfall_0 19 rfl rfl)
theorem dX1_setSnowfall_22 : decode cX1_setSnowfall 22 = .ok (.ireturn, 1) := dk_172 (dk_at dksX1_setSnowfall_0 22 rfl rfl)
abbrev cX1_lambda_setSnowfall_4 : ByteArray := prog_1_method_90_code
def yX1_lambda_setSnowfall_4 : MethodName := ⟨RX1, "lambda$setSnowfall$4", "(ILSnowPass$State;)I"⟩
def dkwX1_lambda_setSnowfall_4_0 : List UInt8 := [43, 26, 182, 1, 226, 172]
abbrev dktX1_lambda_setSnowfall_4_0 : List UInt8 := dkwX1_lambda_setSnowfall_4_0 ++ []
theorem dksX1_lambda_setSnowfall_4_0 : cX1_lambda_setSnowfall_4.data.toList.drop 0 = dktX1_lambda_setSnowfall_4_0 := by decide +kernel
theorem dX1_lambda_setSnowfall_4_0 : decode cX1_lambda_setSnowfall_4 0 = .ok (.aload_n 1, 1) := dk_43 (dk_at dksX1_lambda_setSnowfall_4_0 0 rfl rfl)
theorem dX1_lambda_setSnowfall_4_1 : decode cX1_lambda_setSnowfall_4 1 = .ok (.iload_n 0, 1) := dk_26 (dk_at dksX1_lambda_setSnowfall_4_0 1 rfl rfl)
theorem dX1_lambda_setSnowfall_4_2 : decode cX1_lambda_setSnowfall_4 2 = .ok (.invokevirtual 482, 3) := dk_182 1 226 (dk_at dksX1_lambda_setSnowfall_4_0 2 rfl rfl)
theorem dX1_lambda_setSnowfall_4_5 : decode cX1_lambda_setSnowfall_4 5 = .ok (.ireturn, 1) := dk_172 (dk_at dksX1_lambda_setSnowfall_4_0 5 rfl rfl)
abbrev cX1_setWind : ByteArray := prog_1_method_79_code
def yX1_setWind : MethodName := ⟨RX1, "setWind", "(I)I"⟩
def dkwX1_setWind_0 : List UInt8 := [27, 133, 9, 20, 1, 183, 184, 0, 142, 184, 0, 146, 42, 27, 186, 1, 185, 0, 0, 182, 1, 171, 172]
abbrev dktX1_setWind_0 : List UInt8 := dkwX1_setWind_0 ++ []
theorem dksX1_setWind_0 : cX1_setWind.data.toList.drop 0 = dktX1_setWind_0 := by decide +kernel
theorem dX1_setWind_0 : decode cX1_setWind 0 = .ok (.iload_n 1, 1) := dk_27 (dk_at dksX1_setWind_0 0 rfl rfl)
theorem dX1_setWind_1 : decode cX1_setWind 1 = .ok (.i2l, 1) := dk_133 (dk_at dksX1_setWind_0 1 rfl rfl)
theorem dX1_setWind_2 : decode cX1_setWind 2 = .ok (.lconst 0, 1) := dk_9 (dk_at dksX1_setWind_0 2 rfl rfl)
theorem dX1_setWind_3 : decode cX1_setWind 3 = .ok (.ldc2_w 439, 3) := dk_20 1 183 (dk_at dksX1_setWind_0 3 rfl rfl)
theorem dX1_setWind_6 : decode cX1_setWind 6 = .ok (.invokestatic 142, 3) := dk_184 0 142 (dk_at dksX1_setWind_0 6 rfl rfl)
theorem dX1_setWind_9 : decode cX1_setWind 9 = .ok (.invokestatic 146, 3) := dk_184 0 146 (dk_at dksX1_setWind_0 9 rfl rfl)
theorem dX1_setWind_12 : decode cX1_setWind 12 = .ok (.aload_n 0, 1) := dk_42 (dk_at dksX1_setWind_0 12 rfl rfl)
theorem dX1_setWind_13 : decode cX1_setWind 13 = .ok (.iload_n 1, 1) := dk_27 (dk_at dksX1_setWind_0 13 rfl rfl)
theorem dX1_setWind_14 : decode cX1_setWind 14 = .ok (.invokedynamic 441, 5) := by decide +kernel
theorem dX1_setWind_19 : decode cX1_setWind 19 = .ok (.invokevirtual 427, 3) := dk_182 1 171 (dk_at dksX1_setWind_0 19 rfl rfl)
theorem dX1_setWind_22 : decode cX1_setWind 22 = .ok (.ireturn, 1) := dk_172 (dk_at dksX1_setWind_0 22 rfl rfl)
abbrev cX1_lambda_setWind_5 : ByteArray := prog_1_method_89_code
def yX1_lambda_setWind_5 : MethodName := ⟨RX1, "lambda$setWind$5", "(ILSnowPass$State;)I"⟩
def dkwX1_lambda_setWind_5_0 : List UInt8 := [43, 26, 182, 1, 223, 172]
abbrev dktX1_lambda_setWind_5_0 : List UInt8 := dkwX1_lambda_setWind_5_0 ++ []
theorem dksX1_lambda_setWind_5_0 : cX1_lambda_setWind_5.data.toList.drop 0 = dktX1_lambda_setWind_5_0 := by decide +kernel
theorem dX1_lambda_setWind_5_0 : decode cX1_lambda_setWind_5 0 = .ok (.aload_n 1, 1) := dk_43 (dk_at dksX1_lambda_setWind_5_0 0 rfl rfl)
theorem dX1_lambda_setWind_5_1 : decode cX1_lambda_setWind_5 1 = .ok (.iload_n 0, 1) := dk_26 (dk_at dksX1_lambda_setWind_5_0 1 rfl rfl)
theorem dX1_lambda_setWind_5_2 : decode cX1_lambda_setWind_5 2 = .ok (.invokevirtual 479, 3) := dk_182 1 223 (dk_at dksX1_lambda_setWind_5_0 2 rfl rfl)
theorem dX1_lambda_setWind_5_5 : decode cX1_lambda_setWind_5 5 = .ok (.ireturn, 1) := dk_172 (dk_at dksX1_lambda_setWind_5_0 5 rfl rfl)
abbrev cX1_queueCart : ByteArray := prog_1_method_80_code
def yX1_queueCart : MethodName := ⟨RX1, "queueCart", "(IZ)I"⟩
def dkwX1_queueCart_0 : List UInt8 := [27, 184, 1, 8, 42, 27, 28, 186, 1, 186, 0, 0, 182, 1, 171, 172]
abbrev dktX1_queueCart_0 : List UInt8 := dkwX1_queueCart_0 ++ []
theorem dksX1_queueCart_0 : cX1_queueCart.data.toList.drop 0 = dktX1_queueCart_0 := by decide +kernel
theorem dX1_queueCart_0 : decode cX1_queueCart 0 = .ok (.iload_n 1, 1) := dk_27 (dk_at dksX1_queueCart_0 0 rfl rfl)
theorem dX1_queueCart_1 : decode cX1_queueCart 1 = .ok (.invokestatic 264, 3) := dk_184 1 8 (dk_at dksX1_queueCart_0 1 rfl rfl)
theorem dX1_queueCart_4 : decode cX1_queueCart 4 = .ok (.aload_n 0, 1) := dk_42 (dk_at dksX1_queueCart_0 4 rfl rfl)
theorem dX1_queueCart_5 : decode cX1_queueCart 5 = .ok (.iload_n 1, 1) := dk_27 (dk_at dksX1_queueCart_0 5 rfl rfl)
theorem dX1_queueCart_6 : decode cX1_queueCart 6 = .ok (.iload_n 2, 1) := dk_28 (dk_at dksX1_queueCart_0 6 rfl rfl)
theorem dX1_queueCart_7 : decode cX1_queueCart 7 = .ok (.invokedynamic 442, 5) := by decide +kernel
theorem dX1_queueCart_12 : decode cX1_queueCart 12 = .ok (.invokevirtual 427, 3) := dk_182 1 171 (dk_at dksX1_queueCart_0 12 rfl rfl)
theorem dX1_queueCart_15 : decode cX1_queueCart 15 = .ok (.ireturn, 1) := dk_172 (dk_at dksX1_queueCart_0 15 rfl rfl)
abbrev cX1_lambda_queueCart_6 : ByteArray := prog_1_method_88_code
def yX1_lambda_queueCart_6 : MethodName := ⟨RX1, "lambda$queueCart$6", "(IZLSnowPass$State;)I"⟩
def dkwX1_lambda_queueCart_6_0 : List UInt8 := [44, 26, 27, 182, 1, 220, 172]
abbrev dktX1_lambda_queueCart_6_0 : List UInt8 := dkwX1_lambda_queueCart_6_0 ++ []
theorem dksX1_lambda_queueCart_6_0 : cX1_lambda_queueCart_6.data.toList.drop 0 = dktX1_lambda_queueCart_6_0 := by decide +kernel
theorem dX1_lambda_queueCart_6_0 : decode cX1_lambda_queueCart_6 0 = .ok (.aload_n 2, 1) := dk_44 (dk_at dksX1_lambda_queueCart_6_0 0 rfl rfl)
theorem dX1_lambda_queueCart_6_1 : decode cX1_lambda_queueCart_6 1 = .ok (.iload_n 0, 1) := dk_26 (dk_at dksX1_lambda_queueCart_6_0 1 rfl rfl)
theorem dX1_lambda_queueCart_6_2 : decode cX1_lambda_queueCart_6 2 = .ok (.iload_n 1, 1) := dk_27 (dk_at dksX1_lambda_queueCart_6_0 2 rfl rfl)
theorem dX1_lambda_queueCart_6_3 : decode cX1_lambda_queueCart_6 3 = .ok (.invokevirtual 476, 3) := dk_182 1 220 (dk_at dksX1_lambda_queueCart_6_0 3 rfl rfl)
theorem dX1_lambda_queueCart_6_6 : decode cX1_lambda_queueCart_6 6 = .ok (.ireturn, 1) := dk_172 (dk_at dksX1_lambda_queueCart_6_0 6 rfl rfl)
abbrev cX1_cancelCart : ByteArray := prog_1_method_81_code
def yX1_cancelCart : MethodName := ⟨RX1, "cancelCart", "(I)I"⟩
def dkwX1_cancelCart_0 : List UInt8 := [42, 27, 186, 1, 189, 0, 0, 182, 1, 171, 172]
abbrev dktX1_cancelCart_0 : List UInt8 := dkwX1_cancelCart_0 ++ []
theorem dksX1_cancelCart_0 : cX1_cancelCart.data.toList.drop 0 = dktX1_cancelCart_0 := by decide +kernel
theorem dX1_cancelCart_0 : decode cX1_cancelCart 0 = .ok (.aload_n 0, 1) := dk_42 (dk_at dksX1_cancelCart_0 0 rfl rfl)
theorem dX1_cancelCart_1 : decode cX1_cancelCart 1 = .ok (.iload_n 1, 1) := dk_27 (dk_at dksX1_cancelCart_0 1 rfl rfl)
theorem dX1_cancelCart_2 : decode cX1_cancelCart 2 = .ok (.invokedynamic 445, 5) := by decide +kernel
theorem dX1_cancelCart_7 : decode cX1_cancelCart 7 = .ok (.invokevirtual 427, 3) := dk_182 1 171 (dk_at dksX1_cancelCart_0 7 rfl rfl)
theorem dX1_cancelCart_10 : decode cX1_cancelCart 10 = .ok (.ireturn, 1) := dk_172 (dk_at dksX1_cancelCart_0 10 rfl rfl)
abbrev cX1_lambda_cancelCart_7 : ByteArray := prog_1_method_87_code
def yX1_lambda_cancelCart_7 : MethodName := ⟨RX1, "lambda$cancelCart$7", "(ILSnowPass$State;)I"⟩
def dkwX1_lambda_cancelCart_7_0 : List UInt8 := [43, 26, 182, 1, 216, 172]
abbrev dktX1_lambda_cancelCart_7_0 : List UInt8 := dkwX1_lambda_cancelCart_7_0 ++ []
theorem dksX1_lambda_cancelCart_7_0 : cX1_lambda_cancelCart_7.data.toList.drop 0 = dktX1_lambda_cancelCart_7_0 := by decide +kernel
theorem dX1_lambda_cancelCart_7_0 : decode cX1_lambda_cancelCart_7 0 = .ok (.aload_n 1, 1) := dk_43 (dk_at dksX1_lambda_cancelCart_7_0 0 rfl rfl)
theorem dX1_lambda_cancelCart_7_1 : decode cX1_lambda_cancelCart_7 1 = .ok (.iload_n 0, 1) := dk_26 (dk_at dksX1_lambda_cancelCart_7_0 1 rfl rfl)
theorem dX1_lambda_cancelCart_7_2 : decode cX1_lambda_cancelCart_7 2 = .ok (.invokevirtual 472, 3) := dk_182 1 216 (dk_at dksX1_lambda_cancelCart_7_0 2 rfl rfl)
theorem dX1_lambda_cancelCart_7_5 : decode cX1_lambda_cancelCart_7 5 = .ok (.ireturn, 1) := dk_172 (dk_at dksX1_lambda_cancelCart_7_0 5 rfl rfl)
abbrev cX1_undo : ByteArray := prog_1_method_82_code
def yX1_undo : MethodName := ⟨RX1, "undo", "()I"⟩
def dkwX1_undo_1 : List UInt8 := [182, 1, 193, 192, 0, 102, 181, 0, 22, 42, 180, 0, 31, 182, 0, 120, 172]
abbrev dktX1_undo_1 : List UInt8 := dkwX1_undo_1 ++ []
def dkwX1_undo_0 : List UInt8 := [42, 180, 0, 31, 182, 1, 190, 154, 0, 7, 4, 167, 0, 4, 3, 184, 0, 134, 42, 42, 180, 0, 31]
abbrev dktX1_undo_0 : List UInt8 := dkwX1_undo_0 ++ dktX1_undo_1
theorem dksX1_undo_0 : cX1_undo.data.toList.drop 0 = dktX1_undo_0 := by decide +kernel
theorem dksX1_undo_1 : cX1_undo.data.toList.drop 23 = dktX1_undo_1 := dk_seg dksX1_undo_0 23 rfl rfl
theorem dX1_undo_0 : decode cX1_undo 0 = .ok (.aload_n 0, 1) := dk_42 (dk_at dksX1_undo_0 0 rfl rfl)
theorem dX1_undo_1 : decode cX1_undo 1 = .ok (.getfield 31, 3) := dk_180 0 31 (dk_at dksX1_undo_0 1 rfl rfl)
theorem dX1_undo_4 : decode cX1_undo 4 = .ok (.invokevirtual 446, 3) := dk_182 1 190 (dk_at dksX1_undo_0 4 rfl rfl)
theorem dX1_undo_7 : decode cX1_undo 7 = .ok (.ifCond .ne 7, 3) := dk_154 0 7 (dk_at dksX1_undo_0 7 rfl rfl)
theorem dX1_undo_10 : decode cX1_undo 10 = .ok (.iconst 1, 1) := dk_4 (dk_at dksX1_undo_0 10 rfl rfl)
theorem dX1_undo_11 : decode cX1_undo 11 = .ok (.goto 4, 3) := dk_167 0 4 (dk_at dksX1_undo_0 11 rfl rfl)
theorem dX1_undo_14 : decode cX1_undo 14 = .ok (.iconst 0, 1) := dk_3 (dk_at dksX1_undo_0 14 rfl rfl)
theorem dX1_undo_15 : decode cX1_undo 15 = .ok (.invokestatic 134, 3) := dk_184 0 134 (dk_at dksX1_undo_0 15 rfl rfl)
theorem dX1_undo_18 : decode cX1_undo 18 = .ok (.aload_n 0, 1) := dk_42 (dk_at dksX1_undo_0 18 rfl rfl)
theorem dX1_undo_19 : decode cX1_undo 19 = .ok (.aload_n 0, 1) := dk_42 (dk_at dksX1_undo_0 19 rfl rfl)
theorem dX1_undo_20 : decode cX1_undo 20 = .ok (.getfield 31, 3) := dk_180 0 31 (dk_at dksX1_undo_0 20 rfl rfl)
theorem dX1_undo_23 : decode cX1_undo 23 = .ok (.invokevirtual 449, 3) := dk_182 1 193 (dk_at dksX1_undo_1 0 rfl rfl)
theorem dX1_undo_26 : decode cX1_undo 26 = .ok (.checkcast 102, 3) := dk_192 0 102 (dk_at dksX1_undo_1 3 rfl rfl)
theorem dX1_undo_29 : decode cX1_undo 29 = .ok (.putfield 22, 3) := dk_181 0 22 (dk_at dksX1_undo_1 6 rfl rfl)
theorem dX1_undo_32 : decode cX1_undo 32 = .ok (.aload_n 0, 1) := dk_42 (dk_at dksX1_undo_1 9 rfl rfl)
theorem dX1_undo_33 : decode cX1_undo 33 = .ok (.getfield 31, 3) := dk_180 0 31 (dk_at dksX1_undo_1 10 rfl rfl)
theorem dX1_undo_36 : decode cX1_undo 36 = .ok (.invokevirtual 120, 3) := dk_182 0 120 (dk_at dksX1_undo_1 13 rfl rfl)
theorem dX1_undo_39 : decode cX1_undo 39 = .ok (.ireturn, 1) := dk_172 (dk_at dksX1_undo_1 16 rfl rfl)
abbrev cX1_restore : ByteArray := prog_1_method_84_code
def yX1_restore : MethodName := ⟨RX1, "restore", "()I"⟩
def dkwX1_restore_1 : List UInt8 := [181, 0, 22, 42, 180, 0, 31, 182, 0, 197, 42, 180, 0, 22, 180, 0, 200, 180, 0, 223, 172]
abbrev dktX1_restore_1 : List UInt8 := dkwX1_restore_1 ++ []
def dkwX1_restore_0 : List UInt8 := [42, 180, 1, 196, 198, 0, 7, 4, 167, 0, 4, 3, 184, 0, 134, 42, 42, 180, 1, 196, 182, 0, 107]
abbrev dktX1_restore_0 : List UInt8 := dkwX1_restore_0 ++ dktX1_restore_1
theorem dksX1_restore_0 : cX1_restore.data.toList.drop 0 = dktX1_restore_0 := by decide +kernel
theorem dksX1_restore_1 : cX1_restore.data.toList.drop 23 = dktX1_restore_1 := dk_seg dksX1_restore_0 23 rfl rfl
theorem dX1_restore_0 : decode cX1_restore 0 = .ok (.aload_n 0, 1) := dk_42 (dk_at dksX1_restore_0 0 rfl rfl)
theorem dX1_restore_1 : decode cX1_restore 1 = .ok (.getfield 452, 3) := dk_180 1 196 (dk_at dksX1_restore_0 1 rfl rfl)
theorem dX1_restore_4 : decode cX1_restore 4 = .ok (.ifnull 7, 3) := dk_198 0 7 (dk_at dksX1_restore_0 4 rfl rfl)
theorem dX1_restore_7 : decode cX1_restore 7 = .ok (.iconst 1, 1) := dk_4 (dk_at dksX1_restore_0 7 rfl rfl)
theorem dX1_restore_8 : decode cX1_restore 8 = .ok (.goto 4, 3) := dk_167 0 4 (dk_at dksX1_restore_0 8 rfl rfl)
theorem dX1_restore_11 : decode cX1_restore 11 = .ok (.iconst 0, 1) := dk_3 (dk_at dksX1_restore_0 11 rfl rfl)
theorem dX1_restore_12 : decode cX1_restore 12 = .ok (.invokestatic 134, 3) := dk_184 0 134 (dk_at dksX1_restore_0 12 rfl rfl)
theorem dX1_restore_15 : decode cX1_restore 15 = .ok (.aload_n 0, 1) := dk_42 (dk_at dksX1_restore_0 15 rfl rfl)
theorem dX1_restore_16 : decode cX1_restore 16 = .ok (.aload_n 0, 1) := dk_42 (dk_at dksX1_restore_0 16 rfl rfl)
theorem dX1_restore_17 : decode cX1_restore 17 = .ok (.getfield 452, 3) := dk_180 1 196 (dk_at dksX1_restore_0 17 rfl rfl)
theorem dX1_restore_20 : decode cX1_restore 20 = .ok (.invokevirtual 107, 3) := dk_182 0 107 (dk_at dksX1_restore_0 20 rfl rfl)
theorem dX1_restore_23 : decode cX1_restore 23 = .ok (.putfield 22, 3) := dk_181 0 22 (dk_at dksX1_restore_1 0 rfl rfl)
theorem dX1_restore_26 : decode cX1_restore 26 = .ok (.aload_n 0, 1) := dk_42 (dk_at dksX1_restore_1 3 rfl rfl)
theorem dX1_restore_27 : decode cX1_restore 27 = .ok (.getfield 31, 3) := dk_180 0 31 (dk_at dksX1_restore_1 4 rfl rfl)
theorem dX1_restore_30 : decode cX1_restore 30 = .ok (.invokevirtual 197, 3) := dk_182 0 197 (dk_at dksX1_restore_1 7 rfl rfl)
theorem dX1_restore_33 : decode cX1_restore 33 = .ok (.aload_n 0, 1) := dk_42 (dk_at dksX1_restore_1 10 rfl rfl)
theorem dX1_restore_34 : decode cX1_restore 34 = .ok (.getfield 22, 3) := dk_180 0 22 (dk_at dksX1_restore_1 11 rfl rfl)
theorem dX1_restore_37 : decode cX1_restore 37 = .ok (.getfield 200, 3) := dk_180 0 200 (dk_at dksX1_restore_1 14 rfl rfl)
theorem dX1_restore_40 : decode cX1_restore 40 = .ok (.getfield 223, 3) := dk_180 0 223 (dk_at dksX1_restore_1 17 rfl rfl)
theorem dX1_restore_43 : decode cX1_restore 43 = .ok (.ireturn, 1) := dk_172 (dk_at dksX1_restore_1 20 rfl rfl)
theorem q123 : (Jvm.Cond.initialized "SnowPass") ∈ lw_all := lw_g (lw_at lw_m1 1 rfl) rfl
theorem q186 : (Jvm.Cond.instantiable "SnowPass" (8 : Nat)) ∈ lw_all := lw_g (lw_at lw_m1 64 rfl) rfl
theorem q188 : (Jvm.Cond.instanceMethod ({ cls := "SnowPass", name := "<init>", desc := "()V" } : Jvm.MethodName)) ∈ lw_all := lw_g (lw_at lw_m1 66 rfl) rfl
theorem q189 : (Jvm.Cond.code ({ cls := "SnowPass", name := "<init>", desc := "()V" } : Jvm.MethodName) prog_1_method_5_code (1 : Nat) (Option.none : Option Jvm.ClassFile.FieldType)) ∈ lw_all := lw_g (lw_at lw_m1 67 rfl) rfl
theorem q190 : (Jvm.Cond.methodLink "SnowPass" (13 : Nat) ({ cls := "java/lang/Object", name := "<init>", desc := "()V" } : Jvm.MethodName)) ∈ lw_all := lw_g (lw_at lw_m1 68 rfl) rfl
theorem q193 : (Jvm.Cond.methodLink "SnowPass" (16 : Nat) ({ cls := "SnowPass", name := "initialState", desc := "()LSnowPass$State;" } : Jvm.MethodName)) ∈ lw_all := lw_g (lw_at lw_m1 71 rfl) rfl
theorem q194 : (Jvm.Cond.static ({ cls := "SnowPass", name := "initialState", desc := "()LSnowPass$State;" } : Jvm.MethodName)) ∈ lw_all := lw_g (lw_at lw_m1 72 rfl) rfl
theorem q195 : (Jvm.Cond.code ({ cls := "SnowPass", name := "initialState", desc := "()LSnowPass$State;" } : Jvm.MethodName) prog_1_method_8_code (3 : Nat) (Option.some (Jvm.ClassFile.FieldType.object "SnowPass$State"))) ∈ lw_all := lw_g (lw_at lw_m1 73 rfl) rfl
theorem q196 : (Jvm.Cond.classLink "SnowPass" (51 : Nat) "SnowPass$Road") ∈ lw_all := lw_g (lw_at lw_m1 74 rfl) rfl
theorem q198 : (Jvm.Cond.methodLink "SnowPass" (74 : Nat) ({ cls := "SnowPass$Road", name := "<init>", desc := "(IIIII)V" } : Jvm.MethodName)) ∈ lw_all := lw_g (lw_at lw_m1 76 rfl) rfl
theorem q208 : (Jvm.Cond.fieldLinkNest "SnowPass" (66 : Nat) "SnowPass$Plough" "capacity" "I" "SnowPass") ∈ lw_tbl := lw_at lw_m1 86 rfl
theorem q212 : (Jvm.Cond.fieldLinkNest "SnowPass" (71 : Nat) "SnowPass$Plough" "sacks" "I" "SnowPass") ∈ lw_tbl := lw_at lw_m1 90 rfl
theorem q216 : (Jvm.Cond.fieldLinkNest "SnowPass" (271 : Nat) "SnowPass$Plough" "position" "I" "SnowPass") ∈ lw_tbl := lw_at lw_m1 94 rfl
theorem q219 : (Jvm.Cond.fieldLinkNest "SnowPass" (272 : Nat) "SnowPass$Plough" "signed" "Z" "SnowPass") ∈ lw_tbl := lw_at lw_m1 97 rfl
theorem q240 : (Jvm.Cond.fieldLinkNest "SnowPass" (297 : Nat) "SnowPass$Book" "kinds" "[I" "SnowPass") ∈ lw_tbl := lw_at lw_m1 118 rfl
theorem q242 : (Jvm.Cond.fieldLinkNest "SnowPass" (300 : Nat) "SnowPass$Book" "clocks" "[I" "SnowPass") ∈ lw_tbl := lw_at lw_m1 120 rfl
theorem q244 : (Jvm.Cond.fieldLinkNest "SnowPass" (290 : Nat) "SnowPass$Book" "size" "I" "SnowPass") ∈ lw_tbl := lw_at lw_m1 122 rfl
theorem q258 : (Jvm.Cond.fieldLinkNest "SnowPass" (220 : Nat) "SnowPass$Road" "summit" "I" "SnowPass") ∈ lw_tbl := lw_at lw_m1 136 rfl
theorem q265 : (Jvm.Cond.fieldLinkNest "SnowPass" (56 : Nat) "SnowPass$Road" "depths" "[I" "SnowPass") ∈ lw_tbl := lw_at lw_m1 143 rfl
theorem q268 : (Jvm.Cond.fieldLinkNest "SnowPass" (50 : Nat) "SnowPass$Road" "exposures" "[I" "SnowPass") ∈ lw_tbl := lw_at lw_m1 146 rfl
theorem q273 : (Jvm.Cond.fieldLinkNest "SnowPass" (233 : Nat) "SnowPass$Road" "salt" "[I" "SnowPass") ∈ lw_tbl := lw_at lw_m1 151 rfl
theorem q276 : (Jvm.Cond.fieldLinkNest "SnowPass" (83 : Nat) "SnowPass$Road" "ploughs" "[LSnowPass$Plough;" "SnowPass") ∈ lw_tbl := lw_at lw_m1 154 rfl
theorem q280 : (Jvm.Cond.fieldLinkNest "SnowPass" (286 : Nat) "SnowPass$Road" "book" "LSnowPass$Book;" "SnowPass") ∈ lw_tbl := lw_at lw_m1 158 rfl
theorem q282 : (Jvm.Cond.fieldLinkNest "SnowPass" (77 : Nat) "SnowPass$Road" "snowfall" "I" "SnowPass") ∈ lw_tbl := lw_at lw_m1 160 rfl
theorem q286 : (Jvm.Cond.fieldLinkNest "SnowPass" (80 : Nat) "SnowPass$Road" "wind" "I" "SnowPass") ∈ lw_tbl := lw_at lw_m1 164 rfl
theorem q291 : (Jvm.Cond.fieldLinkNest "SnowPass" (223 : Nat) "SnowPass$Road" "clock" "I" "SnowPass") ∈ lw_tbl := lw_at lw_m1 169 rfl
theorem q293 : (Jvm.Cond.fieldLinkNest "SnowPass" (63 : Nat) "SnowPass$Road" "fallen" "I" "SnowPass") ∈ lw_tbl := lw_at lw_m1 171 rfl
theorem q296 : (Jvm.Cond.fieldLinkNest "SnowPass" (394 : Nat) "SnowPass$Road" "cleared" "I" "SnowPass") ∈ lw_tbl := lw_at lw_m1 174 rfl
theorem q298 : (Jvm.Cond.fieldLinkNest "SnowPass" (397 : Nat) "SnowPass$Road" "melted" "I" "SnowPass") ∈ lw_tbl := lw_at lw_m1 176 rfl
theorem q301 : (Jvm.Cond.fieldLinkNest "SnowPass" (406 : Nat) "SnowPass$Road" "sacksUsed" "I" "SnowPass") ∈ lw_tbl := lw_at lw_m1 179 rfl
theorem q335 : (Jvm.Cond.methodLink "SnowPass" (87 : Nat) ({ cls := "SnowPass", name := "equip", desc := "(LSnowPass$Plough;II)V" } : Jvm.MethodName)) ∈ lw_all := lw_g (lw_at lw_m1 213 rfl) rfl
theorem q336 : (Jvm.Cond.static ({ cls := "SnowPass", name := "equip", desc := "(LSnowPass$Plough;II)V" } : Jvm.MethodName)) ∈ lw_all := lw_g (lw_at lw_m1 214 rfl) rfl
theorem q337 : (Jvm.Cond.code ({ cls := "SnowPass", name := "equip", desc := "(LSnowPass$Plough;II)V" } : Jvm.MethodName) prog_1_method_7_code (3 : Nat) (Option.none : Option Jvm.ClassFile.FieldType)) ∈ lw_all := lw_g (lw_at lw_m1 215 rfl) rfl
theorem q338 : (Jvm.Cond.methodLink "SnowPass" (91 : Nat) ({ cls := "SnowPass", name := "describe", desc := "(LSnowPass$Road;[I)V" } : Jvm.MethodName)) ∈ lw_all := lw_g (lw_at lw_m1 216 rfl) rfl
theorem q339 : (Jvm.Cond.static ({ cls := "SnowPass", name := "describe", desc := "(LSnowPass$Road;[I)V" } : Jvm.MethodName)) ∈ lw_all := lw_g (lw_at lw_m1 217 rfl) rfl
theorem q340 : (Jvm.Cond.code ({ cls := "SnowPass", name := "describe", desc := "(LSnowPass$Road;[I)V" } : Jvm.MethodName) prog_1_method_6_code (3 : Nat) (Option.none : Option Jvm.ClassFile.FieldType)) ∈ lw_all := lw_g (lw_at lw_m1 218 rfl) rfl
theorem q341 : (Jvm.Cond.methodLink "SnowPass" (59 : Nat) ({ cls := "SnowPass$Road", name := "total", desc := "()I" } : Jvm.MethodName)) ∈ lw_all := lw_g (lw_at lw_m1 219 rfl) rfl
theorem q345 : (Jvm.Cond.classLink "SnowPass" (95 : Nat) "SnowPass$Yard") ∈ lw_all := lw_g (lw_at lw_m1 223 rfl) rfl
theorem q347 : (Jvm.Cond.methodLink "SnowPass" (97 : Nat) ({ cls := "SnowPass$Yard", name := "<init>", desc := "()V" } : Jvm.MethodName)) ∈ lw_all := lw_g (lw_at lw_m1 225 rfl) rfl
theorem q797 : (Jvm.Cond.selects "SnowPass" ({ cls := "java/lang/Object", name := "getClass", desc := "()Ljava/lang/Class;" } : Jvm.MethodName) ({ cls := "java/lang/Object", name := "getClass", desc := "()Ljava/lang/Class;" } : Jvm.MethodName)) ∈ lw_all := lw_g (lw_at lw_m3 195 rfl) rfl
theorem q843 : (Jvm.Cond.fieldLinkNest "SnowPass" (307 : Nat) "SnowPass$Yard" "queues" "Ljava/util/List;" "SnowPass") ∈ lw_tbl := lw_at lw_m4 1 rfl
theorem q845 : (Jvm.Cond.fieldLinkNest "SnowPass" (369 : Nat) "SnowPass$Yard" "waiting" "Ljava/util/LinkedHashMap;" "SnowPass") ∈ lw_tbl := lw_at lw_m4 3 rfl
theorem q847 : (Jvm.Cond.fieldLinkNest "SnowPass" (381 : Nat) "SnowPass$Yard" "crossed" "[I" "SnowPass") ∈ lw_tbl := lw_at lw_m4 5 rfl
theorem q849 : (Jvm.Cond.fieldLinkNest "SnowPass" (403 : Nat) "SnowPass$Yard" "tickets" "I" "SnowPass") ∈ lw_tbl := lw_at lw_m4 7 rfl
theorem q851 : (Jvm.Cond.fieldLinkNest "SnowPass" (400 : Nat) "SnowPass$Yard" "cancelled" "I" "SnowPass") ∈ lw_tbl := lw_at lw_m4 9 rfl
theorem q863 : (Jvm.Cond.methodLink "SnowPass" (98 : Nat) ({ cls := "SnowPass$Yard", name := "add", desc := "(IZ)I" } : Jvm.MethodName)) ∈ lw_all := lw_g (lw_at lw_m4 21 rfl) rfl
theorem q880 : (Jvm.Cond.fieldLinkNest "SnowPass" (333 : Nat) "SnowPass$Ticket" "number" "I" "SnowPass") ∈ lw_tbl := lw_at lw_m4 38 rfl
theorem q886 : (Jvm.Cond.fieldLinkNest "SnowPass" (329 : Nat) "SnowPass$Cart" "ticket" "LSnowPass$Ticket;" "SnowPass") ∈ lw_tbl := lw_at lw_m4 44 rfl
theorem q889 : (Jvm.Cond.fieldLinkNest "SnowPass" (338 : Nat) "SnowPass$Cart" "side" "I" "SnowPass") ∈ lw_tbl := lw_at lw_m4 47 rfl
theorem q891 : (Jvm.Cond.fieldLinkNest "SnowPass" (343 : Nat) "SnowPass$Cart" "chains" "Z" "SnowPass") ∈ lw_tbl := lw_at lw_m4 49 rfl
theorem q932 : (Jvm.Cond.selects "SnowPass" ({ cls := "java/lang/Object", name := "hashCode", desc := "()I" } : Jvm.MethodName) ({ cls := "java/lang/Object", name := "hashCode", desc := "()I" } : Jvm.MethodName)) ∈ lw_all := lw_g (lw_at lw_m4 90 rfl) rfl
theorem q1371 : (Jvm.Cond.selects "SnowPass" ({ cls := "java/lang/Object", name := "equals", desc := "(Ljava/lang/Object;)Z" } : Jvm.MethodName) ({ cls := "java/lang/Object", name := "equals", desc := "(Ljava/lang/Object;)Z" } : Jvm.MethodName)) ∈ lw_all := lw_g (lw_at lw_m6 49 rfl) rfl
theorem q1493 : (Jvm.Cond.classLink "SnowPass" (102 : Nat) "SnowPass$State") ∈ lw_all := lw_g (lw_at lw_m6 171 rfl) rfl
theorem q1495 : (Jvm.Cond.methodLink "SnowPass" (104 : Nat) ({ cls := "SnowPass$State", name := "<init>", desc := "(LSnowPass$Road;LSnowPass$Yard;)V" } : Jvm.MethodName)) ∈ lw_all := lw_g (lw_at lw_m6 173 rfl) rfl
theorem q1502 : (Jvm.Cond.fieldLinkNest "SnowPass" (200 : Nat) "SnowPass$State" "road" "LSnowPass$Road;" "SnowPass") ∈ lw_tbl := lw_at lw_m6 180 rfl
theorem q1505 : (Jvm.Cond.fieldLinkNest "SnowPass" (303 : Nat) "SnowPass$State" "yard" "LSnowPass$Yard;" "SnowPass") ∈ lw_tbl := lw_at lw_m6 183 rfl
theorem q1511 : (Jvm.Cond.classLink "SnowPass" (26 : Nat) "java/util/ArrayDeque") ∈ lw_all := lw_g (lw_at lw_m6 189 rfl) rfl
theorem q1513 : (Jvm.Cond.methodLink "SnowPass" (28 : Nat) ({ cls := "java/util/ArrayDeque", name := "<init>", desc := "(I)V" } : Jvm.MethodName)) ∈ lw_all := lw_g (lw_at lw_m6 191 rfl) rfl
theorem q1531 : (Jvm.Cond.classLink "SnowPass" (43 : Nat) "java/lang/StringBuilder") ∈ lw_all := lw_g (lw_at lw_m6 209 rfl) rfl
theorem q1532 : (Jvm.Cond.methodLink "SnowPass" (45 : Nat) ({ cls := "java/lang/StringBuilder", name := "<init>", desc := "()V" } : Jvm.MethodName)) ∈ lw_all := lw_g (lw_at lw_m6 210 rfl) rfl
theorem q1534 : (Jvm.Cond.fieldLink "SnowPass" (22 : Nat) "SnowPass" "state" "LSnowPass$State;") ∈ lw_all := lw_g (lw_at lw_m6 212 rfl) rfl
theorem q1535 : (Jvm.Cond.fieldLink "SnowPass" (452 : Nat) "SnowPass" "savedState" "LSnowPass$State;") ∈ lw_all := lw_g (lw_at lw_m6 213 rfl) rfl
theorem q1536 : (Jvm.Cond.fieldLink "SnowPass" (31 : Nat) "SnowPass" "history" "Ljava/util/ArrayDeque;") ∈ lw_all := lw_g (lw_at lw_m6 214 rfl) rfl
theorem q1538 : (Jvm.Cond.fieldLink "SnowPass" (35 : Nat) "SnowPass" "buffer" "[B") ∈ lw_all := lw_g (lw_at lw_m6 216 rfl) rfl
theorem q1540 : (Jvm.Cond.fieldLink "SnowPass" (131 : Nat) "SnowPass" "bufferLength" "I") ∈ lw_all := lw_g (lw_at lw_m6 218 rfl) rfl
theorem q1541 : (Jvm.Cond.fieldLink "SnowPass" (176 : Nat) "SnowPass" "errorCode" "I") ∈ lw_all := lw_g (lw_at lw_m6 219 rfl) rfl
theorem q1542 : (Jvm.Cond.fieldLink "SnowPass" (39 : Nat) "SnowPass" "errorPosition" "I") ∈ lw_all := lw_g (lw_at lw_m6 220 rfl) rfl
theorem q1543 : (Jvm.Cond.fieldLink "SnowPass" (46 : Nat) "SnowPass" "output" "Ljava/lang/StringBuilder;") ∈ lw_all := lw_g (lw_at lw_m6 221 rfl) rfl
theorem q1544 : (Jvm.Cond.lays "SnowPass" "SnowPass" "state" "LSnowPass$State;") ∈ lw_all := lw_g (lw_at lw_m6 222 rfl) rfl
theorem q1545 : (Jvm.Cond.soleField "SnowPass" "state") ∈ lw_all := lw_g (lw_at lw_m6 223 rfl) rfl
theorem q1546 : (Jvm.Cond.lays "SnowPass" "SnowPass" "savedState" "LSnowPass$State;") ∈ lw_all := lw_g (lw_at lw_m6 224 rfl) rfl
theorem q1547 : (Jvm.Cond.soleField "SnowPass" "savedState") ∈ lw_all := lw_g (lw_at lw_m6 225 rfl) rfl
theorem q1548 : (Jvm.Cond.laysFinal "SnowPass" "SnowPass" "history" "Ljava/util/ArrayDeque;") ∈ lw_all := lw_g (lw_at lw_m6 226 rfl) rfl
theorem q1549 : (Jvm.Cond.soleField "SnowPass" "history") ∈ lw_all := lw_g (lw_at lw_m6 227 rfl) rfl
theorem q1550 : (Jvm.Cond.laysFinal "SnowPass" "SnowPass" "buffer" "[B") ∈ lw_all := lw_g (lw_at lw_m6 228 rfl) rfl
theorem q1551 : (Jvm.Cond.soleField "SnowPass" "buffer") ∈ lw_all := lw_g (lw_at lw_m6 229 rfl) rfl
theorem q1552 : (Jvm.Cond.lays "SnowPass" "SnowPass" "bufferLength" "I") ∈ lw_all := lw_g (lw_at lw_m6 230 rfl) rfl
theorem q1553 : (Jvm.Cond.soleField "SnowPass" "bufferLength") ∈ lw_all := lw_g (lw_at lw_m6 231 rfl) rfl
theorem q1554 : (Jvm.Cond.lays "SnowPass" "SnowPass" "errorCode" "I") ∈ lw_all := lw_g (lw_at lw_m6 232 rfl) rfl
theorem q1555 : (Jvm.Cond.soleField "SnowPass" "errorCode") ∈ lw_all := lw_g (lw_at lw_m6 233 rfl) rfl
theorem q1556 : (Jvm.Cond.lays "SnowPass" "SnowPass" "errorPosition" "I") ∈ lw_all := lw_g (lw_at lw_m6 234 rfl) rfl
theorem q1557 : (Jvm.Cond.soleField "SnowPass" "errorPosition") ∈ lw_all := lw_g (lw_at lw_m6 235 rfl) rfl
theorem q1558 : (Jvm.Cond.laysFinal "SnowPass" "SnowPass" "output" "Ljava/lang/StringBuilder;") ∈ lw_all := lw_g (lw_at lw_m6 236 rfl) rfl
theorem q1559 : (Jvm.Cond.soleField "SnowPass" "output") ∈ lw_all := lw_g (lw_at lw_m6 237 rfl) rfl
theorem q1560 : (Jvm.Cond.superclass "SnowPass" "java/lang/Object") ∈ lw_all := lw_g (lw_at lw_m6 238 rfl) rfl
theorem q1562 : (Jvm.Cond.instanceMethod ({ cls := "SnowPass", name := "errorCode", desc := "()I" } : Jvm.MethodName)) ∈ lw_all := lw_g (lw_at lw_m7 0 rfl) rfl
theorem q1563 : (Jvm.Cond.selects "SnowPass" ({ cls := "SnowPass", name := "errorCode", desc := "()I" } : Jvm.MethodName) ({ cls := "SnowPass", name := "errorCode", desc := "()I" } : Jvm.MethodName)) ∈ lw_all := lw_g (lw_at lw_m7 1 rfl) rfl
theorem q1564 : (Jvm.Cond.code ({ cls := "SnowPass", name := "errorCode", desc := "()I" } : Jvm.MethodName) prog_1_method_20_code (1 : Nat) (Option.some Jvm.ClassFile.FieldType.int)) ∈ lw_all := lw_g (lw_at lw_m7 2 rfl) rfl
theorem q1566 : (Jvm.Cond.instanceMethod ({ cls := "SnowPass", name := "errorPosition", desc := "()I" } : Jvm.MethodName)) ∈ lw_all := lw_g (lw_at lw_m7 4 rfl) rfl
theorem q1567 : (Jvm.Cond.selects "SnowPass" ({ cls := "SnowPass", name := "errorPosition", desc := "()I" } : Jvm.MethodName) ({ cls := "SnowPass", name := "errorPosition", desc := "()I" } : Jvm.MethodName)) ∈ lw_all := lw_g (lw_at lw_m7 5 rfl) rfl
theorem q1568 : (Jvm.Cond.code ({ cls := "SnowPass", name := "errorPosition", desc := "()I" } : Jvm.MethodName) prog_1_method_21_code (1 : Nat) (Option.some Jvm.ClassFile.FieldType.int)) ∈ lw_all := lw_g (lw_at lw_m7 6 rfl) rfl
theorem q1570 : (Jvm.Cond.instanceMethod ({ cls := "SnowPass", name := "segmentCount", desc := "()I" } : Jvm.MethodName)) ∈ lw_all := lw_g (lw_at lw_m7 8 rfl) rfl
theorem q1571 : (Jvm.Cond.selects "SnowPass" ({ cls := "SnowPass", name := "segmentCount", desc := "()I" } : Jvm.MethodName) ({ cls := "SnowPass", name := "segmentCount", desc := "()I" } : Jvm.MethodName)) ∈ lw_all := lw_g (lw_at lw_m7 9 rfl) rfl
theorem q1572 : (Jvm.Cond.code ({ cls := "SnowPass", name := "segmentCount", desc := "()I" } : Jvm.MethodName) prog_1_method_23_code (1 : Nat) (Option.some Jvm.ClassFile.FieldType.int)) ∈ lw_all := lw_g (lw_at lw_m7 10 rfl) rfl
theorem q1573 : (Jvm.Cond.methodLink "SnowPass" (204 : Nat) ({ cls := "SnowPass$Road", name := "segments", desc := "()I" } : Jvm.MethodName)) ∈ lw_all := lw_g (lw_at lw_m7 11 rfl) rfl
theorem q1578 : (Jvm.Cond.instanceMethod ({ cls := "SnowPass", name := "summit", desc := "()I" } : Jvm.MethodName)) ∈ lw_all := lw_g (lw_at lw_m7 16 rfl) rfl
theorem q1579 : (Jvm.Cond.selects "SnowPass" ({ cls := "SnowPass", name := "summit", desc := "()I" } : Jvm.MethodName) ({ cls := "SnowPass", name := "summit", desc := "()I" } : Jvm.MethodName)) ∈ lw_all := lw_g (lw_at lw_m7 17 rfl) rfl
theorem q1580 : (Jvm.Cond.code ({ cls := "SnowPass", name := "summit", desc := "()I" } : Jvm.MethodName) prog_1_method_24_code (1 : Nat) (Option.some Jvm.ClassFile.FieldType.int)) ∈ lw_all := lw_g (lw_at lw_m7 18 rfl) rfl
theorem q1582 : (Jvm.Cond.instanceMethod ({ cls := "SnowPass", name := "clock", desc := "()I" } : Jvm.MethodName)) ∈ lw_all := lw_g (lw_at lw_m7 20 rfl) rfl
theorem q1583 : (Jvm.Cond.selects "SnowPass" ({ cls := "SnowPass", name := "clock", desc := "()I" } : Jvm.MethodName) ({ cls := "SnowPass", name := "clock", desc := "()I" } : Jvm.MethodName)) ∈ lw_all := lw_g (lw_at lw_m7 21 rfl) rfl
theorem q1584 : (Jvm.Cond.code ({ cls := "SnowPass", name := "clock", desc := "()I" } : Jvm.MethodName) prog_1_method_25_code (1 : Nat) (Option.some Jvm.ClassFile.FieldType.int)) ∈ lw_all := lw_g (lw_at lw_m7 22 rfl) rfl
theorem q1586 : (Jvm.Cond.instanceMethod ({ cls := "SnowPass", name := "isNight", desc := "()Z" } : Jvm.MethodName)) ∈ lw_all := lw_g (lw_at lw_m7 24 rfl) rfl
theorem q1587 : (Jvm.Cond.selects "SnowPass" ({ cls := "SnowPass", name := "isNight", desc := "()Z" } : Jvm.MethodName) ({ cls := "SnowPass", name := "isNight", desc := "()Z" } : Jvm.MethodName)) ∈ lw_all := lw_g (lw_at lw_m7 25 rfl) rfl
theorem q1588 : (Jvm.Cond.code ({ cls := "SnowPass", name := "isNight", desc := "()Z" } : Jvm.MethodName) prog_1_method_26_code (1 : Nat) (Option.some Jvm.ClassFile.FieldType.boolean)) ∈ lw_all := lw_g (lw_at lw_m7 26 rfl) rfl
theorem q1589 : (Jvm.Cond.methodLink "SnowPass" (226 : Nat) ({ cls := "SnowPass$Road", name := "isNight", desc := "()Z" } : Jvm.MethodName)) ∈ lw_all := lw_g (lw_at lw_m7 27 rfl) rfl
theorem q1594 : (Jvm.Cond.instanceMethod ({ cls := "SnowPass", name := "snowfall", desc := "()I" } : Jvm.MethodName)) ∈ lw_all := lw_g (lw_at lw_m7 32 rfl) rfl
theorem q1595 : (Jvm.Cond.selects "SnowPass" ({ cls := "SnowPass", name := "snowfall", desc := "()I" } : Jvm.MethodName) ({ cls := "SnowPass", name := "snowfall", desc := "()I" } : Jvm.MethodName)) ∈ lw_all := lw_g (lw_at lw_m7 33 rfl) rfl
theorem q1596 : (Jvm.Cond.code ({ cls := "SnowPass", name := "snowfall", desc := "()I" } : Jvm.MethodName) prog_1_method_31_code (1 : Nat) (Option.some Jvm.ClassFile.FieldType.int)) ∈ lw_all := lw_g (lw_at lw_m7 34 rfl) rfl
theorem q1598 : (Jvm.Cond.instanceMethod ({ cls := "SnowPass", name := "wind", desc := "()I" } : Jvm.MethodName)) ∈ lw_all := lw_g (lw_at lw_m7 36 rfl) rfl
theorem q1599 : (Jvm.Cond.selects "SnowPass" ({ cls := "SnowPass", name := "wind", desc := "()I" } : Jvm.MethodName) ({ cls := "SnowPass", name := "wind", desc := "()I" } : Jvm.MethodName)) ∈ lw_all := lw_g (lw_at lw_m7 37 rfl) rfl
theorem q1600 : (Jvm.Cond.code ({ cls := "SnowPass", name := "wind", desc := "()I" } : Jvm.MethodName) prog_1_method_32_code (1 : Nat) (Option.some Jvm.ClassFile.FieldType.int)) ∈ lw_all := lw_g (lw_at lw_m7 38 rfl) rfl
theorem q1602 : (Jvm.Cond.instanceMethod ({ cls := "SnowPass", name := "clearCount", desc := "()I" } : Jvm.MethodName)) ∈ lw_all := lw_g (lw_at lw_m7 40 rfl) rfl
theorem q1603 : (Jvm.Cond.selects "SnowPass" ({ cls := "SnowPass", name := "clearCount", desc := "()I" } : Jvm.MethodName) ({ cls := "SnowPass", name := "clearCount", desc := "()I" } : Jvm.MethodName)) ∈ lw_all := lw_g (lw_at lw_m7 41 rfl) rfl
theorem q1604 : (Jvm.Cond.code ({ cls := "SnowPass", name := "clearCount", desc := "()I" } : Jvm.MethodName) prog_1_method_33_code (4 : Nat) (Option.some Jvm.ClassFile.FieldType.int)) ∈ lw_all := lw_g (lw_at lw_m7 42 rfl) rfl
theorem q1605 : (Jvm.Cond.classLink "SnowPass" (239 : Nat) "SnowPass$Side") ∈ lw_all := lw_g (lw_at lw_m7 43 rfl) rfl
theorem q1607 : (Jvm.Cond.methodLink "SnowPass" (241 : Nat) ({ cls := "SnowPass$Side", name := "<init>", desc := "(II)V" } : Jvm.MethodName)) ∈ lw_all := lw_g (lw_at lw_m7 45 rfl) rfl
theorem q1620 : (Jvm.Cond.methodLink "SnowPass" (244 : Nat) ({ cls := "SnowPass$Side", name := "iterator", desc := "()Ljava/util/Iterator;" } : Jvm.MethodName)) ∈ lw_all := lw_g (lw_at lw_m7 58 rfl) rfl
theorem q1646 : (Jvm.Cond.interfaceEntry "SnowPass" (248 : Nat)) ∈ lw_tbl := lw_at lw_m7 84 rfl
theorem q1647 : (Jvm.Cond.methodLink "SnowPass" (248 : Nat) ({ cls := "java/util/Iterator", name := "hasNext", desc := "()Z" } : Jvm.MethodName)) ∈ lw_all := lw_g (lw_at lw_m7 85 rfl) rfl
theorem q1677 : (Jvm.Cond.interfaceEntry "SnowPass" (253 : Nat)) ∈ lw_tbl := lw_at lw_m7 115 rfl
theorem q1678 : (Jvm.Cond.methodLink "SnowPass" (253 : Nat) ({ cls := "java/util/Iterator", name := "next", desc := "()Ljava/lang/Object;" } : Jvm.MethodName)) ∈ lw_all := lw_g (lw_at lw_m7 116 rfl) rfl
theorem q1784 : (Jvm.Cond.classLink "SnowPass" (256 : Nat) "java/lang/Integer") ∈ lw_all := lw_g (lw_at lw_m7 222 rfl) rfl
theorem q1785 : (Jvm.Cond.methodLink "SnowPass" (258 : Nat) ({ cls := "java/lang/Integer", name := "intValue", desc := "()I" } : Jvm.MethodName)) ∈ lw_all := lw_g (lw_at lw_m7 223 rfl) rfl
theorem q1786 : (Jvm.Cond.methodLink "SnowPass" (235 : Nat) ({ cls := "SnowPass$Road", name := "isClear", desc := "(I)Z" } : Jvm.MethodName)) ∈ lw_all := lw_g (lw_at lw_m7 224 rfl) rfl
theorem q1791 : (Jvm.Cond.instanceMethod ({ cls := "SnowPass", name := "deepestSegment", desc := "()I" } : Jvm.MethodName)) ∈ lw_all := lw_g (lw_at lw_m7 229 rfl) rfl
theorem q1792 : (Jvm.Cond.selects "SnowPass" ({ cls := "SnowPass", name := "deepestSegment", desc := "()I" } : Jvm.MethodName) ({ cls := "SnowPass", name := "deepestSegment", desc := "()I" } : Jvm.MethodName)) ∈ lw_all := lw_g (lw_at lw_m7 230 rfl) rfl
theorem q1793 : (Jvm.Cond.code ({ cls := "SnowPass", name := "deepestSegment", desc := "()I" } : Jvm.MethodName) prog_1_method_34_code (1 : Nat) (Option.some Jvm.ClassFile.FieldType.int)) ∈ lw_all := lw_g (lw_at lw_m7 231 rfl) rfl
theorem q1794 : (Jvm.Cond.methodLink "SnowPass" (261 : Nat) ({ cls := "SnowPass$Road", name := "deepest", desc := "()I" } : Jvm.MethodName)) ∈ lw_all := lw_g (lw_at lw_m7 232 rfl) rfl
theorem q1799 : (Jvm.Cond.instanceMethod ({ cls := "SnowPass", name := "totalDepth", desc := "()I" } : Jvm.MethodName)) ∈ lw_all := lw_g (lw_at lw_m7 237 rfl) rfl
theorem q1800 : (Jvm.Cond.selects "SnowPass" ({ cls := "SnowPass", name := "totalDepth", desc := "()I" } : Jvm.MethodName) ({ cls := "SnowPass", name := "totalDepth", desc := "()I" } : Jvm.MethodName)) ∈ lw_all := lw_g (lw_at lw_m7 238 rfl) rfl
theorem q1801 : (Jvm.Cond.code ({ cls := "SnowPass", name := "totalDepth", desc := "()I" } : Jvm.MethodName) prog_1_method_35_code (1 : Nat) (Option.some Jvm.ClassFile.FieldType.int)) ∈ lw_all := lw_g (lw_at lw_m7 239 rfl) rfl
theorem q1803 : (Jvm.Cond.instanceMethod ({ cls := "SnowPass", name := "isOpen", desc := "()Z" } : Jvm.MethodName)) ∈ lw_all := lw_g (lw_at lw_m8 1 rfl) rfl
theorem q1804 : (Jvm.Cond.selects "SnowPass" ({ cls := "SnowPass", name := "isOpen", desc := "()Z" } : Jvm.MethodName) ({ cls := "SnowPass", name := "isOpen", desc := "()Z" } : Jvm.MethodName)) ∈ lw_all := lw_g (lw_at lw_m8 2 rfl) rfl
theorem q1805 : (Jvm.Cond.code ({ cls := "SnowPass", name := "isOpen", desc := "()Z" } : Jvm.MethodName) prog_1_method_42_code (1 : Nat) (Option.some Jvm.ClassFile.FieldType.boolean)) ∈ lw_all := lw_g (lw_at lw_m8 3 rfl) rfl
theorem q1806 : (Jvm.Cond.methodLink "SnowPass" (276 : Nat) ({ cls := "SnowPass$Road", name := "isOpen", desc := "()Z" } : Jvm.MethodName)) ∈ lw_all := lw_g (lw_at lw_m8 4 rfl) rfl
theorem q1811 : (Jvm.Cond.instanceMethod ({ cls := "SnowPass", name := "bookSize", desc := "()I" } : Jvm.MethodName)) ∈ lw_all := lw_g (lw_at lw_m8 9 rfl) rfl
theorem q1812 : (Jvm.Cond.selects "SnowPass" ({ cls := "SnowPass", name := "bookSize", desc := "()I" } : Jvm.MethodName) ({ cls := "SnowPass", name := "bookSize", desc := "()I" } : Jvm.MethodName)) ∈ lw_all := lw_g (lw_at lw_m8 10 rfl) rfl
theorem q1813 : (Jvm.Cond.code ({ cls := "SnowPass", name := "bookSize", desc := "()I" } : Jvm.MethodName) prog_1_method_44_code (1 : Nat) (Option.some Jvm.ClassFile.FieldType.int)) ∈ lw_all := lw_g (lw_at lw_m8 11 rfl) rfl
theorem q1815 : (Jvm.Cond.instanceMethod ({ cls := "SnowPass", name := "entryKind", desc := "(I)I" } : Jvm.MethodName)) ∈ lw_all := lw_g (lw_at lw_m8 13 rfl) rfl
theorem q1816 : (Jvm.Cond.selects "SnowPass" ({ cls := "SnowPass", name := "entryKind", desc := "(I)I" } : Jvm.MethodName) ({ cls := "SnowPass", name := "entryKind", desc := "(I)I" } : Jvm.MethodName)) ∈ lw_all := lw_g (lw_at lw_m8 14 rfl) rfl
theorem q1817 : (Jvm.Cond.code ({ cls := "SnowPass", name := "entryKind", desc := "(I)I" } : Jvm.MethodName) prog_1_method_45_code (3 : Nat) (Option.some Jvm.ClassFile.FieldType.int)) ∈ lw_all := lw_g (lw_at lw_m8 15 rfl) rfl
theorem q1818 : (Jvm.Cond.methodLink "SnowPass" (294 : Nat) ({ cls := "SnowPass$Book", name := "has", desc := "(I)Z" } : Jvm.MethodName)) ∈ lw_all := lw_g (lw_at lw_m8 16 rfl) rfl
theorem q1823 : (Jvm.Cond.static ({ cls := "SnowPass", name := "inRange", desc := "(JJJ)Z" } : Jvm.MethodName)) ∈ lw_all := lw_g (lw_at lw_m8 21 rfl) rfl
theorem q1824 : (Jvm.Cond.code ({ cls := "SnowPass", name := "inRange", desc := "(JJJ)Z" } : Jvm.MethodName) prog_1_method_1_code (6 : Nat) (Option.some Jvm.ClassFile.FieldType.boolean)) ∈ lw_all := lw_g (lw_at lw_m8 22 rfl) rfl
theorem q1826 : (Jvm.Cond.instanceMethod ({ cls := "SnowPass", name := "entryClock", desc := "(I)I" } : Jvm.MethodName)) ∈ lw_all := lw_g (lw_at lw_m8 24 rfl) rfl
theorem q1827 : (Jvm.Cond.selects "SnowPass" ({ cls := "SnowPass", name := "entryClock", desc := "(I)I" } : Jvm.MethodName) ({ cls := "SnowPass", name := "entryClock", desc := "(I)I" } : Jvm.MethodName)) ∈ lw_all := lw_g (lw_at lw_m8 25 rfl) rfl
theorem q1828 : (Jvm.Cond.code ({ cls := "SnowPass", name := "entryClock", desc := "(I)I" } : Jvm.MethodName) prog_1_method_46_code (3 : Nat) (Option.some Jvm.ClassFile.FieldType.int)) ∈ lw_all := lw_g (lw_at lw_m8 26 rfl) rfl
theorem q1830 : (Jvm.Cond.instanceMethod ({ cls := "SnowPass", name := "sideOfTicket", desc := "(I)I" } : Jvm.MethodName)) ∈ lw_all := lw_g (lw_at lw_m8 28 rfl) rfl
theorem q1831 : (Jvm.Cond.selects "SnowPass" ({ cls := "SnowPass", name := "sideOfTicket", desc := "(I)I" } : Jvm.MethodName) ({ cls := "SnowPass", name := "sideOfTicket", desc := "(I)I" } : Jvm.MethodName)) ∈ lw_all := lw_g (lw_at lw_m8 29 rfl) rfl
theorem q1832 : (Jvm.Cond.code ({ cls := "SnowPass", name := "sideOfTicket", desc := "(I)I" } : Jvm.MethodName) prog_1_method_51_code (3 : Nat) (Option.some Jvm.ClassFile.FieldType.int)) ∈ lw_all := lw_g (lw_at lw_m8 30 rfl) rfl
theorem q1833 : (Jvm.Cond.methodLink "SnowPass" (317 : Nat) ({ cls := "SnowPass$Yard", name := "find", desc := "(I)LSnowPass$Cart;" } : Jvm.MethodName)) ∈ lw_all := lw_g (lw_at lw_m8 31 rfl) rfl
theorem q1855 : (Jvm.Cond.instanceMethod ({ cls := "SnowPass", name := "hoursUntilOpen", desc := "()I" } : Jvm.MethodName)) ∈ lw_all := lw_g (lw_at lw_m8 53 rfl) rfl
theorem q1856 : (Jvm.Cond.selects "SnowPass" ({ cls := "SnowPass", name := "hoursUntilOpen", desc := "()I" } : Jvm.MethodName) ({ cls := "SnowPass", name := "hoursUntilOpen", desc := "()I" } : Jvm.MethodName)) ∈ lw_all := lw_g (lw_at lw_m8 54 rfl) rfl
theorem q1857 : (Jvm.Cond.code ({ cls := "SnowPass", name := "hoursUntilOpen", desc := "()I" } : Jvm.MethodName) prog_1_method_57_code (1 : Nat) (Option.some Jvm.ClassFile.FieldType.int)) ∈ lw_all := lw_g (lw_at lw_m8 55 rfl) rfl
theorem q1858 : (Jvm.Cond.methodLink "SnowPass" (362 : Nat) ({ cls := "SnowPass", name := "hoursUntil", desc := "(Z)I" } : Jvm.MethodName)) ∈ lw_all := lw_g (lw_at lw_m8 56 rfl) rfl
theorem q1859 : (Jvm.Cond.privateMethod ({ cls := "SnowPass", name := "hoursUntil", desc := "(Z)I" } : Jvm.MethodName)) ∈ lw_tbl := lw_at lw_m8 57 rfl
theorem q1860 : (Jvm.Cond.instanceMethod ({ cls := "SnowPass", name := "hoursUntil", desc := "(Z)I" } : Jvm.MethodName)) ∈ lw_all := lw_g (lw_at lw_m8 58 rfl) rfl
theorem q1861 : (Jvm.Cond.code ({ cls := "SnowPass", name := "hoursUntil", desc := "(Z)I" } : Jvm.MethodName) prog_1_method_56_code (4 : Nat) (Option.some Jvm.ClassFile.FieldType.int)) ∈ lw_all := lw_g (lw_at lw_m8 59 rfl) rfl
theorem q1862 : (Jvm.Cond.methodLink "SnowPass" (355 : Nat) ({ cls := "SnowPass$Road", name := "copy", desc := "()LSnowPass$Road;" } : Jvm.MethodName)) ∈ lw_all := lw_g (lw_at lw_m8 60 rfl) rfl
theorem q1885 : (Jvm.Cond.methodLink "SnowPass" (358 : Nat) ({ cls := "SnowPass$Road", name := "after", desc := "(I)LSnowPass$Road;" } : Jvm.MethodName)) ∈ lw_all := lw_g (lw_at lw_m8 83 rfl) rfl
theorem q1933 : (Jvm.Cond.instanceMethod ({ cls := "SnowPass", name := "hoursUntilClosed", desc := "()I" } : Jvm.MethodName)) ∈ lw_all := lw_g (lw_at lw_m8 131 rfl) rfl
theorem q1934 : (Jvm.Cond.selects "SnowPass" ({ cls := "SnowPass", name := "hoursUntilClosed", desc := "()I" } : Jvm.MethodName) ({ cls := "SnowPass", name := "hoursUntilClosed", desc := "()I" } : Jvm.MethodName)) ∈ lw_all := lw_g (lw_at lw_m8 132 rfl) rfl
theorem q1935 : (Jvm.Cond.code ({ cls := "SnowPass", name := "hoursUntilClosed", desc := "()I" } : Jvm.MethodName) prog_1_method_58_code (1 : Nat) (Option.some Jvm.ClassFile.FieldType.int)) ∈ lw_all := lw_g (lw_at lw_m8 133 rfl) rfl
theorem q1937 : (Jvm.Cond.instanceMethod ({ cls := "SnowPass", name := "snowFallen", desc := "()I" } : Jvm.MethodName)) ∈ lw_all := lw_g (lw_at lw_m8 135 rfl) rfl
theorem q1938 : (Jvm.Cond.selects "SnowPass" ({ cls := "SnowPass", name := "snowFallen", desc := "()I" } : Jvm.MethodName) ({ cls := "SnowPass", name := "snowFallen", desc := "()I" } : Jvm.MethodName)) ∈ lw_all := lw_g (lw_at lw_m8 136 rfl) rfl
theorem q1939 : (Jvm.Cond.code ({ cls := "SnowPass", name := "snowFallen", desc := "()I" } : Jvm.MethodName) prog_1_method_63_code (1 : Nat) (Option.some Jvm.ClassFile.FieldType.int)) ∈ lw_all := lw_g (lw_at lw_m8 137 rfl) rfl
theorem q1941 : (Jvm.Cond.instanceMethod ({ cls := "SnowPass", name := "snowCleared", desc := "()I" } : Jvm.MethodName)) ∈ lw_all := lw_g (lw_at lw_m8 139 rfl) rfl
theorem q1942 : (Jvm.Cond.selects "SnowPass" ({ cls := "SnowPass", name := "snowCleared", desc := "()I" } : Jvm.MethodName) ({ cls := "SnowPass", name := "snowCleared", desc := "()I" } : Jvm.MethodName)) ∈ lw_all := lw_g (lw_at lw_m8 140 rfl) rfl
theorem q1943 : (Jvm.Cond.code ({ cls := "SnowPass", name := "snowCleared", desc := "()I" } : Jvm.MethodName) prog_1_method_64_code (1 : Nat) (Option.some Jvm.ClassFile.FieldType.int)) ∈ lw_all := lw_g (lw_at lw_m8 141 rfl) rfl
theorem q1945 : (Jvm.Cond.instanceMethod ({ cls := "SnowPass", name := "snowMelted", desc := "()I" } : Jvm.MethodName)) ∈ lw_all := lw_g (lw_at lw_m8 143 rfl) rfl
theorem q1946 : (Jvm.Cond.selects "SnowPass" ({ cls := "SnowPass", name := "snowMelted", desc := "()I" } : Jvm.MethodName) ({ cls := "SnowPass", name := "snowMelted", desc := "()I" } : Jvm.MethodName)) ∈ lw_all := lw_g (lw_at lw_m8 144 rfl) rfl
theorem q1947 : (Jvm.Cond.code ({ cls := "SnowPass", name := "snowMelted", desc := "()I" } : Jvm.MethodName) prog_1_method_65_code (1 : Nat) (Option.some Jvm.ClassFile.FieldType.int)) ∈ lw_all := lw_g (lw_at lw_m8 145 rfl) rfl
theorem q1949 : (Jvm.Cond.instanceMethod ({ cls := "SnowPass", name := "cartsCancelled", desc := "()I" } : Jvm.MethodName)) ∈ lw_all := lw_g (lw_at lw_m8 147 rfl) rfl
theorem q1950 : (Jvm.Cond.selects "SnowPass" ({ cls := "SnowPass", name := "cartsCancelled", desc := "()I" } : Jvm.MethodName) ({ cls := "SnowPass", name := "cartsCancelled", desc := "()I" } : Jvm.MethodName)) ∈ lw_all := lw_g (lw_at lw_m8 148 rfl) rfl
theorem q1951 : (Jvm.Cond.code ({ cls := "SnowPass", name := "cartsCancelled", desc := "()I" } : Jvm.MethodName) prog_1_method_67_code (1 : Nat) (Option.some Jvm.ClassFile.FieldType.int)) ∈ lw_all := lw_g (lw_at lw_m8 149 rfl) rfl
theorem q1953 : (Jvm.Cond.instanceMethod ({ cls := "SnowPass", name := "ticketCount", desc := "()I" } : Jvm.MethodName)) ∈ lw_all := lw_g (lw_at lw_m8 151 rfl) rfl
theorem q1954 : (Jvm.Cond.selects "SnowPass" ({ cls := "SnowPass", name := "ticketCount", desc := "()I" } : Jvm.MethodName) ({ cls := "SnowPass", name := "ticketCount", desc := "()I" } : Jvm.MethodName)) ∈ lw_all := lw_g (lw_at lw_m8 152 rfl) rfl
theorem q1955 : (Jvm.Cond.code ({ cls := "SnowPass", name := "ticketCount", desc := "()I" } : Jvm.MethodName) prog_1_method_68_code (1 : Nat) (Option.some Jvm.ClassFile.FieldType.int)) ∈ lw_all := lw_g (lw_at lw_m8 153 rfl) rfl
theorem q1957 : (Jvm.Cond.instanceMethod ({ cls := "SnowPass", name := "sacksUsed", desc := "()I" } : Jvm.MethodName)) ∈ lw_all := lw_g (lw_at lw_m8 155 rfl) rfl
theorem q1958 : (Jvm.Cond.selects "SnowPass" ({ cls := "SnowPass", name := "sacksUsed", desc := "()I" } : Jvm.MethodName) ({ cls := "SnowPass", name := "sacksUsed", desc := "()I" } : Jvm.MethodName)) ∈ lw_all := lw_g (lw_at lw_m8 156 rfl) rfl
theorem q1959 : (Jvm.Cond.code ({ cls := "SnowPass", name := "sacksUsed", desc := "()I" } : Jvm.MethodName) prog_1_method_69_code (1 : Nat) (Option.some Jvm.ClassFile.FieldType.int)) ∈ lw_all := lw_g (lw_at lw_m8 157 rfl) rfl
theorem q1961 : (Jvm.Cond.instanceMethod ({ cls := "SnowPass", name := "snowImbalance", desc := "()I" } : Jvm.MethodName)) ∈ lw_all := lw_g (lw_at lw_m8 159 rfl) rfl
theorem q1962 : (Jvm.Cond.selects "SnowPass" ({ cls := "SnowPass", name := "snowImbalance", desc := "()I" } : Jvm.MethodName) ({ cls := "SnowPass", name := "snowImbalance", desc := "()I" } : Jvm.MethodName)) ∈ lw_all := lw_g (lw_at lw_m8 160 rfl) rfl
theorem q1963 : (Jvm.Cond.code ({ cls := "SnowPass", name := "snowImbalance", desc := "()I" } : Jvm.MethodName) prog_1_method_70_code (2 : Nat) (Option.some Jvm.ClassFile.FieldType.int)) ∈ lw_all := lw_g (lw_at lw_m8 161 rfl) rfl
theorem q1965 : (Jvm.Cond.instanceMethod ({ cls := "SnowPass", name := "cartImbalance", desc := "()I" } : Jvm.MethodName)) ∈ lw_all := lw_g (lw_at lw_m8 163 rfl) rfl
theorem q1966 : (Jvm.Cond.selects "SnowPass" ({ cls := "SnowPass", name := "cartImbalance", desc := "()I" } : Jvm.MethodName) ({ cls := "SnowPass", name := "cartImbalance", desc := "()I" } : Jvm.MethodName)) ∈ lw_all := lw_g (lw_at lw_m8 164 rfl) rfl
theorem q1967 : (Jvm.Cond.code ({ cls := "SnowPass", name := "cartImbalance", desc := "()I" } : Jvm.MethodName) prog_1_method_71_code (5 : Nat) (Option.some Jvm.ClassFile.FieldType.int)) ∈ lw_all := lw_g (lw_at lw_m8 165 rfl) rfl
theorem q1968 : (Jvm.Cond.methodLink "SnowPass" (409 : Nat) ({ cls := "java/util/LinkedHashMap", name := "keySet", desc := "()Ljava/util/Set;" } : Jvm.MethodName)) ∈ lw_all := lw_g (lw_at lw_m8 166 rfl) rfl
theorem q1993 : (Jvm.Cond.interfaceEntry "SnowPass" (413 : Nat)) ∈ lw_tbl := lw_at lw_m8 191 rfl
theorem q1994 : (Jvm.Cond.methodLink "SnowPass" (413 : Nat) ({ cls := "java/util/Set", name := "iterator", desc := "()Ljava/util/Iterator;" } : Jvm.MethodName)) ∈ lw_all := lw_g (lw_at lw_m8 192 rfl) rfl
theorem q2046 : (Jvm.Cond.classLink "SnowPass" (334 : Nat) "SnowPass$Ticket") ∈ lw_all := lw_g (lw_at lw_m9 4 rfl) rfl
theorem q2047 : (Jvm.Cond.methodLink "SnowPass" (416 : Nat) ({ cls := "SnowPass$Yard", name := "crossedAll", desc := "()I" } : Jvm.MethodName)) ∈ lw_all := lw_g (lw_at lw_m9 5 rfl) rfl
theorem q2052 : (Jvm.Cond.instanceMethod ({ cls := "SnowPass", name := "meanDepth", desc := "()D" } : Jvm.MethodName)) ∈ lw_all := lw_g (lw_at lw_m9 10 rfl) rfl
theorem q2053 : (Jvm.Cond.selects "SnowPass" ({ cls := "SnowPass", name := "meanDepth", desc := "()D" } : Jvm.MethodName) ({ cls := "SnowPass", name := "meanDepth", desc := "()D" } : Jvm.MethodName)) ∈ lw_all := lw_g (lw_at lw_m9 11 rfl) rfl
theorem q2054 : (Jvm.Cond.code ({ cls := "SnowPass", name := "meanDepth", desc := "()D" } : Jvm.MethodName) prog_1_method_72_code (1 : Nat) (Option.some Jvm.ClassFile.FieldType.double)) ∈ lw_all := lw_g (lw_at lw_m9 12 rfl) rfl
theorem q2056 : (Jvm.Cond.instanceMethod ({ cls := "SnowPass", name := "clearShare", desc := "()F" } : Jvm.MethodName)) ∈ lw_all := lw_g (lw_at lw_m9 14 rfl) rfl
theorem q2057 : (Jvm.Cond.selects "SnowPass" ({ cls := "SnowPass", name := "clearShare", desc := "()F" } : Jvm.MethodName) ({ cls := "SnowPass", name := "clearShare", desc := "()F" } : Jvm.MethodName)) ∈ lw_all := lw_g (lw_at lw_m9 15 rfl) rfl
theorem q2058 : (Jvm.Cond.code ({ cls := "SnowPass", name := "clearShare", desc := "()F" } : Jvm.MethodName) prog_1_method_73_code (1 : Nat) (Option.some Jvm.ClassFile.FieldType.float)) ∈ lw_all := lw_g (lw_at lw_m9 16 rfl) rfl
theorem q2059 : (Jvm.Cond.methodLink "SnowPass" (419 : Nat) ({ cls := "SnowPass", name := "clearCount", desc := "()I" } : Jvm.MethodName)) ∈ lw_all := lw_g (lw_at lw_m9 17 rfl) rfl
theorem q2061 : (Jvm.Cond.instanceMethod ({ cls := "SnowPass", name := "save", desc := "()I" } : Jvm.MethodName)) ∈ lw_all := lw_g (lw_at lw_m9 19 rfl) rfl
theorem q2062 : (Jvm.Cond.selects "SnowPass" ({ cls := "SnowPass", name := "save", desc := "()I" } : Jvm.MethodName) ({ cls := "SnowPass", name := "save", desc := "()I" } : Jvm.MethodName)) ∈ lw_all := lw_g (lw_at lw_m9 20 rfl) rfl
theorem q2063 : (Jvm.Cond.code ({ cls := "SnowPass", name := "save", desc := "()I" } : Jvm.MethodName) prog_1_method_83_code (1 : Nat) (Option.some Jvm.ClassFile.FieldType.int)) ∈ lw_all := lw_g (lw_at lw_m9 21 rfl) rfl
theorem q2064 : (Jvm.Cond.methodLink "SnowPass" (107 : Nat) ({ cls := "SnowPass$State", name := "copy", desc := "()LSnowPass$State;" } : Jvm.MethodName)) ∈ lw_all := lw_g (lw_at lw_m9 22 rfl) rfl
theorem q2322 : (Jvm.Cond.instanceMethod ({ cls := "SnowPass", name := "formatRoad", desc := "()I" } : Jvm.MethodName)) ∈ lw_all := lw_g (lw_at lw_m10 40 rfl) rfl
theorem q2323 : (Jvm.Cond.selects "SnowPass" ({ cls := "SnowPass", name := "formatRoad", desc := "()I" } : Jvm.MethodName) ({ cls := "SnowPass", name := "formatRoad", desc := "()I" } : Jvm.MethodName)) ∈ lw_all := lw_g (lw_at lw_m10 41 rfl) rfl
theorem q2324 : (Jvm.Cond.code ({ cls := "SnowPass", name := "formatRoad", desc := "()I" } : Jvm.MethodName) prog_1_method_85_code (3 : Nat) (Option.some Jvm.ClassFile.FieldType.int)) ∈ lw_all := lw_g (lw_at lw_m10 42 rfl) rfl
theorem q2325 : (Jvm.Cond.methodLink "SnowPass" (455 : Nat) ({ cls := "java/lang/StringBuilder", name := "setLength", desc := "(I)V" } : Jvm.MethodName)) ∈ lw_all := lw_g (lw_at lw_m10 43 rfl) rfl
theorem q2393 : (Jvm.Cond.methodLink "SnowPass" (458 : Nat) ({ cls := "java/lang/StringBuilder", name := "append", desc := "(C)Ljava/lang/StringBuilder;" } : Jvm.MethodName)) ∈ lw_all := lw_g (lw_at lw_m10 111 rfl) rfl
theorem q2413 : (Jvm.Cond.methodLink "SnowPass" (462 : Nat) ({ cls := "java/lang/StringBuilder", name := "append", desc := "(I)Ljava/lang/StringBuilder;" } : Jvm.MethodName)) ∈ lw_all := lw_g (lw_at lw_m10 131 rfl) rfl
theorem q2414 : (Jvm.Cond.methodLink "SnowPass" (465 : Nat) ({ cls := "java/lang/StringBuilder", name := "length", desc := "()I" } : Jvm.MethodName)) ∈ lw_all := lw_g (lw_at lw_m10 132 rfl) rfl
theorem q2416 : (Jvm.Cond.instanceMethod ({ cls := "SnowPass", name := "outputByte", desc := "(I)I" } : Jvm.MethodName)) ∈ lw_all := lw_g (lw_at lw_m10 134 rfl) rfl
theorem q2417 : (Jvm.Cond.selects "SnowPass" ({ cls := "SnowPass", name := "outputByte", desc := "(I)I" } : Jvm.MethodName) ({ cls := "SnowPass", name := "outputByte", desc := "(I)I" } : Jvm.MethodName)) ∈ lw_all := lw_g (lw_at lw_m10 135 rfl) rfl
theorem q2418 : (Jvm.Cond.code ({ cls := "SnowPass", name := "outputByte", desc := "(I)I" } : Jvm.MethodName) prog_1_method_86_code (2 : Nat) (Option.some Jvm.ClassFile.FieldType.int)) ∈ lw_all := lw_g (lw_at lw_m10 136 rfl) rfl
theorem q2419 : (Jvm.Cond.methodLink "SnowPass" (142 : Nat) ({ cls := "SnowPass", name := "inRange", desc := "(JJJ)Z" } : Jvm.MethodName)) ∈ lw_all := lw_g (lw_at lw_m10 137 rfl) rfl
theorem q2420 : (Jvm.Cond.methodLink "SnowPass" (468 : Nat) ({ cls := "java/lang/StringBuilder", name := "charAt", desc := "(I)C" } : Jvm.MethodName)) ∈ lw_all := lw_g (lw_at lw_m10 138 rfl) rfl
theorem q2435 : (Jvm.Cond.instanceMethod ({ cls := "SnowPass", name := "append", desc := "(IIIII)I" } : Jvm.MethodName)) ∈ lw_all := lw_g (lw_at lw_m10 153 rfl) rfl
theorem q2436 : (Jvm.Cond.selects "SnowPass" ({ cls := "SnowPass", name := "append", desc := "(IIIII)I" } : Jvm.MethodName) ({ cls := "SnowPass", name := "append", desc := "(IIIII)I" } : Jvm.MethodName)) ∈ lw_all := lw_g (lw_at lw_m10 154 rfl) rfl
theorem q2437 : (Jvm.Cond.code ({ cls := "SnowPass", name := "append", desc := "(IIIII)I" } : Jvm.MethodName) prog_1_method_12_code (6 : Nat) (Option.some Jvm.ClassFile.FieldType.int)) ∈ lw_all := lw_g (lw_at lw_m10 155 rfl) rfl
theorem q2438 : (Jvm.Cond.methodLink "SnowPass" (134 : Nat) ({ cls := "SnowPass", name := "checkState", desc := "(Z)V" } : Jvm.MethodName)) ∈ lw_all := lw_g (lw_at lw_m10 156 rfl) rfl
theorem q2439 : (Jvm.Cond.static ({ cls := "SnowPass", name := "checkState", desc := "(Z)V" } : Jvm.MethodName)) ∈ lw_all := lw_g (lw_at lw_m10 157 rfl) rfl
theorem q2440 : (Jvm.Cond.code ({ cls := "SnowPass", name := "checkState", desc := "(Z)V" } : Jvm.MethodName) prog_1_method_4_code (1 : Nat) (Option.none : Option Jvm.ClassFile.FieldType)) ∈ lw_all := lw_g (lw_at lw_m10 158 rfl) rfl
theorem q2441 : (Jvm.Cond.classLink "SnowPass" (10 : Nat) "java/lang/IllegalStateException") ∈ lw_all := lw_g (lw_at lw_m10 159 rfl) rfl
theorem q2450 : (Jvm.Cond.methodLink "SnowPass" (12 : Nat) ({ cls := "java/lang/IllegalStateException", name := "<init>", desc := "()V" } : Jvm.MethodName)) ∈ lw_all := lw_g (lw_at lw_m10 168 rfl) rfl
theorem q2456 : (Jvm.Cond.methodLink "SnowPass" (138 : Nat) ({ cls := "SnowPass", name := "appendWords", desc := "([I)V" } : Jvm.MethodName)) ∈ lw_all := lw_g (lw_at lw_m10 174 rfl) rfl
theorem q2457 : (Jvm.Cond.privateMethod ({ cls := "SnowPass", name := "appendWords", desc := "([I)V" } : Jvm.MethodName)) ∈ lw_tbl := lw_at lw_m10 175 rfl
theorem q2458 : (Jvm.Cond.instanceMethod ({ cls := "SnowPass", name := "appendWords", desc := "([I)V" } : Jvm.MethodName)) ∈ lw_all := lw_g (lw_at lw_m10 176 rfl) rfl
theorem q2459 : (Jvm.Cond.code ({ cls := "SnowPass", name := "appendWords", desc := "([I)V" } : Jvm.MethodName) prog_1_method_11_code (7 : Nat) (Option.none : Option Jvm.ClassFile.FieldType)) ∈ lw_all := lw_g (lw_at lw_m10 177 rfl) rfl
theorem q2465 : (Jvm.Cond.instanceMethod ({ cls := "SnowPass", name := "truncate", desc := "(I)I" } : Jvm.MethodName)) ∈ lw_all := lw_g (lw_at lw_m10 183 rfl) rfl
theorem q2466 : (Jvm.Cond.selects "SnowPass" ({ cls := "SnowPass", name := "truncate", desc := "(I)I" } : Jvm.MethodName) ({ cls := "SnowPass", name := "truncate", desc := "(I)I" } : Jvm.MethodName)) ∈ lw_all := lw_g (lw_at lw_m10 184 rfl) rfl
theorem q2467 : (Jvm.Cond.code ({ cls := "SnowPass", name := "truncate", desc := "(I)I" } : Jvm.MethodName) prog_1_method_13_code (2 : Nat) (Option.some Jvm.ClassFile.FieldType.int)) ∈ lw_all := lw_g (lw_at lw_m10 185 rfl) rfl
theorem q2468 : (Jvm.Cond.methodLink "SnowPass" (146 : Nat) ({ cls := "SnowPass", name := "checkArgument", desc := "(Z)V" } : Jvm.MethodName)) ∈ lw_all := lw_g (lw_at lw_m10 186 rfl) rfl
theorem q2469 : (Jvm.Cond.static ({ cls := "SnowPass", name := "checkArgument", desc := "(Z)V" } : Jvm.MethodName)) ∈ lw_all := lw_g (lw_at lw_m10 187 rfl) rfl
theorem q2470 : (Jvm.Cond.code ({ cls := "SnowPass", name := "checkArgument", desc := "(Z)V" } : Jvm.MethodName) prog_1_method_3_code (1 : Nat) (Option.none : Option Jvm.ClassFile.FieldType)) ∈ lw_all := lw_g (lw_at lw_m10 188 rfl) rfl
theorem q2471 : (Jvm.Cond.classLink "SnowPass" (7 : Nat) "java/lang/IllegalArgumentException") ∈ lw_all := lw_g (lw_at lw_m10 189 rfl) rfl
theorem q2472 : (Jvm.Cond.methodLink "SnowPass" (9 : Nat) ({ cls := "java/lang/IllegalArgumentException", name := "<init>", desc := "()V" } : Jvm.MethodName)) ∈ lw_all := lw_g (lw_at lw_m10 190 rfl) rfl
theorem q2480 : (Jvm.Cond.instanceMethod ({ cls := "SnowPass", name := "load", desc := "()I" } : Jvm.MethodName)) ∈ lw_all := lw_g (lw_at lw_m10 198 rfl) rfl
theorem q2481 : (Jvm.Cond.selects "SnowPass" ({ cls := "SnowPass", name := "load", desc := "()I" } : Jvm.MethodName) ({ cls := "SnowPass", name := "load", desc := "()I" } : Jvm.MethodName)) ∈ lw_all := lw_g (lw_at lw_m10 199 rfl) rfl
theorem q2482 : (Jvm.Cond.codeWith ({ cls := "SnowPass", name := "load", desc := "()I" } : Jvm.MethodName) prog_1_method_17_code (4 : Nat) (Option.some Jvm.ClassFile.FieldType.int) [((0 : Nat), (12 : Nat), (20 : Nat), (172 : Nat)), ((0 : Nat), (12 : Nat), (27 : Nat), (0 : Nat)), ((20 : Nat), (28 : Nat), (27 : Nat), (0 : Nat))]) ∈ lw_all := lw_g (lw_at lw_m10 200 rfl) rfl
theorem q2483 : (Jvm.Cond.classLink "SnowPass" (172 : Nat) "SnowPass$ParseError") ∈ lw_all := lw_g (lw_at lw_m10 201 rfl) rfl
theorem q2484 : (Jvm.Cond.classLink "SnowPass" (182 : Nat) "SnowPass$Parser") ∈ lw_all := lw_g (lw_at lw_m10 202 rfl) rfl
theorem q2486 : (Jvm.Cond.methodLink "SnowPass" (184 : Nat) ({ cls := "SnowPass$Parser", name := "<init>", desc := "(LSnowPass;)V" } : Jvm.MethodName)) ∈ lw_all := lw_g (lw_at lw_m10 204 rfl) rfl
theorem q2538 : (Jvm.Cond.methodLink "SnowPass" (187 : Nat) ({ cls := "SnowPass$Parser", name := "configuration", desc := "()LSnowPass$State;" } : Jvm.MethodName)) ∈ lw_all := lw_g (lw_at lw_m11 16 rfl) rfl
theorem q2571 : (Jvm.Cond.fieldLinkNest "SnowPass" (171 : Nat) "SnowPass$ParseError" "code" "I" "SnowPass") ∈ lw_tbl := lw_at lw_m11 49 rfl
theorem q2573 : (Jvm.Cond.fieldLinkNest "SnowPass" (179 : Nat) "SnowPass$ParseError" "position" "I" "SnowPass") ∈ lw_tbl := lw_at lw_m11 51 rfl
theorem q2639 : (Jvm.Cond.methodLink "SnowPass" (190 : Nat) ({ cls := "SnowPass", name := "report", desc := "(LSnowPass$ParseError;)Ljava/lang/IllegalArgumentException;" } : Jvm.MethodName)) ∈ lw_all := lw_g (lw_at lw_m11 117 rfl) rfl
theorem q2640 : (Jvm.Cond.privateMethod ({ cls := "SnowPass", name := "report", desc := "(LSnowPass$ParseError;)Ljava/lang/IllegalArgumentException;" } : Jvm.MethodName)) ∈ lw_tbl := lw_at lw_m11 118 rfl
theorem q2641 : (Jvm.Cond.instanceMethod ({ cls := "SnowPass", name := "report", desc := "(LSnowPass$ParseError;)Ljava/lang/IllegalArgumentException;" } : Jvm.MethodName)) ∈ lw_all := lw_g (lw_at lw_m11 119 rfl) rfl
theorem q2642 : (Jvm.Cond.code ({ cls := "SnowPass", name := "report", desc := "(LSnowPass$ParseError;)Ljava/lang/IllegalArgumentException;" } : Jvm.MethodName) prog_1_method_15_code (2 : Nat) (Option.some (Jvm.ClassFile.FieldType.object "java/lang/IllegalArgumentException"))) ∈ lw_all := lw_g (lw_at lw_m11 120 rfl) rfl
theorem q2643 : (Jvm.Cond.methodLink "SnowPass" (194 : Nat) ({ cls := "SnowPass", name := "clearError", desc := "()V" } : Jvm.MethodName)) ∈ lw_all := lw_g (lw_at lw_m11 121 rfl) rfl
theorem q2644 : (Jvm.Cond.privateMethod ({ cls := "SnowPass", name := "clearError", desc := "()V" } : Jvm.MethodName)) ∈ lw_tbl := lw_at lw_m11 122 rfl
theorem q2645 : (Jvm.Cond.instanceMethod ({ cls := "SnowPass", name := "clearError", desc := "()V" } : Jvm.MethodName)) ∈ lw_all := lw_g (lw_at lw_m11 123 rfl) rfl
theorem q2646 : (Jvm.Cond.code ({ cls := "SnowPass", name := "clearError", desc := "()V" } : Jvm.MethodName) prog_1_method_16_code (1 : Nat) (Option.none : Option Jvm.ClassFile.FieldType)) ∈ lw_all := lw_g (lw_at lw_m11 124 rfl) rfl
theorem q2647 : (Jvm.Cond.methodLink "SnowPass" (197 : Nat) ({ cls := "java/util/ArrayDeque", name := "clear", desc := "()V" } : Jvm.MethodName)) ∈ lw_all := lw_g (lw_at lw_m11 125 rfl) rfl
theorem q2658 : (Jvm.Cond.instanceMethod ({ cls := "SnowPass", name := "executeCommands", desc := "()I" } : Jvm.MethodName)) ∈ lw_all := lw_g (lw_at lw_m11 136 rfl) rfl
theorem q2659 : (Jvm.Cond.selects "SnowPass" ({ cls := "SnowPass", name := "executeCommands", desc := "()I" } : Jvm.MethodName) ({ cls := "SnowPass", name := "executeCommands", desc := "()I" } : Jvm.MethodName)) ∈ lw_all := lw_g (lw_at lw_m11 137 rfl) rfl
theorem q2660 : (Jvm.Cond.codeWith ({ cls := "SnowPass", name := "executeCommands", desc := "()I" } : Jvm.MethodName) prog_1_method_19_code (4 : Nat) (Option.some Jvm.ClassFile.FieldType.int) [((0 : Nat), (12 : Nat), (20 : Nat), (172 : Nat)), ((0 : Nat), (12 : Nat), (27 : Nat), (0 : Nat)), ((20 : Nat), (28 : Nat), (27 : Nat), (0 : Nat))]) ∈ lw_all := lw_g (lw_at lw_m11 138 rfl) rfl
theorem q2661 : (Jvm.Cond.methodLink "SnowPass" (209 : Nat) ({ cls := "SnowPass$Parser", name := "commands", desc := "()[LSnowPass$Operation;" } : Jvm.MethodName)) ∈ lw_all := lw_g (lw_at lw_m11 139 rfl) rfl
theorem q2668 : (Jvm.Cond.static ({ cls := "SnowPass", name := "isCommand", desc := "(Ljava/lang/String;)Z" } : Jvm.MethodName)) ∈ lw_all := lw_g (lw_at lw_m11 146 rfl) rfl
theorem q2669 : (Jvm.Cond.code ({ cls := "SnowPass", name := "isCommand", desc := "(Ljava/lang/String;)Z" } : Jvm.MethodName) prog_1_method_14_code (3 : Nat) (Option.some Jvm.ClassFile.FieldType.boolean)) ∈ lw_all := lw_g (lw_at lw_m11 147 rfl) rfl
theorem q2670 : (Jvm.Cond.methodLink "SnowPass" (149 : Nat) ({ cls := "java/lang/String", name := "hashCode", desc := "()I" } : Jvm.MethodName)) ∈ lw_all := lw_g (lw_at lw_m11 148 rfl) rfl
theorem q2671 : (Jvm.Cond.stringRef "SnowPass" (154 : Nat) "pass") ∈ lw_tbl := lw_at lw_m11 149 rfl
theorem q2672 : (Jvm.Cond.methodLink "SnowPass" (156 : Nat) ({ cls := "java/lang/String", name := "equals", desc := "(Ljava/lang/Object;)Z" } : Jvm.MethodName)) ∈ lw_all := lw_g (lw_at lw_m11 150 rfl) rfl
theorem q2673 : (Jvm.Cond.stringRef "SnowPass" (160 : Nat) "salt") ∈ lw_tbl := lw_at lw_m11 151 rfl
theorem q2674 : (Jvm.Cond.stringRef "SnowPass" (162 : Nat) "recall") ∈ lw_tbl := lw_at lw_m11 152 rfl
theorem q2675 : (Jvm.Cond.stringRef "SnowPass" (164 : Nat) "sacks") ∈ lw_tbl := lw_at lw_m11 153 rfl
theorem q2676 : (Jvm.Cond.stringRef "SnowPass" (165 : Nat) "snowfall") ∈ lw_tbl := lw_at lw_m11 154 rfl
theorem q2677 : (Jvm.Cond.stringRef "SnowPass" (166 : Nat) "wind") ∈ lw_tbl := lw_at lw_m11 155 rfl
theorem q2678 : (Jvm.Cond.stringRef "SnowPass" (167 : Nat) "cart") ∈ lw_tbl := lw_at lw_m11 156 rfl
theorem q2679 : (Jvm.Cond.stringRef "SnowPass" (169 : Nat) "cancel") ∈ lw_tbl := lw_at lw_m11 157 rfl
theorem q2859 : (Jvm.Cond.methodLink "SnowPass" (213 : Nat) ({ cls := "SnowPass", name := "execute", desc := "(LSnowPass$State;[LSnowPass$Operation;)I" } : Jvm.MethodName)) ∈ lw_all := lw_g (lw_at lw_m12 97 rfl) rfl
theorem q2860 : (Jvm.Cond.static ({ cls := "SnowPass", name := "execute", desc := "(LSnowPass$State;[LSnowPass$Operation;)I" } : Jvm.MethodName)) ∈ lw_all := lw_g (lw_at lw_m12 98 rfl) rfl
theorem q2861 : (Jvm.Cond.codeWith ({ cls := "SnowPass", name := "execute", desc := "(LSnowPass$State;[LSnowPass$Operation;)I" } : Jvm.MethodName) prog_1_method_18_code (4 : Nat) (Option.some Jvm.ClassFile.FieldType.int) [((2 : Nat), (24 : Nat), (27 : Nat), (10 : Nat)), ((2 : Nat), (24 : Nat), (27 : Nat), (207 : Nat))]) ∈ lw_all := lw_g (lw_at lw_m12 99 rfl) rfl
theorem q2862 : (Jvm.Cond.classLink "SnowPass" (207 : Nat) "java/util/NoSuchElementException") ∈ lw_all := lw_g (lw_at lw_m12 100 rfl) rfl
theorem q2863 : (Jvm.Cond.interfaceEntry "SnowPass" (110 : Nat)) ∈ lw_tbl := lw_at lw_m12 101 rfl
theorem q2864 : (Jvm.Cond.methodLink "SnowPass" (110 : Nat) ({ cls := "SnowPass$Operation", name := "apply", desc := "(LSnowPass$State;)I" } : Jvm.MethodName)) ∈ lw_all := lw_g (lw_at lw_m12 102 rfl) rfl
theorem q2867 : (Jvm.Cond.methodLink "SnowPass" (116 : Nat) ({ cls := "SnowPass", name := "record", desc := "(LSnowPass$State;)V" } : Jvm.MethodName)) ∈ lw_all := lw_g (lw_at lw_m12 105 rfl) rfl
theorem q2868 : (Jvm.Cond.privateMethod ({ cls := "SnowPass", name := "record", desc := "(LSnowPass$State;)V" } : Jvm.MethodName)) ∈ lw_tbl := lw_at lw_m12 106 rfl
theorem q2869 : (Jvm.Cond.instanceMethod ({ cls := "SnowPass", name := "record", desc := "(LSnowPass$State;)V" } : Jvm.MethodName)) ∈ lw_all := lw_g (lw_at lw_m12 107 rfl) rfl
theorem q2870 : (Jvm.Cond.code ({ cls := "SnowPass", name := "record", desc := "(LSnowPass$State;)V" } : Jvm.MethodName) prog_1_method_10_code (3 : Nat) (Option.none : Option Jvm.ClassFile.FieldType)) ∈ lw_all := lw_g (lw_at lw_m12 108 rfl) rfl
theorem q2871 : (Jvm.Cond.methodLink "SnowPass" (120 : Nat) ({ cls := "java/util/ArrayDeque", name := "size", desc := "()I" } : Jvm.MethodName)) ∈ lw_all := lw_g (lw_at lw_m12 109 rfl) rfl
theorem q2872 : (Jvm.Cond.methodLink "SnowPass" (123 : Nat) ({ cls := "java/util/ArrayDeque", name := "removeFirst", desc := "()Ljava/lang/Object;" } : Jvm.MethodName)) ∈ lw_all := lw_g (lw_at lw_m12 110 rfl) rfl
theorem q2886 : (Jvm.Cond.methodLink "SnowPass" (127 : Nat) ({ cls := "java/util/ArrayDeque", name := "addLast", desc := "(Ljava/lang/Object;)V" } : Jvm.MethodName)) ∈ lw_all := lw_g (lw_at lw_m12 124 rfl) rfl
theorem q2913 : (Jvm.Cond.instanceMethod ({ cls := "SnowPass", name := "depthOf", desc := "(I)I" } : Jvm.MethodName)) ∈ lw_all := lw_g (lw_at lw_m12 151 rfl) rfl
theorem q2914 : (Jvm.Cond.selects "SnowPass" ({ cls := "SnowPass", name := "depthOf", desc := "(I)I" } : Jvm.MethodName) ({ cls := "SnowPass", name := "depthOf", desc := "(I)I" } : Jvm.MethodName)) ∈ lw_all := lw_g (lw_at lw_m12 152 rfl) rfl
theorem q2915 : (Jvm.Cond.code ({ cls := "SnowPass", name := "depthOf", desc := "(I)I" } : Jvm.MethodName) prog_1_method_27_code (2 : Nat) (Option.some Jvm.ClassFile.FieldType.int)) ∈ lw_all := lw_g (lw_at lw_m12 153 rfl) rfl
theorem q2916 : (Jvm.Cond.methodLink "SnowPass" (230 : Nat) ({ cls := "SnowPass", name := "checkSegment", desc := "(I)V" } : Jvm.MethodName)) ∈ lw_all := lw_g (lw_at lw_m12 154 rfl) rfl
theorem q2917 : (Jvm.Cond.privateMethod ({ cls := "SnowPass", name := "checkSegment", desc := "(I)V" } : Jvm.MethodName)) ∈ lw_tbl := lw_at lw_m12 155 rfl
theorem q2918 : (Jvm.Cond.instanceMethod ({ cls := "SnowPass", name := "checkSegment", desc := "(I)V" } : Jvm.MethodName)) ∈ lw_all := lw_g (lw_at lw_m12 156 rfl) rfl
theorem q2919 : (Jvm.Cond.code ({ cls := "SnowPass", name := "checkSegment", desc := "(I)V" } : Jvm.MethodName) prog_1_method_22_code (2 : Nat) (Option.none : Option Jvm.ClassFile.FieldType)) ∈ lw_all := lw_g (lw_at lw_m12 157 rfl) rfl
theorem q2920 : (Jvm.Cond.methodLink "SnowPass" (217 : Nat) ({ cls := "SnowPass", name := "checkIndex", desc := "(Z)V" } : Jvm.MethodName)) ∈ lw_all := lw_g (lw_at lw_m12 158 rfl) rfl
theorem q2921 : (Jvm.Cond.static ({ cls := "SnowPass", name := "checkIndex", desc := "(Z)V" } : Jvm.MethodName)) ∈ lw_all := lw_g (lw_at lw_m12 159 rfl) rfl
theorem q2922 : (Jvm.Cond.code ({ cls := "SnowPass", name := "checkIndex", desc := "(Z)V" } : Jvm.MethodName) prog_1_method_2_code (1 : Nat) (Option.none : Option Jvm.ClassFile.FieldType)) ∈ lw_all := lw_g (lw_at lw_m12 160 rfl) rfl
theorem q2923 : (Jvm.Cond.classLink "SnowPass" (1 : Nat) "java/lang/IndexOutOfBoundsException") ∈ lw_all := lw_g (lw_at lw_m12 161 rfl) rfl
theorem q2932 : (Jvm.Cond.methodLink "SnowPass" (3 : Nat) ({ cls := "java/lang/IndexOutOfBoundsException", name := "<init>", desc := "()V" } : Jvm.MethodName)) ∈ lw_all := lw_g (lw_at lw_m12 170 rfl) rfl
theorem q2942 : (Jvm.Cond.instanceMethod ({ cls := "SnowPass", name := "exposureOf", desc := "(I)I" } : Jvm.MethodName)) ∈ lw_all := lw_g (lw_at lw_m12 180 rfl) rfl
theorem q2943 : (Jvm.Cond.selects "SnowPass" ({ cls := "SnowPass", name := "exposureOf", desc := "(I)I" } : Jvm.MethodName) ({ cls := "SnowPass", name := "exposureOf", desc := "(I)I" } : Jvm.MethodName)) ∈ lw_all := lw_g (lw_at lw_m12 181 rfl) rfl
theorem q2944 : (Jvm.Cond.code ({ cls := "SnowPass", name := "exposureOf", desc := "(I)I" } : Jvm.MethodName) prog_1_method_28_code (2 : Nat) (Option.some Jvm.ClassFile.FieldType.int)) ∈ lw_all := lw_g (lw_at lw_m12 182 rfl) rfl
theorem q2949 : (Jvm.Cond.instanceMethod ({ cls := "SnowPass", name := "saltHours", desc := "(I)I" } : Jvm.MethodName)) ∈ lw_all := lw_g (lw_at lw_m12 187 rfl) rfl
theorem q2950 : (Jvm.Cond.selects "SnowPass" ({ cls := "SnowPass", name := "saltHours", desc := "(I)I" } : Jvm.MethodName) ({ cls := "SnowPass", name := "saltHours", desc := "(I)I" } : Jvm.MethodName)) ∈ lw_all := lw_g (lw_at lw_m12 188 rfl) rfl
theorem q2951 : (Jvm.Cond.code ({ cls := "SnowPass", name := "saltHours", desc := "(I)I" } : Jvm.MethodName) prog_1_method_29_code (2 : Nat) (Option.some Jvm.ClassFile.FieldType.int)) ∈ lw_all := lw_g (lw_at lw_m12 189 rfl) rfl
theorem q2956 : (Jvm.Cond.instanceMethod ({ cls := "SnowPass", name := "isClear", desc := "(I)Z" } : Jvm.MethodName)) ∈ lw_all := lw_g (lw_at lw_m12 194 rfl) rfl
theorem q2957 : (Jvm.Cond.selects "SnowPass" ({ cls := "SnowPass", name := "isClear", desc := "(I)Z" } : Jvm.MethodName) ({ cls := "SnowPass", name := "isClear", desc := "(I)Z" } : Jvm.MethodName)) ∈ lw_all := lw_g (lw_at lw_m12 195 rfl) rfl
theorem q2958 : (Jvm.Cond.code ({ cls := "SnowPass", name := "isClear", desc := "(I)Z" } : Jvm.MethodName) prog_1_method_30_code (2 : Nat) (Option.some Jvm.ClassFile.FieldType.boolean)) ∈ lw_all := lw_g (lw_at lw_m12 196 rfl) rfl
theorem q2963 : (Jvm.Cond.instanceMethod ({ cls := "SnowPass", name := "ploughPosition", desc := "(I)I" } : Jvm.MethodName)) ∈ lw_all := lw_g (lw_at lw_m12 201 rfl) rfl
theorem q2964 : (Jvm.Cond.selects "SnowPass" ({ cls := "SnowPass", name := "ploughPosition", desc := "(I)I" } : Jvm.MethodName) ({ cls := "SnowPass", name := "ploughPosition", desc := "(I)I" } : Jvm.MethodName)) ∈ lw_all := lw_g (lw_at lw_m12 202 rfl) rfl
theorem q2965 : (Jvm.Cond.code ({ cls := "SnowPass", name := "ploughPosition", desc := "(I)I" } : Jvm.MethodName) prog_1_method_38_code (2 : Nat) (Option.some Jvm.ClassFile.FieldType.int)) ∈ lw_all := lw_g (lw_at lw_m12 203 rfl) rfl
theorem q2966 : (Jvm.Cond.methodLink "SnowPass" (267 : Nat) ({ cls := "SnowPass", name := "ploughAt", desc := "(I)LSnowPass$Plough;" } : Jvm.MethodName)) ∈ lw_all := lw_g (lw_at lw_m12 204 rfl) rfl
theorem q2967 : (Jvm.Cond.privateMethod ({ cls := "SnowPass", name := "ploughAt", desc := "(I)LSnowPass$Plough;" } : Jvm.MethodName)) ∈ lw_tbl := lw_at lw_m12 205 rfl
theorem q2968 : (Jvm.Cond.instanceMethod ({ cls := "SnowPass", name := "ploughAt", desc := "(I)LSnowPass$Plough;" } : Jvm.MethodName)) ∈ lw_all := lw_g (lw_at lw_m12 206 rfl) rfl
theorem q2969 : (Jvm.Cond.code ({ cls := "SnowPass", name := "ploughAt", desc := "(I)LSnowPass$Plough;" } : Jvm.MethodName) prog_1_method_37_code (2 : Nat) (Option.some (Jvm.ClassFile.FieldType.object "SnowPass$Plough"))) ∈ lw_all := lw_g (lw_at lw_m12 207 rfl) rfl
theorem q2970 : (Jvm.Cond.methodLink "SnowPass" (264 : Nat) ({ cls := "SnowPass", name := "checkSide", desc := "(I)V" } : Jvm.MethodName)) ∈ lw_all := lw_g (lw_at lw_m12 208 rfl) rfl
theorem q2971 : (Jvm.Cond.static ({ cls := "SnowPass", name := "checkSide", desc := "(I)V" } : Jvm.MethodName)) ∈ lw_all := lw_g (lw_at lw_m12 209 rfl) rfl
theorem q2972 : (Jvm.Cond.code ({ cls := "SnowPass", name := "checkSide", desc := "(I)V" } : Jvm.MethodName) prog_1_method_36_code (1 : Nat) (Option.none : Option Jvm.ClassFile.FieldType)) ∈ lw_all := lw_g (lw_at lw_m12 210 rfl) rfl
theorem q2977 : (Jvm.Cond.instanceMethod ({ cls := "SnowPass", name := "ploughCapacity", desc := "(I)I" } : Jvm.MethodName)) ∈ lw_all := lw_g (lw_at lw_m12 215 rfl) rfl
theorem q2978 : (Jvm.Cond.selects "SnowPass" ({ cls := "SnowPass", name := "ploughCapacity", desc := "(I)I" } : Jvm.MethodName) ({ cls := "SnowPass", name := "ploughCapacity", desc := "(I)I" } : Jvm.MethodName)) ∈ lw_all := lw_g (lw_at lw_m12 216 rfl) rfl
theorem q2979 : (Jvm.Cond.code ({ cls := "SnowPass", name := "ploughCapacity", desc := "(I)I" } : Jvm.MethodName) prog_1_method_39_code (2 : Nat) (Option.some Jvm.ClassFile.FieldType.int)) ∈ lw_all := lw_g (lw_at lw_m12 217 rfl) rfl
theorem q2984 : (Jvm.Cond.instanceMethod ({ cls := "SnowPass", name := "sackCount", desc := "(I)I" } : Jvm.MethodName)) ∈ lw_all := lw_g (lw_at lw_m12 222 rfl) rfl
theorem q2985 : (Jvm.Cond.selects "SnowPass" ({ cls := "SnowPass", name := "sackCount", desc := "(I)I" } : Jvm.MethodName) ({ cls := "SnowPass", name := "sackCount", desc := "(I)I" } : Jvm.MethodName)) ∈ lw_all := lw_g (lw_at lw_m12 223 rfl) rfl
theorem q2986 : (Jvm.Cond.code ({ cls := "SnowPass", name := "sackCount", desc := "(I)I" } : Jvm.MethodName) prog_1_method_40_code (2 : Nat) (Option.some Jvm.ClassFile.FieldType.int)) ∈ lw_all := lw_g (lw_at lw_m12 224 rfl) rfl
theorem q2991 : (Jvm.Cond.instanceMethod ({ cls := "SnowPass", name := "hasSigned", desc := "(I)Z" } : Jvm.MethodName)) ∈ lw_all := lw_g (lw_at lw_m12 229 rfl) rfl
theorem q2992 : (Jvm.Cond.selects "SnowPass" ({ cls := "SnowPass", name := "hasSigned", desc := "(I)Z" } : Jvm.MethodName) ({ cls := "SnowPass", name := "hasSigned", desc := "(I)Z" } : Jvm.MethodName)) ∈ lw_all := lw_g (lw_at lw_m12 230 rfl) rfl
theorem q2993 : (Jvm.Cond.code ({ cls := "SnowPass", name := "hasSigned", desc := "(I)Z" } : Jvm.MethodName) prog_1_method_41_code (2 : Nat) (Option.some Jvm.ClassFile.FieldType.boolean)) ∈ lw_all := lw_g (lw_at lw_m12 231 rfl) rfl
theorem q2998 : (Jvm.Cond.instanceMethod ({ cls := "SnowPass", name := "unclearedOnSide", desc := "(I)I" } : Jvm.MethodName)) ∈ lw_all := lw_g (lw_at lw_m12 236 rfl) rfl
theorem q2999 : (Jvm.Cond.selects "SnowPass" ({ cls := "SnowPass", name := "unclearedOnSide", desc := "(I)I" } : Jvm.MethodName) ({ cls := "SnowPass", name := "unclearedOnSide", desc := "(I)I" } : Jvm.MethodName)) ∈ lw_all := lw_g (lw_at lw_m12 237 rfl) rfl
theorem q3000 : (Jvm.Cond.code ({ cls := "SnowPass", name := "unclearedOnSide", desc := "(I)I" } : Jvm.MethodName) prog_1_method_43_code (5 : Nat) (Option.some Jvm.ClassFile.FieldType.int)) ∈ lw_all := lw_g (lw_at lw_m12 238 rfl) rfl
theorem q3001 : (Jvm.Cond.methodLink "SnowPass" (279 : Nat) ({ cls := "SnowPass$Road", name := "side", desc := "(I)Ljava/lang/Iterable;" } : Jvm.MethodName)) ∈ lw_all := lw_g (lw_at lw_m12 239 rfl) rfl
theorem q3007 : (Jvm.Cond.interfaceEntry "SnowPass" (283 : Nat)) ∈ lw_tbl := lw_at lw_m13 5 rfl
theorem q3008 : (Jvm.Cond.methodLink "SnowPass" (283 : Nat) ({ cls := "java/lang/Iterable", name := "iterator", desc := "()Ljava/util/Iterator;" } : Jvm.MethodName)) ∈ lw_all := lw_g (lw_at lw_m13 6 rfl) rfl
theorem q3031 : (Jvm.Cond.instanceMethod ({ cls := "SnowPass", name := "waitingCount", desc := "(I)I" } : Jvm.MethodName)) ∈ lw_all := lw_g (lw_at lw_m13 29 rfl) rfl
theorem q3032 : (Jvm.Cond.selects "SnowPass" ({ cls := "SnowPass", name := "waitingCount", desc := "(I)I" } : Jvm.MethodName) ({ cls := "SnowPass", name := "waitingCount", desc := "(I)I" } : Jvm.MethodName)) ∈ lw_all := lw_g (lw_at lw_m13 30 rfl) rfl
theorem q3033 : (Jvm.Cond.code ({ cls := "SnowPass", name := "waitingCount", desc := "(I)I" } : Jvm.MethodName) prog_1_method_49_code (2 : Nat) (Option.some Jvm.ClassFile.FieldType.int)) ∈ lw_all := lw_g (lw_at lw_m13 31 rfl) rfl
theorem q3034 : (Jvm.Cond.methodLink "SnowPass" (322 : Nat) ({ cls := "SnowPass", name := "queueOf", desc := "(I)Ljava/util/List;" } : Jvm.MethodName)) ∈ lw_all := lw_g (lw_at lw_m13 32 rfl) rfl
theorem q3035 : (Jvm.Cond.privateMethod ({ cls := "SnowPass", name := "queueOf", desc := "(I)Ljava/util/List;" } : Jvm.MethodName)) ∈ lw_tbl := lw_at lw_m13 33 rfl
theorem q3036 : (Jvm.Cond.instanceMethod ({ cls := "SnowPass", name := "queueOf", desc := "(I)Ljava/util/List;" } : Jvm.MethodName)) ∈ lw_all := lw_g (lw_at lw_m13 34 rfl) rfl
theorem q3037 : (Jvm.Cond.code ({ cls := "SnowPass", name := "queueOf", desc := "(I)Ljava/util/List;" } : Jvm.MethodName) prog_1_method_47_code (2 : Nat) (Option.some (Jvm.ClassFile.FieldType.object "java/util/List"))) ∈ lw_all := lw_g (lw_at lw_m13 35 rfl) rfl
theorem q3038 : (Jvm.Cond.interfaceEntry "SnowPass" (311 : Nat)) ∈ lw_tbl := lw_at lw_m13 36 rfl
theorem q3039 : (Jvm.Cond.methodLink "SnowPass" (311 : Nat) ({ cls := "java/util/List", name := "get", desc := "(I)Ljava/lang/Object;" } : Jvm.MethodName)) ∈ lw_all := lw_g (lw_at lw_m13 37 rfl) rfl
theorem q3040 : (Jvm.Cond.classLink "SnowPass" (312 : Nat) "java/util/List") ∈ lw_all := lw_g (lw_at lw_m13 38 rfl) rfl
theorem q3041 : (Jvm.Cond.interfaceEntry "SnowPass" (326 : Nat)) ∈ lw_tbl := lw_at lw_m13 39 rfl
theorem q3042 : (Jvm.Cond.methodLink "SnowPass" (326 : Nat) ({ cls := "java/util/List", name := "size", desc := "()I" } : Jvm.MethodName)) ∈ lw_all := lw_g (lw_at lw_m13 40 rfl) rfl
theorem q3047 : (Jvm.Cond.instanceMethod ({ cls := "SnowPass", name := "waitingTicket", desc := "(II)I" } : Jvm.MethodName)) ∈ lw_all := lw_g (lw_at lw_m13 45 rfl) rfl
theorem q3048 : (Jvm.Cond.selects "SnowPass" ({ cls := "SnowPass", name := "waitingTicket", desc := "(II)I" } : Jvm.MethodName) ({ cls := "SnowPass", name := "waitingTicket", desc := "(II)I" } : Jvm.MethodName)) ∈ lw_all := lw_g (lw_at lw_m13 46 rfl) rfl
theorem q3049 : (Jvm.Cond.code ({ cls := "SnowPass", name := "waitingTicket", desc := "(II)I" } : Jvm.MethodName) prog_1_method_50_code (4 : Nat) (Option.some Jvm.ClassFile.FieldType.int)) ∈ lw_all := lw_g (lw_at lw_m13 47 rfl) rfl
theorem q3050 : (Jvm.Cond.classLink "SnowPass" (327 : Nat) "SnowPass$Cart") ∈ lw_all := lw_g (lw_at lw_m13 48 rfl) rfl
theorem q3056 : (Jvm.Cond.instanceMethod ({ cls := "SnowPass", name := "hasChains", desc := "(I)Z" } : Jvm.MethodName)) ∈ lw_all := lw_g (lw_at lw_m13 54 rfl) rfl
theorem q3057 : (Jvm.Cond.selects "SnowPass" ({ cls := "SnowPass", name := "hasChains", desc := "(I)Z" } : Jvm.MethodName) ({ cls := "SnowPass", name := "hasChains", desc := "(I)Z" } : Jvm.MethodName)) ∈ lw_all := lw_g (lw_at lw_m13 55 rfl) rfl
theorem q3058 : (Jvm.Cond.code ({ cls := "SnowPass", name := "hasChains", desc := "(I)Z" } : Jvm.MethodName) prog_1_method_52_code (2 : Nat) (Option.some Jvm.ClassFile.FieldType.boolean)) ∈ lw_all := lw_g (lw_at lw_m13 56 rfl) rfl
theorem q3059 : (Jvm.Cond.methodLink "SnowPass" (340 : Nat) ({ cls := "SnowPass", name := "cartWith", desc := "(I)LSnowPass$Cart;" } : Jvm.MethodName)) ∈ lw_all := lw_g (lw_at lw_m13 57 rfl) rfl
theorem q3060 : (Jvm.Cond.privateMethod ({ cls := "SnowPass", name := "cartWith", desc := "(I)LSnowPass$Cart;" } : Jvm.MethodName)) ∈ lw_tbl := lw_at lw_m13 58 rfl
theorem q3061 : (Jvm.Cond.instanceMethod ({ cls := "SnowPass", name := "cartWith", desc := "(I)LSnowPass$Cart;" } : Jvm.MethodName)) ∈ lw_all := lw_g (lw_at lw_m13 59 rfl) rfl
theorem q3062 : (Jvm.Cond.code ({ cls := "SnowPass", name := "cartWith", desc := "(I)LSnowPass$Cart;" } : Jvm.MethodName) prog_1_method_48_code (3 : Nat) (Option.some (Jvm.ClassFile.FieldType.object "SnowPass$Cart"))) ∈ lw_all := lw_g (lw_at lw_m13 60 rfl) rfl
theorem q3063 : (Jvm.Cond.methodLink "SnowPass" (321 : Nat) ({ cls := "java/util/NoSuchElementException", name := "<init>", desc := "()V" } : Jvm.MethodName)) ∈ lw_all := lw_g (lw_at lw_m13 61 rfl) rfl
theorem q3068 : (Jvm.Cond.instanceMethod ({ cls := "SnowPass", name := "crossingReason", desc := "(I)I" } : Jvm.MethodName)) ∈ lw_all := lw_g (lw_at lw_m13 66 rfl) rfl
theorem q3069 : (Jvm.Cond.selects "SnowPass" ({ cls := "SnowPass", name := "crossingReason", desc := "(I)I" } : Jvm.MethodName) ({ cls := "SnowPass", name := "crossingReason", desc := "(I)I" } : Jvm.MethodName)) ∈ lw_all := lw_g (lw_at lw_m13 67 rfl) rfl
theorem q3070 : (Jvm.Cond.code ({ cls := "SnowPass", name := "crossingReason", desc := "(I)I" } : Jvm.MethodName) prog_1_method_53_code (3 : Nat) (Option.some Jvm.ClassFile.FieldType.int)) ∈ lw_all := lw_g (lw_at lw_m13 68 rfl) rfl
theorem q3071 : (Jvm.Cond.methodLink "SnowPass" (346 : Nat) ({ cls := "SnowPass$Cart", name := "reason", desc := "(LSnowPass$Road;)I" } : Jvm.MethodName)) ∈ lw_all := lw_g (lw_at lw_m13 69 rfl) rfl
theorem q3076 : (Jvm.Cond.instanceMethod ({ cls := "SnowPass", name := "depthAfter", desc := "(II)I" } : Jvm.MethodName)) ∈ lw_all := lw_g (lw_at lw_m13 74 rfl) rfl
theorem q3077 : (Jvm.Cond.selects "SnowPass" ({ cls := "SnowPass", name := "depthAfter", desc := "(II)I" } : Jvm.MethodName) ({ cls := "SnowPass", name := "depthAfter", desc := "(II)I" } : Jvm.MethodName)) ∈ lw_all := lw_g (lw_at lw_m13 75 rfl) rfl
theorem q3078 : (Jvm.Cond.code ({ cls := "SnowPass", name := "depthAfter", desc := "(II)I" } : Jvm.MethodName) prog_1_method_55_code (3 : Nat) (Option.some Jvm.ClassFile.FieldType.int)) ∈ lw_all := lw_g (lw_at lw_m13 76 rfl) rfl
theorem q3079 : (Jvm.Cond.methodLink "SnowPass" (352 : Nat) ({ cls := "SnowPass", name := "checkHours", desc := "(I)V" } : Jvm.MethodName)) ∈ lw_all := lw_g (lw_at lw_m13 77 rfl) rfl
theorem q3080 : (Jvm.Cond.static ({ cls := "SnowPass", name := "checkHours", desc := "(I)V" } : Jvm.MethodName)) ∈ lw_all := lw_g (lw_at lw_m13 78 rfl) rfl
theorem q3081 : (Jvm.Cond.code ({ cls := "SnowPass", name := "checkHours", desc := "(I)V" } : Jvm.MethodName) prog_1_method_54_code (1 : Nat) (Option.none : Option Jvm.ClassFile.FieldType)) ∈ lw_all := lw_g (lw_at lw_m13 79 rfl) rfl
theorem q3082 : (Jvm.Cond.constantLong "SnowPass" (350 : Nat) (240 : Int64)) ∈ lw_all := lw_g (lw_at lw_m13 80 rfl) rfl
theorem q3087 : (Jvm.Cond.instanceMethod ({ cls := "SnowPass", name := "hoursUntilCrossed", desc := "(I)I" } : Jvm.MethodName)) ∈ lw_all := lw_g (lw_at lw_m13 85 rfl) rfl
theorem q3088 : (Jvm.Cond.selects "SnowPass" ({ cls := "SnowPass", name := "hoursUntilCrossed", desc := "(I)I" } : Jvm.MethodName) ({ cls := "SnowPass", name := "hoursUntilCrossed", desc := "(I)I" } : Jvm.MethodName)) ∈ lw_all := lw_g (lw_at lw_m13 86 rfl) rfl
theorem q3089 : (Jvm.Cond.code ({ cls := "SnowPass", name := "hoursUntilCrossed", desc := "(I)I" } : Jvm.MethodName) prog_1_method_59_code (5 : Nat) (Option.some Jvm.ClassFile.FieldType.int)) ∈ lw_all := lw_g (lw_at lw_m13 87 rfl) rfl
theorem q3090 : (Jvm.Cond.methodLink "SnowPass" (366 : Nat) ({ cls := "SnowPass$State", name := "hour", desc := "()V" } : Jvm.MethodName)) ∈ lw_all := lw_g (lw_at lw_m13 88 rfl) rfl
theorem q3091 : (Jvm.Cond.methodLink "SnowPass" (373 : Nat) ({ cls := "java/util/LinkedHashMap", name := "containsKey", desc := "(Ljava/lang/Object;)Z" } : Jvm.MethodName)) ∈ lw_all := lw_g (lw_at lw_m13 89 rfl) rfl
theorem q3102 : (Jvm.Cond.instanceMethod ({ cls := "SnowPass", name := "crossedAfter", desc := "(II)I" } : Jvm.MethodName)) ∈ lw_all := lw_g (lw_at lw_m13 100 rfl) rfl
theorem q3103 : (Jvm.Cond.selects "SnowPass" ({ cls := "SnowPass", name := "crossedAfter", desc := "(II)I" } : Jvm.MethodName) ({ cls := "SnowPass", name := "crossedAfter", desc := "(II)I" } : Jvm.MethodName)) ∈ lw_all := lw_g (lw_at lw_m13 101 rfl) rfl
theorem q3104 : (Jvm.Cond.code ({ cls := "SnowPass", name := "crossedAfter", desc := "(II)I" } : Jvm.MethodName) prog_1_method_60_code (3 : Nat) (Option.some Jvm.ClassFile.FieldType.int)) ∈ lw_all := lw_g (lw_at lw_m13 102 rfl) rfl
theorem q3105 : (Jvm.Cond.methodLink "SnowPass" (378 : Nat) ({ cls := "SnowPass$State", name := "after", desc := "(I)LSnowPass$State;" } : Jvm.MethodName)) ∈ lw_all := lw_g (lw_at lw_m13 103 rfl) rfl
theorem q3110 : (Jvm.Cond.instanceMethod ({ cls := "SnowPass", name := "leastCapacity", desc := "(II)I" } : Jvm.MethodName)) ∈ lw_all := lw_g (lw_at lw_m13 108 rfl) rfl
theorem q3111 : (Jvm.Cond.selects "SnowPass" ({ cls := "SnowPass", name := "leastCapacity", desc := "(II)I" } : Jvm.MethodName) ({ cls := "SnowPass", name := "leastCapacity", desc := "(II)I" } : Jvm.MethodName)) ∈ lw_all := lw_g (lw_at lw_m13 109 rfl) rfl
theorem q3112 : (Jvm.Cond.code ({ cls := "SnowPass", name := "leastCapacity", desc := "(II)I" } : Jvm.MethodName) prog_1_method_61_code (5 : Nat) (Option.some Jvm.ClassFile.FieldType.int)) ∈ lw_all := lw_g (lw_at lw_m13 110 rfl) rfl
theorem q3117 : (Jvm.Cond.instanceMethod ({ cls := "SnowPass", name := "bestSaltSegment", desc := "(I)I" } : Jvm.MethodName)) ∈ lw_all := lw_g (lw_at lw_m13 115 rfl) rfl
theorem q3118 : (Jvm.Cond.selects "SnowPass" ({ cls := "SnowPass", name := "bestSaltSegment", desc := "(I)I" } : Jvm.MethodName) ({ cls := "SnowPass", name := "bestSaltSegment", desc := "(I)I" } : Jvm.MethodName)) ∈ lw_all := lw_g (lw_at lw_m13 116 rfl) rfl
theorem q3119 : (Jvm.Cond.code ({ cls := "SnowPass", name := "bestSaltSegment", desc := "(I)I" } : Jvm.MethodName) prog_1_method_62_code (4 : Nat) (Option.some Jvm.ClassFile.FieldType.int)) ∈ lw_all := lw_g (lw_at lw_m13 117 rfl) rfl
theorem q3120 : (Jvm.Cond.classLink "SnowPass" (384 : Nat) "SnowPass$1Trial") ∈ lw_all := lw_g (lw_at lw_m13 118 rfl) rfl
theorem q3122 : (Jvm.Cond.methodLink "SnowPass" (386 : Nat) ({ cls := "SnowPass$1Trial", name := "<init>", desc := "(LSnowPass;I)V" } : Jvm.MethodName)) ∈ lw_all := lw_g (lw_at lw_m13 120 rfl) rfl
theorem q3127 : (Jvm.Cond.fieldLinkNest "SnowPass" (391 : Nat) "SnowPass$1Trial" "best" "I" "SnowPass") ∈ lw_tbl := lw_at lw_m13 125 rfl
theorem q3140 : (Jvm.Cond.methodLink "SnowPass" (389 : Nat) ({ cls := "SnowPass$1Trial", name := "add", desc := "(I)V" } : Jvm.MethodName)) ∈ lw_all := lw_g (lw_at lw_m13 138 rfl) rfl
theorem q3151 : (Jvm.Cond.instanceMethod ({ cls := "SnowPass", name := "cartsCrossed", desc := "(I)I" } : Jvm.MethodName)) ∈ lw_all := lw_g (lw_at lw_m13 149 rfl) rfl
theorem q3152 : (Jvm.Cond.selects "SnowPass" ({ cls := "SnowPass", name := "cartsCrossed", desc := "(I)I" } : Jvm.MethodName) ({ cls := "SnowPass", name := "cartsCrossed", desc := "(I)I" } : Jvm.MethodName)) ∈ lw_all := lw_g (lw_at lw_m13 150 rfl) rfl
theorem q3153 : (Jvm.Cond.code ({ cls := "SnowPass", name := "cartsCrossed", desc := "(I)I" } : Jvm.MethodName) prog_1_method_66_code (2 : Nat) (Option.some Jvm.ClassFile.FieldType.int)) ∈ lw_all := lw_g (lw_at lw_m13 151 rfl) rfl
theorem q3158 : (Jvm.Cond.instanceMethod ({ cls := "SnowPass", name := "passHours", desc := "(I)I" } : Jvm.MethodName)) ∈ lw_all := lw_g (lw_at lw_m13 156 rfl) rfl
theorem q3159 : (Jvm.Cond.selects "SnowPass" ({ cls := "SnowPass", name := "passHours", desc := "(I)I" } : Jvm.MethodName) ({ cls := "SnowPass", name := "passHours", desc := "(I)I" } : Jvm.MethodName)) ∈ lw_all := lw_g (lw_at lw_m13 157 rfl) rfl
theorem q3160 : (Jvm.Cond.code ({ cls := "SnowPass", name := "passHours", desc := "(I)I" } : Jvm.MethodName) prog_1_method_74_code (2 : Nat) (Option.some Jvm.ClassFile.FieldType.int)) ∈ lw_all := lw_g (lw_at lw_m13 158 rfl) rfl
theorem q3161 : (Jvm.Cond.constantLong "SnowPass" (422 : Nat) (48 : Int64)) ∈ lw_all := lw_g (lw_at lw_m13 159 rfl) rfl
theorem q3162 : (Jvm.Cond.static ({ cls := "SnowPass", name := "lambda$passHours$0", desc := "(ILSnowPass$State;)I" } : Jvm.MethodName)) ∈ lw_all := lw_g (lw_at lw_m13 160 rfl) rfl
theorem q3163 : (Jvm.Cond.code ({ cls := "SnowPass", name := "lambda$passHours$0", desc := "(ILSnowPass$State;)I" } : Jvm.MethodName) prog_1_method_94_code (2 : Nat) (Option.some Jvm.ClassFile.FieldType.int)) ∈ lw_all := lw_g (lw_at lw_m13 161 rfl) rfl
theorem q3164 : (Jvm.Cond.methodLink "SnowPass" (494 : Nat) ({ cls := "SnowPass$State", name := "passHours", desc := "(I)I" } : Jvm.MethodName)) ∈ lw_all := lw_g (lw_at lw_m13 162 rfl) rfl
theorem q3165 : (Jvm.Cond.methodLink "SnowPass" (427 : Nat) ({ cls := "SnowPass", name := "perform", desc := "(LSnowPass$Operation;)I" } : Jvm.MethodName)) ∈ lw_all := lw_g (lw_at lw_m13 163 rfl) rfl
theorem q3166 : (Jvm.Cond.privateMethod ({ cls := "SnowPass", name := "perform", desc := "(LSnowPass$Operation;)I" } : Jvm.MethodName)) ∈ lw_tbl := lw_at lw_m13 164 rfl
theorem q3167 : (Jvm.Cond.instanceMethod ({ cls := "SnowPass", name := "perform", desc := "(LSnowPass$Operation;)I" } : Jvm.MethodName)) ∈ lw_all := lw_g (lw_at lw_m13 165 rfl) rfl
theorem q3168 : (Jvm.Cond.code ({ cls := "SnowPass", name := "perform", desc := "(LSnowPass$Operation;)I" } : Jvm.MethodName) prog_1_method_9_code (4 : Nat) (Option.some Jvm.ClassFile.FieldType.int)) ∈ lw_all := lw_g (lw_at lw_m13 166 rfl) rfl
theorem q3173 : (Jvm.Cond.instanceMethod ({ cls := "SnowPass", name := "spreadSalt", desc := "(I)I" } : Jvm.MethodName)) ∈ lw_all := lw_g (lw_at lw_m13 171 rfl) rfl
theorem q3174 : (Jvm.Cond.selects "SnowPass" ({ cls := "SnowPass", name := "spreadSalt", desc := "(I)I" } : Jvm.MethodName) ({ cls := "SnowPass", name := "spreadSalt", desc := "(I)I" } : Jvm.MethodName)) ∈ lw_all := lw_g (lw_at lw_m13 172 rfl) rfl
theorem q3175 : (Jvm.Cond.code ({ cls := "SnowPass", name := "spreadSalt", desc := "(I)I" } : Jvm.MethodName) prog_1_method_75_code (2 : Nat) (Option.some Jvm.ClassFile.FieldType.int)) ∈ lw_all := lw_g (lw_at lw_m13 173 rfl) rfl
theorem q3176 : (Jvm.Cond.static ({ cls := "SnowPass", name := "lambda$spreadSalt$1", desc := "(ILSnowPass$State;)I" } : Jvm.MethodName)) ∈ lw_all := lw_g (lw_at lw_m13 174 rfl) rfl
theorem q3177 : (Jvm.Cond.code ({ cls := "SnowPass", name := "lambda$spreadSalt$1", desc := "(ILSnowPass$State;)I" } : Jvm.MethodName) prog_1_method_93_code (2 : Nat) (Option.some Jvm.ClassFile.FieldType.int)) ∈ lw_all := lw_g (lw_at lw_m13 175 rfl) rfl
theorem q3178 : (Jvm.Cond.methodLink "SnowPass" (491 : Nat) ({ cls := "SnowPass$State", name := "spreadSalt", desc := "(I)I" } : Jvm.MethodName)) ∈ lw_all := lw_g (lw_at lw_m13 176 rfl) rfl
theorem q3183 : (Jvm.Cond.instanceMethod ({ cls := "SnowPass", name := "recall", desc := "(I)I" } : Jvm.MethodName)) ∈ lw_all := lw_g (lw_at lw_m13 181 rfl) rfl
theorem q3184 : (Jvm.Cond.selects "SnowPass" ({ cls := "SnowPass", name := "recall", desc := "(I)I" } : Jvm.MethodName) ({ cls := "SnowPass", name := "recall", desc := "(I)I" } : Jvm.MethodName)) ∈ lw_all := lw_g (lw_at lw_m13 182 rfl) rfl
theorem q3185 : (Jvm.Cond.code ({ cls := "SnowPass", name := "recall", desc := "(I)I" } : Jvm.MethodName) prog_1_method_76_code (2 : Nat) (Option.some Jvm.ClassFile.FieldType.int)) ∈ lw_all := lw_g (lw_at lw_m13 183 rfl) rfl
theorem q3186 : (Jvm.Cond.static ({ cls := "SnowPass", name := "lambda$recall$2", desc := "(ILSnowPass$State;)I" } : Jvm.MethodName)) ∈ lw_all := lw_g (lw_at lw_m13 184 rfl) rfl
theorem q3187 : (Jvm.Cond.code ({ cls := "SnowPass", name := "lambda$recall$2", desc := "(ILSnowPass$State;)I" } : Jvm.MethodName) prog_1_method_92_code (2 : Nat) (Option.some Jvm.ClassFile.FieldType.int)) ∈ lw_all := lw_g (lw_at lw_m13 185 rfl) rfl
theorem q3188 : (Jvm.Cond.methodLink "SnowPass" (489 : Nat) ({ cls := "SnowPass$State", name := "recall", desc := "(I)I" } : Jvm.MethodName)) ∈ lw_all := lw_g (lw_at lw_m13 186 rfl) rfl
theorem q3193 : (Jvm.Cond.instanceMethod ({ cls := "SnowPass", name := "addSacks", desc := "(II)I" } : Jvm.MethodName)) ∈ lw_all := lw_g (lw_at lw_m13 191 rfl) rfl
theorem q3194 : (Jvm.Cond.selects "SnowPass" ({ cls := "SnowPass", name := "addSacks", desc := "(II)I" } : Jvm.MethodName) ({ cls := "SnowPass", name := "addSacks", desc := "(II)I" } : Jvm.MethodName)) ∈ lw_all := lw_g (lw_at lw_m13 192 rfl) rfl
theorem q3195 : (Jvm.Cond.code ({ cls := "SnowPass", name := "addSacks", desc := "(II)I" } : Jvm.MethodName) prog_1_method_77_code (3 : Nat) (Option.some Jvm.ClassFile.FieldType.int)) ∈ lw_all := lw_g (lw_at lw_m13 193 rfl) rfl
theorem q3196 : (Jvm.Cond.constantLong "SnowPass" (433 : Nat) (99 : Int64)) ∈ lw_all := lw_g (lw_at lw_m13 194 rfl) rfl
theorem q3197 : (Jvm.Cond.static ({ cls := "SnowPass", name := "lambda$addSacks$3", desc := "(IILSnowPass$State;)I" } : Jvm.MethodName)) ∈ lw_all := lw_g (lw_at lw_m13 195 rfl) rfl
theorem q3198 : (Jvm.Cond.code ({ cls := "SnowPass", name := "lambda$addSacks$3", desc := "(IILSnowPass$State;)I" } : Jvm.MethodName) prog_1_method_91_code (3 : Nat) (Option.some Jvm.ClassFile.FieldType.int)) ∈ lw_all := lw_g (lw_at lw_m13 196 rfl) rfl
theorem q3199 : (Jvm.Cond.methodLink "SnowPass" (485 : Nat) ({ cls := "SnowPass$State", name := "addSacks", desc := "(II)I" } : Jvm.MethodName)) ∈ lw_all := lw_g (lw_at lw_m13 197 rfl) rfl
theorem q3204 : (Jvm.Cond.instanceMethod ({ cls := "SnowPass", name := "setSnowfall", desc := "(I)I" } : Jvm.MethodName)) ∈ lw_all := lw_g (lw_at lw_m13 202 rfl) rfl
theorem q3205 : (Jvm.Cond.selects "SnowPass" ({ cls := "SnowPass", name := "setSnowfall", desc := "(I)I" } : Jvm.MethodName) ({ cls := "SnowPass", name := "setSnowfall", desc := "(I)I" } : Jvm.MethodName)) ∈ lw_all := lw_g (lw_at lw_m13 203 rfl) rfl
theorem q3206 : (Jvm.Cond.code ({ cls := "SnowPass", name := "setSnowfall", desc := "(I)I" } : Jvm.MethodName) prog_1_method_78_code (2 : Nat) (Option.some Jvm.ClassFile.FieldType.int)) ∈ lw_all := lw_g (lw_at lw_m13 204 rfl) rfl
theorem q3207 : (Jvm.Cond.static ({ cls := "SnowPass", name := "lambda$setSnowfall$4", desc := "(ILSnowPass$State;)I" } : Jvm.MethodName)) ∈ lw_all := lw_g (lw_at lw_m13 205 rfl) rfl
theorem q3208 : (Jvm.Cond.code ({ cls := "SnowPass", name := "lambda$setSnowfall$4", desc := "(ILSnowPass$State;)I" } : Jvm.MethodName) prog_1_method_90_code (2 : Nat) (Option.some Jvm.ClassFile.FieldType.int)) ∈ lw_all := lw_g (lw_at lw_m13 206 rfl) rfl
theorem q3209 : (Jvm.Cond.methodLink "SnowPass" (482 : Nat) ({ cls := "SnowPass$State", name := "setSnowfall", desc := "(I)I" } : Jvm.MethodName)) ∈ lw_all := lw_g (lw_at lw_m13 207 rfl) rfl
theorem q3214 : (Jvm.Cond.instanceMethod ({ cls := "SnowPass", name := "setWind", desc := "(I)I" } : Jvm.MethodName)) ∈ lw_all := lw_g (lw_at lw_m13 212 rfl) rfl
theorem q3215 : (Jvm.Cond.selects "SnowPass" ({ cls := "SnowPass", name := "setWind", desc := "(I)I" } : Jvm.MethodName) ({ cls := "SnowPass", name := "setWind", desc := "(I)I" } : Jvm.MethodName)) ∈ lw_all := lw_g (lw_at lw_m13 213 rfl) rfl
theorem q3216 : (Jvm.Cond.code ({ cls := "SnowPass", name := "setWind", desc := "(I)I" } : Jvm.MethodName) prog_1_method_79_code (2 : Nat) (Option.some Jvm.ClassFile.FieldType.int)) ∈ lw_all := lw_g (lw_at lw_m13 214 rfl) rfl
theorem q3217 : (Jvm.Cond.constantLong "SnowPass" (439 : Nat) (9 : Int64)) ∈ lw_all := lw_g (lw_at lw_m13 215 rfl) rfl
theorem q3218 : (Jvm.Cond.static ({ cls := "SnowPass", name := "lambda$setWind$5", desc := "(ILSnowPass$State;)I" } : Jvm.MethodName)) ∈ lw_all := lw_g (lw_at lw_m13 216 rfl) rfl
theorem q3219 : (Jvm.Cond.code ({ cls := "SnowPass", name := "lambda$setWind$5", desc := "(ILSnowPass$State;)I" } : Jvm.MethodName) prog_1_method_89_code (2 : Nat) (Option.some Jvm.ClassFile.FieldType.int)) ∈ lw_all := lw_g (lw_at lw_m13 217 rfl) rfl
theorem q3220 : (Jvm.Cond.methodLink "SnowPass" (479 : Nat) ({ cls := "SnowPass$State", name := "setWind", desc := "(I)I" } : Jvm.MethodName)) ∈ lw_all := lw_g (lw_at lw_m13 218 rfl) rfl
theorem q3225 : (Jvm.Cond.instanceMethod ({ cls := "SnowPass", name := "queueCart", desc := "(IZ)I" } : Jvm.MethodName)) ∈ lw_all := lw_g (lw_at lw_m13 223 rfl) rfl
theorem q3226 : (Jvm.Cond.selects "SnowPass" ({ cls := "SnowPass", name := "queueCart", desc := "(IZ)I" } : Jvm.MethodName) ({ cls := "SnowPass", name := "queueCart", desc := "(IZ)I" } : Jvm.MethodName)) ∈ lw_all := lw_g (lw_at lw_m13 224 rfl) rfl
theorem q3227 : (Jvm.Cond.code ({ cls := "SnowPass", name := "queueCart", desc := "(IZ)I" } : Jvm.MethodName) prog_1_method_80_code (3 : Nat) (Option.some Jvm.ClassFile.FieldType.int)) ∈ lw_all := lw_g (lw_at lw_m13 225 rfl) rfl
theorem q3228 : (Jvm.Cond.static ({ cls := "SnowPass", name := "lambda$queueCart$6", desc := "(IZLSnowPass$State;)I" } : Jvm.MethodName)) ∈ lw_all := lw_g (lw_at lw_m13 226 rfl) rfl
theorem q3229 : (Jvm.Cond.code ({ cls := "SnowPass", name := "lambda$queueCart$6", desc := "(IZLSnowPass$State;)I" } : Jvm.MethodName) prog_1_method_88_code (3 : Nat) (Option.some Jvm.ClassFile.FieldType.int)) ∈ lw_all := lw_g (lw_at lw_m13 227 rfl) rfl
theorem q3230 : (Jvm.Cond.methodLink "SnowPass" (476 : Nat) ({ cls := "SnowPass$State", name := "queueCart", desc := "(IZ)I" } : Jvm.MethodName)) ∈ lw_all := lw_g (lw_at lw_m13 228 rfl) rfl
theorem q3235 : (Jvm.Cond.instanceMethod ({ cls := "SnowPass", name := "cancelCart", desc := "(I)I" } : Jvm.MethodName)) ∈ lw_all := lw_g (lw_at lw_m13 233 rfl) rfl
theorem q3236 : (Jvm.Cond.selects "SnowPass" ({ cls := "SnowPass", name := "cancelCart", desc := "(I)I" } : Jvm.MethodName) ({ cls := "SnowPass", name := "cancelCart", desc := "(I)I" } : Jvm.MethodName)) ∈ lw_all := lw_g (lw_at lw_m13 234 rfl) rfl
theorem q3237 : (Jvm.Cond.code ({ cls := "SnowPass", name := "cancelCart", desc := "(I)I" } : Jvm.MethodName) prog_1_method_81_code (2 : Nat) (Option.some Jvm.ClassFile.FieldType.int)) ∈ lw_all := lw_g (lw_at lw_m13 235 rfl) rfl
theorem q3238 : (Jvm.Cond.static ({ cls := "SnowPass", name := "lambda$cancelCart$7", desc := "(ILSnowPass$State;)I" } : Jvm.MethodName)) ∈ lw_all := lw_g (lw_at lw_m13 236 rfl) rfl
theorem q3239 : (Jvm.Cond.code ({ cls := "SnowPass", name := "lambda$cancelCart$7", desc := "(ILSnowPass$State;)I" } : Jvm.MethodName) prog_1_method_87_code (2 : Nat) (Option.some Jvm.ClassFile.FieldType.int)) ∈ lw_all := lw_g (lw_at lw_m13 237 rfl) rfl
theorem q3240 : (Jvm.Cond.methodLink "SnowPass" (472 : Nat) ({ cls := "SnowPass$State", name := "cancelCart", desc := "(I)I" } : Jvm.MethodName)) ∈ lw_all := lw_g (lw_at lw_m13 238 rfl) rfl
theorem q3245 : (Jvm.Cond.instanceMethod ({ cls := "SnowPass", name := "undo", desc := "()I" } : Jvm.MethodName)) ∈ lw_all := lw_g (lw_at lw_m14 3 rfl) rfl
theorem q3246 : (Jvm.Cond.selects "SnowPass" ({ cls := "SnowPass", name := "undo", desc := "()I" } : Jvm.MethodName) ({ cls := "SnowPass", name := "undo", desc := "()I" } : Jvm.MethodName)) ∈ lw_all := lw_g (lw_at lw_m14 4 rfl) rfl
theorem q3247 : (Jvm.Cond.code ({ cls := "SnowPass", name := "undo", desc := "()I" } : Jvm.MethodName) prog_1_method_82_code (1 : Nat) (Option.some Jvm.ClassFile.FieldType.int)) ∈ lw_all := lw_g (lw_at lw_m14 5 rfl) rfl
theorem q3248 : (Jvm.Cond.methodLink "SnowPass" (446 : Nat) ({ cls := "java/util/ArrayDeque", name := "isEmpty", desc := "()Z" } : Jvm.MethodName)) ∈ lw_all := lw_g (lw_at lw_m14 6 rfl) rfl
theorem q3252 : (Jvm.Cond.methodLink "SnowPass" (449 : Nat) ({ cls := "java/util/ArrayDeque", name := "removeLast", desc := "()Ljava/lang/Object;" } : Jvm.MethodName)) ∈ lw_all := lw_g (lw_at lw_m14 10 rfl) rfl
theorem q3267 : (Jvm.Cond.instanceMethod ({ cls := "SnowPass", name := "restore", desc := "()I" } : Jvm.MethodName)) ∈ lw_all := lw_g (lw_at lw_m14 25 rfl) rfl
theorem q3268 : (Jvm.Cond.selects "SnowPass" ({ cls := "SnowPass", name := "restore", desc := "()I" } : Jvm.MethodName) ({ cls := "SnowPass", name := "restore", desc := "()I" } : Jvm.MethodName)) ∈ lw_all := lw_g (lw_at lw_m14 26 rfl) rfl
theorem q3269 : (Jvm.Cond.code ({ cls := "SnowPass", name := "restore", desc := "()I" } : Jvm.MethodName) prog_1_method_84_code (1 : Nat) (Option.some Jvm.ClassFile.FieldType.int)) ∈ lw_all := lw_g (lw_at lw_m14 27 rfl) rfl
theorem q3987 : (Jvm.Cond.castable "SnowPass" "java/lang/Object") ∈ lw_tbl := lw_at lw_m17 25 rfl
theorem in_X1 : ∀ w ∈ wsX10, w ∈ lw_all := lw_in wsX10 [1544, 1546, 1548, 1550, 1552, 1554, 1556, 1558] (by decide +kernel) (by decide +kernel)

/-! SnowPass$Road -/
def RX2 : String := "SnowPass$Road"
def TX2 : u_T := fun k => match k with
  | 0 => ("SnowPass$Road", "summit", "I", true)
  | 1 => ("SnowPass$Road", "clearDepth", "I", true)
  | 2 => ("SnowPass$Road", "closingDepth", "I", true)
  | 3 => ("SnowPass$Road", "chainDepth", "I", true)
  | 4 => ("SnowPass$Road", "depths", "[I", true)
  | 5 => ("SnowPass$Road", "exposures", "[I", true)
  | 6 => ("SnowPass$Road", "salt", "[I", true)
  | 7 => ("SnowPass$Road", "ploughs", "[LSnowPass$Plough;", true)
  | 8 => ("SnowPass$Road", "book", "LSnowPass$Book;", true)
  | 9 => ("SnowPass$Road", "snowfall", "I", false)
  | 10 => ("SnowPass$Road", "wind", "I", false)
  | 11 => ("SnowPass$Road", "clock", "I", false)
  | 12 => ("SnowPass$Road", "fallen", "I", false)
  | 13 => ("SnowPass$Road", "cleared", "I", false)
  | 14 => ("SnowPass$Road", "melted", "I", false)
  | _ => ("SnowPass$Road", "sacksUsed", "I", false)
def tyX2 : Nat → FieldType := fun k => match k with
  | 0 => .int
  | 1 => .int
  | 2 => .int
  | 3 => .int
  | 4 => .array .int
  | 5 => .array .int
  | 6 => .array .int
  | 7 => .array (.object "SnowPass$Plough")
  | 8 => .object "SnowPass$Book"
  | 9 => .int
  | 10 => .int
  | 11 => .int
  | 12 => .int
  | 13 => .int
  | 14 => .int
  | _ => .int
abbrev wsX20 : List Cond := u_ws RX2 TX2 16
set_option maxRecDepth 100000 in
theorem nmX2 : ∀ a, a < 16 → ∀ b, b < 16 → a ≠ b → (TX2 a).2.1 ≠ (TX2 b).2.1 := by decide +kernel
set_option maxRecDepth 100000 in
theorem tyX2_ok : ∀ k, k < 16 → parseFieldDescriptor (TX2 k).2.2.1 = some (tyX2 k) := by decide +kernel
abbrev cX2_init : ByteArray := prog_9_method_1_code
def yX2_init : MethodName := ⟨RX2, "<init>", "(IIIII)V"⟩
def dkwX2_init_2 : List UInt8 := [4, 100, 181, 0, 21, 177]
abbrev dktX2_init_2 : List UInt8 := dkwX2_init_2 ++ []
def dkwX2_init_1 : List UInt8 := [187, 0, 3, 89, 183, 0, 5, 187, 0, 9, 89, 183, 0, 11, 183, 0, 12, 42, 180, 0, 17, 4, 50, 27]
abbrev dktX2_init_1 : List UInt8 := dkwX2_init_1 ++ dktX2_init_2
def dkwX2_init_0 : List UInt8 := [42, 28, 29, 21, 4, 21, 5, 27, 188, 10, 27, 188, 10, 27, 188, 10, 187, 0, 3, 89, 183, 0, 5]
abbrev dktX2_init_0 : List UInt8 := dkwX2_init_0 ++ dktX2_init_1
theorem dksX2_init_0 : cX2_init.data.toList.drop 0 = dktX2_init_0 := by decide +kernel
theorem dksX2_init_1 : cX2_init.data.toList.drop 23 = dktX2_init_1 := dk_seg dksX2_init_0 23 rfl rfl
theorem dksX2_init_2 : cX2_init.data.toList.drop 47 = dktX2_init_2 := dk_seg dksX2_init_1 24 rfl rfl
theorem dX2_init_0 : decode cX2_init 0 = .ok (.aload_n 0, 1) := dk_42 (dk_at dksX2_init_0 0 rfl rfl)
theorem dX2_init_1 : decode cX2_init 1 = .ok (.iload_n 2, 1) := dk_28 (dk_at dksX2_init_0 1 rfl rfl)
theorem dX2_init_2 : decode cX2_init 2 = .ok (.iload_n 3, 1) := dk_29 (dk_at dksX2_init_0 2 rfl rfl)
theorem dX2_init_3 : decode cX2_init 3 = .ok (.iload 4, 2) := dk_21 4 (dk_at dksX2_init_0 3 rfl rfl)
theorem dX2_init_5 : decode cX2_init 5 = .ok (.iload 5, 2) := dk_21 5 (dk_at dksX2_init_0 5 rfl rfl)
theorem dX2_init_7 : decode cX2_init 7 = .ok (.iload_n 1, 1) := dk_27 (dk_at dksX2_init_0 7 rfl rfl)
theorem dX2_init_8 : decode cX2_init 8 = .ok (.newarray .int, 2) := dk_188_10 (dk_at dksX2_init_0 8 rfl rfl)
theorem dX2_init_10 : decode cX2_init 10 = .ok (.iload_n 1, 1) := dk_27 (dk_at dksX2_init_0 10 rfl rfl)
theorem dX2_init_11 : decode cX2_init 11 = .ok (.newarray .int, 2) := dk_188_10 (dk_at dksX2_init_0 11 rfl rfl)
theorem dX2_init_13 : decode cX2_init 13 = .ok (.iload_n 1, 1) := dk_27 (dk_at dksX2_init_0 13 rfl rfl)
theorem dX2_init_14 : decode cX2_init 14 = .ok (.newarray .int, 2) := dk_188_10 (dk_at dksX2_init_0 14 rfl rfl)
theorem dX2_init_16 : decode cX2_init 16 = .ok (.new 3, 3) := dk_187 0 3 (dk_at dksX2_init_0 16 rfl rfl)
theorem dX2_init_19 : decode cX2_init 19 = .ok (.dup, 1) := dk_89 (dk_at dksX2_init_0 19 rfl rfl)
theorem dX2_init_20 : decode cX2_init 20 = .ok (.invokespecial 5, 3) := dk_183 0 5 (dk_at dksX2_init_0 20 rfl rfl)
theorem dX2_init_23 : decode cX2_init 23 = .ok (.new 3, 3) := dk_187 0 3 (dk_at dksX2_init_1 0 rfl rfl)
theorem dX2_init_26 : decode cX2_init 26 = .ok (.dup, 1) := dk_89 (dk_at dksX2_init_1 3 rfl rfl)
theorem dX2_init_27 : decode cX2_init 27 = .ok (.invokespecial 5, 3) := dk_183 0 5 (dk_at dksX2_init_1 4 rfl rfl)
theorem dX2_init_30 : decode cX2_init 30 = .ok (.new 9, 3) := dk_187 0 9 (dk_at dksX2_init_1 7 rfl rfl)
theorem dX2_init_33 : decode cX2_init 33 = .ok (.dup, 1) := dk_89 (dk_at dksX2_init_1 10 rfl rfl)
theorem dX2_init_34 : decode cX2_init 34 = .ok (.invokespecial 11, 3) := dk_183 0 11 (dk_at dksX2_init_1 11 rfl rfl)
theorem dX2_init_37 : decode cX2_init 37 = .ok (.invokespecial 12, 3) := dk_183 0 12 (dk_at dksX2_init_1 14 rfl rfl)
theorem dX2_init_40 : decode cX2_init 40 = .ok (.aload_n 0, 1) := dk_42 (dk_at dksX2_init_1 17 rfl rfl)
theorem dX2_init_41 : decode cX2_init 41 = .ok (.getfield 17, 3) := dk_180 0 17 (dk_at dksX2_init_1 18 rfl rfl)
theorem dX2_init_44 : decode cX2_init 44 = .ok (.iconst 1, 1) := dk_4 (dk_at dksX2_init_1 21 rfl rfl)
theorem dX2_init_45 : decode cX2_init 45 = .ok (.aaload, 1) := dk_50 (dk_at dksX2_init_1 22 rfl rfl)
theorem dX2_init_46 : decode cX2_init 46 = .ok (.iload_n 1, 1) := dk_27 (dk_at dksX2_init_1 23 rfl rfl)
theorem dX2_init_47 : decode cX2_init 47 = .ok (.iconst 1, 1) := dk_4 (dk_at dksX2_init_2 0 rfl rfl)
theorem dX2_init_48 : decode cX2_init 48 = .ok (.isub, 1) := dk_100 (dk_at dksX2_init_2 1 rfl rfl)
theorem dX2_init_49 : decode cX2_init 49 = .ok (.putfield 21, 3) := dk_181 0 21 (dk_at dksX2_init_2 2 rfl rfl)
theorem dX2_init_52 : decode cX2_init 52 = .ok (.return_, 1) := dk_177 (dk_at dksX2_init_2 5 rfl rfl)
abbrev cX2_init_2 : ByteArray := prog_9_method_2_code
def yX2_init_2 : MethodName := ⟨RX2, "<init>", "(IIII[I[I[ILSnowPass$Plough;LSnowPass$Plough;LSnowPass$Book;)V"⟩
def dkwX2_init_2_2 : List UInt8 := [189, 0, 3, 89, 3, 25, 8, 83, 89, 4, 25, 9, 83, 181, 0, 17, 42, 25, 10, 181, 0, 50, 177]
abbrev dktX2_init_2_2 : List UInt8 := dkwX2_init_2_2 ++ []
def dkwX2_init_2_1 : List UInt8 := [181, 0, 37, 42, 25, 5, 181, 0, 40, 42, 25, 6, 181, 0, 44, 42, 25, 7, 181, 0, 47, 42, 5]
abbrev dktX2_init_2_1 : List UInt8 := dkwX2_init_2_1 ++ dktX2_init_2_2
def dkwX2_init_2_0 : List UInt8 := [42, 183, 0, 25, 42, 27, 181, 0, 28, 42, 28, 181, 0, 31, 42, 29, 181, 0, 34, 42, 21, 4]
abbrev dktX2_init_2_0 : List UInt8 := dkwX2_init_2_0 ++ dktX2_init_2_1
theorem dksX2_init_2_0 : cX2_init_2.data.toList.drop 0 = dktX2_init_2_0 := by decide +kernel
theorem dksX2_init_2_1 : cX2_init_2.data.toList.drop 22 = dktX2_init_2_1 := dk_seg dksX2_init_2_0 22 rfl rfl
theorem dksX2_init_2_2 : cX2_init_2.data.toList.drop 45 = dktX2_init_2_2 := dk_seg dksX2_init_2_1 23 rfl rfl
theorem dX2_init_2_0 : decode cX2_init_2 0 = .ok (.aload_n 0, 1) := dk_42 (dk_at dksX2_init_2_0 0 rfl rfl)
theorem dX2_init_2_1 : decode cX2_init_2 1 = .ok (.invokespecial 25, 3) := dk_183 0 25 (dk_at dksX2_init_2_0 1 rfl rfl)
theorem dX2_init_2_4 : decode cX2_init_2 4 = .ok (.aload_n 0, 1) := dk_42 (dk_at dksX2_init_2_0 4 rfl rfl)
theorem dX2_init_2_5 : decode cX2_init_2 5 = .ok (.iload_n 1, 1) := dk_27 (dk_at dksX2_init_2_0 5 rfl rfl)
theorem dX2_init_2_6 : decode cX2_init_2 6 = .ok (.putfield 28, 3) := dk_181 0 28 (dk_at dksX2_init_2_0 6 rfl rfl)
theorem dX2_init_2_9 : decode cX2_init_2 9 = .ok (.aload_n 0, 1) := dk_42 (dk_at dksX2_init_2_0 9 rfl rfl)
theorem dX2_init_2_10 : decode cX2_init_2 10 = .ok (.iload_n 2, 1) := dk_28 (dk_at dksX2_init_2_0 10 rfl rfl)
theorem dX2_init_2_11 : decode cX2_init_2 11 = .ok (.putfield 31, 3) := dk_181 0 31 (dk_at dksX2_init_2_0 11 rfl rfl)
theorem dX2_init_2_14 : decode cX2_init_2 14 = .ok (.aload_n 0, 1) := dk_42 (dk_at dksX2_init_2_0 14 rfl rfl)
theorem dX2_init_2_15 : decode cX2_init_2 15 = .ok (.iload_n 3, 1) := dk_29 (dk_at dksX2_init_2_0 15 rfl rfl)
theorem dX2_init_2_16 : decode cX2_init_2 16 = .ok (.putfield 34, 3) := dk_181 0 34 (dk_at dksX2_init_2_0 16 rfl rfl)
theorem dX2_init_2_19 : decode cX2_init_2 19 = .ok (.aload_n 0, 1) := dk_42 (dk_at dksX2_init_2_0 19 rfl rfl)
theorem dX2_init_2_20 : decode cX2_init_2 20 = .ok (.iload 4, 2) := dk_21 4 (dk_at dksX2_init_2_0 20 rfl rfl)
theorem dX2_init_2_22 : decode cX2_init_2 22 = .ok (.putfield 37, 3) := dk_181 0 37 (dk_at dksX2_init_2_1 0 rfl rfl)
theorem dX2_init_2_25 : decode cX2_init_2 25 = .ok (.aload_n 0, 1) := dk_42 (dk_at dksX2_init_2_1 3 rfl rfl)
theorem dX2_init_2_26 : decode cX2_init_2 26 = .ok (.aload 5, 2) := dk_25 5 (dk_at dksX2_init_2_1 4 rfl rfl)
theorem dX2_init_2_28 : decode cX2_init_2 28 = .ok (.putfield 40, 3) := dk_181 0 40 (dk_at dksX2_init_2_1 6 rfl rfl)
theorem dX2_init_2_31 : decode cX2_init_2 31 = .ok (.aload_n 0, 1) := dk_42 (dk_at dksX2_init_2_1 9 rfl rfl)
theorem dX2_init_2_32 : decode cX2_init_2 32 = .ok (.aload 6, 2) := dk_25 6 (dk_at dksX2_init_2_1 10 rfl rfl)
theorem dX2_init_2_34 : decode cX2_init_2 34 = .ok (.putfield 44, 3) := dk_181 0 44 (dk_at dksX2_init_2_1 12 rfl rfl)
theorem dX2_init_2_37 : decode cX2_init_2 37 = .ok (.aload_n 0, 1) := dk_42 (dk_at dksX2_init_2_1 15 rfl rfl)
theorem dX2_init_2_38 : decode cX2_init_2 38 = .ok (.aload 7, 2) := dk_25 7 (dk_at dksX2_init_2_1 16 rfl rfl)
theorem dX2_init_2_40 : decode cX2_init_2 40 = .ok (.putfield 47, 3) := dk_181 0 47 (dk_at dksX2_init_2_1 18 rfl rfl)
theorem dX2_init_2_43 : decode cX2_init_2 43 = .ok (.aload_n 0, 1) := dk_42 (dk_at dksX2_init_2_1 21 rfl rfl)
theorem dX2_init_2_44 : decode cX2_init_2 44 = .ok (.iconst 2, 1) := dk_5 (dk_at dksX2_init_2_1 22 rfl rfl)
theorem dX2_init_2_45 : decode cX2_init_2 45 = .ok (.anewarray 3, 3) := dk_189 0 3 (dk_at dksX2_init_2_2 0 rfl rfl)
theorem dX2_init_2_48 : decode cX2_init_2 48 = .ok (.dup, 1) := dk_89 (dk_at dksX2_init_2_2 3 rfl rfl)
theorem dX2_init_2_49 : decode cX2_init_2 49 = .ok (.iconst 0, 1) := dk_3 (dk_at dksX2_init_2_2 4 rfl rfl)
theorem dX2_init_2_50 : decode cX2_init_2 50 = .ok (.aload 8, 2) := dk_25 8 (dk_at dksX2_init_2_2 5 rfl rfl)
theorem dX2_init_2_52 : decode cX2_init_2 52 = .ok (.aastore, 1) := dk_83 (dk_at dksX2_init_2_2 7 rfl rfl)
theorem dX2_init_2_53 : decode cX2_init_2 53 = .ok (.dup, 1) := dk_89 (dk_at dksX2_init_2_2 8 rfl rfl)
theorem dX2_init_2_54 : decode cX2_init_2 54 = .ok (.iconst 1, 1) := dk_4 (dk_at dksX2_init_2_2 9 rfl rfl)
theorem dX2_init_2_55 : decode cX2_init_2 55 = .ok (.aload 9, 2) := dk_25 9 (dk_at dksX2_init_2_2 10 rfl rfl)
theorem dX2_init_2_57 : decode cX2_init_2 57 = .ok (.aastore, 1) := dk_83 (dk_at dksX2_init_2_2 12 rfl rfl)
theorem dX2_init_2_58 : decode cX2_init_2 58 = .ok (.putfield 17, 3) := dk_181 0 17 (dk_at dksX2_init_2_2 13 rfl rfl)
theorem dX2_init_2_61 : decode cX2_init_2 61 = .ok (.aload_n 0, 1) := dk_42 (dk_at dksX2_init_2_2 16 rfl rfl)
theorem dX2_init_2_62 : decode cX2_init_2 62 = .ok (.aload 10, 2) := dk_25 10 (dk_at dksX2_init_2_2 17 rfl rfl)
theorem dX2_init_2_64 : decode cX2_init_2 64 = .ok (.putfield 50, 3) := dk_181 0 50 (dk_at dksX2_init_2_2 19 rfl rfl)
theorem dX2_init_2_67 : decode cX2_init_2 67 = .ok (.return_, 1) := dk_177 (dk_at dksX2_init_2_2 22 rfl rfl)
abbrev cX2_total : ByteArray := prog_9_method_8_code
def yX2_total : MethodName := ⟨RX2, "total", "()I"⟩
def dkwX2_total_1 : List UInt8 := [54, 5, 27, 21, 5, 96, 60, 132, 4, 1, 167, 255, 236, 27, 172]
abbrev dktX2_total_1 : List UInt8 := dkwX2_total_1 ++ []
def dkwX2_total_0 : List UInt8 := [3, 60, 42, 180, 0, 40, 77, 44, 190, 62, 3, 54, 4, 21, 4, 29, 162, 0, 20, 44, 21, 4, 46]
abbrev dktX2_total_0 : List UInt8 := dkwX2_total_0 ++ dktX2_total_1
theorem dksX2_total_0 : cX2_total.data.toList.drop 0 = dktX2_total_0 := by decide +kernel
theorem dksX2_total_1 : cX2_total.data.toList.drop 23 = dktX2_total_1 := dk_seg dksX2_total_0 23 rfl rfl
theorem dX2_total_0 : decode cX2_total 0 = .ok (.iconst 0, 1) := dk_3 (dk_at dksX2_total_0 0 rfl rfl)
theorem dX2_total_1 : decode cX2_total 1 = .ok (.istore_n 1, 1) := dk_60 (dk_at dksX2_total_0 1 rfl rfl)
theorem dX2_total_2 : decode cX2_total 2 = .ok (.aload_n 0, 1) := dk_42 (dk_at dksX2_total_0 2 rfl rfl)
theorem dX2_total_3 : decode cX2_total 3 = .ok (.getfield 40, 3) := dk_180 0 40 (dk_at dksX2_total_0 3 rfl rfl)
theorem dX2_total_6 : decode cX2_total 6 = .ok (.astore_n 2, 1) := dk_77 (dk_at dksX2_total_0 6 rfl rfl)
theorem dX2_total_7 : decode cX2_total 7 = .ok (.aload_n 2, 1) := dk_44 (dk_at dksX2_total_0 7 rfl rfl)
theorem dX2_total_8 : decode cX2_total 8 = .ok (.arraylength, 1) := dk_190 (dk_at dksX2_total_0 8 rfl rfl)
theorem dX2_total_9 : decode cX2_total 9 = .ok (.istore_n 3, 1) := dk_62 (dk_at dksX2_total_0 9 rfl rfl)
theorem dX2_total_10 : decode cX2_total 10 = .ok (.iconst 0, 1) := dk_3 (dk_at dksX2_total_0 10 rfl rfl)
theorem dX2_total_11 : decode cX2_total 11 = .ok (.istore 4, 2) := dk_54 4 (dk_at dksX2_total_0 11 rfl rfl)
theorem dX2_total_13 : decode cX2_total 13 = .ok (.iload 4, 2) := dk_21 4 (dk_at dksX2_total_0 13 rfl rfl)
theorem dX2_total_15 : decode cX2_total 15 = .ok (.iload_n 3, 1) := dk_29 (dk_at dksX2_total_0 15 rfl rfl)
theorem dX2_total_16 : decode cX2_total 16 = .ok (.if_icmp .ge 20, 3) := dk_162 0 20 (dk_at dksX2_total_0 16 rfl rfl)
theorem dX2_total_19 : decode cX2_total 19 = .ok (.aload_n 2, 1) := dk_44 (dk_at dksX2_total_0 19 rfl rfl)
theorem dX2_total_20 : decode cX2_total 20 = .ok (.iload 4, 2) := dk_21 4 (dk_at dksX2_total_0 20 rfl rfl)
theorem dX2_total_22 : decode cX2_total 22 = .ok (.iaload, 1) := dk_46 (dk_at dksX2_total_0 22 rfl rfl)
theorem dX2_total_23 : decode cX2_total 23 = .ok (.istore 5, 2) := dk_54 5 (dk_at dksX2_total_1 0 rfl rfl)
theorem dX2_total_25 : decode cX2_total 25 = .ok (.iload_n 1, 1) := dk_27 (dk_at dksX2_total_1 2 rfl rfl)
theorem dX2_total_26 : decode cX2_total 26 = .ok (.iload 5, 2) := dk_21 5 (dk_at dksX2_total_1 3 rfl rfl)
theorem dX2_total_28 : decode cX2_total 28 = .ok (.iadd, 1) := dk_96 (dk_at dksX2_total_1 5 rfl rfl)
theorem dX2_total_29 : decode cX2_total 29 = .ok (.istore_n 1, 1) := dk_60 (dk_at dksX2_total_1 6 rfl rfl)
theorem dX2_total_30 : decode cX2_total 30 = .ok (.iinc 4 1, 3) := dk_132 4 1 (dk_at dksX2_total_1 7 rfl rfl)
theorem dX2_total_33 : decode cX2_total 33 = .ok (.goto (-20), 3) := dk_167 255 236 (dk_at dksX2_total_1 10 rfl rfl)
theorem dX2_total_36 : decode cX2_total 36 = .ok (.iload_n 1, 1) := dk_27 (dk_at dksX2_total_1 13 rfl rfl)
theorem dX2_total_37 : decode cX2_total 37 = .ok (.ireturn, 1) := dk_172 (dk_at dksX2_total_1 14 rfl rfl)
abbrev cX2_segments : ByteArray := prog_9_method_4_code
def yX2_segments : MethodName := ⟨RX2, "segments", "()I"⟩
def dkwX2_segments_0 : List UInt8 := [42, 180, 0, 40, 190, 172]
abbrev dktX2_segments_0 : List UInt8 := dkwX2_segments_0 ++ []
theorem dksX2_segments_0 : cX2_segments.data.toList.drop 0 = dktX2_segments_0 := by decide +kernel
theorem dX2_segments_0 : decode cX2_segments 0 = .ok (.aload_n 0, 1) := dk_42 (dk_at dksX2_segments_0 0 rfl rfl)
theorem dX2_segments_1 : decode cX2_segments 1 = .ok (.getfield 40, 3) := dk_180 0 40 (dk_at dksX2_segments_0 1 rfl rfl)
theorem dX2_segments_4 : decode cX2_segments 4 = .ok (.arraylength, 1) := dk_190 (dk_at dksX2_segments_0 4 rfl rfl)
theorem dX2_segments_5 : decode cX2_segments 5 = .ok (.ireturn, 1) := dk_172 (dk_at dksX2_segments_0 5 rfl rfl)
abbrev cX2_isNight : ByteArray := prog_9_method_5_code
def yX2_isNight : MethodName := ⟨RX2, "isNight", "()Z"⟩
def dkwX2_isNight_1 : List UInt8 := [167, 0, 4, 3, 172]
abbrev dktX2_isNight_1 : List UInt8 := dkwX2_isNight_1 ++ []
def dkwX2_isNight_0 : List UInt8 := [42, 180, 0, 72, 16, 24, 112, 16, 18, 162, 0, 14, 42, 180, 0, 72, 16, 24, 112, 8, 163, 0, 7, 4]
abbrev dktX2_isNight_0 : List UInt8 := dkwX2_isNight_0 ++ dktX2_isNight_1
theorem dksX2_isNight_0 : cX2_isNight.data.toList.drop 0 = dktX2_isNight_0 := by decide +kernel
theorem dksX2_isNight_1 : cX2_isNight.data.toList.drop 24 = dktX2_isNight_1 := dk_seg dksX2_isNight_0 24 rfl rfl
theorem dX2_isNight_0 : decode cX2_isNight 0 = .ok (.aload_n 0, 1) := dk_42 (dk_at dksX2_isNight_0 0 rfl rfl)
theorem dX2_isNight_1 : decode cX2_isNight 1 = .ok (.getfield 72, 3) := dk_180 0 72 (dk_at dksX2_isNight_0 1 rfl rfl)
theorem dX2_isNight_4 : decode cX2_isNight 4 = .ok (.bipush 24, 2) := dk_16 24 (dk_at dksX2_isNight_0 4 rfl rfl)
theorem dX2_isNight_6 : decode cX2_isNight 6 = .ok (.irem, 1) := dk_112 (dk_at dksX2_isNight_0 6 rfl rfl)
theorem dX2_isNight_7 : decode cX2_isNight 7 = .ok (.bipush 18, 2) := dk_16 18 (dk_at dksX2_isNight_0 7 rfl rfl)
theorem dX2_isNight_9 : decode cX2_isNight 9 = .ok (.if_icmp .ge 14, 3) := dk_162 0 14 (dk_at dksX2_isNight_0 9 rfl rfl)
theorem dX2_isNight_12 : decode cX2_isNight 12 = .ok (.aload_n 0, 1) := dk_42 (dk_at dksX2_isNight_0 12 rfl rfl)
theorem dX2_isNight_13 : decode cX2_isNight 13 = .ok (.getfield 72, 3) := dk_180 0 72 (dk_at dksX2_isNight_0 13 rfl rfl)
theorem dX2_isNight_16 : decode cX2_isNight 16 = .ok (.bipush 24, 2) := dk_16 24 (dk_at dksX2_isNight_0 16 rfl rfl)
theorem dX2_isNight_18 : decode cX2_isNight 18 = .ok (.irem, 1) := dk_112 (dk_at dksX2_isNight_0 18 rfl rfl)
theorem dX2_isNight_19 : decode cX2_isNight 19 = .ok (.iconst 5, 1) := dk_8 (dk_at dksX2_isNight_0 19 rfl rfl)
theorem dX2_isNight_20 : decode cX2_isNight 20 = .ok (.if_icmp .gt 7, 3) := dk_163 0 7 (dk_at dksX2_isNight_0 20 rfl rfl)
theorem dX2_isNight_23 : decode cX2_isNight 23 = .ok (.iconst 1, 1) := dk_4 (dk_at dksX2_isNight_0 23 rfl rfl)
theorem dX2_isNight_24 : decode cX2_isNight 24 = .ok (.goto 4, 3) := dk_167 0 4 (dk_at dksX2_isNight_1 0 rfl rfl)
theorem dX2_isNight_27 : decode cX2_isNight 27 = .ok (.iconst 0, 1) := dk_3 (dk_at dksX2_isNight_1 3 rfl rfl)
theorem dX2_isNight_28 : decode cX2_isNight 28 = .ok (.ireturn, 1) := dk_172 (dk_at dksX2_isNight_1 4 rfl rfl)
abbrev cX2_isClear : ByteArray := prog_9_method_6_code
def yX2_isClear : MethodName := ⟨RX2, "isClear", "(I)Z"⟩
def dkwX2_isClear_0 : List UInt8 := [42, 180, 0, 40, 27, 46, 42, 180, 0, 31, 163, 0, 7, 4, 167, 0, 4, 3, 172]
abbrev dktX2_isClear_0 : List UInt8 := dkwX2_isClear_0 ++ []
theorem dksX2_isClear_0 : cX2_isClear.data.toList.drop 0 = dktX2_isClear_0 := by decide +kernel
theorem dX2_isClear_0 : decode cX2_isClear 0 = .ok (.aload_n 0, 1) := dk_42 (dk_at dksX2_isClear_0 0 rfl rfl)
theorem dX2_isClear_1 : decode cX2_isClear 1 = .ok (.getfield 40, 3) := dk_180 0 40 (dk_at dksX2_isClear_0 1 rfl rfl)
theorem dX2_isClear_4 : decode cX2_isClear 4 = .ok (.iload_n 1, 1) := dk_27 (dk_at dksX2_isClear_0 4 rfl rfl)
theorem dX2_isClear_5 : decode cX2_isClear 5 = .ok (.iaload, 1) := dk_46 (dk_at dksX2_isClear_0 5 rfl rfl)
theorem dX2_isClear_6 : decode cX2_isClear 6 = .ok (.aload_n 0, 1) := dk_42 (dk_at dksX2_isClear_0 6 rfl rfl)
theorem dX2_isClear_7 : decode cX2_isClear 7 = .ok (.getfield 31, 3) := dk_180 0 31 (dk_at dksX2_isClear_0 7 rfl rfl)
theorem dX2_isClear_10 : decode cX2_isClear 10 = .ok (.if_icmp .gt 7, 3) := dk_163 0 7 (dk_at dksX2_isClear_0 10 rfl rfl)
theorem dX2_isClear_13 : decode cX2_isClear 13 = .ok (.iconst 1, 1) := dk_4 (dk_at dksX2_isClear_0 13 rfl rfl)
theorem dX2_isClear_14 : decode cX2_isClear 14 = .ok (.goto 4, 3) := dk_167 0 4 (dk_at dksX2_isClear_0 14 rfl rfl)
theorem dX2_isClear_17 : decode cX2_isClear 17 = .ok (.iconst 0, 1) := dk_3 (dk_at dksX2_isClear_0 17 rfl rfl)
theorem dX2_isClear_18 : decode cX2_isClear 18 = .ok (.ireturn, 1) := dk_172 (dk_at dksX2_isClear_0 18 rfl rfl)
abbrev cX2_deepest : ByteArray := prog_9_method_9_code
def yX2_deepest : MethodName := ⟨RX2, "deepest", "()I"⟩
def dkwX2_deepest_1 : List UInt8 := [46, 164, 0, 7, 28, 167, 0, 4, 27, 60, 132, 2, 1, 167, 255, 223, 27, 172]
abbrev dktX2_deepest_1 : List UInt8 := dkwX2_deepest_1 ++ []
def dkwX2_deepest_0 : List UInt8 := [3, 60, 4, 61, 28, 42, 180, 0, 40, 190, 162, 0, 30, 42, 180, 0, 40, 28, 46, 42, 180, 0, 40, 27]
abbrev dktX2_deepest_0 : List UInt8 := dkwX2_deepest_0 ++ dktX2_deepest_1
theorem dksX2_deepest_0 : cX2_deepest.data.toList.drop 0 = dktX2_deepest_0 := by decide +kernel
theorem dksX2_deepest_1 : cX2_deepest.data.toList.drop 24 = dktX2_deepest_1 := dk_seg dksX2_deepest_0 24 rfl rfl
theorem dX2_deepest_0 : decode cX2_deepest 0 = .ok (.iconst 0, 1) := dk_3 (dk_at dksX2_deepest_0 0 rfl rfl)
theorem dX2_deepest_1 : decode cX2_deepest 1 = .ok (.istore_n 1, 1) := dk_60 (dk_at dksX2_deepest_0 1 rfl rfl)
theorem dX2_deepest_2 : decode cX2_deepest 2 = .ok (.iconst 1, 1) := dk_4 (dk_at dksX2_deepest_0 2 rfl rfl)
theorem dX2_deepest_3 : decode cX2_deepest 3 = .ok (.istore_n 2, 1) := dk_61 (dk_at dksX2_deepest_0 3 rfl rfl)
theorem dX2_deepest_4 : decode cX2_deepest 4 = .ok (.iload_n 2, 1) := dk_28 (dk_at dksX2_deepest_0 4 rfl rfl)
theorem dX2_deepest_5 : decode cX2_deepest 5 = .ok (.aload_n 0, 1) := dk_42 (dk_at dksX2_deepest_0 5 rfl rfl)
theorem dX2_deepest_6 : decode cX2_deepest 6 = .ok (.getfield 40, 3) := dk_180 0 40 (dk_at dksX2_deepest_0 6 rfl rfl)
theorem dX2_deepest_9 : decode cX2_deepest 9 = .ok (.arraylength, 1) := dk_190 (dk_at dksX2_deepest_0 9 rfl rfl)
theorem dX2_deepest_10 : decode cX2_deepest 10 = .ok (.if_icmp .ge 30, 3) := dk_162 0 30 (dk_at dksX2_deepest_0 10 rfl rfl)
theorem dX2_deepest_13 : decode cX2_deepest 13 = .ok (.aload_n 0, 1) := dk_42 (dk_at dksX2_deepest_0 13 rfl rfl)
theorem dX2_deepest_14 : decode cX2_deepest 14 = .ok (.getfield 40, 3) := dk_180 0 40 (dk_at dksX2_deepest_0 14 rfl rfl)
theorem dX2_deepest_17 : decode cX2_deepest 17 = .ok (.iload_n 2, 1) := dk_28 (dk_at dksX2_deepest_0 17 rfl rfl)
theorem dX2_deepest_18 : decode cX2_deepest 18 = .ok (.iaload, 1) := dk_46 (dk_at dksX2_deepest_0 18 rfl rfl)
theorem dX2_deepest_19 : decode cX2_deepest 19 = .ok (.aload_n 0, 1) := dk_42 (dk_at dksX2_deepest_0 19 rfl rfl)
theorem dX2_deepest_20 : decode cX2_deepest 20 = .ok (.getfield 40, 3) := dk_180 0 40 (dk_at dksX2_deepest_0 20 rfl rfl)
theorem dX2_deepest_23 : decode cX2_deepest 23 = .ok (.iload_n 1, 1) := dk_27 (dk_at dksX2_deepest_0 23 rfl rfl)
theorem dX2_deepest_24 : decode cX2_deepest 24 = .ok (.iaload, 1) := dk_46 (dk_at dksX2_deepest_1 0 rfl rfl)
theorem dX2_deepest_25 : decode cX2_deepest 25 = .ok (.if_icmp .le 7, 3) := dk_164 0 7 (dk_at dksX2_deepest_1 1 rfl rfl)
theorem dX2_deepest_28 : decode cX2_deepest 28 = .ok (.iload_n 2, 1) := dk_28 (dk_at dksX2_deepest_1 4 rfl rfl)
theorem dX2_deepest_29 : decode cX2_deepest 29 = .ok (.goto 4, 3) := dk_167 0 4 (dk_at dksX2_deepest_1 5 rfl rfl)
theorem dX2_deepest_32 : decode cX2_deepest 32 = .ok (.iload_n 1, 1) := dk_27 (dk_at dksX2_deepest_1 8 rfl rfl)
theorem dX2_deepest_33 : decode cX2_deepest 33 = .ok (.istore_n 1, 1) := dk_60 (dk_at dksX2_deepest_1 9 rfl rfl)
theorem dX2_deepest_34 : decode cX2_deepest 34 = .ok (.iinc 2 1, 3) := dk_132 2 1 (dk_at dksX2_deepest_1 10 rfl rfl)
theorem dX2_deepest_37 : decode cX2_deepest 37 = .ok (.goto (-33), 3) := dk_167 255 223 (dk_at dksX2_deepest_1 13 rfl rfl)
theorem dX2_deepest_40 : decode cX2_deepest 40 = .ok (.iload_n 1, 1) := dk_27 (dk_at dksX2_deepest_1 16 rfl rfl)
theorem dX2_deepest_41 : decode cX2_deepest 41 = .ok (.ireturn, 1) := dk_172 (dk_at dksX2_deepest_1 17 rfl rfl)
abbrev cX2_isOpen : ByteArray := prog_9_method_7_code
def yX2_isOpen : MethodName := ⟨RX2, "isOpen", "()Z"⟩
def dkwX2_isOpen_1 : List UInt8 := [4, 167, 0, 4, 3, 172]
abbrev dktX2_isOpen_1 : List UInt8 := dkwX2_isOpen_1 ++ []
def dkwX2_isOpen_0 : List UInt8 := [42, 180, 0, 17, 3, 50, 180, 0, 87, 153, 0, 19, 42, 180, 0, 17, 4, 50, 180, 0, 87, 153, 0, 7]
abbrev dktX2_isOpen_0 : List UInt8 := dkwX2_isOpen_0 ++ dktX2_isOpen_1
theorem dksX2_isOpen_0 : cX2_isOpen.data.toList.drop 0 = dktX2_isOpen_0 := by decide +kernel
theorem dksX2_isOpen_1 : cX2_isOpen.data.toList.drop 24 = dktX2_isOpen_1 := dk_seg dksX2_isOpen_0 24 rfl rfl
theorem dX2_isOpen_0 : decode cX2_isOpen 0 = .ok (.aload_n 0, 1) := dk_42 (dk_at dksX2_isOpen_0 0 rfl rfl)
theorem dX2_isOpen_1 : decode cX2_isOpen 1 = .ok (.getfield 17, 3) := dk_180 0 17 (dk_at dksX2_isOpen_0 1 rfl rfl)
theorem dX2_isOpen_4 : decode cX2_isOpen 4 = .ok (.iconst 0, 1) := dk_3 (dk_at dksX2_isOpen_0 4 rfl rfl)
theorem dX2_isOpen_5 : decode cX2_isOpen 5 = .ok (.aaload, 1) := dk_50 (dk_at dksX2_isOpen_0 5 rfl rfl)
theorem dX2_isOpen_6 : decode cX2_isOpen 6 = .ok (.getfield 87, 3) := dk_180 0 87 (dk_at dksX2_isOpen_0 6 rfl rfl)
theorem dX2_isOpen_9 : decode cX2_isOpen 9 = .ok (.ifCond .eq 19, 3) := dk_153 0 19 (dk_at dksX2_isOpen_0 9 rfl rfl)
theorem dX2_isOpen_12 : decode cX2_isOpen 12 = .ok (.aload_n 0, 1) := dk_42 (dk_at dksX2_isOpen_0 12 rfl rfl)
theorem dX2_isOpen_13 : decode cX2_isOpen 13 = .ok (.getfield 17, 3) := dk_180 0 17 (dk_at dksX2_isOpen_0 13 rfl rfl)
theorem dX2_isOpen_16 : decode cX2_isOpen 16 = .ok (.iconst 1, 1) := dk_4 (dk_at dksX2_isOpen_0 16 rfl rfl)
theorem dX2_isOpen_17 : decode cX2_isOpen 17 = .ok (.aaload, 1) := dk_50 (dk_at dksX2_isOpen_0 17 rfl rfl)
theorem dX2_isOpen_18 : decode cX2_isOpen 18 = .ok (.getfield 87, 3) := dk_180 0 87 (dk_at dksX2_isOpen_0 18 rfl rfl)
theorem dX2_isOpen_21 : decode cX2_isOpen 21 = .ok (.ifCond .eq 7, 3) := dk_153 0 7 (dk_at dksX2_isOpen_0 21 rfl rfl)
theorem dX2_isOpen_24 : decode cX2_isOpen 24 = .ok (.iconst 1, 1) := dk_4 (dk_at dksX2_isOpen_1 0 rfl rfl)
theorem dX2_isOpen_25 : decode cX2_isOpen 25 = .ok (.goto 4, 3) := dk_167 0 4 (dk_at dksX2_isOpen_1 1 rfl rfl)
theorem dX2_isOpen_28 : decode cX2_isOpen 28 = .ok (.iconst 0, 1) := dk_3 (dk_at dksX2_isOpen_1 4 rfl rfl)
theorem dX2_isOpen_29 : decode cX2_isOpen 29 = .ok (.ireturn, 1) := dk_172 (dk_at dksX2_isOpen_1 5 rfl rfl)
abbrev cX2_copy : ByteArray := prog_9_method_3_code
def yX2_copy : MethodName := ⟨RX2, "copy", "()LSnowPass$Road;"⟩
def dkwX2_copy_5 : List UInt8 := [181, 0, 81, 43, 42, 180, 0, 84, 181, 0, 84, 43, 176]
abbrev dktX2_copy_5 : List UInt8 := dkwX2_copy_5 ++ []
def dkwX2_copy_4 : List UInt8 := [181, 0, 72, 43, 42, 180, 0, 75, 181, 0, 75, 43, 42, 180, 0, 78, 181, 0, 78, 43, 42, 180, 0, 81]
abbrev dktX2_copy_4 : List UInt8 := dkwX2_copy_4 ++ dktX2_copy_5
def dkwX2_copy_3 : List UInt8 := [76, 43, 42, 180, 0, 66, 181, 0, 66, 43, 42, 180, 0, 69, 181, 0, 69, 43, 42, 180, 0, 72]
abbrev dktX2_copy_3 : List UInt8 := dkwX2_copy_3 ++ dktX2_copy_4
def dkwX2_copy_2 : List UInt8 := [3, 50, 182, 0, 59, 42, 180, 0, 17, 4, 50, 182, 0, 59, 42, 180, 0, 50, 182, 0, 63, 183, 0, 12]
abbrev dktX2_copy_2 : List UInt8 := dkwX2_copy_2 ++ dktX2_copy_3
def dkwX2_copy_1 : List UInt8 := [182, 0, 54, 192, 0, 55, 42, 180, 0, 44, 42, 180, 0, 47, 182, 0, 54, 192, 0, 55, 42, 180, 0, 17]
abbrev dktX2_copy_1 : List UInt8 := dkwX2_copy_1 ++ dktX2_copy_2
def dkwX2_copy_0 : List UInt8 := [187, 0, 13, 89, 42, 180, 0, 28, 42, 180, 0, 31, 42, 180, 0, 34, 42, 180, 0, 37, 42, 180, 0, 40]
abbrev dktX2_copy_0 : List UInt8 := dkwX2_copy_0 ++ dktX2_copy_1
theorem dksX2_copy_0 : cX2_copy.data.toList.drop 0 = dktX2_copy_0 := by decide +kernel
theorem dksX2_copy_1 : cX2_copy.data.toList.drop 24 = dktX2_copy_1 := dk_seg dksX2_copy_0 24 rfl rfl
theorem dksX2_copy_2 : cX2_copy.data.toList.drop 48 = dktX2_copy_2 := dk_seg dksX2_copy_1 24 rfl rfl
theorem dksX2_copy_3 : cX2_copy.data.toList.drop 72 = dktX2_copy_3 := dk_seg dksX2_copy_2 24 rfl rfl
theorem dksX2_copy_4 : cX2_copy.data.toList.drop 94 = dktX2_copy_4 := dk_seg dksX2_copy_3 22 rfl rfl
theorem dksX2_copy_5 : cX2_copy.data.toList.drop 118 = dktX2_copy_5 := dk_seg dksX2_copy_4 24 rfl rfl
theorem dX2_copy_0 : decode cX2_copy 0 = .ok (.new 13, 3) := dk_187 0 13 (dk_at dksX2_copy_0 0 rfl rfl)
theorem dX2_copy_3 : decode cX2_copy 3 = .ok (.dup, 1) := dk_89 (dk_at dksX2_copy_0 3 rfl rfl)
theorem dX2_copy_4 : decode cX2_copy 4 = .ok (.aload_n 0, 1) := dk_42 (dk_at dksX2_copy_0 4 rfl rfl)
theorem dX2_copy_5 : decode cX2_copy 5 = .ok (.getfield 28, 3) := dk_180 0 28 (dk_at dksX2_copy_0 5 rfl rfl)
theorem dX2_copy_8 : decode cX2_copy 8 = .ok (.aload_n 0, 1) := dk_42 (dk_at dksX2_copy_0 8 rfl rfl)
theorem dX2_copy_9 : decode cX2_copy 9 = .ok (.getfield 31, 3) := dk_180 0 31 (dk_at dksX2_copy_0 9 rfl rfl)
theorem dX2_copy_12 : decode cX2_copy 12 = .ok (.aload_n 0, 1) := dk_42 (dk_at dksX2_copy_0 12 rfl rfl)
theorem dX2_copy_13 : decode cX2_copy 13 = .ok (.getfield 34, 3) := dk_180 0 34 (dk_at dksX2_copy_0 13 rfl rfl)
theorem dX2_copy_16 : decode cX2_copy 16 = .ok (.aload_n 0, 1) := dk_42 (dk_at dksX2_copy_0 16 rfl rfl)
theorem dX2_copy_17 : decode cX2_copy 17 = .ok (.getfield 37, 3) := dk_180 0 37 (dk_at dksX2_copy_0 17 rfl rfl)
theorem dX2_copy_20 : decode cX2_copy 20 = .ok (.aload_n 0, 1) := dk_42 (dk_at dksX2_copy_0 20 rfl rfl)
theorem dX2_copy_21 : decode cX2_copy 21 = .ok (.getfield 40, 3) := dk_180 0 40 (dk_at dksX2_copy_0 21 rfl rfl)
theorem dX2_copy_24 : decode cX2_copy 24 = .ok (.invokevirtual 54, 3) := dk_182 0 54 (dk_at dksX2_copy_1 0 rfl rfl)
theorem dX2_copy_27 : decode cX2_copy 27 = .ok (.checkcast 55, 3) := dk_192 0 55 (dk_at dksX2_copy_1 3 rfl rfl)
theorem dX2_copy_30 : decode cX2_copy 30 = .ok (.aload_n 0, 1) := dk_42 (dk_at dksX2_copy_1 6 rfl rfl)
theorem dX2_copy_31 : decode cX2_copy 31 = .ok (.getfield 44, 3) := dk_180 0 44 (dk_at dksX2_copy_1 7 rfl rfl)
theorem dX2_copy_34 : decode cX2_copy 34 = .ok (.aload_n 0, 1) := dk_42 (dk_at dksX2_copy_1 10 rfl rfl)
theorem dX2_copy_35 : decode cX2_copy 35 = .ok (.getfield 47, 3) := dk_180 0 47 (dk_at dksX2_copy_1 11 rfl rfl)
theorem dX2_copy_38 : decode cX2_copy 38 = .ok (.invokevirtual 54, 3) := dk_182 0 54 (dk_at dksX2_copy_1 14 rfl rfl)
theorem dX2_copy_41 : decode cX2_copy 41 = .ok (.checkcast 55, 3) := dk_192 0 55 (dk_at dksX2_copy_1 17 rfl rfl)
theorem dX2_copy_44 : decode cX2_copy 44 = .ok (.aload_n 0, 1) := dk_42 (dk_at dksX2_copy_1 20 rfl rfl)
theorem dX2_copy_45 : decode cX2_copy 45 = .ok (.getfield 17, 3) := dk_180 0 17 (dk_at dksX2_copy_1 21 rfl rfl)
theorem dX2_copy_48 : decode cX2_copy 48 = .ok (.iconst 0, 1) := dk_3 (dk_at dksX2_copy_2 0 rfl rfl)
theorem dX2_copy_49 : decode cX2_copy 49 = .ok (.aaload, 1) := dk_50 (dk_at dksX2_copy_2 1 rfl rfl)
theorem dX2_copy_50 : decode cX2_copy 50 = .ok (.invokevirtual 59, 3) := dk_182 0 59 (dk_at dksX2_copy_2 2 rfl rfl)
theorem dX2_copy_53 : decode cX2_copy 53 = .ok (.aload_n 0, 1) := dk_42 (dk_at dksX2_copy_2 5 rfl rfl)
theorem dX2_copy_54 : decode cX2_copy 54 = .ok (.getfield 17, 3) := dk_180 0 17 (dk_at dksX2_copy_2 6 rfl rfl)
theorem dX2_copy_57 : decode cX2_copy 57 = .ok (.iconst 1, 1) := dk_4 (dk_at dksX2_copy_2 9 rfl rfl)
theorem dX2_copy_58 : decode cX2_copy 58 = .ok (.aaload, 1) := dk_50 (dk_at dksX2_copy_2 10 rfl rfl)
theorem dX2_copy_59 : decode cX2_copy 59 = .ok (.invokevirtual 59, 3) := dk_182 0 59 (dk_at dksX2_copy_2 11 rfl rfl)
theorem dX2_copy_62 : decode cX2_copy 62 = .ok (.aload_n 0, 1) := dk_42 (dk_at dksX2_copy_2 14 rfl rfl)
theorem dX2_copy_63 : decode cX2_copy 63 = .ok (.getfield 50, 3) := dk_180 0 50 (dk_at dksX2_copy_2 15 rfl rfl)
theorem dX2_copy_66 : decode cX2_copy 66 = .ok (.invokevirtual 63, 3) := dk_182 0 63 (dk_at dksX2_copy_2 18 rfl rfl)
theorem dX2_copy_69 : decode cX2_copy 69 = .ok (.invokespecial 12, 3) := dk_183 0 12 (dk_at dksX2_copy_2 21 rfl rfl)
theorem dX2_copy_72 : decode cX2_copy 72 = .ok (.astore_n 1, 1) := dk_76 (dk_at dksX2_copy_3 0 rfl rfl)
theorem dX2_copy_73 : decode cX2_copy 73 = .ok (.aload_n 1, 1) := dk_43 (dk_at dksX2_copy_3 1 rfl rfl)
theorem dX2_copy_74 : decode cX2_copy 74 = .ok (.aload_n 0, 1) := dk_42 (dk_at dksX2_copy_3 2 rfl rfl)
theorem dX2_copy_75 : decode cX2_copy 75 = .ok (.getfield 66, 3) := dk_180 0 66 (dk_at dksX2_copy_3 3 rfl rfl)
theorem dX2_copy_78 : decode cX2_copy 78 = .ok (.putfield 66, 3) := dk_181 0 66 (dk_at dksX2_copy_3 6 rfl rfl)
theorem dX2_copy_81 : decode cX2_copy 81 = .ok (.aload_n 1, 1) := dk_43 (dk_at dksX2_copy_3 9 rfl rfl)
theorem dX2_copy_82 : decode cX2_copy 82 = .ok (.aload_n 0, 1) := dk_42 (dk_at dksX2_copy_3 10 rfl rfl)
theorem dX2_copy_83 : decode cX2_copy 83 = .ok (.getfield 69, 3) := dk_180 0 69 (dk_at dksX2_copy_3 11 rfl rfl)
theorem dX2_copy_86 : decode cX2_copy 86 = .ok (.putfield 69, 3) := dk_181 0 69 (dk_at dksX2_copy_3 14 rfl rfl)
theorem dX2_copy_89 : decode cX2_copy 89 = .ok (.aload_n 1, 1) := dk_43 (dk_at dksX2_copy_3 17 rfl rfl)
theorem dX2_copy_90 : decode cX2_copy 90 = .ok (.aload_n 0, 1) := dk_42 (dk_at dksX2_copy_3 18 rfl rfl)
theorem dX2_copy_91 : decode cX2_copy 91 = .ok (.getfield 72, 3) := dk_180 0 72 (dk_at dksX2_copy_3 19 rfl rfl)
theorem dX2_copy_94 : decode cX2_copy 94 = .ok (.putfield 72, 3) := dk_181 0 72 (dk_at dksX2_copy_4 0 rfl rfl)
theorem dX2_copy_97 : decode cX2_copy 97 = .ok (.aload_n 1, 1) := dk_43 (dk_at dksX2_copy_4 3 rfl rfl)
theorem dX2_copy_98 : decode cX2_copy 98 = .ok (.aload_n 0, 1) := dk_42 (dk_at dksX2_copy_4 4 rfl rfl)
theorem dX2_copy_99 : decode cX2_copy 99 = .ok (.getfield 75, 3) := dk_180 0 75 (dk_at dksX2_copy_4 5 rfl rfl)
theorem dX2_copy_102 : decode cX2_copy 102 = .ok (.putfield 75, 3) := dk_181 0 75 (dk_at dksX2_copy_4 8 rfl rfl)
theorem dX2_copy_105 : decode cX2_copy 105 = .ok (.aload_n 1, 1) := dk_43 (dk_at dksX2_copy_4 11 rfl rfl)
theorem dX2_copy_106 : decode cX2_copy 106 = .ok (.aload_n 0, 1) := dk_42 (dk_at dksX2_copy_4 12 rfl rfl)
theorem dX2_copy_107 : decode cX2_copy 107 = .ok (.getfield 78, 3) := dk_180 0 78 (dk_at dksX2_copy_4 13 rfl rfl)
theorem dX2_copy_110 : decode cX2_copy 110 = .ok (.putfield 78, 3) := dk_181 0 78 (dk_at dksX2_copy_4 16 rfl rfl)
theorem dX2_copy_113 : decode cX2_copy 113 = .ok (.aload_n 1, 1) := dk_43 (dk_at dksX2_copy_4 19 rfl rfl)
theorem dX2_copy_114 : decode cX2_copy 114 = .ok (.aload_n 0, 1) := dk_42 (dk_at dksX2_copy_4 20 rfl rfl)
theorem dX2_copy_115 : decode cX2_copy 115 = .ok (.getfield 81, 3) := dk_180 0 81 (dk_at dksX2_copy_4 21 rfl rfl)
theorem dX2_copy_118 : decode cX2_copy 118 = .ok (.putfield 81, 3) := dk_181 0 81 (dk_at dksX2_copy_5 0 rfl rfl)
theorem dX2_copy_121 : decode cX2_copy 121 = .ok (.aload_n 1, 1) := dk_43 (dk_at dksX2_copy_5 3 rfl rfl)
theorem dX2_copy_122 : decode cX2_copy 122 = .ok (.aload_n 0, 1) := dk_42 (dk_at dksX2_copy_5 4 rfl rfl)
theorem dX2_copy_123 : decode cX2_copy 123 = .ok (.getfield 84, 3) := dk_180 0 84 (dk_at dksX2_copy_5 5 rfl rfl)
theorem dX2_copy_126 : decode cX2_copy 126 = .ok (.putfield 84, 3) := dk_181 0 84 (dk_at dksX2_copy_5 8 rfl rfl)
theorem dX2_copy_129 : decode cX2_copy 129 = .ok (.aload_n 1, 1) := dk_43 (dk_at dksX2_copy_5 11 rfl rfl)
theorem dX2_copy_130 : decode cX2_copy 130 = .ok (.areturn, 1) := dk_176 (dk_at dksX2_copy_5 12 rfl rfl)
abbrev cX2_after : ByteArray := prog_9_method_19_code
def yX2_after : MethodName := ⟨RX2, "after", "(I)LSnowPass$Road;"⟩
def dkwX2_after_1 : List UInt8 := [167, 255, 234, 42, 176]
abbrev dktX2_after_1 : List UInt8 := dkwX2_after_1 ++ []
def dkwX2_after_0 : List UInt8 := [3, 61, 28, 27, 162, 0, 23, 42, 182, 0, 149, 42, 89, 180, 0, 72, 4, 96, 181, 0, 72, 132, 2, 1]
abbrev dktX2_after_0 : List UInt8 := dkwX2_after_0 ++ dktX2_after_1
theorem dksX2_after_0 : cX2_after.data.toList.drop 0 = dktX2_after_0 := by decide +kernel
theorem dksX2_after_1 : cX2_after.data.toList.drop 24 = dktX2_after_1 := dk_seg dksX2_after_0 24 rfl rfl
theorem dX2_after_0 : decode cX2_after 0 = .ok (.iconst 0, 1) := dk_3 (dk_at dksX2_after_0 0 rfl rfl)
theorem dX2_after_1 : decode cX2_after 1 = .ok (.istore_n 2, 1) := dk_61 (dk_at dksX2_after_0 1 rfl rfl)
theorem dX2_after_2 : decode cX2_after 2 = .ok (.iload_n 2, 1) := dk_28 (dk_at dksX2_after_0 2 rfl rfl)
theorem dX2_after_3 : decode cX2_after 3 = .ok (.iload_n 1, 1) := dk_27 (dk_at dksX2_after_0 3 rfl rfl)
theorem dX2_after_4 : decode cX2_after 4 = .ok (.if_icmp .ge 23, 3) := dk_162 0 23 (dk_at dksX2_after_0 4 rfl rfl)
theorem dX2_after_7 : decode cX2_after 7 = .ok (.aload_n 0, 1) := dk_42 (dk_at dksX2_after_0 7 rfl rfl)
theorem dX2_after_8 : decode cX2_after 8 = .ok (.invokevirtual 149, 3) := dk_182 0 149 (dk_at dksX2_after_0 8 rfl rfl)
theorem dX2_after_11 : decode cX2_after 11 = .ok (.aload_n 0, 1) := dk_42 (dk_at dksX2_after_0 11 rfl rfl)
theorem dX2_after_12 : decode cX2_after 12 = .ok (.dup, 1) := dk_89 (dk_at dksX2_after_0 12 rfl rfl)
theorem dX2_after_13 : decode cX2_after 13 = .ok (.getfield 72, 3) := dk_180 0 72 (dk_at dksX2_after_0 13 rfl rfl)
theorem dX2_after_16 : decode cX2_after 16 = .ok (.iconst 1, 1) := dk_4 (dk_at dksX2_after_0 16 rfl rfl)
theorem dX2_after_17 : decode cX2_after 17 = .ok (.iadd, 1) := dk_96 (dk_at dksX2_after_0 17 rfl rfl)
theorem dX2_after_18 : decode cX2_after 18 = .ok (.putfield 72, 3) := dk_181 0 72 (dk_at dksX2_after_0 18 rfl rfl)
theorem dX2_after_21 : decode cX2_after 21 = .ok (.iinc 2 1, 3) := dk_132 2 1 (dk_at dksX2_after_0 21 rfl rfl)
theorem dX2_after_24 : decode cX2_after 24 = .ok (.goto (-22), 3) := dk_167 255 234 (dk_at dksX2_after_1 0 rfl rfl)
theorem dX2_after_27 : decode cX2_after 27 = .ok (.aload_n 0, 1) := dk_42 (dk_at dksX2_after_1 3 rfl rfl)
theorem dX2_after_28 : decode cX2_after 28 = .ok (.areturn, 1) := dk_176 (dk_at dksX2_after_1 4 rfl rfl)
abbrev cX2_workHour : ByteArray := prog_9_method_18_code
def yX2_workHour : MethodName := ⟨RX2, "workHour", "()V"⟩
def dkwX2_workHour_2 : List UInt8 := [182, 0, 143, 3, 60, 27, 5, 162, 0, 14, 42, 27, 182, 0, 146, 132, 1, 1, 167, 255, 243, 177]
abbrev dktX2_workHour_2 : List UInt8 := dkwX2_workHour_2 ++ []
def dkwX2_workHour_1 : List UInt8 := [182, 0, 128, 153, 0, 23, 42, 180, 0, 40, 42, 182, 0, 140, 46, 42, 180, 0, 34, 164, 0, 7, 42]
abbrev dktX2_workHour_1 : List UInt8 := dkwX2_workHour_1 ++ dktX2_workHour_2
def dkwX2_workHour_0 : List UInt8 := [3, 60, 27, 42, 180, 0, 40, 190, 162, 0, 14, 42, 27, 182, 0, 137, 132, 1, 1, 167, 255, 239, 42]
abbrev dktX2_workHour_0 : List UInt8 := dkwX2_workHour_0 ++ dktX2_workHour_1
theorem dksX2_workHour_0 : cX2_workHour.data.toList.drop 0 = dktX2_workHour_0 := by decide +kernel
theorem dksX2_workHour_1 : cX2_workHour.data.toList.drop 23 = dktX2_workHour_1 := dk_seg dksX2_workHour_0 23 rfl rfl
theorem dksX2_workHour_2 : cX2_workHour.data.toList.drop 46 = dktX2_workHour_2 := dk_seg dksX2_workHour_1 23 rfl rfl
theorem dX2_workHour_0 : decode cX2_workHour 0 = .ok (.iconst 0, 1) := dk_3 (dk_at dksX2_workHour_0 0 rfl rfl)
theorem dX2_workHour_1 : decode cX2_workHour 1 = .ok (.istore_n 1, 1) := dk_60 (dk_at dksX2_workHour_0 1 rfl rfl)
theorem dX2_workHour_2 : decode cX2_workHour 2 = .ok (.iload_n 1, 1) := dk_27 (dk_at dksX2_workHour_0 2 rfl rfl)
theorem dX2_workHour_3 : decode cX2_workHour 3 = .ok (.aload_n 0, 1) := dk_42 (dk_at dksX2_workHour_0 3 rfl rfl)
theorem dX2_workHour_4 : decode cX2_workHour 4 = .ok (.getfield 40, 3) := dk_180 0 40 (dk_at dksX2_workHour_0 4 rfl rfl)
theorem dX2_workHour_7 : decode cX2_workHour 7 = .ok (.arraylength, 1) := dk_190 (dk_at dksX2_workHour_0 7 rfl rfl)
theorem dX2_workHour_8 : decode cX2_workHour 8 = .ok (.if_icmp .ge 14, 3) := dk_162 0 14 (dk_at dksX2_workHour_0 8 rfl rfl)
theorem dX2_workHour_11 : decode cX2_workHour 11 = .ok (.aload_n 0, 1) := dk_42 (dk_at dksX2_workHour_0 11 rfl rfl)
theorem dX2_workHour_12 : decode cX2_workHour 12 = .ok (.iload_n 1, 1) := dk_27 (dk_at dksX2_workHour_0 12 rfl rfl)
theorem dX2_workHour_13 : decode cX2_workHour 13 = .ok (.invokevirtual 137, 3) := dk_182 0 137 (dk_at dksX2_workHour_0 13 rfl rfl)
theorem dX2_workHour_16 : decode cX2_workHour 16 = .ok (.iinc 1 1, 3) := dk_132 1 1 (dk_at dksX2_workHour_0 16 rfl rfl)
theorem dX2_workHour_19 : decode cX2_workHour 19 = .ok (.goto (-17), 3) := dk_167 255 239 (dk_at dksX2_workHour_0 19 rfl rfl)
theorem dX2_workHour_22 : decode cX2_workHour 22 = .ok (.aload_n 0, 1) := dk_42 (dk_at dksX2_workHour_0 22 rfl rfl)
theorem dX2_workHour_23 : decode cX2_workHour 23 = .ok (.invokevirtual 128, 3) := dk_182 0 128 (dk_at dksX2_workHour_1 0 rfl rfl)
theorem dX2_workHour_26 : decode cX2_workHour 26 = .ok (.ifCond .eq 23, 3) := dk_153 0 23 (dk_at dksX2_workHour_1 3 rfl rfl)
theorem dX2_workHour_29 : decode cX2_workHour 29 = .ok (.aload_n 0, 1) := dk_42 (dk_at dksX2_workHour_1 6 rfl rfl)
theorem dX2_workHour_30 : decode cX2_workHour 30 = .ok (.getfield 40, 3) := dk_180 0 40 (dk_at dksX2_workHour_1 7 rfl rfl)
theorem dX2_workHour_33 : decode cX2_workHour 33 = .ok (.aload_n 0, 1) := dk_42 (dk_at dksX2_workHour_1 10 rfl rfl)
theorem dX2_workHour_34 : decode cX2_workHour 34 = .ok (.invokevirtual 140, 3) := dk_182 0 140 (dk_at dksX2_workHour_1 11 rfl rfl)
theorem dX2_workHour_37 : decode cX2_workHour 37 = .ok (.iaload, 1) := dk_46 (dk_at dksX2_workHour_1 14 rfl rfl)
theorem dX2_workHour_38 : decode cX2_workHour 38 = .ok (.aload_n 0, 1) := dk_42 (dk_at dksX2_workHour_1 15 rfl rfl)
theorem dX2_workHour_39 : decode cX2_workHour 39 = .ok (.getfield 34, 3) := dk_180 0 34 (dk_at dksX2_workHour_1 16 rfl rfl)
theorem dX2_workHour_42 : decode cX2_workHour 42 = .ok (.if_icmp .le 7, 3) := dk_164 0 7 (dk_at dksX2_workHour_1 19 rfl rfl)
theorem dX2_workHour_45 : decode cX2_workHour 45 = .ok (.aload_n 0, 1) := dk_42 (dk_at dksX2_workHour_1 22 rfl rfl)
theorem dX2_workHour_46 : decode cX2_workHour 46 = .ok (.invokevirtual 143, 3) := dk_182 0 143 (dk_at dksX2_workHour_2 0 rfl rfl)
theorem dX2_workHour_49 : decode cX2_workHour 49 = .ok (.iconst 0, 1) := dk_3 (dk_at dksX2_workHour_2 3 rfl rfl)
theorem dX2_workHour_50 : decode cX2_workHour 50 = .ok (.istore_n 1, 1) := dk_60 (dk_at dksX2_workHour_2 4 rfl rfl)
theorem dX2_workHour_51 : decode cX2_workHour 51 = .ok (.iload_n 1, 1) := dk_27 (dk_at dksX2_workHour_2 5 rfl rfl)
theorem dX2_workHour_52 : decode cX2_workHour 52 = .ok (.iconst 2, 1) := dk_5 (dk_at dksX2_workHour_2 6 rfl rfl)
theorem dX2_workHour_53 : decode cX2_workHour 53 = .ok (.if_icmp .ge 14, 3) := dk_162 0 14 (dk_at dksX2_workHour_2 7 rfl rfl)
theorem dX2_workHour_56 : decode cX2_workHour 56 = .ok (.aload_n 0, 1) := dk_42 (dk_at dksX2_workHour_2 10 rfl rfl)
theorem dX2_workHour_57 : decode cX2_workHour 57 = .ok (.iload_n 1, 1) := dk_27 (dk_at dksX2_workHour_2 11 rfl rfl)
theorem dX2_workHour_58 : decode cX2_workHour 58 = .ok (.invokevirtual 146, 3) := dk_182 0 146 (dk_at dksX2_workHour_2 12 rfl rfl)
theorem dX2_workHour_61 : decode cX2_workHour 61 = .ok (.iinc 1 1, 3) := dk_132 1 1 (dk_at dksX2_workHour_2 15 rfl rfl)
theorem dX2_workHour_64 : decode cX2_workHour 64 = .ok (.goto (-13), 3) := dk_167 255 243 (dk_at dksX2_workHour_2 18 rfl rfl)
theorem dX2_workHour_67 : decode cX2_workHour 67 = .ok (.return_, 1) := dk_177 (dk_at dksX2_workHour_2 21 rfl rfl)
abbrev cX2_snow : ByteArray := prog_9_method_14_code
def yX2_snow : MethodName := ⟨RX2, "snow", "(I)V"⟩
def dkwX2_snow_4 : List UInt8 := [180, 0, 75, 28, 42, 180, 0, 40, 27, 46, 100, 96, 181, 0, 75, 42, 180, 0, 40, 27, 28, 79, 177]
abbrev dktX2_snow_4 : List UInt8 := dkwX2_snow_4 ++ []
def dkwX2_snow_3 : List UInt8 := [42, 180, 0, 69, 42, 180, 0, 44, 27, 46, 104, 167, 0, 4, 3, 96, 184, 0, 108, 61, 42, 89]
abbrev dktX2_snow_3 : List UInt8 := dkwX2_snow_3 ++ dktX2_snow_4
def dkwX2_snow_2 : List UInt8 := [100, 79, 177, 17, 3, 231, 42, 180, 0, 40, 27, 46, 42, 180, 0, 66, 96, 42, 182, 0, 114, 153, 0, 17]
abbrev dktX2_snow_2 : List UInt8 := dkwX2_snow_2 ++ dktX2_snow_3
def dkwX2_snow_1 : List UInt8 := [27, 92, 46, 28, 100, 79, 42, 89, 180, 0, 81, 28, 96, 181, 0, 81, 42, 180, 0, 47, 27, 92, 46, 4]
abbrev dktX2_snow_1 : List UInt8 := dkwX2_snow_1 ++ dktX2_snow_2
def dkwX2_snow_0 : List UInt8 := [42, 180, 0, 47, 27, 46, 158, 0, 45, 5, 42, 180, 0, 40, 27, 46, 184, 0, 108, 61, 42, 180, 0, 40]
abbrev dktX2_snow_0 : List UInt8 := dkwX2_snow_0 ++ dktX2_snow_1
theorem dksX2_snow_0 : cX2_snow.data.toList.drop 0 = dktX2_snow_0 := by decide +kernel
theorem dksX2_snow_1 : cX2_snow.data.toList.drop 24 = dktX2_snow_1 := dk_seg dksX2_snow_0 24 rfl rfl
theorem dksX2_snow_2 : cX2_snow.data.toList.drop 48 = dktX2_snow_2 := dk_seg dksX2_snow_1 24 rfl rfl
theorem dksX2_snow_3 : cX2_snow.data.toList.drop 72 = dktX2_snow_3 := dk_seg dksX2_snow_2 24 rfl rfl
theorem dksX2_snow_4 : cX2_snow.data.toList.drop 94 = dktX2_snow_4 := dk_seg dksX2_snow_3 22 rfl rfl
theorem dX2_snow_0 : decode cX2_snow 0 = .ok (.aload_n 0, 1) := dk_42 (dk_at dksX2_snow_0 0 rfl rfl)
theorem dX2_snow_1 : decode cX2_snow 1 = .ok (.getfield 47, 3) := dk_180 0 47 (dk_at dksX2_snow_0 1 rfl rfl)
theorem dX2_snow_4 : decode cX2_snow 4 = .ok (.iload_n 1, 1) := dk_27 (dk_at dksX2_snow_0 4 rfl rfl)
theorem dX2_snow_5 : decode cX2_snow 5 = .ok (.iaload, 1) := dk_46 (dk_at dksX2_snow_0 5 rfl rfl)
theorem dX2_snow_6 : decode cX2_snow 6 = .ok (.ifCond .le 45, 3) := dk_158 0 45 (dk_at dksX2_snow_0 6 rfl rfl)
theorem dX2_snow_9 : decode cX2_snow 9 = .ok (.iconst 2, 1) := dk_5 (dk_at dksX2_snow_0 9 rfl rfl)
theorem dX2_snow_10 : decode cX2_snow 10 = .ok (.aload_n 0, 1) := dk_42 (dk_at dksX2_snow_0 10 rfl rfl)
theorem dX2_snow_11 : decode cX2_snow 11 = .ok (.getfield 40, 3) := dk_180 0 40 (dk_at dksX2_snow_0 11 rfl rfl)
theorem dX2_snow_14 : decode cX2_snow 14 = .ok (.iload_n 1, 1) := dk_27 (dk_at dksX2_snow_0 14 rfl rfl)
theorem dX2_snow_15 : decode cX2_snow 15 = .ok (.iaload, 1) := dk_46 (dk_at dksX2_snow_0 15 rfl rfl)
theorem dX2_snow_16 : decode cX2_snow 16 = .ok (.invokestatic 108, 3) := dk_184 0 108 (dk_at dksX2_snow_0 16 rfl rfl)
theorem dX2_snow_19 : decode cX2_snow 19 = .ok (.istore_n 2, 1) := dk_61 (dk_at dksX2_snow_0 19 rfl rfl)
theorem dX2_snow_20 : decode cX2_snow 20 = .ok (.aload_n 0, 1) := dk_42 (dk_at dksX2_snow_0 20 rfl rfl)
theorem dX2_snow_21 : decode cX2_snow 21 = .ok (.getfield 40, 3) := dk_180 0 40 (dk_at dksX2_snow_0 21 rfl rfl)
theorem dX2_snow_24 : decode cX2_snow 24 = .ok (.iload_n 1, 1) := dk_27 (dk_at dksX2_snow_1 0 rfl rfl)
theorem dX2_snow_25 : decode cX2_snow 25 = .ok (.dup2, 1) := dk_92 (dk_at dksX2_snow_1 1 rfl rfl)
theorem dX2_snow_26 : decode cX2_snow 26 = .ok (.iaload, 1) := dk_46 (dk_at dksX2_snow_1 2 rfl rfl)
theorem dX2_snow_27 : decode cX2_snow 27 = .ok (.iload_n 2, 1) := dk_28 (dk_at dksX2_snow_1 3 rfl rfl)
theorem dX2_snow_28 : decode cX2_snow 28 = .ok (.isub, 1) := dk_100 (dk_at dksX2_snow_1 4 rfl rfl)
theorem dX2_snow_29 : decode cX2_snow 29 = .ok (.iastore, 1) := dk_79 (dk_at dksX2_snow_1 5 rfl rfl)
theorem dX2_snow_30 : decode cX2_snow 30 = .ok (.aload_n 0, 1) := dk_42 (dk_at dksX2_snow_1 6 rfl rfl)
theorem dX2_snow_31 : decode cX2_snow 31 = .ok (.dup, 1) := dk_89 (dk_at dksX2_snow_1 7 rfl rfl)
theorem dX2_snow_32 : decode cX2_snow 32 = .ok (.getfield 81, 3) := dk_180 0 81 (dk_at dksX2_snow_1 8 rfl rfl)
theorem dX2_snow_35 : decode cX2_snow 35 = .ok (.iload_n 2, 1) := dk_28 (dk_at dksX2_snow_1 11 rfl rfl)
theorem dX2_snow_36 : decode cX2_snow 36 = .ok (.iadd, 1) := dk_96 (dk_at dksX2_snow_1 12 rfl rfl)
theorem dX2_snow_37 : decode cX2_snow 37 = .ok (.putfield 81, 3) := dk_181 0 81 (dk_at dksX2_snow_1 13 rfl rfl)
theorem dX2_snow_40 : decode cX2_snow 40 = .ok (.aload_n 0, 1) := dk_42 (dk_at dksX2_snow_1 16 rfl rfl)
theorem dX2_snow_41 : decode cX2_snow 41 = .ok (.getfield 47, 3) := dk_180 0 47 (dk_at dksX2_snow_1 17 rfl rfl)
theorem dX2_snow_44 : decode cX2_snow 44 = .ok (.iload_n 1, 1) := dk_27 (dk_at dksX2_snow_1 20 rfl rfl)
theorem dX2_snow_45 : decode cX2_snow 45 = .ok (.dup2, 1) := dk_92 (dk_at dksX2_snow_1 21 rfl rfl)
theorem dX2_snow_46 : decode cX2_snow 46 = .ok (.iaload, 1) := dk_46 (dk_at dksX2_snow_1 22 rfl rfl)
theorem dX2_snow_47 : decode cX2_snow 47 = .ok (.iconst 1, 1) := dk_4 (dk_at dksX2_snow_1 23 rfl rfl)
theorem dX2_snow_48 : decode cX2_snow 48 = .ok (.isub, 1) := dk_100 (dk_at dksX2_snow_2 0 rfl rfl)
theorem dX2_snow_49 : decode cX2_snow 49 = .ok (.iastore, 1) := dk_79 (dk_at dksX2_snow_2 1 rfl rfl)
theorem dX2_snow_50 : decode cX2_snow 50 = .ok (.return_, 1) := dk_177 (dk_at dksX2_snow_2 2 rfl rfl)
theorem dX2_snow_51 : decode cX2_snow 51 = .ok (.sipush 999, 3) := dk_17 3 231 (dk_at dksX2_snow_2 3 rfl rfl)
theorem dX2_snow_54 : decode cX2_snow 54 = .ok (.aload_n 0, 1) := dk_42 (dk_at dksX2_snow_2 6 rfl rfl)
theorem dX2_snow_55 : decode cX2_snow 55 = .ok (.getfield 40, 3) := dk_180 0 40 (dk_at dksX2_snow_2 7 rfl rfl)
theorem dX2_snow_58 : decode cX2_snow 58 = .ok (.iload_n 1, 1) := dk_27 (dk_at dksX2_snow_2 10 rfl rfl)
theorem dX2_snow_59 : decode cX2_snow 59 = .ok (.iaload, 1) := dk_46 (dk_at dksX2_snow_2 11 rfl rfl)
theorem dX2_snow_60 : decode cX2_snow 60 = .ok (.aload_n 0, 1) := dk_42 (dk_at dksX2_snow_2 12 rfl rfl)
theorem dX2_snow_61 : decode cX2_snow 61 = .ok (.getfield 66, 3) := dk_180 0 66 (dk_at dksX2_snow_2 13 rfl rfl)
theorem dX2_snow_64 : decode cX2_snow 64 = .ok (.iadd, 1) := dk_96 (dk_at dksX2_snow_2 16 rfl rfl)
theorem dX2_snow_65 : decode cX2_snow 65 = .ok (.aload_n 0, 1) := dk_42 (dk_at dksX2_snow_2 17 rfl rfl)
theorem dX2_snow_66 : decode cX2_snow 66 = .ok (.invokevirtual 114, 3) := dk_182 0 114 (dk_at dksX2_snow_2 18 rfl rfl)
theorem dX2_snow_69 : decode cX2_snow 69 = .ok (.ifCond .eq 17, 3) := dk_153 0 17 (dk_at dksX2_snow_2 21 rfl rfl)
theorem dX2_snow_72 : decode cX2_snow 72 = .ok (.aload_n 0, 1) := dk_42 (dk_at dksX2_snow_3 0 rfl rfl)
theorem dX2_snow_73 : decode cX2_snow 73 = .ok (.getfield 69, 3) := dk_180 0 69 (dk_at dksX2_snow_3 1 rfl rfl)
theorem dX2_snow_76 : decode cX2_snow 76 = .ok (.aload_n 0, 1) := dk_42 (dk_at dksX2_snow_3 4 rfl rfl)
theorem dX2_snow_77 : decode cX2_snow 77 = .ok (.getfield 44, 3) := dk_180 0 44 (dk_at dksX2_snow_3 5 rfl rfl)
theorem dX2_snow_80 : decode cX2_snow 80 = .ok (.iload_n 1, 1) := dk_27 (dk_at dksX2_snow_3 8 rfl rfl)
theorem dX2_snow_81 : decode cX2_snow 81 = .ok (.iaload, 1) := dk_46 (dk_at dksX2_snow_3 9 rfl rfl)
theorem dX2_snow_82 : decode cX2_snow 82 = .ok (.imul, 1) := dk_104 (dk_at dksX2_snow_3 10 rfl rfl)
theorem dX2_snow_83 : decode cX2_snow 83 = .ok (.goto 4, 3) := dk_167 0 4 (dk_at dksX2_snow_3 11 rfl rfl)
theorem dX2_snow_86 : decode cX2_snow 86 = .ok (.iconst 0, 1) := dk_3 (dk_at dksX2_snow_3 14 rfl rfl)
theorem dX2_snow_87 : decode cX2_snow 87 = .ok (.iadd, 1) := dk_96 (dk_at dksX2_snow_3 15 rfl rfl)
theorem dX2_snow_88 : decode cX2_snow 88 = .ok (.invokestatic 108, 3) := dk_184 0 108 (dk_at dksX2_snow_3 16 rfl rfl)
theorem dX2_snow_91 : decode cX2_snow 91 = .ok (.istore_n 2, 1) := dk_61 (dk_at dksX2_snow_3 19 rfl rfl)
theorem dX2_snow_92 : decode cX2_snow 92 = .ok (.aload_n 0, 1) := dk_42 (dk_at dksX2_snow_3 20 rfl rfl)
theorem dX2_snow_93 : decode cX2_snow 93 = .ok (.dup, 1) := dk_89 (dk_at dksX2_snow_3 21 rfl rfl)
theorem dX2_snow_94 : decode cX2_snow 94 = .ok (.getfield 75, 3) := dk_180 0 75 (dk_at dksX2_snow_4 0 rfl rfl)
theorem dX2_snow_97 : decode cX2_snow 97 = .ok (.iload_n 2, 1) := dk_28 (dk_at dksX2_snow_4 3 rfl rfl)
theorem dX2_snow_98 : decode cX2_snow 98 = .ok (.aload_n 0, 1) := dk_42 (dk_at dksX2_snow_4 4 rfl rfl)
theorem dX2_snow_99 : decode cX2_snow 99 = .ok (.getfield 40, 3) := dk_180 0 40 (dk_at dksX2_snow_4 5 rfl rfl)
theorem dX2_snow_102 : decode cX2_snow 102 = .ok (.iload_n 1, 1) := dk_27 (dk_at dksX2_snow_4 8 rfl rfl)
theorem dX2_snow_103 : decode cX2_snow 103 = .ok (.iaload, 1) := dk_46 (dk_at dksX2_snow_4 9 rfl rfl)
theorem dX2_snow_104 : decode cX2_snow 104 = .ok (.isub, 1) := dk_100 (dk_at dksX2_snow_4 10 rfl rfl)
theorem dX2_snow_105 : decode cX2_snow 105 = .ok (.iadd, 1) := dk_96 (dk_at dksX2_snow_4 11 rfl rfl)
theorem dX2_snow_106 : decode cX2_snow 106 = .ok (.putfield 75, 3) := dk_181 0 75 (dk_at dksX2_snow_4 12 rfl rfl)
theorem dX2_snow_109 : decode cX2_snow 109 = .ok (.aload_n 0, 1) := dk_42 (dk_at dksX2_snow_4 15 rfl rfl)
theorem dX2_snow_110 : decode cX2_snow 110 = .ok (.getfield 40, 3) := dk_180 0 40 (dk_at dksX2_snow_4 16 rfl rfl)
theorem dX2_snow_113 : decode cX2_snow 113 = .ok (.iload_n 1, 1) := dk_27 (dk_at dksX2_snow_4 19 rfl rfl)
theorem dX2_snow_114 : decode cX2_snow 114 = .ok (.iload_n 2, 1) := dk_28 (dk_at dksX2_snow_4 20 rfl rfl)
theorem dX2_snow_115 : decode cX2_snow 115 = .ok (.iastore, 1) := dk_79 (dk_at dksX2_snow_4 21 rfl rfl)
theorem dX2_snow_116 : decode cX2_snow 116 = .ok (.return_, 1) := dk_177 (dk_at dksX2_snow_4 22 rfl rfl)
abbrev cX2_close : ByteArray := prog_9_method_15_code
def yX2_close : MethodName := ⟨RX2, "close", "()V"⟩
def dkwX2_close_1 : List UInt8 := [61, 42, 27, 182, 0, 124, 132, 1, 1, 167, 255, 237, 177]
abbrev dktX2_close_1 : List UInt8 := dkwX2_close_1 ++ []
def dkwX2_close_0 : List UInt8 := [42, 180, 0, 50, 6, 42, 180, 0, 72, 182, 0, 118, 3, 60, 27, 5, 162, 0, 20, 42, 27, 182, 0, 121]
abbrev dktX2_close_0 : List UInt8 := dkwX2_close_0 ++ dktX2_close_1
theorem dksX2_close_0 : cX2_close.data.toList.drop 0 = dktX2_close_0 := by decide +kernel
theorem dksX2_close_1 : cX2_close.data.toList.drop 24 = dktX2_close_1 := dk_seg dksX2_close_0 24 rfl rfl
theorem dX2_close_0 : decode cX2_close 0 = .ok (.aload_n 0, 1) := dk_42 (dk_at dksX2_close_0 0 rfl rfl)
theorem dX2_close_1 : decode cX2_close 1 = .ok (.getfield 50, 3) := dk_180 0 50 (dk_at dksX2_close_0 1 rfl rfl)
theorem dX2_close_4 : decode cX2_close 4 = .ok (.iconst 3, 1) := dk_6 (dk_at dksX2_close_0 4 rfl rfl)
theorem dX2_close_5 : decode cX2_close 5 = .ok (.aload_n 0, 1) := dk_42 (dk_at dksX2_close_0 5 rfl rfl)
theorem dX2_close_6 : decode cX2_close 6 = .ok (.getfield 72, 3) := dk_180 0 72 (dk_at dksX2_close_0 6 rfl rfl)
theorem dX2_close_9 : decode cX2_close 9 = .ok (.invokevirtual 118, 3) := dk_182 0 118 (dk_at dksX2_close_0 9 rfl rfl)
theorem dX2_close_12 : decode cX2_close 12 = .ok (.iconst 0, 1) := dk_3 (dk_at dksX2_close_0 12 rfl rfl)
theorem dX2_close_13 : decode cX2_close 13 = .ok (.istore_n 1, 1) := dk_60 (dk_at dksX2_close_0 13 rfl rfl)
theorem dX2_close_14 : decode cX2_close 14 = .ok (.iload_n 1, 1) := dk_27 (dk_at dksX2_close_0 14 rfl rfl)
theorem dX2_close_15 : decode cX2_close 15 = .ok (.iconst 2, 1) := dk_5 (dk_at dksX2_close_0 15 rfl rfl)
theorem dX2_close_16 : decode cX2_close 16 = .ok (.if_icmp .ge 20, 3) := dk_162 0 20 (dk_at dksX2_close_0 16 rfl rfl)
theorem dX2_close_19 : decode cX2_close 19 = .ok (.aload_n 0, 1) := dk_42 (dk_at dksX2_close_0 19 rfl rfl)
theorem dX2_close_20 : decode cX2_close 20 = .ok (.iload_n 1, 1) := dk_27 (dk_at dksX2_close_0 20 rfl rfl)
theorem dX2_close_21 : decode cX2_close 21 = .ok (.invokevirtual 121, 3) := dk_182 0 121 (dk_at dksX2_close_0 21 rfl rfl)
theorem dX2_close_24 : decode cX2_close 24 = .ok (.istore_n 2, 1) := dk_61 (dk_at dksX2_close_1 0 rfl rfl)
theorem dX2_close_25 : decode cX2_close 25 = .ok (.aload_n 0, 1) := dk_42 (dk_at dksX2_close_1 1 rfl rfl)
theorem dX2_close_26 : decode cX2_close 26 = .ok (.iload_n 1, 1) := dk_27 (dk_at dksX2_close_1 2 rfl rfl)
theorem dX2_close_27 : decode cX2_close 27 = .ok (.invokevirtual 124, 3) := dk_182 0 124 (dk_at dksX2_close_1 3 rfl rfl)
theorem dX2_close_30 : decode cX2_close 30 = .ok (.iinc 1 1, 3) := dk_132 1 1 (dk_at dksX2_close_1 6 rfl rfl)
theorem dX2_close_33 : decode cX2_close 33 = .ok (.goto (-19), 3) := dk_167 255 237 (dk_at dksX2_close_1 9 rfl rfl)
theorem dX2_close_36 : decode cX2_close 36 = .ok (.return_, 1) := dk_177 (dk_at dksX2_close_1 12 rfl rfl)
abbrev cX2_withdraw : ByteArray := prog_9_method_13_code
def yX2_withdraw : MethodName := ⟨RX2, "withdraw", "(I)Z"⟩
def dkwX2_withdraw_0 : List UInt8 := [42, 180, 0, 17, 27, 50, 180, 0, 87, 61, 42, 180, 0, 17, 27, 50, 3, 181, 0, 87, 28, 172]
abbrev dktX2_withdraw_0 : List UInt8 := dkwX2_withdraw_0 ++ []
theorem dksX2_withdraw_0 : cX2_withdraw.data.toList.drop 0 = dktX2_withdraw_0 := by decide +kernel
theorem dX2_withdraw_0 : decode cX2_withdraw 0 = .ok (.aload_n 0, 1) := dk_42 (dk_at dksX2_withdraw_0 0 rfl rfl)
theorem dX2_withdraw_1 : decode cX2_withdraw 1 = .ok (.getfield 17, 3) := dk_180 0 17 (dk_at dksX2_withdraw_0 1 rfl rfl)
theorem dX2_withdraw_4 : decode cX2_withdraw 4 = .ok (.iload_n 1, 1) := dk_27 (dk_at dksX2_withdraw_0 4 rfl rfl)
theorem dX2_withdraw_5 : decode cX2_withdraw 5 = .ok (.aaload, 1) := dk_50 (dk_at dksX2_withdraw_0 5 rfl rfl)
theorem dX2_withdraw_6 : decode cX2_withdraw 6 = .ok (.getfield 87, 3) := dk_180 0 87 (dk_at dksX2_withdraw_0 6 rfl rfl)
theorem dX2_withdraw_9 : decode cX2_withdraw 9 = .ok (.istore_n 2, 1) := dk_61 (dk_at dksX2_withdraw_0 9 rfl rfl)
theorem dX2_withdraw_10 : decode cX2_withdraw 10 = .ok (.aload_n 0, 1) := dk_42 (dk_at dksX2_withdraw_0 10 rfl rfl)
theorem dX2_withdraw_11 : decode cX2_withdraw 11 = .ok (.getfield 17, 3) := dk_180 0 17 (dk_at dksX2_withdraw_0 11 rfl rfl)
theorem dX2_withdraw_14 : decode cX2_withdraw 14 = .ok (.iload_n 1, 1) := dk_27 (dk_at dksX2_withdraw_0 14 rfl rfl)
theorem dX2_withdraw_15 : decode cX2_withdraw 15 = .ok (.aaload, 1) := dk_50 (dk_at dksX2_withdraw_0 15 rfl rfl)
theorem dX2_withdraw_16 : decode cX2_withdraw 16 = .ok (.iconst 0, 1) := dk_3 (dk_at dksX2_withdraw_0 16 rfl rfl)
theorem dX2_withdraw_17 : decode cX2_withdraw 17 = .ok (.putfield 87, 3) := dk_181 0 87 (dk_at dksX2_withdraw_0 17 rfl rfl)
theorem dX2_withdraw_20 : decode cX2_withdraw 20 = .ok (.iload_n 2, 1) := dk_28 (dk_at dksX2_withdraw_0 20 rfl rfl)
theorem dX2_withdraw_21 : decode cX2_withdraw 21 = .ok (.ireturn, 1) := dk_172 (dk_at dksX2_withdraw_0 21 rfl rfl)
abbrev cX2_sendBack : ByteArray := prog_9_method_12_code
def yX2_sendBack : MethodName := ⟨RX2, "sendBack", "(I)V"⟩
def dkwX2_sendBack_0 : List UInt8 := [42, 180, 0, 17, 27, 50, 42, 27, 182, 0, 104, 181, 0, 21, 177]
abbrev dktX2_sendBack_0 : List UInt8 := dkwX2_sendBack_0 ++ []
theorem dksX2_sendBack_0 : cX2_sendBack.data.toList.drop 0 = dktX2_sendBack_0 := by decide +kernel
theorem dX2_sendBack_0 : decode cX2_sendBack 0 = .ok (.aload_n 0, 1) := dk_42 (dk_at dksX2_sendBack_0 0 rfl rfl)
theorem dX2_sendBack_1 : decode cX2_sendBack 1 = .ok (.getfield 17, 3) := dk_180 0 17 (dk_at dksX2_sendBack_0 1 rfl rfl)
theorem dX2_sendBack_4 : decode cX2_sendBack 4 = .ok (.iload_n 1, 1) := dk_27 (dk_at dksX2_sendBack_0 4 rfl rfl)
theorem dX2_sendBack_5 : decode cX2_sendBack 5 = .ok (.aaload, 1) := dk_50 (dk_at dksX2_sendBack_0 5 rfl rfl)
theorem dX2_sendBack_6 : decode cX2_sendBack 6 = .ok (.aload_n 0, 1) := dk_42 (dk_at dksX2_sendBack_0 6 rfl rfl)
theorem dX2_sendBack_7 : decode cX2_sendBack 7 = .ok (.iload_n 1, 1) := dk_27 (dk_at dksX2_sendBack_0 7 rfl rfl)
theorem dX2_sendBack_8 : decode cX2_sendBack 8 = .ok (.invokevirtual 104, 3) := dk_182 0 104 (dk_at dksX2_sendBack_0 8 rfl rfl)
theorem dX2_sendBack_11 : decode cX2_sendBack 11 = .ok (.putfield 21, 3) := dk_181 0 21 (dk_at dksX2_sendBack_0 11 rfl rfl)
theorem dX2_sendBack_14 : decode cX2_sendBack 14 = .ok (.return_, 1) := dk_177 (dk_at dksX2_sendBack_0 14 rfl rfl)
abbrev cX2_firstUncleared : ByteArray := prog_9_method_11_code
def yX2_firstUncleared : MethodName := ⟨RX2, "firstUncleared", "(I)I"⟩
def dkwX2_firstUncleared_2 : List UInt8 := [29, 172]
abbrev dktX2_firstUncleared_2 : List UInt8 := dkwX2_firstUncleared_2 ++ []
def dkwX2_firstUncleared_1 : List UInt8 := [62, 29, 42, 180, 0, 28, 159, 0, 18, 42, 29, 182, 0, 100, 153, 0, 10, 29, 28, 96, 62, 167, 255, 236]
abbrev dktX2_firstUncleared_1 : List UInt8 := dkwX2_firstUncleared_1 ++ dktX2_firstUncleared_2
def dkwX2_firstUncleared_0 : List UInt8 := [27, 154, 0, 7, 4, 167, 0, 4, 2, 61, 27, 154, 0, 7, 3, 167, 0, 9, 42, 182, 0, 93, 4, 100]
abbrev dktX2_firstUncleared_0 : List UInt8 := dkwX2_firstUncleared_0 ++ dktX2_firstUncleared_1
theorem dksX2_firstUncleared_0 : cX2_firstUncleared.data.toList.drop 0 = dktX2_firstUncleared_0 := by decide +kernel
theorem dksX2_firstUncleared_1 : cX2_firstUncleared.data.toList.drop 24 = dktX2_firstUncleared_1 := dk_seg dksX2_firstUncleared_0 24 rfl rfl
theorem dksX2_firstUncleared_2 : cX2_firstUncleared.data.toList.drop 48 = dktX2_firstUncleared_2 := dk_seg dksX2_firstUncleared_1 24 rfl rfl
theorem dX2_firstUncleared_0 : decode cX2_firstUncleared 0 = .ok (.iload_n 1, 1) := dk_27 (dk_at dksX2_firstUncleared_0 0 rfl rfl)
theorem dX2_firstUncleared_1 : decode cX2_firstUncleared 1 = .ok (.ifCond .ne 7, 3) := dk_154 0 7 (dk_at dksX2_firstUncleared_0 1 rfl rfl)
theorem dX2_firstUncleared_4 : decode cX2_firstUncleared 4 = .ok (.iconst 1, 1) := dk_4 (dk_at dksX2_firstUncleared_0 4 rfl rfl)
theorem dX2_firstUncleared_5 : decode cX2_firstUncleared 5 = .ok (.goto 4, 3) := dk_167 0 4 (dk_at dksX2_firstUncleared_0 5 rfl rfl)
theorem dX2_firstUncleared_8 : decode cX2_firstUncleared 8 = .ok (.iconst (-1), 1) := dk_2 (dk_at dksX2_firstUncleared_0 8 rfl rfl)
theorem dX2_firstUncleared_9 : decode cX2_firstUncleared 9 = .ok (.istore_n 2, 1) := dk_61 (dk_at dksX2_firstUncleared_0 9 rfl rfl)
theorem dX2_firstUncleared_10 : decode cX2_firstUncleared 10 = .ok (.iload_n 1, 1) := dk_27 (dk_at dksX2_firstUncleared_0 10 rfl rfl)
theorem dX2_firstUncleared_11 : decode cX2_firstUncleared 11 = .ok (.ifCond .ne 7, 3) := dk_154 0 7 (dk_at dksX2_firstUncleared_0 11 rfl rfl)
theorem dX2_firstUncleared_14 : decode cX2_firstUncleared 14 = .ok (.iconst 0, 1) := dk_3 (dk_at dksX2_firstUncleared_0 14 rfl rfl)
theorem dX2_firstUncleared_15 : decode cX2_firstUncleared 15 = .ok (.goto 9, 3) := dk_167 0 9 (dk_at dksX2_firstUncleared_0 15 rfl rfl)
theorem dX2_firstUncleared_18 : decode cX2_firstUncleared 18 = .ok (.aload_n 0, 1) := dk_42 (dk_at dksX2_firstUncleared_0 18 rfl rfl)
theorem dX2_firstUncleared_19 : decode cX2_firstUncleared 19 = .ok (.invokevirtual 93, 3) := dk_182 0 93 (dk_at dksX2_firstUncleared_0 19 rfl rfl)
theorem dX2_firstUncleared_22 : decode cX2_firstUncleared 22 = .ok (.iconst 1, 1) := dk_4 (dk_at dksX2_firstUncleared_0 22 rfl rfl)
theorem dX2_firstUncleared_23 : decode cX2_firstUncleared 23 = .ok (.isub, 1) := dk_100 (dk_at dksX2_firstUncleared_0 23 rfl rfl)
theorem dX2_firstUncleared_24 : decode cX2_firstUncleared 24 = .ok (.istore_n 3, 1) := dk_62 (dk_at dksX2_firstUncleared_1 0 rfl rfl)
theorem dX2_firstUncleared_25 : decode cX2_firstUncleared 25 = .ok (.iload_n 3, 1) := dk_29 (dk_at dksX2_firstUncleared_1 1 rfl rfl)
theorem dX2_firstUncleared_26 : decode cX2_firstUncleared 26 = .ok (.aload_n 0, 1) := dk_42 (dk_at dksX2_firstUncleared_1 2 rfl rfl)
theorem dX2_firstUncleared_27 : decode cX2_firstUncleared 27 = .ok (.getfield 28, 3) := dk_180 0 28 (dk_at dksX2_firstUncleared_1 3 rfl rfl)
theorem dX2_firstUncleared_30 : decode cX2_firstUncleared 30 = .ok (.if_icmp .eq 18, 3) := dk_159 0 18 (dk_at dksX2_firstUncleared_1 6 rfl rfl)
theorem dX2_firstUncleared_33 : decode cX2_firstUncleared 33 = .ok (.aload_n 0, 1) := dk_42 (dk_at dksX2_firstUncleared_1 9 rfl rfl)
theorem dX2_firstUncleared_34 : decode cX2_firstUncleared 34 = .ok (.iload_n 3, 1) := dk_29 (dk_at dksX2_firstUncleared_1 10 rfl rfl)
theorem dX2_firstUncleared_35 : decode cX2_firstUncleared 35 = .ok (.invokevirtual 100, 3) := dk_182 0 100 (dk_at dksX2_firstUncleared_1 11 rfl rfl)
theorem dX2_firstUncleared_38 : decode cX2_firstUncleared 38 = .ok (.ifCond .eq 10, 3) := dk_153 0 10 (dk_at dksX2_firstUncleared_1 14 rfl rfl)
theorem dX2_firstUncleared_41 : decode cX2_firstUncleared 41 = .ok (.iload_n 3, 1) := dk_29 (dk_at dksX2_firstUncleared_1 17 rfl rfl)
theorem dX2_firstUncleared_42 : decode cX2_firstUncleared 42 = .ok (.iload_n 2, 1) := dk_28 (dk_at dksX2_firstUncleared_1 18 rfl rfl)
theorem dX2_firstUncleared_43 : decode cX2_firstUncleared 43 = .ok (.iadd, 1) := dk_96 (dk_at dksX2_firstUncleared_1 19 rfl rfl)
theorem dX2_firstUncleared_44 : decode cX2_firstUncleared 44 = .ok (.istore_n 3, 1) := dk_62 (dk_at dksX2_firstUncleared_1 20 rfl rfl)
theorem dX2_firstUncleared_45 : decode cX2_firstUncleared 45 = .ok (.goto (-20), 3) := dk_167 255 236 (dk_at dksX2_firstUncleared_1 21 rfl rfl)
theorem dX2_firstUncleared_48 : decode cX2_firstUncleared 48 = .ok (.iload_n 3, 1) := dk_29 (dk_at dksX2_firstUncleared_2 0 rfl rfl)
theorem dX2_firstUncleared_49 : decode cX2_firstUncleared 49 = .ok (.ireturn, 1) := dk_172 (dk_at dksX2_firstUncleared_2 1 rfl rfl)
abbrev cX2_work : ByteArray := prog_9_method_17_code
def yX2_work : MethodName := ⟨RX2, "work", "(I)V"⟩
def dkwX2_work_4 : List UInt8 := [167, 0, 21, 44, 89, 180, 0, 21, 27, 154, 0, 7, 4, 167, 0, 4, 2, 96, 181, 0, 21, 177]
abbrev dktX2_work_4 : List UInt8 := dkwX2_work_4 ++ []
def dkwX2_work_3 : List UInt8 := [182, 0, 100, 154, 0, 4, 177, 44, 180, 0, 21, 42, 180, 0, 28, 160, 0, 11, 42, 27, 182, 0, 134]
abbrev dktX2_work_3 : List UInt8 := dkwX2_work_3 ++ dktX2_work_4
def dkwX2_work_2 : List UInt8 := [44, 180, 0, 21, 92, 46, 29, 100, 79, 42, 89, 180, 0, 78, 29, 96, 181, 0, 78, 42, 44, 180, 0, 21]
abbrev dktX2_work_2 : List UInt8 := dkwX2_work_2 ++ dktX2_work_3
def dkwX2_work_1 : List UInt8 := [154, 0, 43, 44, 180, 0, 131, 42, 180, 0, 40, 44, 180, 0, 21, 46, 184, 0, 108, 62, 42, 180, 0, 40]
abbrev dktX2_work_1 : List UInt8 := dkwX2_work_1 ++ dktX2_work_2
def dkwX2_work_0 : List UInt8 := [42, 180, 0, 17, 27, 50, 77, 44, 180, 0, 87, 153, 0, 4, 177, 42, 44, 180, 0, 21, 182, 0, 100]
abbrev dktX2_work_0 : List UInt8 := dkwX2_work_0 ++ dktX2_work_1
theorem dksX2_work_0 : cX2_work.data.toList.drop 0 = dktX2_work_0 := by decide +kernel
theorem dksX2_work_1 : cX2_work.data.toList.drop 23 = dktX2_work_1 := dk_seg dksX2_work_0 23 rfl rfl
theorem dksX2_work_2 : cX2_work.data.toList.drop 47 = dktX2_work_2 := dk_seg dksX2_work_1 24 rfl rfl
theorem dksX2_work_3 : cX2_work.data.toList.drop 71 = dktX2_work_3 := dk_seg dksX2_work_2 24 rfl rfl
theorem dksX2_work_4 : cX2_work.data.toList.drop 94 = dktX2_work_4 := dk_seg dksX2_work_3 23 rfl rfl
theorem dX2_work_0 : decode cX2_work 0 = .ok (.aload_n 0, 1) := dk_42 (dk_at dksX2_work_0 0 rfl rfl)
theorem dX2_work_1 : decode cX2_work 1 = .ok (.getfield 17, 3) := dk_180 0 17 (dk_at dksX2_work_0 1 rfl rfl)
theorem dX2_work_4 : decode cX2_work 4 = .ok (.iload_n 1, 1) := dk_27 (dk_at dksX2_work_0 4 rfl rfl)
theorem dX2_work_5 : decode cX2_work 5 = .ok (.aaload, 1) := dk_50 (dk_at dksX2_work_0 5 rfl rfl)
theorem dX2_work_6 : decode cX2_work 6 = .ok (.astore_n 2, 1) := dk_77 (dk_at dksX2_work_0 6 rfl rfl)
theorem dX2_work_7 : decode cX2_work 7 = .ok (.aload_n 2, 1) := dk_44 (dk_at dksX2_work_0 7 rfl rfl)
theorem dX2_work_8 : decode cX2_work 8 = .ok (.getfield 87, 3) := dk_180 0 87 (dk_at dksX2_work_0 8 rfl rfl)
theorem dX2_work_11 : decode cX2_work 11 = .ok (.ifCond .eq 4, 3) := dk_153 0 4 (dk_at dksX2_work_0 11 rfl rfl)
theorem dX2_work_14 : decode cX2_work 14 = .ok (.return_, 1) := dk_177 (dk_at dksX2_work_0 14 rfl rfl)
theorem dX2_work_15 : decode cX2_work 15 = .ok (.aload_n 0, 1) := dk_42 (dk_at dksX2_work_0 15 rfl rfl)
theorem dX2_work_16 : decode cX2_work 16 = .ok (.aload_n 2, 1) := dk_44 (dk_at dksX2_work_0 16 rfl rfl)
theorem dX2_work_17 : decode cX2_work 17 = .ok (.getfield 21, 3) := dk_180 0 21 (dk_at dksX2_work_0 17 rfl rfl)
theorem dX2_work_20 : decode cX2_work 20 = .ok (.invokevirtual 100, 3) := dk_182 0 100 (dk_at dksX2_work_0 20 rfl rfl)
theorem dX2_work_23 : decode cX2_work 23 = .ok (.ifCond .ne 43, 3) := dk_154 0 43 (dk_at dksX2_work_1 0 rfl rfl)
theorem dX2_work_26 : decode cX2_work 26 = .ok (.aload_n 2, 1) := dk_44 (dk_at dksX2_work_1 3 rfl rfl)
theorem dX2_work_27 : decode cX2_work 27 = .ok (.getfield 131, 3) := dk_180 0 131 (dk_at dksX2_work_1 4 rfl rfl)
theorem dX2_work_30 : decode cX2_work 30 = .ok (.aload_n 0, 1) := dk_42 (dk_at dksX2_work_1 7 rfl rfl)
theorem dX2_work_31 : decode cX2_work 31 = .ok (.getfield 40, 3) := dk_180 0 40 (dk_at dksX2_work_1 8 rfl rfl)
theorem dX2_work_34 : decode cX2_work 34 = .ok (.aload_n 2, 1) := dk_44 (dk_at dksX2_work_1 11 rfl rfl)
theorem dX2_work_35 : decode cX2_work 35 = .ok (.getfield 21, 3) := dk_180 0 21 (dk_at dksX2_work_1 12 rfl rfl)
theorem dX2_work_38 : decode cX2_work 38 = .ok (.iaload, 1) := dk_46 (dk_at dksX2_work_1 15 rfl rfl)
theorem dX2_work_39 : decode cX2_work 39 = .ok (.invokestatic 108, 3) := dk_184 0 108 (dk_at dksX2_work_1 16 rfl rfl)
theorem dX2_work_42 : decode cX2_work 42 = .ok (.istore_n 3, 1) := dk_62 (dk_at dksX2_work_1 19 rfl rfl)
theorem dX2_work_43 : decode cX2_work 43 = .ok (.aload_n 0, 1) := dk_42 (dk_at dksX2_work_1 20 rfl rfl)
theorem dX2_work_44 : decode cX2_work 44 = .ok (.getfield 40, 3) := dk_180 0 40 (dk_at dksX2_work_1 21 rfl rfl)
theorem dX2_work_47 : decode cX2_work 47 = .ok (.aload_n 2, 1) := dk_44 (dk_at dksX2_work_2 0 rfl rfl)
theorem dX2_work_48 : decode cX2_work 48 = .ok (.getfield 21, 3) := dk_180 0 21 (dk_at dksX2_work_2 1 rfl rfl)
theorem dX2_work_51 : decode cX2_work 51 = .ok (.dup2, 1) := dk_92 (dk_at dksX2_work_2 4 rfl rfl)
theorem dX2_work_52 : decode cX2_work 52 = .ok (.iaload, 1) := dk_46 (dk_at dksX2_work_2 5 rfl rfl)
theorem dX2_work_53 : decode cX2_work 53 = .ok (.iload_n 3, 1) := dk_29 (dk_at dksX2_work_2 6 rfl rfl)
theorem dX2_work_54 : decode cX2_work 54 = .ok (.isub, 1) := dk_100 (dk_at dksX2_work_2 7 rfl rfl)
theorem dX2_work_55 : decode cX2_work 55 = .ok (.iastore, 1) := dk_79 (dk_at dksX2_work_2 8 rfl rfl)
theorem dX2_work_56 : decode cX2_work 56 = .ok (.aload_n 0, 1) := dk_42 (dk_at dksX2_work_2 9 rfl rfl)
theorem dX2_work_57 : decode cX2_work 57 = .ok (.dup, 1) := dk_89 (dk_at dksX2_work_2 10 rfl rfl)
theorem dX2_work_58 : decode cX2_work 58 = .ok (.getfield 78, 3) := dk_180 0 78 (dk_at dksX2_work_2 11 rfl rfl)
theorem dX2_work_61 : decode cX2_work 61 = .ok (.iload_n 3, 1) := dk_29 (dk_at dksX2_work_2 14 rfl rfl)
theorem dX2_work_62 : decode cX2_work 62 = .ok (.iadd, 1) := dk_96 (dk_at dksX2_work_2 15 rfl rfl)
theorem dX2_work_63 : decode cX2_work 63 = .ok (.putfield 78, 3) := dk_181 0 78 (dk_at dksX2_work_2 16 rfl rfl)
theorem dX2_work_66 : decode cX2_work 66 = .ok (.aload_n 0, 1) := dk_42 (dk_at dksX2_work_2 19 rfl rfl)
theorem dX2_work_67 : decode cX2_work 67 = .ok (.aload_n 2, 1) := dk_44 (dk_at dksX2_work_2 20 rfl rfl)
theorem dX2_work_68 : decode cX2_work 68 = .ok (.getfield 21, 3) := dk_180 0 21 (dk_at dksX2_work_2 21 rfl rfl)
theorem dX2_work_71 : decode cX2_work 71 = .ok (.invokevirtual 100, 3) := dk_182 0 100 (dk_at dksX2_work_3 0 rfl rfl)
theorem dX2_work_74 : decode cX2_work 74 = .ok (.ifCond .ne 4, 3) := dk_154 0 4 (dk_at dksX2_work_3 3 rfl rfl)
theorem dX2_work_77 : decode cX2_work 77 = .ok (.return_, 1) := dk_177 (dk_at dksX2_work_3 6 rfl rfl)
theorem dX2_work_78 : decode cX2_work 78 = .ok (.aload_n 2, 1) := dk_44 (dk_at dksX2_work_3 7 rfl rfl)
theorem dX2_work_79 : decode cX2_work 79 = .ok (.getfield 21, 3) := dk_180 0 21 (dk_at dksX2_work_3 8 rfl rfl)
theorem dX2_work_82 : decode cX2_work 82 = .ok (.aload_n 0, 1) := dk_42 (dk_at dksX2_work_3 11 rfl rfl)
theorem dX2_work_83 : decode cX2_work 83 = .ok (.getfield 28, 3) := dk_180 0 28 (dk_at dksX2_work_3 12 rfl rfl)
theorem dX2_work_86 : decode cX2_work 86 = .ok (.if_icmp .ne 11, 3) := dk_160 0 11 (dk_at dksX2_work_3 15 rfl rfl)
theorem dX2_work_89 : decode cX2_work 89 = .ok (.aload_n 0, 1) := dk_42 (dk_at dksX2_work_3 18 rfl rfl)
theorem dX2_work_90 : decode cX2_work 90 = .ok (.iload_n 1, 1) := dk_27 (dk_at dksX2_work_3 19 rfl rfl)
theorem dX2_work_91 : decode cX2_work 91 = .ok (.invokevirtual 134, 3) := dk_182 0 134 (dk_at dksX2_work_3 20 rfl rfl)
theorem dX2_work_94 : decode cX2_work 94 = .ok (.goto 21, 3) := dk_167 0 21 (dk_at dksX2_work_4 0 rfl rfl)
theorem dX2_work_97 : decode cX2_work 97 = .ok (.aload_n 2, 1) := dk_44 (dk_at dksX2_work_4 3 rfl rfl)
theorem dX2_work_98 : decode cX2_work 98 = .ok (.dup, 1) := dk_89 (dk_at dksX2_work_4 4 rfl rfl)
theorem dX2_work_99 : decode cX2_work 99 = .ok (.getfield 21, 3) := dk_180 0 21 (dk_at dksX2_work_4 5 rfl rfl)
theorem dX2_work_102 : decode cX2_work 102 = .ok (.iload_n 1, 1) := dk_27 (dk_at dksX2_work_4 8 rfl rfl)
theorem dX2_work_103 : decode cX2_work 103 = .ok (.ifCond .ne 7, 3) := dk_154 0 7 (dk_at dksX2_work_4 9 rfl rfl)
theorem dX2_work_106 : decode cX2_work 106 = .ok (.iconst 1, 1) := dk_4 (dk_at dksX2_work_4 12 rfl rfl)
theorem dX2_work_107 : decode cX2_work 107 = .ok (.goto 4, 3) := dk_167 0 4 (dk_at dksX2_work_4 13 rfl rfl)
theorem dX2_work_110 : decode cX2_work 110 = .ok (.iconst (-1), 1) := dk_2 (dk_at dksX2_work_4 16 rfl rfl)
theorem dX2_work_111 : decode cX2_work 111 = .ok (.iadd, 1) := dk_96 (dk_at dksX2_work_4 17 rfl rfl)
theorem dX2_work_112 : decode cX2_work 112 = .ok (.putfield 21, 3) := dk_181 0 21 (dk_at dksX2_work_4 18 rfl rfl)
theorem dX2_work_115 : decode cX2_work 115 = .ok (.return_, 1) := dk_177 (dk_at dksX2_work_4 21 rfl rfl)
abbrev cX2_sign : ByteArray := prog_9_method_16_code
def yX2_sign : MethodName := ⟨RX2, "sign", "(I)V"⟩
def dkwX2_sign_2 : List UInt8 := [182, 0, 118, 177]
abbrev dktX2_sign_2 : List UInt8 := dkwX2_sign_2 ++ []
def dkwX2_sign_1 : List UInt8 := [180, 0, 72, 182, 0, 118, 42, 182, 0, 128, 153, 0, 15, 42, 180, 0, 50, 5, 42, 180, 0, 72]
abbrev dktX2_sign_1 : List UInt8 := dkwX2_sign_1 ++ dktX2_sign_2
def dkwX2_sign_0 : List UInt8 := [42, 180, 0, 17, 27, 50, 4, 181, 0, 87, 42, 180, 0, 50, 27, 154, 0, 7, 3, 167, 0, 4, 4, 42]
abbrev dktX2_sign_0 : List UInt8 := dkwX2_sign_0 ++ dktX2_sign_1
theorem dksX2_sign_0 : cX2_sign.data.toList.drop 0 = dktX2_sign_0 := by decide +kernel
theorem dksX2_sign_1 : cX2_sign.data.toList.drop 24 = dktX2_sign_1 := dk_seg dksX2_sign_0 24 rfl rfl
theorem dksX2_sign_2 : cX2_sign.data.toList.drop 46 = dktX2_sign_2 := dk_seg dksX2_sign_1 22 rfl rfl
theorem dX2_sign_0 : decode cX2_sign 0 = .ok (.aload_n 0, 1) := dk_42 (dk_at dksX2_sign_0 0 rfl rfl)
theorem dX2_sign_1 : decode cX2_sign 1 = .ok (.getfield 17, 3) := dk_180 0 17 (dk_at dksX2_sign_0 1 rfl rfl)
theorem dX2_sign_4 : decode cX2_sign 4 = .ok (.iload_n 1, 1) := dk_27 (dk_at dksX2_sign_0 4 rfl rfl)
theorem dX2_sign_5 : decode cX2_sign 5 = .ok (.aaload, 1) := dk_50 (dk_at dksX2_sign_0 5 rfl rfl)
theorem dX2_sign_6 : decode cX2_sign 6 = .ok (.iconst 1, 1) := dk_4 (dk_at dksX2_sign_0 6 rfl rfl)
theorem dX2_sign_7 : decode cX2_sign 7 = .ok (.putfield 87, 3) := dk_181 0 87 (dk_at dksX2_sign_0 7 rfl rfl)
theorem dX2_sign_10 : decode cX2_sign 10 = .ok (.aload_n 0, 1) := dk_42 (dk_at dksX2_sign_0 10 rfl rfl)
theorem dX2_sign_11 : decode cX2_sign 11 = .ok (.getfield 50, 3) := dk_180 0 50 (dk_at dksX2_sign_0 11 rfl rfl)
theorem dX2_sign_14 : decode cX2_sign 14 = .ok (.iload_n 1, 1) := dk_27 (dk_at dksX2_sign_0 14 rfl rfl)
theorem dX2_sign_15 : decode cX2_sign 15 = .ok (.ifCond .ne 7, 3) := dk_154 0 7 (dk_at dksX2_sign_0 15 rfl rfl)
theorem dX2_sign_18 : decode cX2_sign 18 = .ok (.iconst 0, 1) := dk_3 (dk_at dksX2_sign_0 18 rfl rfl)
theorem dX2_sign_19 : decode cX2_sign 19 = .ok (.goto 4, 3) := dk_167 0 4 (dk_at dksX2_sign_0 19 rfl rfl)
theorem dX2_sign_22 : decode cX2_sign 22 = .ok (.iconst 1, 1) := dk_4 (dk_at dksX2_sign_0 22 rfl rfl)
theorem dX2_sign_23 : decode cX2_sign 23 = .ok (.aload_n 0, 1) := dk_42 (dk_at dksX2_sign_0 23 rfl rfl)
theorem dX2_sign_24 : decode cX2_sign 24 = .ok (.getfield 72, 3) := dk_180 0 72 (dk_at dksX2_sign_1 0 rfl rfl)
theorem dX2_sign_27 : decode cX2_sign 27 = .ok (.invokevirtual 118, 3) := dk_182 0 118 (dk_at dksX2_sign_1 3 rfl rfl)
theorem dX2_sign_30 : decode cX2_sign 30 = .ok (.aload_n 0, 1) := dk_42 (dk_at dksX2_sign_1 6 rfl rfl)
theorem dX2_sign_31 : decode cX2_sign 31 = .ok (.invokevirtual 128, 3) := dk_182 0 128 (dk_at dksX2_sign_1 7 rfl rfl)
theorem dX2_sign_34 : decode cX2_sign 34 = .ok (.ifCond .eq 15, 3) := dk_153 0 15 (dk_at dksX2_sign_1 10 rfl rfl)
theorem dX2_sign_37 : decode cX2_sign 37 = .ok (.aload_n 0, 1) := dk_42 (dk_at dksX2_sign_1 13 rfl rfl)
theorem dX2_sign_38 : decode cX2_sign 38 = .ok (.getfield 50, 3) := dk_180 0 50 (dk_at dksX2_sign_1 14 rfl rfl)
theorem dX2_sign_41 : decode cX2_sign 41 = .ok (.iconst 2, 1) := dk_5 (dk_at dksX2_sign_1 17 rfl rfl)
theorem dX2_sign_42 : decode cX2_sign 42 = .ok (.aload_n 0, 1) := dk_42 (dk_at dksX2_sign_1 18 rfl rfl)
theorem dX2_sign_43 : decode cX2_sign 43 = .ok (.getfield 72, 3) := dk_180 0 72 (dk_at dksX2_sign_1 19 rfl rfl)
theorem dX2_sign_46 : decode cX2_sign 46 = .ok (.invokevirtual 118, 3) := dk_182 0 118 (dk_at dksX2_sign_2 0 rfl rfl)
theorem dX2_sign_49 : decode cX2_sign 49 = .ok (.return_, 1) := dk_177 (dk_at dksX2_sign_2 3 rfl rfl)
abbrev cX2_side : ByteArray := prog_9_method_10_code
def yX2_side : MethodName := ⟨RX2, "side", "(I)Ljava/lang/Iterable;"⟩
def dkwX2_side_1 : List UInt8 := [183, 0, 97, 176]
abbrev dktX2_side_1 : List UInt8 := dkwX2_side_1 ++ []
def dkwX2_side_0 : List UInt8 := [187, 0, 91, 89, 27, 154, 0, 7, 3, 167, 0, 9, 42, 182, 0, 93, 4, 100, 42, 180, 0, 28]
abbrev dktX2_side_0 : List UInt8 := dkwX2_side_0 ++ dktX2_side_1
theorem dksX2_side_0 : cX2_side.data.toList.drop 0 = dktX2_side_0 := by decide +kernel
theorem dksX2_side_1 : cX2_side.data.toList.drop 22 = dktX2_side_1 := dk_seg dksX2_side_0 22 rfl rfl
theorem dX2_side_0 : decode cX2_side 0 = .ok (.new 91, 3) := dk_187 0 91 (dk_at dksX2_side_0 0 rfl rfl)
theorem dX2_side_3 : decode cX2_side 3 = .ok (.dup, 1) := dk_89 (dk_at dksX2_side_0 3 rfl rfl)
theorem dX2_side_4 : decode cX2_side 4 = .ok (.iload_n 1, 1) := dk_27 (dk_at dksX2_side_0 4 rfl rfl)
theorem dX2_side_5 : decode cX2_side 5 = .ok (.ifCond .ne 7, 3) := dk_154 0 7 (dk_at dksX2_side_0 5 rfl rfl)
theorem dX2_side_8 : decode cX2_side 8 = .ok (.iconst 0, 1) := dk_3 (dk_at dksX2_side_0 8 rfl rfl)
theorem dX2_side_9 : decode cX2_side 9 = .ok (.goto 9, 3) := dk_167 0 9 (dk_at dksX2_side_0 9 rfl rfl)
theorem dX2_side_12 : decode cX2_side 12 = .ok (.aload_n 0, 1) := dk_42 (dk_at dksX2_side_0 12 rfl rfl)
theorem dX2_side_13 : decode cX2_side 13 = .ok (.invokevirtual 93, 3) := dk_182 0 93 (dk_at dksX2_side_0 13 rfl rfl)
theorem dX2_side_16 : decode cX2_side 16 = .ok (.iconst 1, 1) := dk_4 (dk_at dksX2_side_0 16 rfl rfl)
theorem dX2_side_17 : decode cX2_side 17 = .ok (.isub, 1) := dk_100 (dk_at dksX2_side_0 17 rfl rfl)
theorem dX2_side_18 : decode cX2_side 18 = .ok (.aload_n 0, 1) := dk_42 (dk_at dksX2_side_0 18 rfl rfl)
theorem dX2_side_19 : decode cX2_side 19 = .ok (.getfield 28, 3) := dk_180 0 28 (dk_at dksX2_side_0 19 rfl rfl)
theorem dX2_side_22 : decode cX2_side 22 = .ok (.invokespecial 97, 3) := dk_183 0 97 (dk_at dksX2_side_1 0 rfl rfl)
theorem dX2_side_25 : decode cX2_side 25 = .ok (.areturn, 1) := dk_176 (dk_at dksX2_side_1 3 rfl rfl)
theorem q124 : (Jvm.Cond.initialized "SnowPass$Road") ∈ lw_all := lw_g (lw_at lw_m1 2 rfl) rfl
theorem q197 : (Jvm.Cond.instantiable "SnowPass$Road" (16 : Nat)) ∈ lw_all := lw_g (lw_at lw_m1 75 rfl) rfl
theorem q199 : (Jvm.Cond.instanceMethod ({ cls := "SnowPass$Road", name := "<init>", desc := "(IIIII)V" } : Jvm.MethodName)) ∈ lw_all := lw_g (lw_at lw_m1 77 rfl) rfl
theorem q200 : (Jvm.Cond.code ({ cls := "SnowPass$Road", name := "<init>", desc := "(IIIII)V" } : Jvm.MethodName) prog_9_method_1_code (6 : Nat) (Option.none : Option Jvm.ClassFile.FieldType)) ∈ lw_all := lw_g (lw_at lw_m1 78 rfl) rfl
theorem q201 : (Jvm.Cond.classLink "SnowPass$Road" (3 : Nat) "SnowPass$Plough") ∈ lw_all := lw_g (lw_at lw_m1 79 rfl) rfl
theorem q203 : (Jvm.Cond.methodLinkNest "SnowPass$Road" (5 : Nat) ({ cls := "SnowPass$Plough", name := "<init>", desc := "()V" } : Jvm.MethodName) "SnowPass") ∈ lw_tbl := lw_at lw_m1 81 rfl
theorem q209 : (Jvm.Cond.fieldLinkNest "SnowPass$Road" (131 : Nat) "SnowPass$Plough" "capacity" "I" "SnowPass") ∈ lw_tbl := lw_at lw_m1 87 rfl
theorem q213 : (Jvm.Cond.fieldLinkNest "SnowPass$Road" (21 : Nat) "SnowPass$Plough" "position" "I" "SnowPass") ∈ lw_tbl := lw_at lw_m1 91 rfl
theorem q218 : (Jvm.Cond.fieldLinkNest "SnowPass$Road" (87 : Nat) "SnowPass$Plough" "signed" "Z" "SnowPass") ∈ lw_tbl := lw_at lw_m1 96 rfl
theorem q230 : (Jvm.Cond.classLink "SnowPass$Road" (9 : Nat) "SnowPass$Book") ∈ lw_all := lw_g (lw_at lw_m1 108 rfl) rfl
theorem q232 : (Jvm.Cond.methodLink "SnowPass$Road" (11 : Nat) ({ cls := "SnowPass$Book", name := "<init>", desc := "()V" } : Jvm.MethodName)) ∈ lw_all := lw_g (lw_at lw_m1 110 rfl) rfl
theorem q252 : (Jvm.Cond.methodLink "SnowPass$Road" (12 : Nat) ({ cls := "SnowPass$Road", name := "<init>", desc := "(IIII[I[I[ILSnowPass$Plough;LSnowPass$Plough;LSnowPass$Book;)V" } : Jvm.MethodName)) ∈ lw_all := lw_g (lw_at lw_m1 130 rfl) rfl
theorem q253 : (Jvm.Cond.instanceMethod ({ cls := "SnowPass$Road", name := "<init>", desc := "(IIII[I[I[ILSnowPass$Plough;LSnowPass$Plough;LSnowPass$Book;)V" } : Jvm.MethodName)) ∈ lw_all := lw_g (lw_at lw_m1 131 rfl) rfl
theorem q254 : (Jvm.Cond.code ({ cls := "SnowPass$Road", name := "<init>", desc := "(IIII[I[I[ILSnowPass$Plough;LSnowPass$Plough;LSnowPass$Book;)V" } : Jvm.MethodName) prog_9_method_2_code (11 : Nat) (Option.none : Option Jvm.ClassFile.FieldType)) ∈ lw_all := lw_g (lw_at lw_m1 132 rfl) rfl
theorem q255 : (Jvm.Cond.methodLink "SnowPass$Road" (25 : Nat) ({ cls := "java/lang/Object", name := "<init>", desc := "()V" } : Jvm.MethodName)) ∈ lw_all := lw_g (lw_at lw_m1 133 rfl) rfl
theorem q257 : (Jvm.Cond.fieldLink "SnowPass$Road" (28 : Nat) "SnowPass$Road" "summit" "I") ∈ lw_all := lw_g (lw_at lw_m1 135 rfl) rfl
theorem q259 : (Jvm.Cond.fieldLink "SnowPass$Road" (31 : Nat) "SnowPass$Road" "clearDepth" "I") ∈ lw_all := lw_g (lw_at lw_m1 137 rfl) rfl
theorem q260 : (Jvm.Cond.fieldLink "SnowPass$Road" (34 : Nat) "SnowPass$Road" "closingDepth" "I") ∈ lw_all := lw_g (lw_at lw_m1 138 rfl) rfl
theorem q261 : (Jvm.Cond.fieldLink "SnowPass$Road" (37 : Nat) "SnowPass$Road" "chainDepth" "I") ∈ lw_all := lw_g (lw_at lw_m1 139 rfl) rfl
theorem q264 : (Jvm.Cond.fieldLink "SnowPass$Road" (40 : Nat) "SnowPass$Road" "depths" "[I") ∈ lw_all := lw_g (lw_at lw_m1 142 rfl) rfl
theorem q267 : (Jvm.Cond.fieldLink "SnowPass$Road" (44 : Nat) "SnowPass$Road" "exposures" "[I") ∈ lw_all := lw_g (lw_at lw_m1 145 rfl) rfl
theorem q271 : (Jvm.Cond.fieldLink "SnowPass$Road" (47 : Nat) "SnowPass$Road" "salt" "[I") ∈ lw_all := lw_g (lw_at lw_m1 149 rfl) rfl
theorem q274 : (Jvm.Cond.fieldLink "SnowPass$Road" (17 : Nat) "SnowPass$Road" "ploughs" "[LSnowPass$Plough;") ∈ lw_all := lw_g (lw_at lw_m1 152 rfl) rfl
theorem q278 : (Jvm.Cond.fieldLink "SnowPass$Road" (50 : Nat) "SnowPass$Road" "book" "LSnowPass$Book;") ∈ lw_all := lw_g (lw_at lw_m1 156 rfl) rfl
theorem q281 : (Jvm.Cond.fieldLink "SnowPass$Road" (66 : Nat) "SnowPass$Road" "snowfall" "I") ∈ lw_all := lw_g (lw_at lw_m1 159 rfl) rfl
theorem q285 : (Jvm.Cond.fieldLink "SnowPass$Road" (69 : Nat) "SnowPass$Road" "wind" "I") ∈ lw_all := lw_g (lw_at lw_m1 163 rfl) rfl
theorem q290 : (Jvm.Cond.fieldLink "SnowPass$Road" (72 : Nat) "SnowPass$Road" "clock" "I") ∈ lw_all := lw_g (lw_at lw_m1 168 rfl) rfl
theorem q292 : (Jvm.Cond.fieldLink "SnowPass$Road" (75 : Nat) "SnowPass$Road" "fallen" "I") ∈ lw_all := lw_g (lw_at lw_m1 170 rfl) rfl
theorem q295 : (Jvm.Cond.fieldLink "SnowPass$Road" (78 : Nat) "SnowPass$Road" "cleared" "I") ∈ lw_all := lw_g (lw_at lw_m1 173 rfl) rfl
theorem q297 : (Jvm.Cond.fieldLink "SnowPass$Road" (81 : Nat) "SnowPass$Road" "melted" "I") ∈ lw_all := lw_g (lw_at lw_m1 175 rfl) rfl
theorem q299 : (Jvm.Cond.fieldLink "SnowPass$Road" (84 : Nat) "SnowPass$Road" "sacksUsed" "I") ∈ lw_all := lw_g (lw_at lw_m1 177 rfl) rfl
theorem q302 : (Jvm.Cond.laysFinal "SnowPass$Road" "SnowPass$Road" "summit" "I") ∈ lw_all := lw_g (lw_at lw_m1 180 rfl) rfl
theorem q303 : (Jvm.Cond.soleField "SnowPass$Road" "summit") ∈ lw_all := lw_g (lw_at lw_m1 181 rfl) rfl
theorem q304 : (Jvm.Cond.laysFinal "SnowPass$Road" "SnowPass$Road" "clearDepth" "I") ∈ lw_all := lw_g (lw_at lw_m1 182 rfl) rfl
theorem q305 : (Jvm.Cond.soleField "SnowPass$Road" "clearDepth") ∈ lw_all := lw_g (lw_at lw_m1 183 rfl) rfl
theorem q306 : (Jvm.Cond.laysFinal "SnowPass$Road" "SnowPass$Road" "closingDepth" "I") ∈ lw_all := lw_g (lw_at lw_m1 184 rfl) rfl
theorem q307 : (Jvm.Cond.soleField "SnowPass$Road" "closingDepth") ∈ lw_all := lw_g (lw_at lw_m1 185 rfl) rfl
theorem q308 : (Jvm.Cond.laysFinal "SnowPass$Road" "SnowPass$Road" "chainDepth" "I") ∈ lw_all := lw_g (lw_at lw_m1 186 rfl) rfl
theorem q309 : (Jvm.Cond.soleField "SnowPass$Road" "chainDepth") ∈ lw_all := lw_g (lw_at lw_m1 187 rfl) rfl
theorem q310 : (Jvm.Cond.laysFinal "SnowPass$Road" "SnowPass$Road" "depths" "[I") ∈ lw_all := lw_g (lw_at lw_m1 188 rfl) rfl
theorem q311 : (Jvm.Cond.soleField "SnowPass$Road" "depths") ∈ lw_all := lw_g (lw_at lw_m1 189 rfl) rfl
theorem q312 : (Jvm.Cond.laysFinal "SnowPass$Road" "SnowPass$Road" "exposures" "[I") ∈ lw_all := lw_g (lw_at lw_m1 190 rfl) rfl
theorem q313 : (Jvm.Cond.soleField "SnowPass$Road" "exposures") ∈ lw_all := lw_g (lw_at lw_m1 191 rfl) rfl
theorem q314 : (Jvm.Cond.laysFinal "SnowPass$Road" "SnowPass$Road" "salt" "[I") ∈ lw_all := lw_g (lw_at lw_m1 192 rfl) rfl
theorem q315 : (Jvm.Cond.soleField "SnowPass$Road" "salt") ∈ lw_all := lw_g (lw_at lw_m1 193 rfl) rfl
theorem q316 : (Jvm.Cond.laysFinal "SnowPass$Road" "SnowPass$Road" "ploughs" "[LSnowPass$Plough;") ∈ lw_all := lw_g (lw_at lw_m1 194 rfl) rfl
theorem q317 : (Jvm.Cond.soleField "SnowPass$Road" "ploughs") ∈ lw_all := lw_g (lw_at lw_m1 195 rfl) rfl
theorem q318 : (Jvm.Cond.laysFinal "SnowPass$Road" "SnowPass$Road" "book" "LSnowPass$Book;") ∈ lw_all := lw_g (lw_at lw_m1 196 rfl) rfl
theorem q319 : (Jvm.Cond.soleField "SnowPass$Road" "book") ∈ lw_all := lw_g (lw_at lw_m1 197 rfl) rfl
theorem q320 : (Jvm.Cond.lays "SnowPass$Road" "SnowPass$Road" "snowfall" "I") ∈ lw_all := lw_g (lw_at lw_m1 198 rfl) rfl
theorem q321 : (Jvm.Cond.soleField "SnowPass$Road" "snowfall") ∈ lw_all := lw_g (lw_at lw_m1 199 rfl) rfl
theorem q322 : (Jvm.Cond.lays "SnowPass$Road" "SnowPass$Road" "wind" "I") ∈ lw_all := lw_g (lw_at lw_m1 200 rfl) rfl
theorem q323 : (Jvm.Cond.soleField "SnowPass$Road" "wind") ∈ lw_all := lw_g (lw_at lw_m1 201 rfl) rfl
theorem q324 : (Jvm.Cond.lays "SnowPass$Road" "SnowPass$Road" "clock" "I") ∈ lw_all := lw_g (lw_at lw_m1 202 rfl) rfl
theorem q325 : (Jvm.Cond.soleField "SnowPass$Road" "clock") ∈ lw_all := lw_g (lw_at lw_m1 203 rfl) rfl
theorem q326 : (Jvm.Cond.lays "SnowPass$Road" "SnowPass$Road" "fallen" "I") ∈ lw_all := lw_g (lw_at lw_m1 204 rfl) rfl
theorem q327 : (Jvm.Cond.soleField "SnowPass$Road" "fallen") ∈ lw_all := lw_g (lw_at lw_m1 205 rfl) rfl
theorem q328 : (Jvm.Cond.lays "SnowPass$Road" "SnowPass$Road" "cleared" "I") ∈ lw_all := lw_g (lw_at lw_m1 206 rfl) rfl
theorem q329 : (Jvm.Cond.soleField "SnowPass$Road" "cleared") ∈ lw_all := lw_g (lw_at lw_m1 207 rfl) rfl
theorem q330 : (Jvm.Cond.lays "SnowPass$Road" "SnowPass$Road" "melted" "I") ∈ lw_all := lw_g (lw_at lw_m1 208 rfl) rfl
theorem q331 : (Jvm.Cond.soleField "SnowPass$Road" "melted") ∈ lw_all := lw_g (lw_at lw_m1 209 rfl) rfl
theorem q332 : (Jvm.Cond.lays "SnowPass$Road" "SnowPass$Road" "sacksUsed" "I") ∈ lw_all := lw_g (lw_at lw_m1 210 rfl) rfl
theorem q333 : (Jvm.Cond.soleField "SnowPass$Road" "sacksUsed") ∈ lw_all := lw_g (lw_at lw_m1 211 rfl) rfl
theorem q334 : (Jvm.Cond.superclass "SnowPass$Road" "java/lang/Object") ∈ lw_all := lw_g (lw_at lw_m1 212 rfl) rfl
theorem q342 : (Jvm.Cond.instanceMethod ({ cls := "SnowPass$Road", name := "total", desc := "()I" } : Jvm.MethodName)) ∈ lw_all := lw_g (lw_at lw_m1 220 rfl) rfl
theorem q343 : (Jvm.Cond.selects "SnowPass$Road" ({ cls := "SnowPass$Road", name := "total", desc := "()I" } : Jvm.MethodName) ({ cls := "SnowPass$Road", name := "total", desc := "()I" } : Jvm.MethodName)) ∈ lw_all := lw_g (lw_at lw_m1 221 rfl) rfl
theorem q344 : (Jvm.Cond.code ({ cls := "SnowPass$Road", name := "total", desc := "()I" } : Jvm.MethodName) prog_9_method_8_code (6 : Nat) (Option.some Jvm.ClassFile.FieldType.int)) ∈ lw_all := lw_g (lw_at lw_m1 222 rfl) rfl
theorem q804 : (Jvm.Cond.selects "SnowPass$Road" ({ cls := "java/lang/Object", name := "getClass", desc := "()Ljava/lang/Class;" } : Jvm.MethodName) ({ cls := "java/lang/Object", name := "getClass", desc := "()Ljava/lang/Class;" } : Jvm.MethodName)) ∈ lw_all := lw_g (lw_at lw_m3 202 rfl) rfl
theorem q939 : (Jvm.Cond.selects "SnowPass$Road" ({ cls := "java/lang/Object", name := "hashCode", desc := "()I" } : Jvm.MethodName) ({ cls := "java/lang/Object", name := "hashCode", desc := "()I" } : Jvm.MethodName)) ∈ lw_all := lw_g (lw_at lw_m4 97 rfl) rfl
theorem q1378 : (Jvm.Cond.selects "SnowPass$Road" ({ cls := "java/lang/Object", name := "equals", desc := "(Ljava/lang/Object;)Z" } : Jvm.MethodName) ({ cls := "java/lang/Object", name := "equals", desc := "(Ljava/lang/Object;)Z" } : Jvm.MethodName)) ∈ lw_all := lw_g (lw_at lw_m6 56 rfl) rfl
theorem q1574 : (Jvm.Cond.instanceMethod ({ cls := "SnowPass$Road", name := "segments", desc := "()I" } : Jvm.MethodName)) ∈ lw_all := lw_g (lw_at lw_m7 12 rfl) rfl
theorem q1575 : (Jvm.Cond.selects "SnowPass$Road" ({ cls := "SnowPass$Road", name := "segments", desc := "()I" } : Jvm.MethodName) ({ cls := "SnowPass$Road", name := "segments", desc := "()I" } : Jvm.MethodName)) ∈ lw_all := lw_g (lw_at lw_m7 13 rfl) rfl
theorem q1576 : (Jvm.Cond.code ({ cls := "SnowPass$Road", name := "segments", desc := "()I" } : Jvm.MethodName) prog_9_method_4_code (1 : Nat) (Option.some Jvm.ClassFile.FieldType.int)) ∈ lw_all := lw_g (lw_at lw_m7 14 rfl) rfl
theorem q1590 : (Jvm.Cond.instanceMethod ({ cls := "SnowPass$Road", name := "isNight", desc := "()Z" } : Jvm.MethodName)) ∈ lw_all := lw_g (lw_at lw_m7 28 rfl) rfl
theorem q1591 : (Jvm.Cond.selects "SnowPass$Road" ({ cls := "SnowPass$Road", name := "isNight", desc := "()Z" } : Jvm.MethodName) ({ cls := "SnowPass$Road", name := "isNight", desc := "()Z" } : Jvm.MethodName)) ∈ lw_all := lw_g (lw_at lw_m7 29 rfl) rfl
theorem q1592 : (Jvm.Cond.code ({ cls := "SnowPass$Road", name := "isNight", desc := "()Z" } : Jvm.MethodName) prog_9_method_5_code (1 : Nat) (Option.some Jvm.ClassFile.FieldType.boolean)) ∈ lw_all := lw_g (lw_at lw_m7 30 rfl) rfl
theorem q1787 : (Jvm.Cond.instanceMethod ({ cls := "SnowPass$Road", name := "isClear", desc := "(I)Z" } : Jvm.MethodName)) ∈ lw_all := lw_g (lw_at lw_m7 225 rfl) rfl
theorem q1788 : (Jvm.Cond.selects "SnowPass$Road" ({ cls := "SnowPass$Road", name := "isClear", desc := "(I)Z" } : Jvm.MethodName) ({ cls := "SnowPass$Road", name := "isClear", desc := "(I)Z" } : Jvm.MethodName)) ∈ lw_all := lw_g (lw_at lw_m7 226 rfl) rfl
theorem q1789 : (Jvm.Cond.code ({ cls := "SnowPass$Road", name := "isClear", desc := "(I)Z" } : Jvm.MethodName) prog_9_method_6_code (2 : Nat) (Option.some Jvm.ClassFile.FieldType.boolean)) ∈ lw_all := lw_g (lw_at lw_m7 227 rfl) rfl
theorem q1795 : (Jvm.Cond.instanceMethod ({ cls := "SnowPass$Road", name := "deepest", desc := "()I" } : Jvm.MethodName)) ∈ lw_all := lw_g (lw_at lw_m7 233 rfl) rfl
theorem q1796 : (Jvm.Cond.selects "SnowPass$Road" ({ cls := "SnowPass$Road", name := "deepest", desc := "()I" } : Jvm.MethodName) ({ cls := "SnowPass$Road", name := "deepest", desc := "()I" } : Jvm.MethodName)) ∈ lw_all := lw_g (lw_at lw_m7 234 rfl) rfl
theorem q1797 : (Jvm.Cond.code ({ cls := "SnowPass$Road", name := "deepest", desc := "()I" } : Jvm.MethodName) prog_9_method_9_code (3 : Nat) (Option.some Jvm.ClassFile.FieldType.int)) ∈ lw_all := lw_g (lw_at lw_m7 235 rfl) rfl
theorem q1807 : (Jvm.Cond.instanceMethod ({ cls := "SnowPass$Road", name := "isOpen", desc := "()Z" } : Jvm.MethodName)) ∈ lw_all := lw_g (lw_at lw_m8 5 rfl) rfl
theorem q1808 : (Jvm.Cond.selects "SnowPass$Road" ({ cls := "SnowPass$Road", name := "isOpen", desc := "()Z" } : Jvm.MethodName) ({ cls := "SnowPass$Road", name := "isOpen", desc := "()Z" } : Jvm.MethodName)) ∈ lw_all := lw_g (lw_at lw_m8 6 rfl) rfl
theorem q1809 : (Jvm.Cond.code ({ cls := "SnowPass$Road", name := "isOpen", desc := "()Z" } : Jvm.MethodName) prog_9_method_7_code (1 : Nat) (Option.some Jvm.ClassFile.FieldType.boolean)) ∈ lw_all := lw_g (lw_at lw_m8 7 rfl) rfl
theorem q1863 : (Jvm.Cond.instanceMethod ({ cls := "SnowPass$Road", name := "copy", desc := "()LSnowPass$Road;" } : Jvm.MethodName)) ∈ lw_all := lw_g (lw_at lw_m8 61 rfl) rfl
theorem q1864 : (Jvm.Cond.selects "SnowPass$Road" ({ cls := "SnowPass$Road", name := "copy", desc := "()LSnowPass$Road;" } : Jvm.MethodName) ({ cls := "SnowPass$Road", name := "copy", desc := "()LSnowPass$Road;" } : Jvm.MethodName)) ∈ lw_all := lw_g (lw_at lw_m8 62 rfl) rfl
theorem q1865 : (Jvm.Cond.code ({ cls := "SnowPass$Road", name := "copy", desc := "()LSnowPass$Road;" } : Jvm.MethodName) prog_9_method_3_code (2 : Nat) (Option.some (Jvm.ClassFile.FieldType.object "SnowPass$Road"))) ∈ lw_all := lw_g (lw_at lw_m8 63 rfl) rfl
theorem q1866 : (Jvm.Cond.classLink "SnowPass$Road" (13 : Nat) "SnowPass$Road") ∈ lw_all := lw_g (lw_at lw_m8 64 rfl) rfl
theorem q1867 : (Jvm.Cond.methodLink "SnowPass$Road" (54 : Nat) ({ cls := "[I", name := "clone", desc := "()Ljava/lang/Object;" } : Jvm.MethodName)) ∈ lw_all := lw_g (lw_at lw_m8 65 rfl) rfl
theorem q1871 : (Jvm.Cond.classLink "SnowPass$Road" (55 : Nat) "[I") ∈ lw_all := lw_g (lw_at lw_m8 69 rfl) rfl
theorem q1872 : (Jvm.Cond.methodLink "SnowPass$Road" (59 : Nat) ({ cls := "SnowPass$Plough", name := "copy", desc := "()LSnowPass$Plough;" } : Jvm.MethodName)) ∈ lw_all := lw_g (lw_at lw_m8 70 rfl) rfl
theorem q1878 : (Jvm.Cond.methodLink "SnowPass$Road" (63 : Nat) ({ cls := "SnowPass$Book", name := "copy", desc := "()LSnowPass$Book;" } : Jvm.MethodName)) ∈ lw_all := lw_g (lw_at lw_m8 76 rfl) rfl
theorem q1886 : (Jvm.Cond.instanceMethod ({ cls := "SnowPass$Road", name := "after", desc := "(I)LSnowPass$Road;" } : Jvm.MethodName)) ∈ lw_all := lw_g (lw_at lw_m8 84 rfl) rfl
theorem q1887 : (Jvm.Cond.selects "SnowPass$Road" ({ cls := "SnowPass$Road", name := "after", desc := "(I)LSnowPass$Road;" } : Jvm.MethodName) ({ cls := "SnowPass$Road", name := "after", desc := "(I)LSnowPass$Road;" } : Jvm.MethodName)) ∈ lw_all := lw_g (lw_at lw_m8 85 rfl) rfl
theorem q1888 : (Jvm.Cond.code ({ cls := "SnowPass$Road", name := "after", desc := "(I)LSnowPass$Road;" } : Jvm.MethodName) prog_9_method_19_code (3 : Nat) (Option.some (Jvm.ClassFile.FieldType.object "SnowPass$Road"))) ∈ lw_all := lw_g (lw_at lw_m8 86 rfl) rfl
theorem q1889 : (Jvm.Cond.methodLink "SnowPass$Road" (149 : Nat) ({ cls := "SnowPass$Road", name := "workHour", desc := "()V" } : Jvm.MethodName)) ∈ lw_all := lw_g (lw_at lw_m8 87 rfl) rfl
theorem q1890 : (Jvm.Cond.instanceMethod ({ cls := "SnowPass$Road", name := "workHour", desc := "()V" } : Jvm.MethodName)) ∈ lw_all := lw_g (lw_at lw_m8 88 rfl) rfl
theorem q1891 : (Jvm.Cond.selects "SnowPass$Road" ({ cls := "SnowPass$Road", name := "workHour", desc := "()V" } : Jvm.MethodName) ({ cls := "SnowPass$Road", name := "workHour", desc := "()V" } : Jvm.MethodName)) ∈ lw_all := lw_g (lw_at lw_m8 89 rfl) rfl
theorem q1892 : (Jvm.Cond.code ({ cls := "SnowPass$Road", name := "workHour", desc := "()V" } : Jvm.MethodName) prog_9_method_18_code (2 : Nat) (Option.none : Option Jvm.ClassFile.FieldType)) ∈ lw_all := lw_g (lw_at lw_m8 90 rfl) rfl
theorem q1893 : (Jvm.Cond.methodLink "SnowPass$Road" (137 : Nat) ({ cls := "SnowPass$Road", name := "snow", desc := "(I)V" } : Jvm.MethodName)) ∈ lw_all := lw_g (lw_at lw_m8 91 rfl) rfl
theorem q1894 : (Jvm.Cond.privateMethod ({ cls := "SnowPass$Road", name := "snow", desc := "(I)V" } : Jvm.MethodName)) ∈ lw_tbl := lw_at lw_m8 92 rfl
theorem q1895 : (Jvm.Cond.instanceMethod ({ cls := "SnowPass$Road", name := "snow", desc := "(I)V" } : Jvm.MethodName)) ∈ lw_all := lw_g (lw_at lw_m8 93 rfl) rfl
theorem q1896 : (Jvm.Cond.code ({ cls := "SnowPass$Road", name := "snow", desc := "(I)V" } : Jvm.MethodName) prog_9_method_14_code (3 : Nat) (Option.none : Option Jvm.ClassFile.FieldType)) ∈ lw_all := lw_g (lw_at lw_m8 94 rfl) rfl
theorem q1897 : (Jvm.Cond.methodLink "SnowPass$Road" (108 : Nat) ({ cls := "java/lang/Math", name := "min", desc := "(II)I" } : Jvm.MethodName)) ∈ lw_all := lw_g (lw_at lw_m8 95 rfl) rfl
theorem q1898 : (Jvm.Cond.methodLink "SnowPass$Road" (114 : Nat) ({ cls := "SnowPass$Road", name := "isNight", desc := "()Z" } : Jvm.MethodName)) ∈ lw_all := lw_g (lw_at lw_m8 96 rfl) rfl
theorem q1899 : (Jvm.Cond.methodLink "SnowPass$Road" (128 : Nat) ({ cls := "SnowPass$Road", name := "isOpen", desc := "()Z" } : Jvm.MethodName)) ∈ lw_all := lw_g (lw_at lw_m8 97 rfl) rfl
theorem q1900 : (Jvm.Cond.methodLink "SnowPass$Road" (140 : Nat) ({ cls := "SnowPass$Road", name := "deepest", desc := "()I" } : Jvm.MethodName)) ∈ lw_all := lw_g (lw_at lw_m8 98 rfl) rfl
theorem q1901 : (Jvm.Cond.methodLink "SnowPass$Road" (143 : Nat) ({ cls := "SnowPass$Road", name := "close", desc := "()V" } : Jvm.MethodName)) ∈ lw_all := lw_g (lw_at lw_m8 99 rfl) rfl
theorem q1902 : (Jvm.Cond.privateMethod ({ cls := "SnowPass$Road", name := "close", desc := "()V" } : Jvm.MethodName)) ∈ lw_tbl := lw_at lw_m8 100 rfl
theorem q1903 : (Jvm.Cond.instanceMethod ({ cls := "SnowPass$Road", name := "close", desc := "()V" } : Jvm.MethodName)) ∈ lw_all := lw_g (lw_at lw_m8 101 rfl) rfl
theorem q1904 : (Jvm.Cond.code ({ cls := "SnowPass$Road", name := "close", desc := "()V" } : Jvm.MethodName) prog_9_method_15_code (3 : Nat) (Option.none : Option Jvm.ClassFile.FieldType)) ∈ lw_all := lw_g (lw_at lw_m8 102 rfl) rfl
theorem q1905 : (Jvm.Cond.methodLink "SnowPass$Road" (118 : Nat) ({ cls := "SnowPass$Book", name := "add", desc := "(II)V" } : Jvm.MethodName)) ∈ lw_all := lw_g (lw_at lw_m8 103 rfl) rfl
theorem q1910 : (Jvm.Cond.methodLink "SnowPass$Road" (121 : Nat) ({ cls := "SnowPass$Road", name := "withdraw", desc := "(I)Z" } : Jvm.MethodName)) ∈ lw_all := lw_g (lw_at lw_m8 108 rfl) rfl
theorem q1911 : (Jvm.Cond.instanceMethod ({ cls := "SnowPass$Road", name := "withdraw", desc := "(I)Z" } : Jvm.MethodName)) ∈ lw_all := lw_g (lw_at lw_m8 109 rfl) rfl
theorem q1912 : (Jvm.Cond.selects "SnowPass$Road" ({ cls := "SnowPass$Road", name := "withdraw", desc := "(I)Z" } : Jvm.MethodName) ({ cls := "SnowPass$Road", name := "withdraw", desc := "(I)Z" } : Jvm.MethodName)) ∈ lw_all := lw_g (lw_at lw_m8 110 rfl) rfl
theorem q1913 : (Jvm.Cond.code ({ cls := "SnowPass$Road", name := "withdraw", desc := "(I)Z" } : Jvm.MethodName) prog_9_method_13_code (3 : Nat) (Option.some Jvm.ClassFile.FieldType.boolean)) ∈ lw_all := lw_g (lw_at lw_m8 111 rfl) rfl
theorem q1914 : (Jvm.Cond.methodLink "SnowPass$Road" (124 : Nat) ({ cls := "SnowPass$Road", name := "sendBack", desc := "(I)V" } : Jvm.MethodName)) ∈ lw_all := lw_g (lw_at lw_m8 112 rfl) rfl
theorem q1915 : (Jvm.Cond.instanceMethod ({ cls := "SnowPass$Road", name := "sendBack", desc := "(I)V" } : Jvm.MethodName)) ∈ lw_all := lw_g (lw_at lw_m8 113 rfl) rfl
theorem q1916 : (Jvm.Cond.selects "SnowPass$Road" ({ cls := "SnowPass$Road", name := "sendBack", desc := "(I)V" } : Jvm.MethodName) ({ cls := "SnowPass$Road", name := "sendBack", desc := "(I)V" } : Jvm.MethodName)) ∈ lw_all := lw_g (lw_at lw_m8 114 rfl) rfl
theorem q1917 : (Jvm.Cond.code ({ cls := "SnowPass$Road", name := "sendBack", desc := "(I)V" } : Jvm.MethodName) prog_9_method_12_code (2 : Nat) (Option.none : Option Jvm.ClassFile.FieldType)) ∈ lw_all := lw_g (lw_at lw_m8 115 rfl) rfl
theorem q1918 : (Jvm.Cond.methodLink "SnowPass$Road" (104 : Nat) ({ cls := "SnowPass$Road", name := "firstUncleared", desc := "(I)I" } : Jvm.MethodName)) ∈ lw_all := lw_g (lw_at lw_m8 116 rfl) rfl
theorem q1919 : (Jvm.Cond.privateMethod ({ cls := "SnowPass$Road", name := "firstUncleared", desc := "(I)I" } : Jvm.MethodName)) ∈ lw_tbl := lw_at lw_m8 117 rfl
theorem q1920 : (Jvm.Cond.instanceMethod ({ cls := "SnowPass$Road", name := "firstUncleared", desc := "(I)I" } : Jvm.MethodName)) ∈ lw_all := lw_g (lw_at lw_m8 118 rfl) rfl
theorem q1921 : (Jvm.Cond.code ({ cls := "SnowPass$Road", name := "firstUncleared", desc := "(I)I" } : Jvm.MethodName) prog_9_method_11_code (4 : Nat) (Option.some Jvm.ClassFile.FieldType.int)) ∈ lw_all := lw_g (lw_at lw_m8 119 rfl) rfl
theorem q1922 : (Jvm.Cond.methodLink "SnowPass$Road" (93 : Nat) ({ cls := "SnowPass$Road", name := "segments", desc := "()I" } : Jvm.MethodName)) ∈ lw_all := lw_g (lw_at lw_m8 120 rfl) rfl
theorem q1923 : (Jvm.Cond.methodLink "SnowPass$Road" (100 : Nat) ({ cls := "SnowPass$Road", name := "isClear", desc := "(I)Z" } : Jvm.MethodName)) ∈ lw_all := lw_g (lw_at lw_m8 121 rfl) rfl
theorem q1924 : (Jvm.Cond.methodLink "SnowPass$Road" (146 : Nat) ({ cls := "SnowPass$Road", name := "work", desc := "(I)V" } : Jvm.MethodName)) ∈ lw_all := lw_g (lw_at lw_m8 122 rfl) rfl
theorem q1925 : (Jvm.Cond.privateMethod ({ cls := "SnowPass$Road", name := "work", desc := "(I)V" } : Jvm.MethodName)) ∈ lw_tbl := lw_at lw_m8 123 rfl
theorem q1926 : (Jvm.Cond.instanceMethod ({ cls := "SnowPass$Road", name := "work", desc := "(I)V" } : Jvm.MethodName)) ∈ lw_all := lw_g (lw_at lw_m8 124 rfl) rfl
theorem q1927 : (Jvm.Cond.code ({ cls := "SnowPass$Road", name := "work", desc := "(I)V" } : Jvm.MethodName) prog_9_method_17_code (4 : Nat) (Option.none : Option Jvm.ClassFile.FieldType)) ∈ lw_all := lw_g (lw_at lw_m8 125 rfl) rfl
theorem q1928 : (Jvm.Cond.methodLink "SnowPass$Road" (134 : Nat) ({ cls := "SnowPass$Road", name := "sign", desc := "(I)V" } : Jvm.MethodName)) ∈ lw_all := lw_g (lw_at lw_m8 126 rfl) rfl
theorem q1929 : (Jvm.Cond.privateMethod ({ cls := "SnowPass$Road", name := "sign", desc := "(I)V" } : Jvm.MethodName)) ∈ lw_tbl := lw_at lw_m8 127 rfl
theorem q1930 : (Jvm.Cond.instanceMethod ({ cls := "SnowPass$Road", name := "sign", desc := "(I)V" } : Jvm.MethodName)) ∈ lw_all := lw_g (lw_at lw_m8 128 rfl) rfl
theorem q1931 : (Jvm.Cond.code ({ cls := "SnowPass$Road", name := "sign", desc := "(I)V" } : Jvm.MethodName) prog_9_method_16_code (2 : Nat) (Option.none : Option Jvm.ClassFile.FieldType)) ∈ lw_all := lw_g (lw_at lw_m8 129 rfl) rfl
theorem q3002 : (Jvm.Cond.instanceMethod ({ cls := "SnowPass$Road", name := "side", desc := "(I)Ljava/lang/Iterable;" } : Jvm.MethodName)) ∈ lw_all := lw_g (lw_at lw_m13 0 rfl) rfl
theorem q3003 : (Jvm.Cond.selects "SnowPass$Road" ({ cls := "SnowPass$Road", name := "side", desc := "(I)Ljava/lang/Iterable;" } : Jvm.MethodName) ({ cls := "SnowPass$Road", name := "side", desc := "(I)Ljava/lang/Iterable;" } : Jvm.MethodName)) ∈ lw_all := lw_g (lw_at lw_m13 1 rfl) rfl
theorem q3004 : (Jvm.Cond.code ({ cls := "SnowPass$Road", name := "side", desc := "(I)Ljava/lang/Iterable;" } : Jvm.MethodName) prog_9_method_10_code (2 : Nat) (Option.some (Jvm.ClassFile.FieldType.object "java/lang/Iterable"))) ∈ lw_all := lw_g (lw_at lw_m13 2 rfl) rfl
theorem q3005 : (Jvm.Cond.classLink "SnowPass$Road" (91 : Nat) "SnowPass$Side") ∈ lw_all := lw_g (lw_at lw_m13 3 rfl) rfl
theorem q3006 : (Jvm.Cond.methodLink "SnowPass$Road" (97 : Nat) ({ cls := "SnowPass$Side", name := "<init>", desc := "(II)V" } : Jvm.MethodName)) ∈ lw_all := lw_g (lw_at lw_m13 4 rfl) rfl
theorem q3988 : (Jvm.Cond.castable "SnowPass$Road" "java/lang/Object") ∈ lw_tbl := lw_at lw_m17 26 rfl
theorem in_X2 : ∀ w ∈ wsX20, w ∈ lw_all := lw_in wsX20 [302, 304, 306, 308, 310, 312, 314, 316, 318, 320, 322, 324, 326, 328, 330, 332] (by decide +kernel) (by decide +kernel)

/-! SnowPass$Plough -/
def RX3 : String := "SnowPass$Plough"
def TX3 : u_T := fun k => match k with
  | 0 => ("SnowPass$Plough", "capacity", "I", false)
  | 1 => ("SnowPass$Plough", "sacks", "I", false)
  | 2 => ("SnowPass$Plough", "position", "I", false)
  | _ => ("SnowPass$Plough", "signed", "Z", false)
def tyX3 : Nat → FieldType := fun k => match k with
  | 0 => .int
  | 1 => .int
  | 2 => .int
  | _ => .boolean
abbrev wsX30 : List Cond := u_ws RX3 TX3 4
theorem nmX3 : ∀ a, a < 4 → ∀ b, b < 4 → a ≠ b → (TX3 a).2.1 ≠ (TX3 b).2.1 := by decide +kernel
theorem tyX3_ok : ∀ k, k < 4 → parseFieldDescriptor (TX3 k).2.2.1 = some (tyX3 k) := by decide +kernel
abbrev cX3_init : ByteArray := prog_8_method_1_code
def yX3_init : MethodName := ⟨RX3, "<init>", "()V"⟩
theorem dX3_init_0 : decode cX3_init 0 = .ok (.aload_n 0, 1) := by decide +kernel
theorem dX3_init_1 : decode cX3_init 1 = .ok (.invokespecial 1, 3) := by decide +kernel
theorem dX3_init_4 : decode cX3_init 4 = .ok (.return_, 1) := by decide +kernel
abbrev cX3_copy : ByteArray := prog_8_method_2_code
def yX3_copy : MethodName := ⟨RX3, "copy", "()LSnowPass$Plough;"⟩
def dkwX3_copy_1 : List UInt8 := [43, 42, 180, 0, 17, 181, 0, 17, 43, 42, 180, 0, 20, 181, 0, 20, 43, 176]
abbrev dktX3_copy_1 : List UInt8 := dkwX3_copy_1 ++ []
def dkwX3_copy_0 : List UInt8 := [187, 0, 7, 89, 183, 0, 9, 76, 43, 42, 180, 0, 10, 181, 0, 10, 43, 42, 180, 0, 14, 181, 0, 14]
abbrev dktX3_copy_0 : List UInt8 := dkwX3_copy_0 ++ dktX3_copy_1
theorem dksX3_copy_0 : cX3_copy.data.toList.drop 0 = dktX3_copy_0 := by decide +kernel
theorem dksX3_copy_1 : cX3_copy.data.toList.drop 24 = dktX3_copy_1 := dk_seg dksX3_copy_0 24 rfl rfl
theorem dX3_copy_0 : decode cX3_copy 0 = .ok (.new 7, 3) := dk_187 0 7 (dk_at dksX3_copy_0 0 rfl rfl)
theorem dX3_copy_3 : decode cX3_copy 3 = .ok (.dup, 1) := dk_89 (dk_at dksX3_copy_0 3 rfl rfl)
theorem dX3_copy_4 : decode cX3_copy 4 = .ok (.invokespecial 9, 3) := dk_183 0 9 (dk_at dksX3_copy_0 4 rfl rfl)
theorem dX3_copy_7 : decode cX3_copy 7 = .ok (.astore_n 1, 1) := dk_76 (dk_at dksX3_copy_0 7 rfl rfl)
theorem dX3_copy_8 : decode cX3_copy 8 = .ok (.aload_n 1, 1) := dk_43 (dk_at dksX3_copy_0 8 rfl rfl)
theorem dX3_copy_9 : decode cX3_copy 9 = .ok (.aload_n 0, 1) := dk_42 (dk_at dksX3_copy_0 9 rfl rfl)
theorem dX3_copy_10 : decode cX3_copy 10 = .ok (.getfield 10, 3) := dk_180 0 10 (dk_at dksX3_copy_0 10 rfl rfl)
theorem dX3_copy_13 : decode cX3_copy 13 = .ok (.putfield 10, 3) := dk_181 0 10 (dk_at dksX3_copy_0 13 rfl rfl)
theorem dX3_copy_16 : decode cX3_copy 16 = .ok (.aload_n 1, 1) := dk_43 (dk_at dksX3_copy_0 16 rfl rfl)
theorem dX3_copy_17 : decode cX3_copy 17 = .ok (.aload_n 0, 1) := dk_42 (dk_at dksX3_copy_0 17 rfl rfl)
theorem dX3_copy_18 : decode cX3_copy 18 = .ok (.getfield 14, 3) := dk_180 0 14 (dk_at dksX3_copy_0 18 rfl rfl)
theorem dX3_copy_21 : decode cX3_copy 21 = .ok (.putfield 14, 3) := dk_181 0 14 (dk_at dksX3_copy_0 21 rfl rfl)
theorem dX3_copy_24 : decode cX3_copy 24 = .ok (.aload_n 1, 1) := dk_43 (dk_at dksX3_copy_1 0 rfl rfl)
theorem dX3_copy_25 : decode cX3_copy 25 = .ok (.aload_n 0, 1) := dk_42 (dk_at dksX3_copy_1 1 rfl rfl)
theorem dX3_copy_26 : decode cX3_copy 26 = .ok (.getfield 17, 3) := dk_180 0 17 (dk_at dksX3_copy_1 2 rfl rfl)
theorem dX3_copy_29 : decode cX3_copy 29 = .ok (.putfield 17, 3) := dk_181 0 17 (dk_at dksX3_copy_1 5 rfl rfl)
theorem dX3_copy_32 : decode cX3_copy 32 = .ok (.aload_n 1, 1) := dk_43 (dk_at dksX3_copy_1 8 rfl rfl)
theorem dX3_copy_33 : decode cX3_copy 33 = .ok (.aload_n 0, 1) := dk_42 (dk_at dksX3_copy_1 9 rfl rfl)
theorem dX3_copy_34 : decode cX3_copy 34 = .ok (.getfield 20, 3) := dk_180 0 20 (dk_at dksX3_copy_1 10 rfl rfl)
theorem dX3_copy_37 : decode cX3_copy 37 = .ok (.putfield 20, 3) := dk_181 0 20 (dk_at dksX3_copy_1 13 rfl rfl)
theorem dX3_copy_40 : decode cX3_copy 40 = .ok (.aload_n 1, 1) := dk_43 (dk_at dksX3_copy_1 16 rfl rfl)
theorem dX3_copy_41 : decode cX3_copy 41 = .ok (.areturn, 1) := dk_176 (dk_at dksX3_copy_1 17 rfl rfl)
theorem q125 : (Jvm.Cond.initialized "SnowPass$Plough") ∈ lw_all := lw_g (lw_at lw_m1 3 rfl) rfl
theorem q202 : (Jvm.Cond.instantiable "SnowPass$Plough" (4 : Nat)) ∈ lw_all := lw_g (lw_at lw_m1 80 rfl) rfl
theorem q204 : (Jvm.Cond.instanceMethod ({ cls := "SnowPass$Plough", name := "<init>", desc := "()V" } : Jvm.MethodName)) ∈ lw_all := lw_g (lw_at lw_m1 82 rfl) rfl
theorem q205 : (Jvm.Cond.code ({ cls := "SnowPass$Plough", name := "<init>", desc := "()V" } : Jvm.MethodName) prog_8_method_1_code (1 : Nat) (Option.none : Option Jvm.ClassFile.FieldType)) ∈ lw_all := lw_g (lw_at lw_m1 83 rfl) rfl
theorem q206 : (Jvm.Cond.methodLink "SnowPass$Plough" (1 : Nat) ({ cls := "java/lang/Object", name := "<init>", desc := "()V" } : Jvm.MethodName)) ∈ lw_all := lw_g (lw_at lw_m1 84 rfl) rfl
theorem q207 : (Jvm.Cond.fieldLink "SnowPass$Plough" (10 : Nat) "SnowPass$Plough" "capacity" "I") ∈ lw_all := lw_g (lw_at lw_m1 85 rfl) rfl
theorem q210 : (Jvm.Cond.fieldLink "SnowPass$Plough" (14 : Nat) "SnowPass$Plough" "sacks" "I") ∈ lw_all := lw_g (lw_at lw_m1 88 rfl) rfl
theorem q214 : (Jvm.Cond.fieldLink "SnowPass$Plough" (17 : Nat) "SnowPass$Plough" "position" "I") ∈ lw_all := lw_g (lw_at lw_m1 92 rfl) rfl
theorem q217 : (Jvm.Cond.fieldLink "SnowPass$Plough" (20 : Nat) "SnowPass$Plough" "signed" "Z") ∈ lw_all := lw_g (lw_at lw_m1 95 rfl) rfl
theorem q220 : (Jvm.Cond.lays "SnowPass$Plough" "SnowPass$Plough" "capacity" "I") ∈ lw_all := lw_g (lw_at lw_m1 98 rfl) rfl
theorem q221 : (Jvm.Cond.soleField "SnowPass$Plough" "capacity") ∈ lw_all := lw_g (lw_at lw_m1 99 rfl) rfl
theorem q222 : (Jvm.Cond.lays "SnowPass$Plough" "SnowPass$Plough" "sacks" "I") ∈ lw_all := lw_g (lw_at lw_m1 100 rfl) rfl
theorem q223 : (Jvm.Cond.soleField "SnowPass$Plough" "sacks") ∈ lw_all := lw_g (lw_at lw_m1 101 rfl) rfl
theorem q224 : (Jvm.Cond.lays "SnowPass$Plough" "SnowPass$Plough" "position" "I") ∈ lw_all := lw_g (lw_at lw_m1 102 rfl) rfl
theorem q225 : (Jvm.Cond.soleField "SnowPass$Plough" "position") ∈ lw_all := lw_g (lw_at lw_m1 103 rfl) rfl
theorem q226 : (Jvm.Cond.lays "SnowPass$Plough" "SnowPass$Plough" "signed" "Z") ∈ lw_all := lw_g (lw_at lw_m1 104 rfl) rfl
theorem q227 : (Jvm.Cond.soleField "SnowPass$Plough" "signed") ∈ lw_all := lw_g (lw_at lw_m1 105 rfl) rfl
theorem q228 : (Jvm.Cond.superclass "SnowPass$Plough" "java/lang/Object") ∈ lw_all := lw_g (lw_at lw_m1 106 rfl) rfl
theorem q803 : (Jvm.Cond.selects "SnowPass$Plough" ({ cls := "java/lang/Object", name := "getClass", desc := "()Ljava/lang/Class;" } : Jvm.MethodName) ({ cls := "java/lang/Object", name := "getClass", desc := "()Ljava/lang/Class;" } : Jvm.MethodName)) ∈ lw_all := lw_g (lw_at lw_m3 201 rfl) rfl
theorem q938 : (Jvm.Cond.selects "SnowPass$Plough" ({ cls := "java/lang/Object", name := "hashCode", desc := "()I" } : Jvm.MethodName) ({ cls := "java/lang/Object", name := "hashCode", desc := "()I" } : Jvm.MethodName)) ∈ lw_all := lw_g (lw_at lw_m4 96 rfl) rfl
theorem q1377 : (Jvm.Cond.selects "SnowPass$Plough" ({ cls := "java/lang/Object", name := "equals", desc := "(Ljava/lang/Object;)Z" } : Jvm.MethodName) ({ cls := "java/lang/Object", name := "equals", desc := "(Ljava/lang/Object;)Z" } : Jvm.MethodName)) ∈ lw_all := lw_g (lw_at lw_m6 55 rfl) rfl
theorem q1873 : (Jvm.Cond.instanceMethod ({ cls := "SnowPass$Plough", name := "copy", desc := "()LSnowPass$Plough;" } : Jvm.MethodName)) ∈ lw_all := lw_g (lw_at lw_m8 71 rfl) rfl
theorem q1874 : (Jvm.Cond.selects "SnowPass$Plough" ({ cls := "SnowPass$Plough", name := "copy", desc := "()LSnowPass$Plough;" } : Jvm.MethodName) ({ cls := "SnowPass$Plough", name := "copy", desc := "()LSnowPass$Plough;" } : Jvm.MethodName)) ∈ lw_all := lw_g (lw_at lw_m8 72 rfl) rfl
theorem q1875 : (Jvm.Cond.code ({ cls := "SnowPass$Plough", name := "copy", desc := "()LSnowPass$Plough;" } : Jvm.MethodName) prog_8_method_2_code (2 : Nat) (Option.some (Jvm.ClassFile.FieldType.object "SnowPass$Plough"))) ∈ lw_all := lw_g (lw_at lw_m8 73 rfl) rfl
theorem q1876 : (Jvm.Cond.classLink "SnowPass$Plough" (7 : Nat) "SnowPass$Plough") ∈ lw_all := lw_g (lw_at lw_m8 74 rfl) rfl
theorem q1877 : (Jvm.Cond.methodLink "SnowPass$Plough" (9 : Nat) ({ cls := "SnowPass$Plough", name := "<init>", desc := "()V" } : Jvm.MethodName)) ∈ lw_all := lw_g (lw_at lw_m8 75 rfl) rfl
theorem q3984 : (Jvm.Cond.castable "SnowPass$Plough" "java/lang/Object") ∈ lw_tbl := lw_at lw_m17 22 rfl
theorem in_X3 : ∀ w ∈ wsX30, w ∈ lw_all := lw_in wsX30 [220, 222, 224, 226] (by decide +kernel) (by decide +kernel)

/-! SnowPass$Book -/
def RX4 : String := "SnowPass$Book"
def TX4 : u_T := fun k => match k with
  | 0 => ("SnowPass$Book", "kinds", "[I", true)
  | 1 => ("SnowPass$Book", "clocks", "[I", true)
  | _ => ("SnowPass$Book", "size", "I", false)
def tyX4 : Nat → FieldType := fun k => match k with
  | 0 => .array .int
  | 1 => .array .int
  | _ => .int
abbrev wsX40 : List Cond := u_ws RX4 TX4 3
theorem nmX4 : ∀ a, a < 3 → ∀ b, b < 3 → a ≠ b → (TX4 a).2.1 ≠ (TX4 b).2.1 := by decide +kernel
theorem tyX4_ok : ∀ k, k < 3 → parseFieldDescriptor (TX4 k).2.2.1 = some (tyX4 k) := by decide +kernel
abbrev cX4_init : ByteArray := prog_3_method_1_code
def yX4_init : MethodName := ⟨RX4, "<init>", "()V"⟩
def dkwX4_init_0 : List UInt8 := [42, 16, 20, 188, 10, 16, 20, 188, 10, 183, 0, 3, 177]
abbrev dktX4_init_0 : List UInt8 := dkwX4_init_0 ++ []
theorem dksX4_init_0 : cX4_init.data.toList.drop 0 = dktX4_init_0 := by decide +kernel
theorem dX4_init_0 : decode cX4_init 0 = .ok (.aload_n 0, 1) := dk_42 (dk_at dksX4_init_0 0 rfl rfl)
theorem dX4_init_1 : decode cX4_init 1 = .ok (.bipush 20, 2) := dk_16 20 (dk_at dksX4_init_0 1 rfl rfl)
theorem dX4_init_3 : decode cX4_init 3 = .ok (.newarray .int, 2) := dk_188_10 (dk_at dksX4_init_0 3 rfl rfl)
theorem dX4_init_5 : decode cX4_init 5 = .ok (.bipush 20, 2) := dk_16 20 (dk_at dksX4_init_0 5 rfl rfl)
theorem dX4_init_7 : decode cX4_init 7 = .ok (.newarray .int, 2) := dk_188_10 (dk_at dksX4_init_0 7 rfl rfl)
theorem dX4_init_9 : decode cX4_init 9 = .ok (.invokespecial 3, 3) := dk_183 0 3 (dk_at dksX4_init_0 9 rfl rfl)
theorem dX4_init_12 : decode cX4_init 12 = .ok (.return_, 1) := dk_177 (dk_at dksX4_init_0 12 rfl rfl)
abbrev cX4_init_2 : ByteArray := prog_3_method_2_code
def yX4_init_2 : MethodName := ⟨RX4, "<init>", "([I[I)V"⟩
def dkwX4_init_2_0 : List UInt8 := [42, 183, 0, 9, 42, 43, 181, 0, 14, 42, 44, 181, 0, 18, 177]
abbrev dktX4_init_2_0 : List UInt8 := dkwX4_init_2_0 ++ []
theorem dksX4_init_2_0 : cX4_init_2.data.toList.drop 0 = dktX4_init_2_0 := by decide +kernel
theorem dX4_init_2_0 : decode cX4_init_2 0 = .ok (.aload_n 0, 1) := dk_42 (dk_at dksX4_init_2_0 0 rfl rfl)
theorem dX4_init_2_1 : decode cX4_init_2 1 = .ok (.invokespecial 9, 3) := dk_183 0 9 (dk_at dksX4_init_2_0 1 rfl rfl)
theorem dX4_init_2_4 : decode cX4_init_2 4 = .ok (.aload_n 0, 1) := dk_42 (dk_at dksX4_init_2_0 4 rfl rfl)
theorem dX4_init_2_5 : decode cX4_init_2 5 = .ok (.aload_n 1, 1) := dk_43 (dk_at dksX4_init_2_0 5 rfl rfl)
theorem dX4_init_2_6 : decode cX4_init_2 6 = .ok (.putfield 14, 3) := dk_181 0 14 (dk_at dksX4_init_2_0 6 rfl rfl)
theorem dX4_init_2_9 : decode cX4_init_2 9 = .ok (.aload_n 0, 1) := dk_42 (dk_at dksX4_init_2_0 9 rfl rfl)
theorem dX4_init_2_10 : decode cX4_init_2 10 = .ok (.aload_n 2, 1) := dk_44 (dk_at dksX4_init_2_0 10 rfl rfl)
theorem dX4_init_2_11 : decode cX4_init_2 11 = .ok (.putfield 18, 3) := dk_181 0 18 (dk_at dksX4_init_2_0 11 rfl rfl)
theorem dX4_init_2_14 : decode cX4_init_2 14 = .ok (.return_, 1) := dk_177 (dk_at dksX4_init_2_0 14 rfl rfl)
abbrev cX4_has : ByteArray := prog_3_method_5_code
def yX4_has : MethodName := ⟨RX4, "has", "(I)Z"⟩
def dkwX4_has_0 : List UInt8 := [27, 133, 9, 42, 180, 0, 26, 4, 100, 133, 184, 0, 36, 172]
abbrev dktX4_has_0 : List UInt8 := dkwX4_has_0 ++ []
theorem dksX4_has_0 : cX4_has.data.toList.drop 0 = dktX4_has_0 := by decide +kernel
theorem dX4_has_0 : decode cX4_has 0 = .ok (.iload_n 1, 1) := dk_27 (dk_at dksX4_has_0 0 rfl rfl)
theorem dX4_has_1 : decode cX4_has 1 = .ok (.i2l, 1) := dk_133 (dk_at dksX4_has_0 1 rfl rfl)
theorem dX4_has_2 : decode cX4_has 2 = .ok (.lconst 0, 1) := dk_9 (dk_at dksX4_has_0 2 rfl rfl)
theorem dX4_has_3 : decode cX4_has 3 = .ok (.aload_n 0, 1) := dk_42 (dk_at dksX4_has_0 3 rfl rfl)
theorem dX4_has_4 : decode cX4_has 4 = .ok (.getfield 26, 3) := dk_180 0 26 (dk_at dksX4_has_0 4 rfl rfl)
theorem dX4_has_7 : decode cX4_has 7 = .ok (.iconst 1, 1) := dk_4 (dk_at dksX4_has_0 7 rfl rfl)
theorem dX4_has_8 : decode cX4_has 8 = .ok (.isub, 1) := dk_100 (dk_at dksX4_has_0 8 rfl rfl)
theorem dX4_has_9 : decode cX4_has 9 = .ok (.i2l, 1) := dk_133 (dk_at dksX4_has_0 9 rfl rfl)
theorem dX4_has_10 : decode cX4_has 10 = .ok (.invokestatic 36, 3) := dk_184 0 36 (dk_at dksX4_has_0 10 rfl rfl)
theorem dX4_has_13 : decode cX4_has 13 = .ok (.ireturn, 1) := dk_172 (dk_at dksX4_has_0 13 rfl rfl)
abbrev cX4_copy : ByteArray := prog_3_method_3_code
def yX4_copy : MethodName := ⟨RX4, "copy", "()LSnowPass$Book;"⟩
def dkwX4_copy_1 : List UInt8 := [183, 0, 3, 76, 43, 42, 180, 0, 26, 181, 0, 26, 43, 176]
abbrev dktX4_copy_1 : List UInt8 := dkwX4_copy_1 ++ []
def dkwX4_copy_0 : List UInt8 := [187, 0, 4, 89, 42, 180, 0, 14, 182, 0, 21, 192, 0, 22, 42, 180, 0, 18, 182, 0, 21, 192, 0, 22]
abbrev dktX4_copy_0 : List UInt8 := dkwX4_copy_0 ++ dktX4_copy_1
theorem dksX4_copy_0 : cX4_copy.data.toList.drop 0 = dktX4_copy_0 := by decide +kernel
theorem dksX4_copy_1 : cX4_copy.data.toList.drop 24 = dktX4_copy_1 := dk_seg dksX4_copy_0 24 rfl rfl
theorem dX4_copy_0 : decode cX4_copy 0 = .ok (.new 4, 3) := dk_187 0 4 (dk_at dksX4_copy_0 0 rfl rfl)
theorem dX4_copy_3 : decode cX4_copy 3 = .ok (.dup, 1) := dk_89 (dk_at dksX4_copy_0 3 rfl rfl)
theorem dX4_copy_4 : decode cX4_copy 4 = .ok (.aload_n 0, 1) := dk_42 (dk_at dksX4_copy_0 4 rfl rfl)
theorem dX4_copy_5 : decode cX4_copy 5 = .ok (.getfield 14, 3) := dk_180 0 14 (dk_at dksX4_copy_0 5 rfl rfl)
theorem dX4_copy_8 : decode cX4_copy 8 = .ok (.invokevirtual 21, 3) := dk_182 0 21 (dk_at dksX4_copy_0 8 rfl rfl)
theorem dX4_copy_11 : decode cX4_copy 11 = .ok (.checkcast 22, 3) := dk_192 0 22 (dk_at dksX4_copy_0 11 rfl rfl)
theorem dX4_copy_14 : decode cX4_copy 14 = .ok (.aload_n 0, 1) := dk_42 (dk_at dksX4_copy_0 14 rfl rfl)
theorem dX4_copy_15 : decode cX4_copy 15 = .ok (.getfield 18, 3) := dk_180 0 18 (dk_at dksX4_copy_0 15 rfl rfl)
theorem dX4_copy_18 : decode cX4_copy 18 = .ok (.invokevirtual 21, 3) := dk_182 0 21 (dk_at dksX4_copy_0 18 rfl rfl)
theorem dX4_copy_21 : decode cX4_copy 21 = .ok (.checkcast 22, 3) := dk_192 0 22 (dk_at dksX4_copy_0 21 rfl rfl)
theorem dX4_copy_24 : decode cX4_copy 24 = .ok (.invokespecial 3, 3) := dk_183 0 3 (dk_at dksX4_copy_1 0 rfl rfl)
theorem dX4_copy_27 : decode cX4_copy 27 = .ok (.astore_n 1, 1) := dk_76 (dk_at dksX4_copy_1 3 rfl rfl)
theorem dX4_copy_28 : decode cX4_copy 28 = .ok (.aload_n 1, 1) := dk_43 (dk_at dksX4_copy_1 4 rfl rfl)
theorem dX4_copy_29 : decode cX4_copy 29 = .ok (.aload_n 0, 1) := dk_42 (dk_at dksX4_copy_1 5 rfl rfl)
theorem dX4_copy_30 : decode cX4_copy 30 = .ok (.getfield 26, 3) := dk_180 0 26 (dk_at dksX4_copy_1 6 rfl rfl)
theorem dX4_copy_33 : decode cX4_copy 33 = .ok (.putfield 26, 3) := dk_181 0 26 (dk_at dksX4_copy_1 9 rfl rfl)
theorem dX4_copy_36 : decode cX4_copy 36 = .ok (.aload_n 1, 1) := dk_43 (dk_at dksX4_copy_1 12 rfl rfl)
theorem dX4_copy_37 : decode cX4_copy 37 = .ok (.areturn, 1) := dk_176 (dk_at dksX4_copy_1 13 rfl rfl)
abbrev cX4_add : ByteArray := prog_3_method_4_code
def yX4_add : MethodName := ⟨RX4, "add", "(II)V"⟩
def dkwX4_add_3 : List UInt8 := [89, 180, 0, 26, 4, 96, 181, 0, 26, 177]
abbrev dktX4_add_3 : List UInt8 := dkwX4_add_3 ++ []
def dkwX4_add_2 : List UInt8 := [181, 0, 26, 42, 180, 0, 14, 42, 180, 0, 26, 27, 79, 42, 180, 0, 18, 42, 180, 0, 26, 28, 79, 42]
abbrev dktX4_add_2 : List UInt8 := dkwX4_add_2 ++ dktX4_add_3
def dkwX4_add_1 : List UInt8 := [42, 180, 0, 18, 4, 42, 180, 0, 18, 3, 16, 19, 184, 0, 30, 42, 89, 180, 0, 26, 4, 100]
abbrev dktX4_add_1 : List UInt8 := dkwX4_add_1 ++ dktX4_add_2
def dkwX4_add_0 : List UInt8 := [42, 180, 0, 26, 16, 20, 160, 0, 43, 42, 180, 0, 14, 4, 42, 180, 0, 14, 3, 16, 19, 184, 0, 30]
abbrev dktX4_add_0 : List UInt8 := dkwX4_add_0 ++ dktX4_add_1
theorem dksX4_add_0 : cX4_add.data.toList.drop 0 = dktX4_add_0 := by decide +kernel
theorem dksX4_add_1 : cX4_add.data.toList.drop 24 = dktX4_add_1 := dk_seg dksX4_add_0 24 rfl rfl
theorem dksX4_add_2 : cX4_add.data.toList.drop 46 = dktX4_add_2 := dk_seg dksX4_add_1 22 rfl rfl
theorem dksX4_add_3 : cX4_add.data.toList.drop 70 = dktX4_add_3 := dk_seg dksX4_add_2 24 rfl rfl
theorem dX4_add_0 : decode cX4_add 0 = .ok (.aload_n 0, 1) := dk_42 (dk_at dksX4_add_0 0 rfl rfl)
theorem dX4_add_1 : decode cX4_add 1 = .ok (.getfield 26, 3) := dk_180 0 26 (dk_at dksX4_add_0 1 rfl rfl)
theorem dX4_add_4 : decode cX4_add 4 = .ok (.bipush 20, 2) := dk_16 20 (dk_at dksX4_add_0 4 rfl rfl)
theorem dX4_add_6 : decode cX4_add 6 = .ok (.if_icmp .ne 43, 3) := dk_160 0 43 (dk_at dksX4_add_0 6 rfl rfl)
theorem dX4_add_9 : decode cX4_add 9 = .ok (.aload_n 0, 1) := dk_42 (dk_at dksX4_add_0 9 rfl rfl)
theorem dX4_add_10 : decode cX4_add 10 = .ok (.getfield 14, 3) := dk_180 0 14 (dk_at dksX4_add_0 10 rfl rfl)
theorem dX4_add_13 : decode cX4_add 13 = .ok (.iconst 1, 1) := dk_4 (dk_at dksX4_add_0 13 rfl rfl)
theorem dX4_add_14 : decode cX4_add 14 = .ok (.aload_n 0, 1) := dk_42 (dk_at dksX4_add_0 14 rfl rfl)
theorem dX4_add_15 : decode cX4_add 15 = .ok (.getfield 14, 3) := dk_180 0 14 (dk_at dksX4_add_0 15 rfl rfl)
theorem dX4_add_18 : decode cX4_add 18 = .ok (.iconst 0, 1) := dk_3 (dk_at dksX4_add_0 18 rfl rfl)
theorem dX4_add_19 : decode cX4_add 19 = .ok (.bipush 19, 2) := dk_16 19 (dk_at dksX4_add_0 19 rfl rfl)
theorem dX4_add_21 : decode cX4_add 21 = .ok (.invokestatic 30, 3) := dk_184 0 30 (dk_at dksX4_add_0 21 rfl rfl)
theorem dX4_add_24 : decode cX4_add 24 = .ok (.aload_n 0, 1) := dk_42 (dk_at dksX4_add_1 0 rfl rfl)
theorem dX4_add_25 : decode cX4_add 25 = .ok (.getfield 18, 3) := dk_180 0 18 (dk_at dksX4_add_1 1 rfl rfl)
theorem dX4_add_28 : decode cX4_add 28 = .ok (.iconst 1, 1) := dk_4 (dk_at dksX4_add_1 4 rfl rfl)
theorem dX4_add_29 : decode cX4_add 29 = .ok (.aload_n 0, 1) := dk_42 (dk_at dksX4_add_1 5 rfl rfl)
theorem dX4_add_30 : decode cX4_add 30 = .ok (.getfield 18, 3) := dk_180 0 18 (dk_at dksX4_add_1 6 rfl rfl)
theorem dX4_add_33 : decode cX4_add 33 = .ok (.iconst 0, 1) := dk_3 (dk_at dksX4_add_1 9 rfl rfl)
theorem dX4_add_34 : decode cX4_add 34 = .ok (.bipush 19, 2) := dk_16 19 (dk_at dksX4_add_1 10 rfl rfl)
theorem dX4_add_36 : decode cX4_add 36 = .ok (.invokestatic 30, 3) := dk_184 0 30 (dk_at dksX4_add_1 12 rfl rfl)
theorem dX4_add_39 : decode cX4_add 39 = .ok (.aload_n 0, 1) := dk_42 (dk_at dksX4_add_1 15 rfl rfl)
theorem dX4_add_40 : decode cX4_add 40 = .ok (.dup, 1) := dk_89 (dk_at dksX4_add_1 16 rfl rfl)
theorem dX4_add_41 : decode cX4_add 41 = .ok (.getfield 26, 3) := dk_180 0 26 (dk_at dksX4_add_1 17 rfl rfl)
theorem dX4_add_44 : decode cX4_add 44 = .ok (.iconst 1, 1) := dk_4 (dk_at dksX4_add_1 20 rfl rfl)
theorem dX4_add_45 : decode cX4_add 45 = .ok (.isub, 1) := dk_100 (dk_at dksX4_add_1 21 rfl rfl)
theorem dX4_add_46 : decode cX4_add 46 = .ok (.putfield 26, 3) := dk_181 0 26 (dk_at dksX4_add_2 0 rfl rfl)
theorem dX4_add_49 : decode cX4_add 49 = .ok (.aload_n 0, 1) := dk_42 (dk_at dksX4_add_2 3 rfl rfl)
theorem dX4_add_50 : decode cX4_add 50 = .ok (.getfield 14, 3) := dk_180 0 14 (dk_at dksX4_add_2 4 rfl rfl)
theorem dX4_add_53 : decode cX4_add 53 = .ok (.aload_n 0, 1) := dk_42 (dk_at dksX4_add_2 7 rfl rfl)
theorem dX4_add_54 : decode cX4_add 54 = .ok (.getfield 26, 3) := dk_180 0 26 (dk_at dksX4_add_2 8 rfl rfl)
theorem dX4_add_57 : decode cX4_add 57 = .ok (.iload_n 1, 1) := dk_27 (dk_at dksX4_add_2 11 rfl rfl)
theorem dX4_add_58 : decode cX4_add 58 = .ok (.iastore, 1) := dk_79 (dk_at dksX4_add_2 12 rfl rfl)
theorem dX4_add_59 : decode cX4_add 59 = .ok (.aload_n 0, 1) := dk_42 (dk_at dksX4_add_2 13 rfl rfl)
theorem dX4_add_60 : decode cX4_add 60 = .ok (.getfield 18, 3) := dk_180 0 18 (dk_at dksX4_add_2 14 rfl rfl)
theorem dX4_add_63 : decode cX4_add 63 = .ok (.aload_n 0, 1) := dk_42 (dk_at dksX4_add_2 17 rfl rfl)
theorem dX4_add_64 : decode cX4_add 64 = .ok (.getfield 26, 3) := dk_180 0 26 (dk_at dksX4_add_2 18 rfl rfl)
theorem dX4_add_67 : decode cX4_add 67 = .ok (.iload_n 2, 1) := dk_28 (dk_at dksX4_add_2 21 rfl rfl)
theorem dX4_add_68 : decode cX4_add 68 = .ok (.iastore, 1) := dk_79 (dk_at dksX4_add_2 22 rfl rfl)
theorem dX4_add_69 : decode cX4_add 69 = .ok (.aload_n 0, 1) := dk_42 (dk_at dksX4_add_2 23 rfl rfl)
theorem dX4_add_70 : decode cX4_add 70 = .ok (.dup, 1) := dk_89 (dk_at dksX4_add_3 0 rfl rfl)
theorem dX4_add_71 : decode cX4_add 71 = .ok (.getfield 26, 3) := dk_180 0 26 (dk_at dksX4_add_3 1 rfl rfl)
theorem dX4_add_74 : decode cX4_add 74 = .ok (.iconst 1, 1) := dk_4 (dk_at dksX4_add_3 4 rfl rfl)
theorem dX4_add_75 : decode cX4_add 75 = .ok (.iadd, 1) := dk_96 (dk_at dksX4_add_3 5 rfl rfl)
theorem dX4_add_76 : decode cX4_add 76 = .ok (.putfield 26, 3) := dk_181 0 26 (dk_at dksX4_add_3 6 rfl rfl)
theorem dX4_add_79 : decode cX4_add 79 = .ok (.return_, 1) := dk_177 (dk_at dksX4_add_3 9 rfl rfl)
theorem q126 : (Jvm.Cond.initialized "SnowPass$Book") ∈ lw_all := lw_g (lw_at lw_m1 4 rfl) rfl
theorem q231 : (Jvm.Cond.instantiable "SnowPass$Book" (3 : Nat)) ∈ lw_all := lw_g (lw_at lw_m1 109 rfl) rfl
theorem q233 : (Jvm.Cond.instanceMethod ({ cls := "SnowPass$Book", name := "<init>", desc := "()V" } : Jvm.MethodName)) ∈ lw_all := lw_g (lw_at lw_m1 111 rfl) rfl
theorem q234 : (Jvm.Cond.code ({ cls := "SnowPass$Book", name := "<init>", desc := "()V" } : Jvm.MethodName) prog_3_method_1_code (1 : Nat) (Option.none : Option Jvm.ClassFile.FieldType)) ∈ lw_all := lw_g (lw_at lw_m1 112 rfl) rfl
theorem q235 : (Jvm.Cond.methodLink "SnowPass$Book" (3 : Nat) ({ cls := "SnowPass$Book", name := "<init>", desc := "([I[I)V" } : Jvm.MethodName)) ∈ lw_all := lw_g (lw_at lw_m1 113 rfl) rfl
theorem q236 : (Jvm.Cond.instanceMethod ({ cls := "SnowPass$Book", name := "<init>", desc := "([I[I)V" } : Jvm.MethodName)) ∈ lw_all := lw_g (lw_at lw_m1 114 rfl) rfl
theorem q237 : (Jvm.Cond.code ({ cls := "SnowPass$Book", name := "<init>", desc := "([I[I)V" } : Jvm.MethodName) prog_3_method_2_code (3 : Nat) (Option.none : Option Jvm.ClassFile.FieldType)) ∈ lw_all := lw_g (lw_at lw_m1 115 rfl) rfl
theorem q238 : (Jvm.Cond.methodLink "SnowPass$Book" (9 : Nat) ({ cls := "java/lang/Object", name := "<init>", desc := "()V" } : Jvm.MethodName)) ∈ lw_all := lw_g (lw_at lw_m1 116 rfl) rfl
theorem q239 : (Jvm.Cond.fieldLink "SnowPass$Book" (14 : Nat) "SnowPass$Book" "kinds" "[I") ∈ lw_all := lw_g (lw_at lw_m1 117 rfl) rfl
theorem q241 : (Jvm.Cond.fieldLink "SnowPass$Book" (18 : Nat) "SnowPass$Book" "clocks" "[I") ∈ lw_all := lw_g (lw_at lw_m1 119 rfl) rfl
theorem q243 : (Jvm.Cond.fieldLink "SnowPass$Book" (26 : Nat) "SnowPass$Book" "size" "I") ∈ lw_all := lw_g (lw_at lw_m1 121 rfl) rfl
theorem q245 : (Jvm.Cond.laysFinal "SnowPass$Book" "SnowPass$Book" "kinds" "[I") ∈ lw_all := lw_g (lw_at lw_m1 123 rfl) rfl
theorem q246 : (Jvm.Cond.soleField "SnowPass$Book" "kinds") ∈ lw_all := lw_g (lw_at lw_m1 124 rfl) rfl
theorem q247 : (Jvm.Cond.laysFinal "SnowPass$Book" "SnowPass$Book" "clocks" "[I") ∈ lw_all := lw_g (lw_at lw_m1 125 rfl) rfl
theorem q248 : (Jvm.Cond.soleField "SnowPass$Book" "clocks") ∈ lw_all := lw_g (lw_at lw_m1 126 rfl) rfl
theorem q249 : (Jvm.Cond.lays "SnowPass$Book" "SnowPass$Book" "size" "I") ∈ lw_all := lw_g (lw_at lw_m1 127 rfl) rfl
theorem q250 : (Jvm.Cond.soleField "SnowPass$Book" "size") ∈ lw_all := lw_g (lw_at lw_m1 128 rfl) rfl
theorem q251 : (Jvm.Cond.superclass "SnowPass$Book" "java/lang/Object") ∈ lw_all := lw_g (lw_at lw_m1 129 rfl) rfl
theorem q799 : (Jvm.Cond.selects "SnowPass$Book" ({ cls := "java/lang/Object", name := "getClass", desc := "()Ljava/lang/Class;" } : Jvm.MethodName) ({ cls := "java/lang/Object", name := "getClass", desc := "()Ljava/lang/Class;" } : Jvm.MethodName)) ∈ lw_all := lw_g (lw_at lw_m3 197 rfl) rfl
theorem q934 : (Jvm.Cond.selects "SnowPass$Book" ({ cls := "java/lang/Object", name := "hashCode", desc := "()I" } : Jvm.MethodName) ({ cls := "java/lang/Object", name := "hashCode", desc := "()I" } : Jvm.MethodName)) ∈ lw_all := lw_g (lw_at lw_m4 92 rfl) rfl
theorem q1373 : (Jvm.Cond.selects "SnowPass$Book" ({ cls := "java/lang/Object", name := "equals", desc := "(Ljava/lang/Object;)Z" } : Jvm.MethodName) ({ cls := "java/lang/Object", name := "equals", desc := "(Ljava/lang/Object;)Z" } : Jvm.MethodName)) ∈ lw_all := lw_g (lw_at lw_m6 51 rfl) rfl
theorem q1819 : (Jvm.Cond.instanceMethod ({ cls := "SnowPass$Book", name := "has", desc := "(I)Z" } : Jvm.MethodName)) ∈ lw_all := lw_g (lw_at lw_m8 17 rfl) rfl
theorem q1820 : (Jvm.Cond.selects "SnowPass$Book" ({ cls := "SnowPass$Book", name := "has", desc := "(I)Z" } : Jvm.MethodName) ({ cls := "SnowPass$Book", name := "has", desc := "(I)Z" } : Jvm.MethodName)) ∈ lw_all := lw_g (lw_at lw_m8 18 rfl) rfl
theorem q1821 : (Jvm.Cond.code ({ cls := "SnowPass$Book", name := "has", desc := "(I)Z" } : Jvm.MethodName) prog_3_method_5_code (2 : Nat) (Option.some Jvm.ClassFile.FieldType.boolean)) ∈ lw_all := lw_g (lw_at lw_m8 19 rfl) rfl
theorem q1822 : (Jvm.Cond.methodLinkNest "SnowPass$Book" (36 : Nat) ({ cls := "SnowPass", name := "inRange", desc := "(JJJ)Z" } : Jvm.MethodName) "SnowPass") ∈ lw_tbl := lw_at lw_m8 20 rfl
theorem q1879 : (Jvm.Cond.instanceMethod ({ cls := "SnowPass$Book", name := "copy", desc := "()LSnowPass$Book;" } : Jvm.MethodName)) ∈ lw_all := lw_g (lw_at lw_m8 77 rfl) rfl
theorem q1880 : (Jvm.Cond.selects "SnowPass$Book" ({ cls := "SnowPass$Book", name := "copy", desc := "()LSnowPass$Book;" } : Jvm.MethodName) ({ cls := "SnowPass$Book", name := "copy", desc := "()LSnowPass$Book;" } : Jvm.MethodName)) ∈ lw_all := lw_g (lw_at lw_m8 78 rfl) rfl
theorem q1881 : (Jvm.Cond.code ({ cls := "SnowPass$Book", name := "copy", desc := "()LSnowPass$Book;" } : Jvm.MethodName) prog_3_method_3_code (2 : Nat) (Option.some (Jvm.ClassFile.FieldType.object "SnowPass$Book"))) ∈ lw_all := lw_g (lw_at lw_m8 79 rfl) rfl
theorem q1882 : (Jvm.Cond.classLink "SnowPass$Book" (4 : Nat) "SnowPass$Book") ∈ lw_all := lw_g (lw_at lw_m8 80 rfl) rfl
theorem q1883 : (Jvm.Cond.methodLink "SnowPass$Book" (21 : Nat) ({ cls := "[I", name := "clone", desc := "()Ljava/lang/Object;" } : Jvm.MethodName)) ∈ lw_all := lw_g (lw_at lw_m8 81 rfl) rfl
theorem q1884 : (Jvm.Cond.classLink "SnowPass$Book" (22 : Nat) "[I") ∈ lw_all := lw_g (lw_at lw_m8 82 rfl) rfl
theorem q1906 : (Jvm.Cond.instanceMethod ({ cls := "SnowPass$Book", name := "add", desc := "(II)V" } : Jvm.MethodName)) ∈ lw_all := lw_g (lw_at lw_m8 104 rfl) rfl
theorem q1907 : (Jvm.Cond.selects "SnowPass$Book" ({ cls := "SnowPass$Book", name := "add", desc := "(II)V" } : Jvm.MethodName) ({ cls := "SnowPass$Book", name := "add", desc := "(II)V" } : Jvm.MethodName)) ∈ lw_all := lw_g (lw_at lw_m8 105 rfl) rfl
theorem q1908 : (Jvm.Cond.code ({ cls := "SnowPass$Book", name := "add", desc := "(II)V" } : Jvm.MethodName) prog_3_method_4_code (3 : Nat) (Option.none : Option Jvm.ClassFile.FieldType)) ∈ lw_all := lw_g (lw_at lw_m8 106 rfl) rfl
theorem q1909 : (Jvm.Cond.methodLink "SnowPass$Book" (30 : Nat) ({ cls := "java/lang/System", name := "arraycopy", desc := "(Ljava/lang/Object;ILjava/lang/Object;II)V" } : Jvm.MethodName)) ∈ lw_all := lw_g (lw_at lw_m8 107 rfl) rfl
theorem q3989 : (Jvm.Cond.castable "SnowPass$Book" "java/lang/Object") ∈ lw_tbl := lw_at lw_m17 27 rfl
theorem in_X4 : ∀ w ∈ wsX40, w ∈ lw_all := lw_in wsX40 [245, 247, 249] (by decide +kernel) (by decide +kernel)

/-! SnowPass$Yard -/
def RX5 : String := "SnowPass$Yard"
def TX5 : u_T := fun k => match k with
  | 0 => ("SnowPass$Yard", "queues", "Ljava/util/List;", true)
  | 1 => ("SnowPass$Yard", "waiting", "Ljava/util/LinkedHashMap;", true)
  | 2 => ("SnowPass$Yard", "crossed", "[I", true)
  | 3 => ("SnowPass$Yard", "tickets", "I", false)
  | _ => ("SnowPass$Yard", "cancelled", "I", false)
def tyX5 : Nat → FieldType := fun k => match k with
  | 0 => .object "java/util/List"
  | 1 => .object "java/util/LinkedHashMap"
  | 2 => .array .int
  | 3 => .int
  | _ => .int
abbrev wsX50 : List Cond := u_ws RX5 TX5 5
theorem nmX5 : ∀ a, a < 5 → ∀ b, b < 5 → a ≠ b → (TX5 a).2.1 ≠ (TX5 b).2.1 := by decide +kernel
theorem tyX5_ok : ∀ k, k < 5 → parseFieldDescriptor (TX5 k).2.2.1 = some (tyX5 k) := by decide +kernel
abbrev cX5_init : ByteArray := prog_15_method_1_code
def yX5_init : MethodName := ⟨RX5, "<init>", "()V"⟩
def dkwX5_init_0 : List UInt8 := [42, 5, 188, 10, 183, 0, 3, 177]
abbrev dktX5_init_0 : List UInt8 := dkwX5_init_0 ++ []
theorem dksX5_init_0 : cX5_init.data.toList.drop 0 = dktX5_init_0 := by decide +kernel
theorem dX5_init_0 : decode cX5_init 0 = .ok (.aload_n 0, 1) := dk_42 (dk_at dksX5_init_0 0 rfl rfl)
theorem dX5_init_1 : decode cX5_init 1 = .ok (.iconst 2, 1) := dk_5 (dk_at dksX5_init_0 1 rfl rfl)
theorem dX5_init_2 : decode cX5_init 2 = .ok (.newarray .int, 2) := dk_188_10 (dk_at dksX5_init_0 2 rfl rfl)
theorem dX5_init_4 : decode cX5_init 4 = .ok (.invokespecial 3, 3) := dk_183 0 3 (dk_at dksX5_init_0 4 rfl rfl)
theorem dX5_init_7 : decode cX5_init 7 = .ok (.return_, 1) := dk_177 (dk_at dksX5_init_0 7 rfl rfl)
abbrev cX5_init_2 : ByteArray := prog_15_method_2_code
def yX5_init_2 : MethodName := ⟨RX5, "<init>", "([I)V"⟩
def dkwX5_init_2_2 : List UInt8 := [183, 0, 34, 185, 0, 35, 2, 0, 87, 132, 2, 1, 167, 255, 231, 177]
abbrev dktX5_init_2_2 : List UInt8 := dkwX5_init_2_2 ++ []
def dkwX5_init_2_1 : List UInt8 := [181, 0, 26, 42, 43, 181, 0, 30, 3, 61, 28, 5, 162, 0, 26, 42, 180, 0, 19, 187, 0, 14, 89]
abbrev dktX5_init_2_1 : List UInt8 := dkwX5_init_2_1 ++ dktX5_init_2_2
def dkwX5_init_2_0 : List UInt8 := [42, 183, 0, 9, 42, 187, 0, 14, 89, 5, 183, 0, 16, 181, 0, 19, 42, 187, 0, 23, 89, 183, 0, 25]
abbrev dktX5_init_2_0 : List UInt8 := dkwX5_init_2_0 ++ dktX5_init_2_1
theorem dksX5_init_2_0 : cX5_init_2.data.toList.drop 0 = dktX5_init_2_0 := by decide +kernel
theorem dksX5_init_2_1 : cX5_init_2.data.toList.drop 24 = dktX5_init_2_1 := dk_seg dksX5_init_2_0 24 rfl rfl
theorem dksX5_init_2_2 : cX5_init_2.data.toList.drop 47 = dktX5_init_2_2 := dk_seg dksX5_init_2_1 23 rfl rfl
theorem dX5_init_2_0 : decode cX5_init_2 0 = .ok (.aload_n 0, 1) := dk_42 (dk_at dksX5_init_2_0 0 rfl rfl)
theorem dX5_init_2_1 : decode cX5_init_2 1 = .ok (.invokespecial 9, 3) := dk_183 0 9 (dk_at dksX5_init_2_0 1 rfl rfl)
theorem dX5_init_2_4 : decode cX5_init_2 4 = .ok (.aload_n 0, 1) := dk_42 (dk_at dksX5_init_2_0 4 rfl rfl)
theorem dX5_init_2_5 : decode cX5_init_2 5 = .ok (.new 14, 3) := dk_187 0 14 (dk_at dksX5_init_2_0 5 rfl rfl)
theorem dX5_init_2_8 : decode cX5_init_2 8 = .ok (.dup, 1) := dk_89 (dk_at dksX5_init_2_0 8 rfl rfl)
theorem dX5_init_2_9 : decode cX5_init_2 9 = .ok (.iconst 2, 1) := dk_5 (dk_at dksX5_init_2_0 9 rfl rfl)
theorem dX5_init_2_10 : decode cX5_init_2 10 = .ok (.invokespecial 16, 3) := dk_183 0 16 (dk_at dksX5_init_2_0 10 rfl rfl)
theorem dX5_init_2_13 : decode cX5_init_2 13 = .ok (.putfield 19, 3) := dk_181 0 19 (dk_at dksX5_init_2_0 13 rfl rfl)
theorem dX5_init_2_16 : decode cX5_init_2 16 = .ok (.aload_n 0, 1) := dk_42 (dk_at dksX5_init_2_0 16 rfl rfl)
theorem dX5_init_2_17 : decode cX5_init_2 17 = .ok (.new 23, 3) := dk_187 0 23 (dk_at dksX5_init_2_0 17 rfl rfl)
theorem dX5_init_2_20 : decode cX5_init_2 20 = .ok (.dup, 1) := dk_89 (dk_at dksX5_init_2_0 20 rfl rfl)
theorem dX5_init_2_21 : decode cX5_init_2 21 = .ok (.invokespecial 25, 3) := dk_183 0 25 (dk_at dksX5_init_2_0 21 rfl rfl)
theorem dX5_init_2_24 : decode cX5_init_2 24 = .ok (.putfield 26, 3) := dk_181 0 26 (dk_at dksX5_init_2_1 0 rfl rfl)
theorem dX5_init_2_27 : decode cX5_init_2 27 = .ok (.aload_n 0, 1) := dk_42 (dk_at dksX5_init_2_1 3 rfl rfl)
theorem dX5_init_2_28 : decode cX5_init_2 28 = .ok (.aload_n 1, 1) := dk_43 (dk_at dksX5_init_2_1 4 rfl rfl)
theorem dX5_init_2_29 : decode cX5_init_2 29 = .ok (.putfield 30, 3) := dk_181 0 30 (dk_at dksX5_init_2_1 5 rfl rfl)
theorem dX5_init_2_32 : decode cX5_init_2 32 = .ok (.iconst 0, 1) := dk_3 (dk_at dksX5_init_2_1 8 rfl rfl)
theorem dX5_init_2_33 : decode cX5_init_2 33 = .ok (.istore_n 2, 1) := dk_61 (dk_at dksX5_init_2_1 9 rfl rfl)
theorem dX5_init_2_34 : decode cX5_init_2 34 = .ok (.iload_n 2, 1) := dk_28 (dk_at dksX5_init_2_1 10 rfl rfl)
theorem dX5_init_2_35 : decode cX5_init_2 35 = .ok (.iconst 2, 1) := dk_5 (dk_at dksX5_init_2_1 11 rfl rfl)
theorem dX5_init_2_36 : decode cX5_init_2 36 = .ok (.if_icmp .ge 26, 3) := dk_162 0 26 (dk_at dksX5_init_2_1 12 rfl rfl)
theorem dX5_init_2_39 : decode cX5_init_2 39 = .ok (.aload_n 0, 1) := dk_42 (dk_at dksX5_init_2_1 15 rfl rfl)
theorem dX5_init_2_40 : decode cX5_init_2 40 = .ok (.getfield 19, 3) := dk_180 0 19 (dk_at dksX5_init_2_1 16 rfl rfl)
theorem dX5_init_2_43 : decode cX5_init_2 43 = .ok (.new 14, 3) := dk_187 0 14 (dk_at dksX5_init_2_1 19 rfl rfl)
theorem dX5_init_2_46 : decode cX5_init_2 46 = .ok (.dup, 1) := dk_89 (dk_at dksX5_init_2_1 22 rfl rfl)
theorem dX5_init_2_47 : decode cX5_init_2 47 = .ok (.invokespecial 34, 3) := dk_183 0 34 (dk_at dksX5_init_2_2 0 rfl rfl)
theorem dX5_init_2_50 : decode cX5_init_2 50 = .ok (.invokeinterface 35 2, 5) := by decide +kernel
theorem dX5_init_2_55 : decode cX5_init_2 55 = .ok (.pop, 1) := dk_87 (dk_at dksX5_init_2_2 8 rfl rfl)
theorem dX5_init_2_56 : decode cX5_init_2 56 = .ok (.iinc 2 1, 3) := dk_132 2 1 (dk_at dksX5_init_2_2 9 rfl rfl)
theorem dX5_init_2_59 : decode cX5_init_2 59 = .ok (.goto (-25), 3) := dk_167 255 231 (dk_at dksX5_init_2_2 12 rfl rfl)
theorem dX5_init_2_62 : decode cX5_init_2 62 = .ok (.return_, 1) := dk_177 (dk_at dksX5_init_2_2 15 rfl rfl)
abbrev cX5_add : ByteArray := prog_15_method_5_code
def yX5_add : MethodName := ⟨RX5, "add", "(IZ)I"⟩
def dkwX5_add_2 : List UInt8 := [192, 0, 71, 58, 4, 42, 89, 180, 0, 60, 4, 96, 181, 0, 60, 42, 180, 0, 60, 4, 100, 172]
abbrev dktX5_add_2 : List UInt8 := dkwX5_add_2 ++ []
def dkwX5_add_1 : List UInt8 := [192, 0, 36, 45, 185, 0, 35, 2, 0, 87, 42, 180, 0, 26, 45, 180, 0, 76, 45, 182, 0, 80]
abbrev dktX5_add_1 : List UInt8 := dkwX5_add_1 ++ dktX5_add_2
def dkwX5_add_0 : List UInt8 := [187, 0, 71, 89, 42, 180, 0, 60, 27, 28, 183, 0, 73, 78, 42, 180, 0, 19, 27, 185, 0, 46, 2, 0]
abbrev dktX5_add_0 : List UInt8 := dkwX5_add_0 ++ dktX5_add_1
theorem dksX5_add_0 : cX5_add.data.toList.drop 0 = dktX5_add_0 := by decide +kernel
theorem dksX5_add_1 : cX5_add.data.toList.drop 24 = dktX5_add_1 := dk_seg dksX5_add_0 24 rfl rfl
theorem dksX5_add_2 : cX5_add.data.toList.drop 46 = dktX5_add_2 := dk_seg dksX5_add_1 22 rfl rfl
theorem dX5_add_0 : decode cX5_add 0 = .ok (.new 71, 3) := dk_187 0 71 (dk_at dksX5_add_0 0 rfl rfl)
theorem dX5_add_3 : decode cX5_add 3 = .ok (.dup, 1) := dk_89 (dk_at dksX5_add_0 3 rfl rfl)
theorem dX5_add_4 : decode cX5_add 4 = .ok (.aload_n 0, 1) := dk_42 (dk_at dksX5_add_0 4 rfl rfl)
theorem dX5_add_5 : decode cX5_add 5 = .ok (.getfield 60, 3) := dk_180 0 60 (dk_at dksX5_add_0 5 rfl rfl)
theorem dX5_add_8 : decode cX5_add 8 = .ok (.iload_n 1, 1) := dk_27 (dk_at dksX5_add_0 8 rfl rfl)
theorem dX5_add_9 : decode cX5_add 9 = .ok (.iload_n 2, 1) := dk_28 (dk_at dksX5_add_0 9 rfl rfl)
theorem dX5_add_10 : decode cX5_add 10 = .ok (.invokespecial 73, 3) := dk_183 0 73 (dk_at dksX5_add_0 10 rfl rfl)
theorem dX5_add_13 : decode cX5_add 13 = .ok (.astore_n 3, 1) := dk_78 (dk_at dksX5_add_0 13 rfl rfl)
theorem dX5_add_14 : decode cX5_add 14 = .ok (.aload_n 0, 1) := dk_42 (dk_at dksX5_add_0 14 rfl rfl)
theorem dX5_add_15 : decode cX5_add 15 = .ok (.getfield 19, 3) := dk_180 0 19 (dk_at dksX5_add_0 15 rfl rfl)
theorem dX5_add_18 : decode cX5_add 18 = .ok (.iload_n 1, 1) := dk_27 (dk_at dksX5_add_0 18 rfl rfl)
theorem dX5_add_19 : decode cX5_add 19 = .ok (.invokeinterface 46 2, 5) := by decide +kernel
theorem dX5_add_24 : decode cX5_add 24 = .ok (.checkcast 36, 3) := dk_192 0 36 (dk_at dksX5_add_1 0 rfl rfl)
theorem dX5_add_27 : decode cX5_add 27 = .ok (.aload_n 3, 1) := dk_45 (dk_at dksX5_add_1 3 rfl rfl)
theorem dX5_add_28 : decode cX5_add 28 = .ok (.invokeinterface 35 2, 5) := by decide +kernel
theorem dX5_add_33 : decode cX5_add 33 = .ok (.pop, 1) := dk_87 (dk_at dksX5_add_1 9 rfl rfl)
theorem dX5_add_34 : decode cX5_add 34 = .ok (.aload_n 0, 1) := dk_42 (dk_at dksX5_add_1 10 rfl rfl)
theorem dX5_add_35 : decode cX5_add 35 = .ok (.getfield 26, 3) := dk_180 0 26 (dk_at dksX5_add_1 11 rfl rfl)
theorem dX5_add_38 : decode cX5_add 38 = .ok (.aload_n 3, 1) := dk_45 (dk_at dksX5_add_1 14 rfl rfl)
theorem dX5_add_39 : decode cX5_add 39 = .ok (.getfield 76, 3) := dk_180 0 76 (dk_at dksX5_add_1 15 rfl rfl)
theorem dX5_add_42 : decode cX5_add 42 = .ok (.aload_n 3, 1) := dk_45 (dk_at dksX5_add_1 18 rfl rfl)
theorem dX5_add_43 : decode cX5_add 43 = .ok (.invokevirtual 80, 3) := dk_182 0 80 (dk_at dksX5_add_1 19 rfl rfl)
theorem dX5_add_46 : decode cX5_add 46 = .ok (.checkcast 71, 3) := dk_192 0 71 (dk_at dksX5_add_2 0 rfl rfl)
theorem dX5_add_49 : decode cX5_add 49 = .ok (.astore 4, 2) := dk_58 4 (dk_at dksX5_add_2 3 rfl rfl)
theorem dX5_add_51 : decode cX5_add 51 = .ok (.aload_n 0, 1) := dk_42 (dk_at dksX5_add_2 5 rfl rfl)
theorem dX5_add_52 : decode cX5_add 52 = .ok (.dup, 1) := dk_89 (dk_at dksX5_add_2 6 rfl rfl)
theorem dX5_add_53 : decode cX5_add 53 = .ok (.getfield 60, 3) := dk_180 0 60 (dk_at dksX5_add_2 7 rfl rfl)
theorem dX5_add_56 : decode cX5_add 56 = .ok (.iconst 1, 1) := dk_4 (dk_at dksX5_add_2 10 rfl rfl)
theorem dX5_add_57 : decode cX5_add 57 = .ok (.iadd, 1) := dk_96 (dk_at dksX5_add_2 11 rfl rfl)
theorem dX5_add_58 : decode cX5_add 58 = .ok (.putfield 60, 3) := dk_181 0 60 (dk_at dksX5_add_2 12 rfl rfl)
theorem dX5_add_61 : decode cX5_add 61 = .ok (.aload_n 0, 1) := dk_42 (dk_at dksX5_add_2 15 rfl rfl)
theorem dX5_add_62 : decode cX5_add 62 = .ok (.getfield 60, 3) := dk_180 0 60 (dk_at dksX5_add_2 16 rfl rfl)
theorem dX5_add_65 : decode cX5_add 65 = .ok (.iconst 1, 1) := dk_4 (dk_at dksX5_add_2 19 rfl rfl)
theorem dX5_add_66 : decode cX5_add 66 = .ok (.isub, 1) := dk_100 (dk_at dksX5_add_2 20 rfl rfl)
theorem dX5_add_67 : decode cX5_add 67 = .ok (.ireturn, 1) := dk_172 (dk_at dksX5_add_2 21 rfl rfl)
abbrev cX5_find : ByteArray := prog_15_method_6_code
def yX5_find : MethodName := ⟨RX5, "find", "(I)LSnowPass$Cart;"⟩
def dkwX5_find_0 : List UInt8 := [42, 180, 0, 26, 187, 0, 84, 89, 27, 183, 0, 86, 182, 0, 87, 192, 0, 71, 176]
abbrev dktX5_find_0 : List UInt8 := dkwX5_find_0 ++ []
theorem dksX5_find_0 : cX5_find.data.toList.drop 0 = dktX5_find_0 := by decide +kernel
theorem dX5_find_0 : decode cX5_find 0 = .ok (.aload_n 0, 1) := dk_42 (dk_at dksX5_find_0 0 rfl rfl)
theorem dX5_find_1 : decode cX5_find 1 = .ok (.getfield 26, 3) := dk_180 0 26 (dk_at dksX5_find_0 1 rfl rfl)
theorem dX5_find_4 : decode cX5_find 4 = .ok (.new 84, 3) := dk_187 0 84 (dk_at dksX5_find_0 4 rfl rfl)
theorem dX5_find_7 : decode cX5_find 7 = .ok (.dup, 1) := dk_89 (dk_at dksX5_find_0 7 rfl rfl)
theorem dX5_find_8 : decode cX5_find 8 = .ok (.iload_n 1, 1) := dk_27 (dk_at dksX5_find_0 8 rfl rfl)
theorem dX5_find_9 : decode cX5_find 9 = .ok (.invokespecial 86, 3) := dk_183 0 86 (dk_at dksX5_find_0 9 rfl rfl)
theorem dX5_find_12 : decode cX5_find 12 = .ok (.invokevirtual 87, 3) := dk_182 0 87 (dk_at dksX5_find_0 12 rfl rfl)
theorem dX5_find_15 : decode cX5_find 15 = .ok (.checkcast 71, 3) := dk_192 0 71 (dk_at dksX5_find_0 15 rfl rfl)
theorem dX5_find_18 : decode cX5_find 18 = .ok (.areturn, 1) := dk_176 (dk_at dksX5_find_0 18 rfl rfl)
abbrev cX5_crossedAll : ByteArray := prog_15_method_10_code
def yX5_crossedAll : MethodName := ⟨RX5, "crossedAll", "()I"⟩
def dkwX5_crossedAll_0 : List UInt8 := [42, 180, 0, 30, 3, 46, 42, 180, 0, 30, 4, 46, 96, 172]
abbrev dktX5_crossedAll_0 : List UInt8 := dkwX5_crossedAll_0 ++ []
theorem dksX5_crossedAll_0 : cX5_crossedAll.data.toList.drop 0 = dktX5_crossedAll_0 := by decide +kernel
theorem dX5_crossedAll_0 : decode cX5_crossedAll 0 = .ok (.aload_n 0, 1) := dk_42 (dk_at dksX5_crossedAll_0 0 rfl rfl)
theorem dX5_crossedAll_1 : decode cX5_crossedAll 1 = .ok (.getfield 30, 3) := dk_180 0 30 (dk_at dksX5_crossedAll_0 1 rfl rfl)
theorem dX5_crossedAll_4 : decode cX5_crossedAll 4 = .ok (.iconst 0, 1) := dk_3 (dk_at dksX5_crossedAll_0 4 rfl rfl)
theorem dX5_crossedAll_5 : decode cX5_crossedAll 5 = .ok (.iaload, 1) := dk_46 (dk_at dksX5_crossedAll_0 5 rfl rfl)
theorem dX5_crossedAll_6 : decode cX5_crossedAll 6 = .ok (.aload_n 0, 1) := dk_42 (dk_at dksX5_crossedAll_0 6 rfl rfl)
theorem dX5_crossedAll_7 : decode cX5_crossedAll 7 = .ok (.getfield 30, 3) := dk_180 0 30 (dk_at dksX5_crossedAll_0 7 rfl rfl)
theorem dX5_crossedAll_10 : decode cX5_crossedAll 10 = .ok (.iconst 1, 1) := dk_4 (dk_at dksX5_crossedAll_0 10 rfl rfl)
theorem dX5_crossedAll_11 : decode cX5_crossedAll 11 = .ok (.iaload, 1) := dk_46 (dk_at dksX5_crossedAll_0 11 rfl rfl)
theorem dX5_crossedAll_12 : decode cX5_crossedAll 12 = .ok (.iadd, 1) := dk_96 (dk_at dksX5_crossedAll_0 12 rfl rfl)
theorem dX5_crossedAll_13 : decode cX5_crossedAll 13 = .ok (.ireturn, 1) := dk_172 (dk_at dksX5_crossedAll_0 13 rfl rfl)
abbrev cX5_copy : ByteArray := prog_15_method_3_code
def yX5_copy : MethodName := ⟨RX5, "copy", "()LSnowPass$Yard;"⟩
def dkwX5_copy_4 : List UInt8 := [176]
abbrev dktX5_copy_4 : List UInt8 := dkwX5_copy_4 ++ []
def dkwX5_copy_3 : List UInt8 := [42, 180, 0, 26, 182, 0, 56, 43, 42, 180, 0, 60, 181, 0, 60, 43, 42, 180, 0, 64, 181, 0, 64, 43]
abbrev dktX5_copy_3 : List UInt8 := dkwX5_copy_3 ++ dktX5_copy_4
def dkwX5_copy_2 : List UInt8 := [185, 0, 46, 2, 0, 192, 0, 50, 185, 0, 52, 2, 0, 87, 132, 2, 1, 167, 255, 216, 43, 180, 0, 26]
abbrev dktX5_copy_2 : List UInt8 := dkwX5_copy_2 ++ dktX5_copy_3
def dkwX5_copy_1 : List UInt8 := [162, 0, 41, 43, 180, 0, 19, 28, 185, 0, 46, 2, 0, 192, 0, 36, 42, 180, 0, 19, 28]
abbrev dktX5_copy_1 : List UInt8 := dkwX5_copy_1 ++ dktX5_copy_2
def dkwX5_copy_0 : List UInt8 := [187, 0, 4, 89, 42, 180, 0, 30, 182, 0, 41, 192, 0, 42, 183, 0, 3, 76, 3, 61, 28, 5]
abbrev dktX5_copy_0 : List UInt8 := dkwX5_copy_0 ++ dktX5_copy_1
theorem dksX5_copy_0 : cX5_copy.data.toList.drop 0 = dktX5_copy_0 := by decide +kernel
theorem dksX5_copy_1 : cX5_copy.data.toList.drop 22 = dktX5_copy_1 := dk_seg dksX5_copy_0 22 rfl rfl
theorem dksX5_copy_2 : cX5_copy.data.toList.drop 43 = dktX5_copy_2 := dk_seg dksX5_copy_1 21 rfl rfl
theorem dksX5_copy_3 : cX5_copy.data.toList.drop 67 = dktX5_copy_3 := dk_seg dksX5_copy_2 24 rfl rfl
theorem dksX5_copy_4 : cX5_copy.data.toList.drop 91 = dktX5_copy_4 := dk_seg dksX5_copy_3 24 rfl rfl
theorem dX5_copy_0 : decode cX5_copy 0 = .ok (.new 4, 3) := dk_187 0 4 (dk_at dksX5_copy_0 0 rfl rfl)
theorem dX5_copy_3 : decode cX5_copy 3 = .ok (.dup, 1) := dk_89 (dk_at dksX5_copy_0 3 rfl rfl)
theorem dX5_copy_4 : decode cX5_copy 4 = .ok (.aload_n 0, 1) := dk_42 (dk_at dksX5_copy_0 4 rfl rfl)
theorem dX5_copy_5 : decode cX5_copy 5 = .ok (.getfield 30, 3) := dk_180 0 30 (dk_at dksX5_copy_0 5 rfl rfl)
theorem dX5_copy_8 : decode cX5_copy 8 = .ok (.invokevirtual 41, 3) := dk_182 0 41 (dk_at dksX5_copy_0 8 rfl rfl)
theorem dX5_copy_11 : decode cX5_copy 11 = .ok (.checkcast 42, 3) := dk_192 0 42 (dk_at dksX5_copy_0 11 rfl rfl)
theorem dX5_copy_14 : decode cX5_copy 14 = .ok (.invokespecial 3, 3) := dk_183 0 3 (dk_at dksX5_copy_0 14 rfl rfl)
theorem dX5_copy_17 : decode cX5_copy 17 = .ok (.astore_n 1, 1) := dk_76 (dk_at dksX5_copy_0 17 rfl rfl)
theorem dX5_copy_18 : decode cX5_copy 18 = .ok (.iconst 0, 1) := dk_3 (dk_at dksX5_copy_0 18 rfl rfl)
theorem dX5_copy_19 : decode cX5_copy 19 = .ok (.istore_n 2, 1) := dk_61 (dk_at dksX5_copy_0 19 rfl rfl)
theorem dX5_copy_20 : decode cX5_copy 20 = .ok (.iload_n 2, 1) := dk_28 (dk_at dksX5_copy_0 20 rfl rfl)
theorem dX5_copy_21 : decode cX5_copy 21 = .ok (.iconst 2, 1) := dk_5 (dk_at dksX5_copy_0 21 rfl rfl)
theorem dX5_copy_22 : decode cX5_copy 22 = .ok (.if_icmp .ge 41, 3) := dk_162 0 41 (dk_at dksX5_copy_1 0 rfl rfl)
theorem dX5_copy_25 : decode cX5_copy 25 = .ok (.aload_n 1, 1) := dk_43 (dk_at dksX5_copy_1 3 rfl rfl)
theorem dX5_copy_26 : decode cX5_copy 26 = .ok (.getfield 19, 3) := dk_180 0 19 (dk_at dksX5_copy_1 4 rfl rfl)
theorem dX5_copy_29 : decode cX5_copy 29 = .ok (.iload_n 2, 1) := dk_28 (dk_at dksX5_copy_1 7 rfl rfl)
theorem dX5_copy_30 : decode cX5_copy 30 = .ok (.invokeinterface 46 2, 5) := by decide +kernel
theorem dX5_copy_35 : decode cX5_copy 35 = .ok (.checkcast 36, 3) := dk_192 0 36 (dk_at dksX5_copy_1 13 rfl rfl)
theorem dX5_copy_38 : decode cX5_copy 38 = .ok (.aload_n 0, 1) := dk_42 (dk_at dksX5_copy_1 16 rfl rfl)
theorem dX5_copy_39 : decode cX5_copy 39 = .ok (.getfield 19, 3) := dk_180 0 19 (dk_at dksX5_copy_1 17 rfl rfl)
theorem dX5_copy_42 : decode cX5_copy 42 = .ok (.iload_n 2, 1) := dk_28 (dk_at dksX5_copy_1 20 rfl rfl)
theorem dX5_copy_43 : decode cX5_copy 43 = .ok (.invokeinterface 46 2, 5) := by decide +kernel
theorem dX5_copy_48 : decode cX5_copy 48 = .ok (.checkcast 50, 3) := dk_192 0 50 (dk_at dksX5_copy_2 5 rfl rfl)
theorem dX5_copy_51 : decode cX5_copy 51 = .ok (.invokeinterface 52 2, 5) := by decide +kernel
theorem dX5_copy_56 : decode cX5_copy 56 = .ok (.pop, 1) := dk_87 (dk_at dksX5_copy_2 13 rfl rfl)
theorem dX5_copy_57 : decode cX5_copy 57 = .ok (.iinc 2 1, 3) := dk_132 2 1 (dk_at dksX5_copy_2 14 rfl rfl)
theorem dX5_copy_60 : decode cX5_copy 60 = .ok (.goto (-40), 3) := dk_167 255 216 (dk_at dksX5_copy_2 17 rfl rfl)
theorem dX5_copy_63 : decode cX5_copy 63 = .ok (.aload_n 1, 1) := dk_43 (dk_at dksX5_copy_2 20 rfl rfl)
theorem dX5_copy_64 : decode cX5_copy 64 = .ok (.getfield 26, 3) := dk_180 0 26 (dk_at dksX5_copy_2 21 rfl rfl)
theorem dX5_copy_67 : decode cX5_copy 67 = .ok (.aload_n 0, 1) := dk_42 (dk_at dksX5_copy_3 0 rfl rfl)
theorem dX5_copy_68 : decode cX5_copy 68 = .ok (.getfield 26, 3) := dk_180 0 26 (dk_at dksX5_copy_3 1 rfl rfl)
theorem dX5_copy_71 : decode cX5_copy 71 = .ok (.invokevirtual 56, 3) := dk_182 0 56 (dk_at dksX5_copy_3 4 rfl rfl)
theorem dX5_copy_74 : decode cX5_copy 74 = .ok (.aload_n 1, 1) := dk_43 (dk_at dksX5_copy_3 7 rfl rfl)
theorem dX5_copy_75 : decode cX5_copy 75 = .ok (.aload_n 0, 1) := dk_42 (dk_at dksX5_copy_3 8 rfl rfl)
theorem dX5_copy_76 : decode cX5_copy 76 = .ok (.getfield 60, 3) := dk_180 0 60 (dk_at dksX5_copy_3 9 rfl rfl)
theorem dX5_copy_79 : decode cX5_copy 79 = .ok (.putfield 60, 3) := dk_181 0 60 (dk_at dksX5_copy_3 12 rfl rfl)
theorem dX5_copy_82 : decode cX5_copy 82 = .ok (.aload_n 1, 1) := dk_43 (dk_at dksX5_copy_3 15 rfl rfl)
theorem dX5_copy_83 : decode cX5_copy 83 = .ok (.aload_n 0, 1) := dk_42 (dk_at dksX5_copy_3 16 rfl rfl)
theorem dX5_copy_84 : decode cX5_copy 84 = .ok (.getfield 64, 3) := dk_180 0 64 (dk_at dksX5_copy_3 17 rfl rfl)
theorem dX5_copy_87 : decode cX5_copy 87 = .ok (.putfield 64, 3) := dk_181 0 64 (dk_at dksX5_copy_3 20 rfl rfl)
theorem dX5_copy_90 : decode cX5_copy 90 = .ok (.aload_n 1, 1) := dk_43 (dk_at dksX5_copy_3 23 rfl rfl)
theorem dX5_copy_91 : decode cX5_copy 91 = .ok (.areturn, 1) := dk_176 (dk_at dksX5_copy_4 0 rfl rfl)
abbrev cX5_isFull : ByteArray := prog_15_method_4_code
def yX5_isFull : MethodName := ⟨RX5, "isFull", "(I)Z"⟩
def dkwX5_isFull_1 : List UInt8 := [167, 0, 4, 3, 172]
abbrev dktX5_isFull_1 : List UInt8 := dkwX5_isFull_1 ++ []
def dkwX5_isFull_0 : List UInt8 := [42, 180, 0, 19, 27, 185, 0, 46, 2, 0, 192, 0, 36, 185, 0, 67, 1, 0, 16, 10, 160, 0, 7, 4]
abbrev dktX5_isFull_0 : List UInt8 := dkwX5_isFull_0 ++ dktX5_isFull_1
theorem dksX5_isFull_0 : cX5_isFull.data.toList.drop 0 = dktX5_isFull_0 := by decide +kernel
theorem dksX5_isFull_1 : cX5_isFull.data.toList.drop 24 = dktX5_isFull_1 := dk_seg dksX5_isFull_0 24 rfl rfl
theorem dX5_isFull_0 : decode cX5_isFull 0 = .ok (.aload_n 0, 1) := dk_42 (dk_at dksX5_isFull_0 0 rfl rfl)
theorem dX5_isFull_1 : decode cX5_isFull 1 = .ok (.getfield 19, 3) := dk_180 0 19 (dk_at dksX5_isFull_0 1 rfl rfl)
theorem dX5_isFull_4 : decode cX5_isFull 4 = .ok (.iload_n 1, 1) := dk_27 (dk_at dksX5_isFull_0 4 rfl rfl)
theorem dX5_isFull_5 : decode cX5_isFull 5 = .ok (.invokeinterface 46 2, 5) := by decide +kernel
theorem dX5_isFull_10 : decode cX5_isFull 10 = .ok (.checkcast 36, 3) := dk_192 0 36 (dk_at dksX5_isFull_0 10 rfl rfl)
theorem dX5_isFull_13 : decode cX5_isFull 13 = .ok (.invokeinterface 67 1, 5) := by decide +kernel
theorem dX5_isFull_18 : decode cX5_isFull 18 = .ok (.bipush 10, 2) := dk_16 10 (dk_at dksX5_isFull_0 18 rfl rfl)
theorem dX5_isFull_20 : decode cX5_isFull 20 = .ok (.if_icmp .ne 7, 3) := dk_160 0 7 (dk_at dksX5_isFull_0 20 rfl rfl)
theorem dX5_isFull_23 : decode cX5_isFull 23 = .ok (.iconst 1, 1) := dk_4 (dk_at dksX5_isFull_0 23 rfl rfl)
theorem dX5_isFull_24 : decode cX5_isFull 24 = .ok (.goto 4, 3) := dk_167 0 4 (dk_at dksX5_isFull_1 0 rfl rfl)
theorem dX5_isFull_27 : decode cX5_isFull 27 = .ok (.iconst 0, 1) := dk_3 (dk_at dksX5_isFull_1 3 rfl rfl)
theorem dX5_isFull_28 : decode cX5_isFull 28 = .ok (.ireturn, 1) := dk_172 (dk_at dksX5_isFull_1 4 rfl rfl)
abbrev cX5_cross : ByteArray := prog_15_method_9_code
def yX5_cross : MethodName := ⟨RX5, "cross", "(LSnowPass$Road;)V"⟩
def dkwX5_cross_3 : List UInt8 := [28, 92, 46, 4, 96, 79, 132, 2, 1, 167, 255, 181, 177]
abbrev dktX5_cross_3 : List UInt8 := dkwX5_cross_3 ++ []
def dkwX5_cross_2 : List UInt8 := [153, 0, 6, 167, 0, 27, 42, 45, 3, 185, 0, 46, 2, 0, 192, 0, 71, 182, 0, 98, 42, 180, 0, 30]
abbrev dktX5_cross_2 : List UInt8 := dkwX5_cross_2 ++ dktX5_cross_3
def dkwX5_cross_1 : List UInt8 := [185, 0, 101, 1, 0, 154, 0, 47, 45, 3, 185, 0, 46, 2, 0, 192, 0, 71, 43, 182, 0, 105]
abbrev dktX5_cross_1 : List UInt8 := dkwX5_cross_1 ++ dktX5_cross_2
def dkwX5_cross_0 : List UInt8 := [3, 61, 28, 5, 162, 0, 76, 42, 180, 0, 19, 28, 185, 0, 46, 2, 0, 192, 0, 36, 78, 45]
abbrev dktX5_cross_0 : List UInt8 := dkwX5_cross_0 ++ dktX5_cross_1
theorem dksX5_cross_0 : cX5_cross.data.toList.drop 0 = dktX5_cross_0 := by decide +kernel
theorem dksX5_cross_1 : cX5_cross.data.toList.drop 22 = dktX5_cross_1 := dk_seg dksX5_cross_0 22 rfl rfl
theorem dksX5_cross_2 : cX5_cross.data.toList.drop 44 = dktX5_cross_2 := dk_seg dksX5_cross_1 22 rfl rfl
theorem dksX5_cross_3 : cX5_cross.data.toList.drop 68 = dktX5_cross_3 := dk_seg dksX5_cross_2 24 rfl rfl
theorem dX5_cross_0 : decode cX5_cross 0 = .ok (.iconst 0, 1) := dk_3 (dk_at dksX5_cross_0 0 rfl rfl)
theorem dX5_cross_1 : decode cX5_cross 1 = .ok (.istore_n 2, 1) := dk_61 (dk_at dksX5_cross_0 1 rfl rfl)
theorem dX5_cross_2 : decode cX5_cross 2 = .ok (.iload_n 2, 1) := dk_28 (dk_at dksX5_cross_0 2 rfl rfl)
theorem dX5_cross_3 : decode cX5_cross 3 = .ok (.iconst 2, 1) := dk_5 (dk_at dksX5_cross_0 3 rfl rfl)
theorem dX5_cross_4 : decode cX5_cross 4 = .ok (.if_icmp .ge 76, 3) := dk_162 0 76 (dk_at dksX5_cross_0 4 rfl rfl)
theorem dX5_cross_7 : decode cX5_cross 7 = .ok (.aload_n 0, 1) := dk_42 (dk_at dksX5_cross_0 7 rfl rfl)
theorem dX5_cross_8 : decode cX5_cross 8 = .ok (.getfield 19, 3) := dk_180 0 19 (dk_at dksX5_cross_0 8 rfl rfl)
theorem dX5_cross_11 : decode cX5_cross 11 = .ok (.iload_n 2, 1) := dk_28 (dk_at dksX5_cross_0 11 rfl rfl)
theorem dX5_cross_12 : decode cX5_cross 12 = .ok (.invokeinterface 46 2, 5) := by decide +kernel
theorem dX5_cross_17 : decode cX5_cross 17 = .ok (.checkcast 36, 3) := dk_192 0 36 (dk_at dksX5_cross_0 17 rfl rfl)
theorem dX5_cross_20 : decode cX5_cross 20 = .ok (.astore_n 3, 1) := dk_78 (dk_at dksX5_cross_0 20 rfl rfl)
theorem dX5_cross_21 : decode cX5_cross 21 = .ok (.aload_n 3, 1) := dk_45 (dk_at dksX5_cross_0 21 rfl rfl)
theorem dX5_cross_22 : decode cX5_cross 22 = .ok (.invokeinterface 101 1, 5) := by decide +kernel
theorem dX5_cross_27 : decode cX5_cross 27 = .ok (.ifCond .ne 47, 3) := dk_154 0 47 (dk_at dksX5_cross_1 5 rfl rfl)
theorem dX5_cross_30 : decode cX5_cross 30 = .ok (.aload_n 3, 1) := dk_45 (dk_at dksX5_cross_1 8 rfl rfl)
theorem dX5_cross_31 : decode cX5_cross 31 = .ok (.iconst 0, 1) := dk_3 (dk_at dksX5_cross_1 9 rfl rfl)
theorem dX5_cross_32 : decode cX5_cross 32 = .ok (.invokeinterface 46 2, 5) := by decide +kernel
theorem dX5_cross_37 : decode cX5_cross 37 = .ok (.checkcast 71, 3) := dk_192 0 71 (dk_at dksX5_cross_1 15 rfl rfl)
theorem dX5_cross_40 : decode cX5_cross 40 = .ok (.aload_n 1, 1) := dk_43 (dk_at dksX5_cross_1 18 rfl rfl)
theorem dX5_cross_41 : decode cX5_cross 41 = .ok (.invokevirtual 105, 3) := dk_182 0 105 (dk_at dksX5_cross_1 19 rfl rfl)
theorem dX5_cross_44 : decode cX5_cross 44 = .ok (.ifCond .eq 6, 3) := dk_153 0 6 (dk_at dksX5_cross_2 0 rfl rfl)
theorem dX5_cross_47 : decode cX5_cross 47 = .ok (.goto 27, 3) := dk_167 0 27 (dk_at dksX5_cross_2 3 rfl rfl)
theorem dX5_cross_50 : decode cX5_cross 50 = .ok (.aload_n 0, 1) := dk_42 (dk_at dksX5_cross_2 6 rfl rfl)
theorem dX5_cross_51 : decode cX5_cross 51 = .ok (.aload_n 3, 1) := dk_45 (dk_at dksX5_cross_2 7 rfl rfl)
theorem dX5_cross_52 : decode cX5_cross 52 = .ok (.iconst 0, 1) := dk_3 (dk_at dksX5_cross_2 8 rfl rfl)
theorem dX5_cross_53 : decode cX5_cross 53 = .ok (.invokeinterface 46 2, 5) := by decide +kernel
theorem dX5_cross_58 : decode cX5_cross 58 = .ok (.checkcast 71, 3) := dk_192 0 71 (dk_at dksX5_cross_2 14 rfl rfl)
theorem dX5_cross_61 : decode cX5_cross 61 = .ok (.invokevirtual 98, 3) := dk_182 0 98 (dk_at dksX5_cross_2 17 rfl rfl)
theorem dX5_cross_64 : decode cX5_cross 64 = .ok (.aload_n 0, 1) := dk_42 (dk_at dksX5_cross_2 20 rfl rfl)
theorem dX5_cross_65 : decode cX5_cross 65 = .ok (.getfield 30, 3) := dk_180 0 30 (dk_at dksX5_cross_2 21 rfl rfl)
theorem dX5_cross_68 : decode cX5_cross 68 = .ok (.iload_n 2, 1) := dk_28 (dk_at dksX5_cross_3 0 rfl rfl)
theorem dX5_cross_69 : decode cX5_cross 69 = .ok (.dup2, 1) := dk_92 (dk_at dksX5_cross_3 1 rfl rfl)
theorem dX5_cross_70 : decode cX5_cross 70 = .ok (.iaload, 1) := dk_46 (dk_at dksX5_cross_3 2 rfl rfl)
theorem dX5_cross_71 : decode cX5_cross 71 = .ok (.iconst 1, 1) := dk_4 (dk_at dksX5_cross_3 3 rfl rfl)
theorem dX5_cross_72 : decode cX5_cross 72 = .ok (.iadd, 1) := dk_96 (dk_at dksX5_cross_3 4 rfl rfl)
theorem dX5_cross_73 : decode cX5_cross 73 = .ok (.iastore, 1) := dk_79 (dk_at dksX5_cross_3 5 rfl rfl)
theorem dX5_cross_74 : decode cX5_cross 74 = .ok (.iinc 2 1, 3) := dk_132 2 1 (dk_at dksX5_cross_3 6 rfl rfl)
theorem dX5_cross_77 : decode cX5_cross 77 = .ok (.goto (-75), 3) := dk_167 255 181 (dk_at dksX5_cross_3 9 rfl rfl)
theorem dX5_cross_80 : decode cX5_cross 80 = .ok (.return_, 1) := dk_177 (dk_at dksX5_cross_3 12 rfl rfl)
abbrev cX5_remove : ByteArray := prog_15_method_7_code
def yX5_remove : MethodName := ⟨RX5, "remove", "(LSnowPass$Cart;)V"⟩
def dkwX5_remove_2 : List UInt8 := [192, 0, 71, 58, 4, 42, 180, 0, 26, 43, 180, 0, 76, 182, 0, 96, 192, 0, 71, 58, 4, 177]
abbrev dktX5_remove_2 : List UInt8 := dkwX5_remove_2 ++ []
def dkwX5_remove_1 : List UInt8 := [185, 0, 46, 2, 0, 43, 165, 0, 9, 132, 3, 1, 167, 255, 242, 44, 29, 185, 0, 93, 2, 0]
abbrev dktX5_remove_1 : List UInt8 := dkwX5_remove_1 ++ dktX5_remove_2
def dkwX5_remove_0 : List UInt8 := [42, 180, 0, 19, 43, 180, 0, 90, 185, 0, 46, 2, 0, 192, 0, 36, 77, 3, 62, 44, 29]
abbrev dktX5_remove_0 : List UInt8 := dkwX5_remove_0 ++ dktX5_remove_1
theorem dksX5_remove_0 : cX5_remove.data.toList.drop 0 = dktX5_remove_0 := by decide +kernel
theorem dksX5_remove_1 : cX5_remove.data.toList.drop 21 = dktX5_remove_1 := dk_seg dksX5_remove_0 21 rfl rfl
theorem dksX5_remove_2 : cX5_remove.data.toList.drop 43 = dktX5_remove_2 := dk_seg dksX5_remove_1 22 rfl rfl
theorem dX5_remove_0 : decode cX5_remove 0 = .ok (.aload_n 0, 1) := dk_42 (dk_at dksX5_remove_0 0 rfl rfl)
theorem dX5_remove_1 : decode cX5_remove 1 = .ok (.getfield 19, 3) := dk_180 0 19 (dk_at dksX5_remove_0 1 rfl rfl)
theorem dX5_remove_4 : decode cX5_remove 4 = .ok (.aload_n 1, 1) := dk_43 (dk_at dksX5_remove_0 4 rfl rfl)
theorem dX5_remove_5 : decode cX5_remove 5 = .ok (.getfield 90, 3) := dk_180 0 90 (dk_at dksX5_remove_0 5 rfl rfl)
theorem dX5_remove_8 : decode cX5_remove 8 = .ok (.invokeinterface 46 2, 5) := by decide +kernel
theorem dX5_remove_13 : decode cX5_remove 13 = .ok (.checkcast 36, 3) := dk_192 0 36 (dk_at dksX5_remove_0 13 rfl rfl)
theorem dX5_remove_16 : decode cX5_remove 16 = .ok (.astore_n 2, 1) := dk_77 (dk_at dksX5_remove_0 16 rfl rfl)
theorem dX5_remove_17 : decode cX5_remove 17 = .ok (.iconst 0, 1) := dk_3 (dk_at dksX5_remove_0 17 rfl rfl)
theorem dX5_remove_18 : decode cX5_remove 18 = .ok (.istore_n 3, 1) := dk_62 (dk_at dksX5_remove_0 18 rfl rfl)
theorem dX5_remove_19 : decode cX5_remove 19 = .ok (.aload_n 2, 1) := dk_44 (dk_at dksX5_remove_0 19 rfl rfl)
theorem dX5_remove_20 : decode cX5_remove 20 = .ok (.iload_n 3, 1) := dk_29 (dk_at dksX5_remove_0 20 rfl rfl)
theorem dX5_remove_21 : decode cX5_remove 21 = .ok (.invokeinterface 46 2, 5) := by decide +kernel
theorem dX5_remove_26 : decode cX5_remove 26 = .ok (.aload_n 1, 1) := dk_43 (dk_at dksX5_remove_1 5 rfl rfl)
theorem dX5_remove_27 : decode cX5_remove 27 = .ok (.if_acmp .eq 9, 3) := dk_165 0 9 (dk_at dksX5_remove_1 6 rfl rfl)
theorem dX5_remove_30 : decode cX5_remove 30 = .ok (.iinc 3 1, 3) := dk_132 3 1 (dk_at dksX5_remove_1 9 rfl rfl)
theorem dX5_remove_33 : decode cX5_remove 33 = .ok (.goto (-14), 3) := dk_167 255 242 (dk_at dksX5_remove_1 12 rfl rfl)
theorem dX5_remove_36 : decode cX5_remove 36 = .ok (.aload_n 2, 1) := dk_44 (dk_at dksX5_remove_1 15 rfl rfl)
theorem dX5_remove_37 : decode cX5_remove 37 = .ok (.iload_n 3, 1) := dk_29 (dk_at dksX5_remove_1 16 rfl rfl)
theorem dX5_remove_38 : decode cX5_remove 38 = .ok (.invokeinterface 93 2, 5) := by decide +kernel
theorem dX5_remove_43 : decode cX5_remove 43 = .ok (.checkcast 71, 3) := dk_192 0 71 (dk_at dksX5_remove_2 0 rfl rfl)
theorem dX5_remove_46 : decode cX5_remove 46 = .ok (.astore 4, 2) := dk_58 4 (dk_at dksX5_remove_2 3 rfl rfl)
theorem dX5_remove_48 : decode cX5_remove 48 = .ok (.aload_n 0, 1) := dk_42 (dk_at dksX5_remove_2 5 rfl rfl)
theorem dX5_remove_49 : decode cX5_remove 49 = .ok (.getfield 26, 3) := dk_180 0 26 (dk_at dksX5_remove_2 6 rfl rfl)
theorem dX5_remove_52 : decode cX5_remove 52 = .ok (.aload_n 1, 1) := dk_43 (dk_at dksX5_remove_2 9 rfl rfl)
theorem dX5_remove_53 : decode cX5_remove 53 = .ok (.getfield 76, 3) := dk_180 0 76 (dk_at dksX5_remove_2 10 rfl rfl)
theorem dX5_remove_56 : decode cX5_remove 56 = .ok (.invokevirtual 96, 3) := dk_182 0 96 (dk_at dksX5_remove_2 13 rfl rfl)
theorem dX5_remove_59 : decode cX5_remove 59 = .ok (.checkcast 71, 3) := dk_192 0 71 (dk_at dksX5_remove_2 16 rfl rfl)
theorem dX5_remove_62 : decode cX5_remove 62 = .ok (.astore 4, 2) := dk_58 4 (dk_at dksX5_remove_2 19 rfl rfl)
theorem dX5_remove_64 : decode cX5_remove 64 = .ok (.return_, 1) := dk_177 (dk_at dksX5_remove_2 21 rfl rfl)
abbrev cX5_cancel : ByteArray := prog_15_method_8_code
def yX5_cancel : MethodName := ⟨RX5, "cancel", "(LSnowPass$Cart;)I"⟩
def dkwX5_cancel_1 : List UInt8 := [185, 0, 46, 2, 0, 192, 0, 36, 185, 0, 67, 1, 0, 172]
abbrev dktX5_cancel_1 : List UInt8 := dkwX5_cancel_1 ++ []
def dkwX5_cancel_0 : List UInt8 := [42, 43, 182, 0, 98, 42, 89, 180, 0, 64, 4, 96, 181, 0, 64, 42, 180, 0, 19, 43, 180, 0, 90]
abbrev dktX5_cancel_0 : List UInt8 := dkwX5_cancel_0 ++ dktX5_cancel_1
theorem dksX5_cancel_0 : cX5_cancel.data.toList.drop 0 = dktX5_cancel_0 := by decide +kernel
theorem dksX5_cancel_1 : cX5_cancel.data.toList.drop 23 = dktX5_cancel_1 := dk_seg dksX5_cancel_0 23 rfl rfl
theorem dX5_cancel_0 : decode cX5_cancel 0 = .ok (.aload_n 0, 1) := dk_42 (dk_at dksX5_cancel_0 0 rfl rfl)
theorem dX5_cancel_1 : decode cX5_cancel 1 = .ok (.aload_n 1, 1) := dk_43 (dk_at dksX5_cancel_0 1 rfl rfl)
theorem dX5_cancel_2 : decode cX5_cancel 2 = .ok (.invokevirtual 98, 3) := dk_182 0 98 (dk_at dksX5_cancel_0 2 rfl rfl)
theorem dX5_cancel_5 : decode cX5_cancel 5 = .ok (.aload_n 0, 1) := dk_42 (dk_at dksX5_cancel_0 5 rfl rfl)
theorem dX5_cancel_6 : decode cX5_cancel 6 = .ok (.dup, 1) := dk_89 (dk_at dksX5_cancel_0 6 rfl rfl)
theorem dX5_cancel_7 : decode cX5_cancel 7 = .ok (.getfield 64, 3) := dk_180 0 64 (dk_at dksX5_cancel_0 7 rfl rfl)
theorem dX5_cancel_10 : decode cX5_cancel 10 = .ok (.iconst 1, 1) := dk_4 (dk_at dksX5_cancel_0 10 rfl rfl)
theorem dX5_cancel_11 : decode cX5_cancel 11 = .ok (.iadd, 1) := dk_96 (dk_at dksX5_cancel_0 11 rfl rfl)
theorem dX5_cancel_12 : decode cX5_cancel 12 = .ok (.putfield 64, 3) := dk_181 0 64 (dk_at dksX5_cancel_0 12 rfl rfl)
theorem dX5_cancel_15 : decode cX5_cancel 15 = .ok (.aload_n 0, 1) := dk_42 (dk_at dksX5_cancel_0 15 rfl rfl)
theorem dX5_cancel_16 : decode cX5_cancel 16 = .ok (.getfield 19, 3) := dk_180 0 19 (dk_at dksX5_cancel_0 16 rfl rfl)
theorem dX5_cancel_19 : decode cX5_cancel 19 = .ok (.aload_n 1, 1) := dk_43 (dk_at dksX5_cancel_0 19 rfl rfl)
theorem dX5_cancel_20 : decode cX5_cancel 20 = .ok (.getfield 90, 3) := dk_180 0 90 (dk_at dksX5_cancel_0 20 rfl rfl)
theorem dX5_cancel_23 : decode cX5_cancel 23 = .ok (.invokeinterface 46 2, 5) := by decide +kernel
theorem dX5_cancel_28 : decode cX5_cancel 28 = .ok (.checkcast 36, 3) := dk_192 0 36 (dk_at dksX5_cancel_1 5 rfl rfl)
theorem dX5_cancel_31 : decode cX5_cancel 31 = .ok (.invokeinterface 67 1, 5) := by decide +kernel
theorem dX5_cancel_36 : decode cX5_cancel 36 = .ok (.ireturn, 1) := dk_172 (dk_at dksX5_cancel_1 13 rfl rfl)
theorem q127 : (Jvm.Cond.initialized "SnowPass$Yard") ∈ lw_all := lw_g (lw_at lw_m1 5 rfl) rfl
theorem q346 : (Jvm.Cond.instantiable "SnowPass$Yard" (5 : Nat)) ∈ lw_all := lw_g (lw_at lw_m1 224 rfl) rfl
theorem q348 : (Jvm.Cond.instanceMethod ({ cls := "SnowPass$Yard", name := "<init>", desc := "()V" } : Jvm.MethodName)) ∈ lw_all := lw_g (lw_at lw_m1 226 rfl) rfl
theorem q349 : (Jvm.Cond.code ({ cls := "SnowPass$Yard", name := "<init>", desc := "()V" } : Jvm.MethodName) prog_15_method_1_code (1 : Nat) (Option.none : Option Jvm.ClassFile.FieldType)) ∈ lw_all := lw_g (lw_at lw_m1 227 rfl) rfl
theorem q350 : (Jvm.Cond.methodLink "SnowPass$Yard" (3 : Nat) ({ cls := "SnowPass$Yard", name := "<init>", desc := "([I)V" } : Jvm.MethodName)) ∈ lw_all := lw_g (lw_at lw_m1 228 rfl) rfl
theorem q351 : (Jvm.Cond.instanceMethod ({ cls := "SnowPass$Yard", name := "<init>", desc := "([I)V" } : Jvm.MethodName)) ∈ lw_all := lw_g (lw_at lw_m1 229 rfl) rfl
theorem q352 : (Jvm.Cond.code ({ cls := "SnowPass$Yard", name := "<init>", desc := "([I)V" } : Jvm.MethodName) prog_15_method_2_code (3 : Nat) (Option.none : Option Jvm.ClassFile.FieldType)) ∈ lw_all := lw_g (lw_at lw_m1 230 rfl) rfl
theorem q353 : (Jvm.Cond.methodLink "SnowPass$Yard" (9 : Nat) ({ cls := "java/lang/Object", name := "<init>", desc := "()V" } : Jvm.MethodName)) ∈ lw_all := lw_g (lw_at lw_m1 231 rfl) rfl
theorem q354 : (Jvm.Cond.classLink "SnowPass$Yard" (14 : Nat) "java/util/ArrayList") ∈ lw_all := lw_g (lw_at lw_m1 232 rfl) rfl
theorem q356 : (Jvm.Cond.methodLink "SnowPass$Yard" (16 : Nat) ({ cls := "java/util/ArrayList", name := "<init>", desc := "(I)V" } : Jvm.MethodName)) ∈ lw_all := lw_g (lw_at lw_m1 234 rfl) rfl
theorem q704 : (Jvm.Cond.classLink "SnowPass$Yard" (23 : Nat) "java/util/LinkedHashMap") ∈ lw_all := lw_g (lw_at lw_m3 102 rfl) rfl
theorem q706 : (Jvm.Cond.methodLink "SnowPass$Yard" (25 : Nat) ({ cls := "java/util/LinkedHashMap", name := "<init>", desc := "()V" } : Jvm.MethodName)) ∈ lw_all := lw_g (lw_at lw_m3 104 rfl) rfl
theorem q763 : (Jvm.Cond.methodLink "SnowPass$Yard" (34 : Nat) ({ cls := "java/util/ArrayList", name := "<init>", desc := "()V" } : Jvm.MethodName)) ∈ lw_all := lw_g (lw_at lw_m3 161 rfl) rfl
theorem q768 : (Jvm.Cond.interfaceEntry "SnowPass$Yard" (35 : Nat)) ∈ lw_tbl := lw_at lw_m3 166 rfl
theorem q769 : (Jvm.Cond.methodLink "SnowPass$Yard" (35 : Nat) ({ cls := "java/util/List", name := "add", desc := "(Ljava/lang/Object;)Z" } : Jvm.MethodName)) ∈ lw_all := lw_g (lw_at lw_m3 167 rfl) rfl
theorem q810 : (Jvm.Cond.selects "SnowPass$Yard" ({ cls := "java/lang/Object", name := "getClass", desc := "()Ljava/lang/Class;" } : Jvm.MethodName) ({ cls := "java/lang/Object", name := "getClass", desc := "()Ljava/lang/Class;" } : Jvm.MethodName)) ∈ lw_all := lw_g (lw_at lw_m3 208 rfl) rfl
theorem q842 : (Jvm.Cond.fieldLink "SnowPass$Yard" (19 : Nat) "SnowPass$Yard" "queues" "Ljava/util/List;") ∈ lw_all := lw_g (lw_at lw_m4 0 rfl) rfl
theorem q844 : (Jvm.Cond.fieldLink "SnowPass$Yard" (26 : Nat) "SnowPass$Yard" "waiting" "Ljava/util/LinkedHashMap;") ∈ lw_all := lw_g (lw_at lw_m4 2 rfl) rfl
theorem q846 : (Jvm.Cond.fieldLink "SnowPass$Yard" (30 : Nat) "SnowPass$Yard" "crossed" "[I") ∈ lw_all := lw_g (lw_at lw_m4 4 rfl) rfl
theorem q848 : (Jvm.Cond.fieldLink "SnowPass$Yard" (60 : Nat) "SnowPass$Yard" "tickets" "I") ∈ lw_all := lw_g (lw_at lw_m4 6 rfl) rfl
theorem q850 : (Jvm.Cond.fieldLink "SnowPass$Yard" (64 : Nat) "SnowPass$Yard" "cancelled" "I") ∈ lw_all := lw_g (lw_at lw_m4 8 rfl) rfl
theorem q852 : (Jvm.Cond.laysFinal "SnowPass$Yard" "SnowPass$Yard" "queues" "Ljava/util/List;") ∈ lw_all := lw_g (lw_at lw_m4 10 rfl) rfl
theorem q853 : (Jvm.Cond.soleField "SnowPass$Yard" "queues") ∈ lw_all := lw_g (lw_at lw_m4 11 rfl) rfl
theorem q854 : (Jvm.Cond.laysFinal "SnowPass$Yard" "SnowPass$Yard" "waiting" "Ljava/util/LinkedHashMap;") ∈ lw_all := lw_g (lw_at lw_m4 12 rfl) rfl
theorem q855 : (Jvm.Cond.soleField "SnowPass$Yard" "waiting") ∈ lw_all := lw_g (lw_at lw_m4 13 rfl) rfl
theorem q856 : (Jvm.Cond.laysFinal "SnowPass$Yard" "SnowPass$Yard" "crossed" "[I") ∈ lw_all := lw_g (lw_at lw_m4 14 rfl) rfl
theorem q857 : (Jvm.Cond.soleField "SnowPass$Yard" "crossed") ∈ lw_all := lw_g (lw_at lw_m4 15 rfl) rfl
theorem q858 : (Jvm.Cond.lays "SnowPass$Yard" "SnowPass$Yard" "tickets" "I") ∈ lw_all := lw_g (lw_at lw_m4 16 rfl) rfl
theorem q859 : (Jvm.Cond.soleField "SnowPass$Yard" "tickets") ∈ lw_all := lw_g (lw_at lw_m4 17 rfl) rfl
theorem q860 : (Jvm.Cond.lays "SnowPass$Yard" "SnowPass$Yard" "cancelled" "I") ∈ lw_all := lw_g (lw_at lw_m4 18 rfl) rfl
theorem q861 : (Jvm.Cond.soleField "SnowPass$Yard" "cancelled") ∈ lw_all := lw_g (lw_at lw_m4 19 rfl) rfl
theorem q862 : (Jvm.Cond.superclass "SnowPass$Yard" "java/lang/Object") ∈ lw_all := lw_g (lw_at lw_m4 20 rfl) rfl
theorem q864 : (Jvm.Cond.instanceMethod ({ cls := "SnowPass$Yard", name := "add", desc := "(IZ)I" } : Jvm.MethodName)) ∈ lw_all := lw_g (lw_at lw_m4 22 rfl) rfl
theorem q865 : (Jvm.Cond.selects "SnowPass$Yard" ({ cls := "SnowPass$Yard", name := "add", desc := "(IZ)I" } : Jvm.MethodName) ({ cls := "SnowPass$Yard", name := "add", desc := "(IZ)I" } : Jvm.MethodName)) ∈ lw_all := lw_g (lw_at lw_m4 23 rfl) rfl
theorem q866 : (Jvm.Cond.code ({ cls := "SnowPass$Yard", name := "add", desc := "(IZ)I" } : Jvm.MethodName) prog_15_method_5_code (5 : Nat) (Option.some Jvm.ClassFile.FieldType.int)) ∈ lw_all := lw_g (lw_at lw_m4 24 rfl) rfl
theorem q867 : (Jvm.Cond.classLink "SnowPass$Yard" (71 : Nat) "SnowPass$Cart") ∈ lw_all := lw_g (lw_at lw_m4 25 rfl) rfl
theorem q869 : (Jvm.Cond.methodLink "SnowPass$Yard" (73 : Nat) ({ cls := "SnowPass$Cart", name := "<init>", desc := "(IIZ)V" } : Jvm.MethodName)) ∈ lw_all := lw_g (lw_at lw_m4 27 rfl) rfl
theorem q885 : (Jvm.Cond.fieldLinkNest "SnowPass$Yard" (76 : Nat) "SnowPass$Cart" "ticket" "LSnowPass$Ticket;" "SnowPass") ∈ lw_tbl := lw_at lw_m4 43 rfl
theorem q888 : (Jvm.Cond.fieldLinkNest "SnowPass$Yard" (90 : Nat) "SnowPass$Cart" "side" "I" "SnowPass") ∈ lw_tbl := lw_at lw_m4 46 rfl
theorem q899 : (Jvm.Cond.interfaceEntry "SnowPass$Yard" (46 : Nat)) ∈ lw_tbl := lw_at lw_m4 57 rfl
theorem q900 : (Jvm.Cond.methodLink "SnowPass$Yard" (46 : Nat) ({ cls := "java/util/List", name := "get", desc := "(I)Ljava/lang/Object;" } : Jvm.MethodName)) ∈ lw_all := lw_g (lw_at lw_m4 58 rfl) rfl
theorem q918 : (Jvm.Cond.classLink "SnowPass$Yard" (36 : Nat) "java/util/List") ∈ lw_all := lw_g (lw_at lw_m4 76 rfl) rfl
theorem q919 : (Jvm.Cond.methodLink "SnowPass$Yard" (80 : Nat) ({ cls := "java/util/LinkedHashMap", name := "put", desc := "(Ljava/lang/Object;Ljava/lang/Object;)Ljava/lang/Object;" } : Jvm.MethodName)) ∈ lw_all := lw_g (lw_at lw_m4 77 rfl) rfl
theorem q952 : (Jvm.Cond.selects "SnowPass$Yard" ({ cls := "java/lang/Object", name := "hashCode", desc := "()I" } : Jvm.MethodName) ({ cls := "java/lang/Object", name := "hashCode", desc := "()I" } : Jvm.MethodName)) ∈ lw_all := lw_g (lw_at lw_m4 110 rfl) rfl
theorem q1389 : (Jvm.Cond.selects "SnowPass$Yard" ({ cls := "java/lang/Object", name := "equals", desc := "(Ljava/lang/Object;)Z" } : Jvm.MethodName) ({ cls := "java/lang/Object", name := "equals", desc := "(Ljava/lang/Object;)Z" } : Jvm.MethodName)) ∈ lw_all := lw_g (lw_at lw_m6 67 rfl) rfl
theorem q1834 : (Jvm.Cond.instanceMethod ({ cls := "SnowPass$Yard", name := "find", desc := "(I)LSnowPass$Cart;" } : Jvm.MethodName)) ∈ lw_all := lw_g (lw_at lw_m8 32 rfl) rfl
theorem q1835 : (Jvm.Cond.selects "SnowPass$Yard" ({ cls := "SnowPass$Yard", name := "find", desc := "(I)LSnowPass$Cart;" } : Jvm.MethodName) ({ cls := "SnowPass$Yard", name := "find", desc := "(I)LSnowPass$Cart;" } : Jvm.MethodName)) ∈ lw_all := lw_g (lw_at lw_m8 33 rfl) rfl
theorem q1836 : (Jvm.Cond.code ({ cls := "SnowPass$Yard", name := "find", desc := "(I)LSnowPass$Cart;" } : Jvm.MethodName) prog_15_method_6_code (2 : Nat) (Option.some (Jvm.ClassFile.FieldType.object "SnowPass$Cart"))) ∈ lw_all := lw_g (lw_at lw_m8 34 rfl) rfl
theorem q1837 : (Jvm.Cond.classLink "SnowPass$Yard" (84 : Nat) "SnowPass$Ticket") ∈ lw_all := lw_g (lw_at lw_m8 35 rfl) rfl
theorem q1838 : (Jvm.Cond.methodLink "SnowPass$Yard" (86 : Nat) ({ cls := "SnowPass$Ticket", name := "<init>", desc := "(I)V" } : Jvm.MethodName)) ∈ lw_all := lw_g (lw_at lw_m8 36 rfl) rfl
theorem q1839 : (Jvm.Cond.methodLink "SnowPass$Yard" (87 : Nat) ({ cls := "java/util/LinkedHashMap", name := "get", desc := "(Ljava/lang/Object;)Ljava/lang/Object;" } : Jvm.MethodName)) ∈ lw_all := lw_g (lw_at lw_m8 37 rfl) rfl
theorem q2048 : (Jvm.Cond.instanceMethod ({ cls := "SnowPass$Yard", name := "crossedAll", desc := "()I" } : Jvm.MethodName)) ∈ lw_all := lw_g (lw_at lw_m9 6 rfl) rfl
theorem q2049 : (Jvm.Cond.selects "SnowPass$Yard" ({ cls := "SnowPass$Yard", name := "crossedAll", desc := "()I" } : Jvm.MethodName) ({ cls := "SnowPass$Yard", name := "crossedAll", desc := "()I" } : Jvm.MethodName)) ∈ lw_all := lw_g (lw_at lw_m9 7 rfl) rfl
theorem q2050 : (Jvm.Cond.code ({ cls := "SnowPass$Yard", name := "crossedAll", desc := "()I" } : Jvm.MethodName) prog_15_method_10_code (1 : Nat) (Option.some Jvm.ClassFile.FieldType.int)) ∈ lw_all := lw_g (lw_at lw_m9 8 rfl) rfl
theorem q2071 : (Jvm.Cond.instanceMethod ({ cls := "SnowPass$Yard", name := "copy", desc := "()LSnowPass$Yard;" } : Jvm.MethodName)) ∈ lw_all := lw_g (lw_at lw_m9 29 rfl) rfl
theorem q2072 : (Jvm.Cond.selects "SnowPass$Yard" ({ cls := "SnowPass$Yard", name := "copy", desc := "()LSnowPass$Yard;" } : Jvm.MethodName) ({ cls := "SnowPass$Yard", name := "copy", desc := "()LSnowPass$Yard;" } : Jvm.MethodName)) ∈ lw_all := lw_g (lw_at lw_m9 30 rfl) rfl
theorem q2073 : (Jvm.Cond.code ({ cls := "SnowPass$Yard", name := "copy", desc := "()LSnowPass$Yard;" } : Jvm.MethodName) prog_15_method_3_code (3 : Nat) (Option.some (Jvm.ClassFile.FieldType.object "SnowPass$Yard"))) ∈ lw_all := lw_g (lw_at lw_m9 31 rfl) rfl
theorem q2074 : (Jvm.Cond.classLink "SnowPass$Yard" (4 : Nat) "SnowPass$Yard") ∈ lw_all := lw_g (lw_at lw_m9 32 rfl) rfl
theorem q2075 : (Jvm.Cond.methodLink "SnowPass$Yard" (41 : Nat) ({ cls := "[I", name := "clone", desc := "()Ljava/lang/Object;" } : Jvm.MethodName)) ∈ lw_all := lw_g (lw_at lw_m9 33 rfl) rfl
theorem q2076 : (Jvm.Cond.classLink "SnowPass$Yard" (42 : Nat) "[I") ∈ lw_all := lw_g (lw_at lw_m9 34 rfl) rfl
theorem q2077 : (Jvm.Cond.classLink "SnowPass$Yard" (50 : Nat) "java/util/Collection") ∈ lw_all := lw_g (lw_at lw_m9 35 rfl) rfl
theorem q2078 : (Jvm.Cond.interfaceEntry "SnowPass$Yard" (52 : Nat)) ∈ lw_tbl := lw_at lw_m9 36 rfl
theorem q2079 : (Jvm.Cond.methodLink "SnowPass$Yard" (52 : Nat) ({ cls := "java/util/List", name := "addAll", desc := "(Ljava/util/Collection;)Z" } : Jvm.MethodName)) ∈ lw_all := lw_g (lw_at lw_m9 37 rfl) rfl
theorem q2208 : (Jvm.Cond.methodLink "SnowPass$Yard" (56 : Nat) ({ cls := "java/util/LinkedHashMap", name := "putAll", desc := "(Ljava/util/Map;)V" } : Jvm.MethodName)) ∈ lw_all := lw_g (lw_at lw_m9 166 rfl) rfl
theorem q2622 : (Jvm.Cond.instanceMethod ({ cls := "SnowPass$Yard", name := "isFull", desc := "(I)Z" } : Jvm.MethodName)) ∈ lw_all := lw_g (lw_at lw_m11 100 rfl) rfl
theorem q2623 : (Jvm.Cond.selects "SnowPass$Yard" ({ cls := "SnowPass$Yard", name := "isFull", desc := "(I)Z" } : Jvm.MethodName) ({ cls := "SnowPass$Yard", name := "isFull", desc := "(I)Z" } : Jvm.MethodName)) ∈ lw_all := lw_g (lw_at lw_m11 101 rfl) rfl
theorem q2624 : (Jvm.Cond.code ({ cls := "SnowPass$Yard", name := "isFull", desc := "(I)Z" } : Jvm.MethodName) prog_15_method_4_code (2 : Nat) (Option.some Jvm.ClassFile.FieldType.boolean)) ∈ lw_all := lw_g (lw_at lw_m11 102 rfl) rfl
theorem q2625 : (Jvm.Cond.interfaceEntry "SnowPass$Yard" (67 : Nat)) ∈ lw_tbl := lw_at lw_m11 103 rfl
theorem q2626 : (Jvm.Cond.methodLink "SnowPass$Yard" (67 : Nat) ({ cls := "java/util/List", name := "size", desc := "()I" } : Jvm.MethodName)) ∈ lw_all := lw_g (lw_at lw_m11 104 rfl) rfl
theorem q2711 : (Jvm.Cond.instanceMethod ({ cls := "SnowPass$Yard", name := "cross", desc := "(LSnowPass$Road;)V" } : Jvm.MethodName)) ∈ lw_all := lw_g (lw_at lw_m11 189 rfl) rfl
theorem q2712 : (Jvm.Cond.selects "SnowPass$Yard" ({ cls := "SnowPass$Yard", name := "cross", desc := "(LSnowPass$Road;)V" } : Jvm.MethodName) ({ cls := "SnowPass$Yard", name := "cross", desc := "(LSnowPass$Road;)V" } : Jvm.MethodName)) ∈ lw_all := lw_g (lw_at lw_m11 190 rfl) rfl
theorem q2713 : (Jvm.Cond.code ({ cls := "SnowPass$Yard", name := "cross", desc := "(LSnowPass$Road;)V" } : Jvm.MethodName) prog_15_method_9_code (4 : Nat) (Option.none : Option Jvm.ClassFile.FieldType)) ∈ lw_all := lw_g (lw_at lw_m11 191 rfl) rfl
theorem q2714 : (Jvm.Cond.interfaceEntry "SnowPass$Yard" (101 : Nat)) ∈ lw_tbl := lw_at lw_m11 192 rfl
theorem q2715 : (Jvm.Cond.methodLink "SnowPass$Yard" (101 : Nat) ({ cls := "java/util/List", name := "isEmpty", desc := "()Z" } : Jvm.MethodName)) ∈ lw_all := lw_g (lw_at lw_m11 193 rfl) rfl
theorem q2723 : (Jvm.Cond.methodLink "SnowPass$Yard" (105 : Nat) ({ cls := "SnowPass$Cart", name := "reason", desc := "(LSnowPass$Road;)I" } : Jvm.MethodName)) ∈ lw_all := lw_g (lw_at lw_m11 201 rfl) rfl
theorem q2729 : (Jvm.Cond.methodLink "SnowPass$Yard" (98 : Nat) ({ cls := "SnowPass$Yard", name := "remove", desc := "(LSnowPass$Cart;)V" } : Jvm.MethodName)) ∈ lw_all := lw_g (lw_at lw_m11 207 rfl) rfl
theorem q2730 : (Jvm.Cond.privateMethod ({ cls := "SnowPass$Yard", name := "remove", desc := "(LSnowPass$Cart;)V" } : Jvm.MethodName)) ∈ lw_tbl := lw_at lw_m11 208 rfl
theorem q2731 : (Jvm.Cond.instanceMethod ({ cls := "SnowPass$Yard", name := "remove", desc := "(LSnowPass$Cart;)V" } : Jvm.MethodName)) ∈ lw_all := lw_g (lw_at lw_m11 209 rfl) rfl
theorem q2732 : (Jvm.Cond.code ({ cls := "SnowPass$Yard", name := "remove", desc := "(LSnowPass$Cart;)V" } : Jvm.MethodName) prog_15_method_7_code (5 : Nat) (Option.none : Option Jvm.ClassFile.FieldType)) ∈ lw_all := lw_g (lw_at lw_m11 210 rfl) rfl
theorem q2733 : (Jvm.Cond.interfaceEntry "SnowPass$Yard" (93 : Nat)) ∈ lw_tbl := lw_at lw_m11 211 rfl
theorem q2734 : (Jvm.Cond.methodLink "SnowPass$Yard" (93 : Nat) ({ cls := "java/util/List", name := "remove", desc := "(I)Ljava/lang/Object;" } : Jvm.MethodName)) ∈ lw_all := lw_g (lw_at lw_m11 212 rfl) rfl
theorem q2746 : (Jvm.Cond.methodLink "SnowPass$Yard" (96 : Nat) ({ cls := "java/util/LinkedHashMap", name := "remove", desc := "(Ljava/lang/Object;)Ljava/lang/Object;" } : Jvm.MethodName)) ∈ lw_all := lw_g (lw_at lw_m11 224 rfl) rfl
theorem q2856 : (Jvm.Cond.instanceMethod ({ cls := "SnowPass$Yard", name := "cancel", desc := "(LSnowPass$Cart;)I" } : Jvm.MethodName)) ∈ lw_all := lw_g (lw_at lw_m12 94 rfl) rfl
theorem q2857 : (Jvm.Cond.selects "SnowPass$Yard" ({ cls := "SnowPass$Yard", name := "cancel", desc := "(LSnowPass$Cart;)I" } : Jvm.MethodName) ({ cls := "SnowPass$Yard", name := "cancel", desc := "(LSnowPass$Cart;)I" } : Jvm.MethodName)) ∈ lw_all := lw_g (lw_at lw_m12 95 rfl) rfl
theorem q2858 : (Jvm.Cond.code ({ cls := "SnowPass$Yard", name := "cancel", desc := "(LSnowPass$Cart;)I" } : Jvm.MethodName) prog_15_method_8_code (2 : Nat) (Option.some Jvm.ClassFile.FieldType.int)) ∈ lw_all := lw_g (lw_at lw_m12 96 rfl) rfl
theorem q3990 : (Jvm.Cond.castable "SnowPass$Yard" "java/lang/Object") ∈ lw_tbl := lw_at lw_m17 28 rfl
theorem in_X5 : ∀ w ∈ wsX50, w ∈ lw_all := lw_in wsX50 [852, 854, 856, 858, 860] (by decide +kernel) (by decide +kernel)

/-! SnowPass$Cart -/
def RX6 : String := "SnowPass$Cart"
def TX6 : u_T := fun k => match k with
  | 0 => ("SnowPass$Cart", "ticket", "LSnowPass$Ticket;", true)
  | 1 => ("SnowPass$Cart", "side", "I", true)
  | _ => ("SnowPass$Cart", "chains", "Z", true)
def tyX6 : Nat → FieldType := fun k => match k with
  | 0 => .object "SnowPass$Ticket"
  | 1 => .int
  | _ => .boolean
abbrev wsX60 : List Cond := u_ws RX6 TX6 3
theorem nmX6 : ∀ a, a < 3 → ∀ b, b < 3 → a ≠ b → (TX6 a).2.1 ≠ (TX6 b).2.1 := by decide +kernel
theorem tyX6_ok : ∀ k, k < 3 → parseFieldDescriptor (TX6 k).2.2.1 = some (tyX6 k) := by decide +kernel
abbrev cX6_init : ByteArray := prog_4_method_1_code
def yX6_init : MethodName := ⟨RX6, "<init>", "(IIZ)V"⟩
def dkwX6_init_1 : List UInt8 := [181, 0, 24, 177]
abbrev dktX6_init_1 : List UInt8 := dkwX6_init_1 ++ []
def dkwX6_init_0 : List UInt8 := [42, 183, 0, 3, 42, 187, 0, 9, 89, 27, 183, 0, 11, 181, 0, 14, 42, 28, 181, 0, 20, 42, 29]
abbrev dktX6_init_0 : List UInt8 := dkwX6_init_0 ++ dktX6_init_1
theorem dksX6_init_0 : cX6_init.data.toList.drop 0 = dktX6_init_0 := by decide +kernel
theorem dksX6_init_1 : cX6_init.data.toList.drop 23 = dktX6_init_1 := dk_seg dksX6_init_0 23 rfl rfl
theorem dX6_init_0 : decode cX6_init 0 = .ok (.aload_n 0, 1) := dk_42 (dk_at dksX6_init_0 0 rfl rfl)
theorem dX6_init_1 : decode cX6_init 1 = .ok (.invokespecial 3, 3) := dk_183 0 3 (dk_at dksX6_init_0 1 rfl rfl)
theorem dX6_init_4 : decode cX6_init 4 = .ok (.aload_n 0, 1) := dk_42 (dk_at dksX6_init_0 4 rfl rfl)
theorem dX6_init_5 : decode cX6_init 5 = .ok (.new 9, 3) := dk_187 0 9 (dk_at dksX6_init_0 5 rfl rfl)
theorem dX6_init_8 : decode cX6_init 8 = .ok (.dup, 1) := dk_89 (dk_at dksX6_init_0 8 rfl rfl)
theorem dX6_init_9 : decode cX6_init 9 = .ok (.iload_n 1, 1) := dk_27 (dk_at dksX6_init_0 9 rfl rfl)
theorem dX6_init_10 : decode cX6_init 10 = .ok (.invokespecial 11, 3) := dk_183 0 11 (dk_at dksX6_init_0 10 rfl rfl)
theorem dX6_init_13 : decode cX6_init 13 = .ok (.putfield 14, 3) := dk_181 0 14 (dk_at dksX6_init_0 13 rfl rfl)
theorem dX6_init_16 : decode cX6_init 16 = .ok (.aload_n 0, 1) := dk_42 (dk_at dksX6_init_0 16 rfl rfl)
theorem dX6_init_17 : decode cX6_init 17 = .ok (.iload_n 2, 1) := dk_28 (dk_at dksX6_init_0 17 rfl rfl)
theorem dX6_init_18 : decode cX6_init 18 = .ok (.putfield 20, 3) := dk_181 0 20 (dk_at dksX6_init_0 18 rfl rfl)
theorem dX6_init_21 : decode cX6_init 21 = .ok (.aload_n 0, 1) := dk_42 (dk_at dksX6_init_0 21 rfl rfl)
theorem dX6_init_22 : decode cX6_init 22 = .ok (.iload_n 3, 1) := dk_29 (dk_at dksX6_init_0 22 rfl rfl)
theorem dX6_init_23 : decode cX6_init 23 = .ok (.putfield 24, 3) := dk_181 0 24 (dk_at dksX6_init_1 0 rfl rfl)
theorem dX6_init_26 : decode cX6_init 26 = .ok (.return_, 1) := dk_177 (dk_at dksX6_init_1 3 rfl rfl)
abbrev cX6_reason : ByteArray := prog_4_method_2_code
def yX6_reason : MethodName := ⟨RX6, "reason", "(LSnowPass$Road;)I"⟩
def dkwX6_reason_1 : List UInt8 := [43, 182, 0, 38, 46, 43, 180, 0, 42, 163, 0, 7, 3, 167, 0, 4, 6, 172]
abbrev dktX6_reason_1 : List UInt8 := dkwX6_reason_1 ++ []
def dkwX6_reason_0 : List UInt8 := [42, 180, 0, 24, 154, 0, 16, 43, 182, 0, 28, 153, 0, 7, 3, 167, 0, 4, 5, 172, 43, 180, 0, 34]
abbrev dktX6_reason_0 : List UInt8 := dkwX6_reason_0 ++ dktX6_reason_1
theorem dksX6_reason_0 : cX6_reason.data.toList.drop 0 = dktX6_reason_0 := by decide +kernel
theorem dksX6_reason_1 : cX6_reason.data.toList.drop 24 = dktX6_reason_1 := dk_seg dksX6_reason_0 24 rfl rfl
theorem dX6_reason_0 : decode cX6_reason 0 = .ok (.aload_n 0, 1) := dk_42 (dk_at dksX6_reason_0 0 rfl rfl)
theorem dX6_reason_1 : decode cX6_reason 1 = .ok (.getfield 24, 3) := dk_180 0 24 (dk_at dksX6_reason_0 1 rfl rfl)
theorem dX6_reason_4 : decode cX6_reason 4 = .ok (.ifCond .ne 16, 3) := dk_154 0 16 (dk_at dksX6_reason_0 4 rfl rfl)
theorem dX6_reason_7 : decode cX6_reason 7 = .ok (.aload_n 1, 1) := dk_43 (dk_at dksX6_reason_0 7 rfl rfl)
theorem dX6_reason_8 : decode cX6_reason 8 = .ok (.invokevirtual 28, 3) := dk_182 0 28 (dk_at dksX6_reason_0 8 rfl rfl)
theorem dX6_reason_11 : decode cX6_reason 11 = .ok (.ifCond .eq 7, 3) := dk_153 0 7 (dk_at dksX6_reason_0 11 rfl rfl)
theorem dX6_reason_14 : decode cX6_reason 14 = .ok (.iconst 0, 1) := dk_3 (dk_at dksX6_reason_0 14 rfl rfl)
theorem dX6_reason_15 : decode cX6_reason 15 = .ok (.goto 4, 3) := dk_167 0 4 (dk_at dksX6_reason_0 15 rfl rfl)
theorem dX6_reason_18 : decode cX6_reason 18 = .ok (.iconst 2, 1) := dk_5 (dk_at dksX6_reason_0 18 rfl rfl)
theorem dX6_reason_19 : decode cX6_reason 19 = .ok (.ireturn, 1) := dk_172 (dk_at dksX6_reason_0 19 rfl rfl)
theorem dX6_reason_20 : decode cX6_reason 20 = .ok (.aload_n 1, 1) := dk_43 (dk_at dksX6_reason_0 20 rfl rfl)
theorem dX6_reason_21 : decode cX6_reason 21 = .ok (.getfield 34, 3) := dk_180 0 34 (dk_at dksX6_reason_0 21 rfl rfl)
theorem dX6_reason_24 : decode cX6_reason 24 = .ok (.aload_n 1, 1) := dk_43 (dk_at dksX6_reason_1 0 rfl rfl)
theorem dX6_reason_25 : decode cX6_reason 25 = .ok (.invokevirtual 38, 3) := dk_182 0 38 (dk_at dksX6_reason_1 1 rfl rfl)
theorem dX6_reason_28 : decode cX6_reason 28 = .ok (.iaload, 1) := dk_46 (dk_at dksX6_reason_1 4 rfl rfl)
theorem dX6_reason_29 : decode cX6_reason 29 = .ok (.aload_n 1, 1) := dk_43 (dk_at dksX6_reason_1 5 rfl rfl)
theorem dX6_reason_30 : decode cX6_reason 30 = .ok (.getfield 42, 3) := dk_180 0 42 (dk_at dksX6_reason_1 6 rfl rfl)
theorem dX6_reason_33 : decode cX6_reason 33 = .ok (.if_icmp .gt 7, 3) := dk_163 0 7 (dk_at dksX6_reason_1 9 rfl rfl)
theorem dX6_reason_36 : decode cX6_reason 36 = .ok (.iconst 0, 1) := dk_3 (dk_at dksX6_reason_1 12 rfl rfl)
theorem dX6_reason_37 : decode cX6_reason 37 = .ok (.goto 4, 3) := dk_167 0 4 (dk_at dksX6_reason_1 13 rfl rfl)
theorem dX6_reason_40 : decode cX6_reason 40 = .ok (.iconst 3, 1) := dk_6 (dk_at dksX6_reason_1 16 rfl rfl)
theorem dX6_reason_41 : decode cX6_reason 41 = .ok (.ireturn, 1) := dk_172 (dk_at dksX6_reason_1 17 rfl rfl)
theorem q150 : (Jvm.Cond.initialized "SnowPass$Cart") ∈ lw_all := lw_g (lw_at lw_m1 28 rfl) rfl
theorem q262 : (Jvm.Cond.fieldLinkNest "SnowPass$Cart" (42 : Nat) "SnowPass$Road" "chainDepth" "I" "SnowPass") ∈ lw_tbl := lw_at lw_m1 140 rfl
theorem q263 : (Jvm.Cond.fieldLinkNest "SnowPass$Cart" (34 : Nat) "SnowPass$Road" "depths" "[I" "SnowPass") ∈ lw_tbl := lw_at lw_m1 141 rfl
theorem q800 : (Jvm.Cond.selects "SnowPass$Cart" ({ cls := "java/lang/Object", name := "getClass", desc := "()Ljava/lang/Class;" } : Jvm.MethodName) ({ cls := "java/lang/Object", name := "getClass", desc := "()Ljava/lang/Class;" } : Jvm.MethodName)) ∈ lw_all := lw_g (lw_at lw_m3 198 rfl) rfl
theorem q868 : (Jvm.Cond.instantiable "SnowPass$Cart" (3 : Nat)) ∈ lw_all := lw_g (lw_at lw_m4 26 rfl) rfl
theorem q870 : (Jvm.Cond.instanceMethod ({ cls := "SnowPass$Cart", name := "<init>", desc := "(IIZ)V" } : Jvm.MethodName)) ∈ lw_all := lw_g (lw_at lw_m4 28 rfl) rfl
theorem q871 : (Jvm.Cond.code ({ cls := "SnowPass$Cart", name := "<init>", desc := "(IIZ)V" } : Jvm.MethodName) prog_4_method_1_code (4 : Nat) (Option.none : Option Jvm.ClassFile.FieldType)) ∈ lw_all := lw_g (lw_at lw_m4 29 rfl) rfl
theorem q872 : (Jvm.Cond.methodLink "SnowPass$Cart" (3 : Nat) ({ cls := "java/lang/Object", name := "<init>", desc := "()V" } : Jvm.MethodName)) ∈ lw_all := lw_g (lw_at lw_m4 30 rfl) rfl
theorem q873 : (Jvm.Cond.classLink "SnowPass$Cart" (9 : Nat) "SnowPass$Ticket") ∈ lw_all := lw_g (lw_at lw_m4 31 rfl) rfl
theorem q875 : (Jvm.Cond.methodLink "SnowPass$Cart" (11 : Nat) ({ cls := "SnowPass$Ticket", name := "<init>", desc := "(I)V" } : Jvm.MethodName)) ∈ lw_all := lw_g (lw_at lw_m4 33 rfl) rfl
theorem q884 : (Jvm.Cond.fieldLink "SnowPass$Cart" (14 : Nat) "SnowPass$Cart" "ticket" "LSnowPass$Ticket;") ∈ lw_all := lw_g (lw_at lw_m4 42 rfl) rfl
theorem q887 : (Jvm.Cond.fieldLink "SnowPass$Cart" (20 : Nat) "SnowPass$Cart" "side" "I") ∈ lw_all := lw_g (lw_at lw_m4 45 rfl) rfl
theorem q890 : (Jvm.Cond.fieldLink "SnowPass$Cart" (24 : Nat) "SnowPass$Cart" "chains" "Z") ∈ lw_all := lw_g (lw_at lw_m4 48 rfl) rfl
theorem q892 : (Jvm.Cond.laysFinal "SnowPass$Cart" "SnowPass$Cart" "ticket" "LSnowPass$Ticket;") ∈ lw_all := lw_g (lw_at lw_m4 50 rfl) rfl
theorem q893 : (Jvm.Cond.soleField "SnowPass$Cart" "ticket") ∈ lw_all := lw_g (lw_at lw_m4 51 rfl) rfl
theorem q894 : (Jvm.Cond.laysFinal "SnowPass$Cart" "SnowPass$Cart" "side" "I") ∈ lw_all := lw_g (lw_at lw_m4 52 rfl) rfl
theorem q895 : (Jvm.Cond.soleField "SnowPass$Cart" "side") ∈ lw_all := lw_g (lw_at lw_m4 53 rfl) rfl
theorem q896 : (Jvm.Cond.laysFinal "SnowPass$Cart" "SnowPass$Cart" "chains" "Z") ∈ lw_all := lw_g (lw_at lw_m4 54 rfl) rfl
theorem q897 : (Jvm.Cond.soleField "SnowPass$Cart" "chains") ∈ lw_all := lw_g (lw_at lw_m4 55 rfl) rfl
theorem q898 : (Jvm.Cond.superclass "SnowPass$Cart" "java/lang/Object") ∈ lw_all := lw_g (lw_at lw_m4 56 rfl) rfl
theorem q935 : (Jvm.Cond.selects "SnowPass$Cart" ({ cls := "java/lang/Object", name := "hashCode", desc := "()I" } : Jvm.MethodName) ({ cls := "java/lang/Object", name := "hashCode", desc := "()I" } : Jvm.MethodName)) ∈ lw_all := lw_g (lw_at lw_m4 93 rfl) rfl
theorem q1374 : (Jvm.Cond.selects "SnowPass$Cart" ({ cls := "java/lang/Object", name := "equals", desc := "(Ljava/lang/Object;)Z" } : Jvm.MethodName) ({ cls := "java/lang/Object", name := "equals", desc := "(Ljava/lang/Object;)Z" } : Jvm.MethodName)) ∈ lw_all := lw_g (lw_at lw_m6 52 rfl) rfl
theorem q2724 : (Jvm.Cond.instanceMethod ({ cls := "SnowPass$Cart", name := "reason", desc := "(LSnowPass$Road;)I" } : Jvm.MethodName)) ∈ lw_all := lw_g (lw_at lw_m11 202 rfl) rfl
theorem q2725 : (Jvm.Cond.selects "SnowPass$Cart" ({ cls := "SnowPass$Cart", name := "reason", desc := "(LSnowPass$Road;)I" } : Jvm.MethodName) ({ cls := "SnowPass$Cart", name := "reason", desc := "(LSnowPass$Road;)I" } : Jvm.MethodName)) ∈ lw_all := lw_g (lw_at lw_m11 203 rfl) rfl
theorem q2726 : (Jvm.Cond.code ({ cls := "SnowPass$Cart", name := "reason", desc := "(LSnowPass$Road;)I" } : Jvm.MethodName) prog_4_method_2_code (2 : Nat) (Option.some Jvm.ClassFile.FieldType.int)) ∈ lw_all := lw_g (lw_at lw_m11 204 rfl) rfl
theorem q2727 : (Jvm.Cond.methodLink "SnowPass$Cart" (28 : Nat) ({ cls := "SnowPass$Road", name := "isOpen", desc := "()Z" } : Jvm.MethodName)) ∈ lw_all := lw_g (lw_at lw_m11 205 rfl) rfl
theorem q2728 : (Jvm.Cond.methodLink "SnowPass$Cart" (38 : Nat) ({ cls := "SnowPass$Road", name := "deepest", desc := "()I" } : Jvm.MethodName)) ∈ lw_all := lw_g (lw_at lw_m11 206 rfl) rfl
theorem q3996 : (Jvm.Cond.castable "SnowPass$Cart" "java/lang/Object") ∈ lw_tbl := lw_at lw_m17 34 rfl
theorem in_X6 : ∀ w ∈ wsX60, w ∈ lw_all := lw_in wsX60 [892, 894, 896] (by decide +kernel) (by decide +kernel)

/-! SnowPass$Ticket -/
def RX7 : String := "SnowPass$Ticket"
def TX7 : u_T := fun k => match k with
  | _ => ("SnowPass$Ticket", "number", "I", true)
def tyX7 : Nat → FieldType := fun k => match k with
  | _ => .int
abbrev wsX70 : List Cond := u_ws RX7 TX7 1
theorem nmX7 : ∀ a, a < 1 → ∀ b, b < 1 → a ≠ b → (TX7 a).2.1 ≠ (TX7 b).2.1 := by decide +kernel
theorem tyX7_ok : ∀ k, k < 1 → parseFieldDescriptor (TX7 k).2.2.1 = some (tyX7 k) := by decide +kernel
abbrev cX7_init : ByteArray := prog_13_method_1_code
def yX7_init : MethodName := ⟨RX7, "<init>", "(I)V"⟩
def dkwX7_init_0 : List UInt8 := [42, 183, 0, 1, 42, 27, 181, 0, 7, 177]
abbrev dktX7_init_0 : List UInt8 := dkwX7_init_0 ++ []
theorem dksX7_init_0 : cX7_init.data.toList.drop 0 = dktX7_init_0 := by decide +kernel
theorem dX7_init_0 : decode cX7_init 0 = .ok (.aload_n 0, 1) := dk_42 (dk_at dksX7_init_0 0 rfl rfl)
theorem dX7_init_1 : decode cX7_init 1 = .ok (.invokespecial 1, 3) := dk_183 0 1 (dk_at dksX7_init_0 1 rfl rfl)
theorem dX7_init_4 : decode cX7_init 4 = .ok (.aload_n 0, 1) := dk_42 (dk_at dksX7_init_0 4 rfl rfl)
theorem dX7_init_5 : decode cX7_init 5 = .ok (.iload_n 1, 1) := dk_27 (dk_at dksX7_init_0 5 rfl rfl)
theorem dX7_init_6 : decode cX7_init 6 = .ok (.putfield 7, 3) := dk_181 0 7 (dk_at dksX7_init_0 6 rfl rfl)
theorem dX7_init_9 : decode cX7_init 9 = .ok (.return_, 1) := dk_177 (dk_at dksX7_init_0 9 rfl rfl)
abbrev cX7_hashCode : ByteArray := prog_13_method_3_code
def yX7_hashCode : MethodName := ⟨RX7, "hashCode", "()I"⟩
theorem dX7_hashCode_0 : decode cX7_hashCode 0 = .ok (.aload_n 0, 1) := by decide +kernel
theorem dX7_hashCode_1 : decode cX7_hashCode 1 = .ok (.getfield 7, 3) := by decide +kernel
theorem dX7_hashCode_4 : decode cX7_hashCode 4 = .ok (.ireturn, 1) := by decide +kernel
abbrev cX7_equals : ByteArray := prog_13_method_2_code
def yX7_equals : MethodName := ⟨RX7, "equals", "(Ljava/lang/Object;)Z"⟩
def dkwX7_equals_1 : List UInt8 := [167, 0, 4, 3, 172]
abbrev dktX7_equals_1 : List UInt8 := dkwX7_equals_1 ++ []
def dkwX7_equals_0 : List UInt8 := [43, 193, 0, 8, 153, 0, 23, 43, 192, 0, 8, 77, 44, 180, 0, 7, 42, 180, 0, 7, 160, 0, 7, 4]
abbrev dktX7_equals_0 : List UInt8 := dkwX7_equals_0 ++ dktX7_equals_1
theorem dksX7_equals_0 : cX7_equals.data.toList.drop 0 = dktX7_equals_0 := by decide +kernel
theorem dksX7_equals_1 : cX7_equals.data.toList.drop 24 = dktX7_equals_1 := dk_seg dksX7_equals_0 24 rfl rfl
theorem dX7_equals_0 : decode cX7_equals 0 = .ok (.aload_n 1, 1) := dk_43 (dk_at dksX7_equals_0 0 rfl rfl)
theorem dX7_equals_1 : decode cX7_equals 1 = .ok (.instanceof 8, 3) := dk_193 0 8 (dk_at dksX7_equals_0 1 rfl rfl)
theorem dX7_equals_4 : decode cX7_equals 4 = .ok (.ifCond .eq 23, 3) := dk_153 0 23 (dk_at dksX7_equals_0 4 rfl rfl)
theorem dX7_equals_7 : decode cX7_equals 7 = .ok (.aload_n 1, 1) := dk_43 (dk_at dksX7_equals_0 7 rfl rfl)
theorem dX7_equals_8 : decode cX7_equals 8 = .ok (.checkcast 8, 3) := dk_192 0 8 (dk_at dksX7_equals_0 8 rfl rfl)
theorem dX7_equals_11 : decode cX7_equals 11 = .ok (.astore_n 2, 1) := dk_77 (dk_at dksX7_equals_0 11 rfl rfl)
theorem dX7_equals_12 : decode cX7_equals 12 = .ok (.aload_n 2, 1) := dk_44 (dk_at dksX7_equals_0 12 rfl rfl)
theorem dX7_equals_13 : decode cX7_equals 13 = .ok (.getfield 7, 3) := dk_180 0 7 (dk_at dksX7_equals_0 13 rfl rfl)
theorem dX7_equals_16 : decode cX7_equals 16 = .ok (.aload_n 0, 1) := dk_42 (dk_at dksX7_equals_0 16 rfl rfl)
theorem dX7_equals_17 : decode cX7_equals 17 = .ok (.getfield 7, 3) := dk_180 0 7 (dk_at dksX7_equals_0 17 rfl rfl)
theorem dX7_equals_20 : decode cX7_equals 20 = .ok (.if_icmp .ne 7, 3) := dk_160 0 7 (dk_at dksX7_equals_0 20 rfl rfl)
theorem dX7_equals_23 : decode cX7_equals 23 = .ok (.iconst 1, 1) := dk_4 (dk_at dksX7_equals_0 23 rfl rfl)
theorem dX7_equals_24 : decode cX7_equals 24 = .ok (.goto 4, 3) := dk_167 0 4 (dk_at dksX7_equals_1 0 rfl rfl)
theorem dX7_equals_27 : decode cX7_equals 27 = .ok (.iconst 0, 1) := dk_3 (dk_at dksX7_equals_1 3 rfl rfl)
theorem dX7_equals_28 : decode cX7_equals 28 = .ok (.ireturn, 1) := dk_172 (dk_at dksX7_equals_1 4 rfl rfl)
theorem q151 : (Jvm.Cond.initialized "SnowPass$Ticket") ∈ lw_all := lw_g (lw_at lw_m1 29 rfl) rfl
theorem q808 : (Jvm.Cond.selects "SnowPass$Ticket" ({ cls := "java/lang/Object", name := "getClass", desc := "()Ljava/lang/Class;" } : Jvm.MethodName) ({ cls := "java/lang/Object", name := "getClass", desc := "()Ljava/lang/Class;" } : Jvm.MethodName)) ∈ lw_all := lw_g (lw_at lw_m3 206 rfl) rfl
theorem q874 : (Jvm.Cond.instantiable "SnowPass$Ticket" (1 : Nat)) ∈ lw_all := lw_g (lw_at lw_m4 32 rfl) rfl
theorem q876 : (Jvm.Cond.instanceMethod ({ cls := "SnowPass$Ticket", name := "<init>", desc := "(I)V" } : Jvm.MethodName)) ∈ lw_all := lw_g (lw_at lw_m4 34 rfl) rfl
theorem q877 : (Jvm.Cond.code ({ cls := "SnowPass$Ticket", name := "<init>", desc := "(I)V" } : Jvm.MethodName) prog_13_method_1_code (2 : Nat) (Option.none : Option Jvm.ClassFile.FieldType)) ∈ lw_all := lw_g (lw_at lw_m4 35 rfl) rfl
theorem q878 : (Jvm.Cond.methodLink "SnowPass$Ticket" (1 : Nat) ({ cls := "java/lang/Object", name := "<init>", desc := "()V" } : Jvm.MethodName)) ∈ lw_all := lw_g (lw_at lw_m4 36 rfl) rfl
theorem q879 : (Jvm.Cond.fieldLink "SnowPass$Ticket" (7 : Nat) "SnowPass$Ticket" "number" "I") ∈ lw_all := lw_g (lw_at lw_m4 37 rfl) rfl
theorem q881 : (Jvm.Cond.laysFinal "SnowPass$Ticket" "SnowPass$Ticket" "number" "I") ∈ lw_all := lw_g (lw_at lw_m4 39 rfl) rfl
theorem q882 : (Jvm.Cond.soleField "SnowPass$Ticket" "number") ∈ lw_all := lw_g (lw_at lw_m4 40 rfl) rfl
theorem q883 : (Jvm.Cond.superclass "SnowPass$Ticket" "java/lang/Object") ∈ lw_all := lw_g (lw_at lw_m4 41 rfl) rfl
theorem q943 : (Jvm.Cond.selects "SnowPass$Ticket" ({ cls := "java/lang/Object", name := "hashCode", desc := "()I" } : Jvm.MethodName) ({ cls := "SnowPass$Ticket", name := "hashCode", desc := "()I" } : Jvm.MethodName)) ∈ lw_all := lw_g (lw_at lw_m4 101 rfl) rfl
theorem q944 : (Jvm.Cond.instanceMethod ({ cls := "SnowPass$Ticket", name := "hashCode", desc := "()I" } : Jvm.MethodName)) ∈ lw_all := lw_g (lw_at lw_m4 102 rfl) rfl
theorem q945 : (Jvm.Cond.code ({ cls := "SnowPass$Ticket", name := "hashCode", desc := "()I" } : Jvm.MethodName) prog_13_method_3_code (1 : Nat) (Option.some Jvm.ClassFile.FieldType.int)) ∈ lw_all := lw_g (lw_at lw_m4 103 rfl) rfl
theorem q1382 : (Jvm.Cond.selects "SnowPass$Ticket" ({ cls := "java/lang/Object", name := "equals", desc := "(Ljava/lang/Object;)Z" } : Jvm.MethodName) ({ cls := "SnowPass$Ticket", name := "equals", desc := "(Ljava/lang/Object;)Z" } : Jvm.MethodName)) ∈ lw_all := lw_g (lw_at lw_m6 60 rfl) rfl
theorem q1383 : (Jvm.Cond.instanceMethod ({ cls := "SnowPass$Ticket", name := "equals", desc := "(Ljava/lang/Object;)Z" } : Jvm.MethodName)) ∈ lw_all := lw_g (lw_at lw_m6 61 rfl) rfl
theorem q1384 : (Jvm.Cond.code ({ cls := "SnowPass$Ticket", name := "equals", desc := "(Ljava/lang/Object;)Z" } : Jvm.MethodName) prog_13_method_2_code (3 : Nat) (Option.some Jvm.ClassFile.FieldType.boolean)) ∈ lw_all := lw_g (lw_at lw_m6 62 rfl) rfl
theorem q1385 : (Jvm.Cond.classLink "SnowPass$Ticket" (8 : Nat) "SnowPass$Ticket") ∈ lw_all := lw_g (lw_at lw_m6 63 rfl) rfl
theorem q3997 : (Jvm.Cond.castable "SnowPass$Ticket" "java/lang/Object") ∈ lw_tbl := lw_at lw_m17 35 rfl
theorem in_X7 : ∀ w ∈ wsX70, w ∈ lw_all := lw_in wsX70 [881] (by decide +kernel) (by decide +kernel)

/-! SnowPass$State -/
def RX8 : String := "SnowPass$State"
def TX8 : u_T := fun k => match k with
  | 0 => ("SnowPass$State", "road", "LSnowPass$Road;", true)
  | _ => ("SnowPass$State", "yard", "LSnowPass$Yard;", true)
def tyX8 : Nat → FieldType := fun k => match k with
  | 0 => .object "SnowPass$Road"
  | _ => .object "SnowPass$Yard"
abbrev wsX80 : List Cond := u_ws RX8 TX8 2
theorem nmX8 : ∀ a, a < 2 → ∀ b, b < 2 → a ≠ b → (TX8 a).2.1 ≠ (TX8 b).2.1 := by decide +kernel
theorem tyX8_ok : ∀ k, k < 2 → parseFieldDescriptor (TX8 k).2.2.1 = some (tyX8 k) := by decide +kernel
abbrev cX8_init : ByteArray := prog_12_method_1_code
def yX8_init : MethodName := ⟨RX8, "<init>", "(LSnowPass$Road;LSnowPass$Yard;)V"⟩
def dkwX8_init_0 : List UInt8 := [42, 183, 0, 3, 42, 43, 181, 0, 9, 42, 44, 181, 0, 15, 177]
abbrev dktX8_init_0 : List UInt8 := dkwX8_init_0 ++ []
theorem dksX8_init_0 : cX8_init.data.toList.drop 0 = dktX8_init_0 := by decide +kernel
theorem dX8_init_0 : decode cX8_init 0 = .ok (.aload_n 0, 1) := dk_42 (dk_at dksX8_init_0 0 rfl rfl)
theorem dX8_init_1 : decode cX8_init 1 = .ok (.invokespecial 3, 3) := dk_183 0 3 (dk_at dksX8_init_0 1 rfl rfl)
theorem dX8_init_4 : decode cX8_init 4 = .ok (.aload_n 0, 1) := dk_42 (dk_at dksX8_init_0 4 rfl rfl)
theorem dX8_init_5 : decode cX8_init 5 = .ok (.aload_n 1, 1) := dk_43 (dk_at dksX8_init_0 5 rfl rfl)
theorem dX8_init_6 : decode cX8_init 6 = .ok (.putfield 9, 3) := dk_181 0 9 (dk_at dksX8_init_0 6 rfl rfl)
theorem dX8_init_9 : decode cX8_init 9 = .ok (.aload_n 0, 1) := dk_42 (dk_at dksX8_init_0 9 rfl rfl)
theorem dX8_init_10 : decode cX8_init 10 = .ok (.aload_n 2, 1) := dk_44 (dk_at dksX8_init_0 10 rfl rfl)
theorem dX8_init_11 : decode cX8_init 11 = .ok (.putfield 15, 3) := dk_181 0 15 (dk_at dksX8_init_0 11 rfl rfl)
theorem dX8_init_14 : decode cX8_init 14 = .ok (.return_, 1) := dk_177 (dk_at dksX8_init_0 14 rfl rfl)
abbrev cX8_copy : ByteArray := prog_12_method_2_code
def yX8_copy : MethodName := ⟨RX8, "copy", "()LSnowPass$State;"⟩
def dkwX8_copy_0 : List UInt8 := [187, 0, 10, 89, 42, 180, 0, 9, 182, 0, 19, 42, 180, 0, 15, 182, 0, 25, 183, 0, 30, 176]
abbrev dktX8_copy_0 : List UInt8 := dkwX8_copy_0 ++ []
theorem dksX8_copy_0 : cX8_copy.data.toList.drop 0 = dktX8_copy_0 := by decide +kernel
theorem dX8_copy_0 : decode cX8_copy 0 = .ok (.new 10, 3) := dk_187 0 10 (dk_at dksX8_copy_0 0 rfl rfl)
theorem dX8_copy_3 : decode cX8_copy 3 = .ok (.dup, 1) := dk_89 (dk_at dksX8_copy_0 3 rfl rfl)
theorem dX8_copy_4 : decode cX8_copy 4 = .ok (.aload_n 0, 1) := dk_42 (dk_at dksX8_copy_0 4 rfl rfl)
theorem dX8_copy_5 : decode cX8_copy 5 = .ok (.getfield 9, 3) := dk_180 0 9 (dk_at dksX8_copy_0 5 rfl rfl)
theorem dX8_copy_8 : decode cX8_copy 8 = .ok (.invokevirtual 19, 3) := dk_182 0 19 (dk_at dksX8_copy_0 8 rfl rfl)
theorem dX8_copy_11 : decode cX8_copy 11 = .ok (.aload_n 0, 1) := dk_42 (dk_at dksX8_copy_0 11 rfl rfl)
theorem dX8_copy_12 : decode cX8_copy 12 = .ok (.getfield 15, 3) := dk_180 0 15 (dk_at dksX8_copy_0 12 rfl rfl)
theorem dX8_copy_15 : decode cX8_copy 15 = .ok (.invokevirtual 25, 3) := dk_182 0 25 (dk_at dksX8_copy_0 15 rfl rfl)
theorem dX8_copy_18 : decode cX8_copy 18 = .ok (.invokespecial 30, 3) := dk_183 0 30 (dk_at dksX8_copy_0 18 rfl rfl)
theorem dX8_copy_21 : decode cX8_copy 21 = .ok (.areturn, 1) := dk_176 (dk_at dksX8_copy_0 21 rfl rfl)
abbrev cX8_passHours : ByteArray := prog_12_method_5_code
def yX8_passHours : MethodName := ⟨RX8, "passHours", "(I)I"⟩
def dkwX8_passHours_0 : List UInt8 := [42, 180, 0, 15, 182, 0, 47, 61, 42, 27, 182, 0, 51, 180, 0, 15, 182, 0, 47, 28, 100, 172]
abbrev dktX8_passHours_0 : List UInt8 := dkwX8_passHours_0 ++ []
theorem dksX8_passHours_0 : cX8_passHours.data.toList.drop 0 = dktX8_passHours_0 := by decide +kernel
theorem dX8_passHours_0 : decode cX8_passHours 0 = .ok (.aload_n 0, 1) := dk_42 (dk_at dksX8_passHours_0 0 rfl rfl)
theorem dX8_passHours_1 : decode cX8_passHours 1 = .ok (.getfield 15, 3) := dk_180 0 15 (dk_at dksX8_passHours_0 1 rfl rfl)
theorem dX8_passHours_4 : decode cX8_passHours 4 = .ok (.invokevirtual 47, 3) := dk_182 0 47 (dk_at dksX8_passHours_0 4 rfl rfl)
theorem dX8_passHours_7 : decode cX8_passHours 7 = .ok (.istore_n 2, 1) := dk_61 (dk_at dksX8_passHours_0 7 rfl rfl)
theorem dX8_passHours_8 : decode cX8_passHours 8 = .ok (.aload_n 0, 1) := dk_42 (dk_at dksX8_passHours_0 8 rfl rfl)
theorem dX8_passHours_9 : decode cX8_passHours 9 = .ok (.iload_n 1, 1) := dk_27 (dk_at dksX8_passHours_0 9 rfl rfl)
theorem dX8_passHours_10 : decode cX8_passHours 10 = .ok (.invokevirtual 51, 3) := dk_182 0 51 (dk_at dksX8_passHours_0 10 rfl rfl)
theorem dX8_passHours_13 : decode cX8_passHours 13 = .ok (.getfield 15, 3) := dk_180 0 15 (dk_at dksX8_passHours_0 13 rfl rfl)
theorem dX8_passHours_16 : decode cX8_passHours 16 = .ok (.invokevirtual 47, 3) := dk_182 0 47 (dk_at dksX8_passHours_0 16 rfl rfl)
theorem dX8_passHours_19 : decode cX8_passHours 19 = .ok (.iload_n 2, 1) := dk_28 (dk_at dksX8_passHours_0 19 rfl rfl)
theorem dX8_passHours_20 : decode cX8_passHours 20 = .ok (.isub, 1) := dk_100 (dk_at dksX8_passHours_0 20 rfl rfl)
theorem dX8_passHours_21 : decode cX8_passHours 21 = .ok (.ireturn, 1) := dk_172 (dk_at dksX8_passHours_0 21 rfl rfl)
abbrev cX8_after : ByteArray := prog_12_method_4_code
def yX8_after : MethodName := ⟨RX8, "after", "(I)LSnowPass$State;"⟩
def dkwX8_after_0 : List UInt8 := [3, 61, 28, 27, 162, 0, 13, 42, 182, 0, 44, 132, 2, 1, 167, 255, 244, 42, 176]
abbrev dktX8_after_0 : List UInt8 := dkwX8_after_0 ++ []
theorem dksX8_after_0 : cX8_after.data.toList.drop 0 = dktX8_after_0 := by decide +kernel
theorem dX8_after_0 : decode cX8_after 0 = .ok (.iconst 0, 1) := dk_3 (dk_at dksX8_after_0 0 rfl rfl)
theorem dX8_after_1 : decode cX8_after 1 = .ok (.istore_n 2, 1) := dk_61 (dk_at dksX8_after_0 1 rfl rfl)
theorem dX8_after_2 : decode cX8_after 2 = .ok (.iload_n 2, 1) := dk_28 (dk_at dksX8_after_0 2 rfl rfl)
theorem dX8_after_3 : decode cX8_after 3 = .ok (.iload_n 1, 1) := dk_27 (dk_at dksX8_after_0 3 rfl rfl)
theorem dX8_after_4 : decode cX8_after 4 = .ok (.if_icmp .ge 13, 3) := dk_162 0 13 (dk_at dksX8_after_0 4 rfl rfl)
theorem dX8_after_7 : decode cX8_after 7 = .ok (.aload_n 0, 1) := dk_42 (dk_at dksX8_after_0 7 rfl rfl)
theorem dX8_after_8 : decode cX8_after 8 = .ok (.invokevirtual 44, 3) := dk_182 0 44 (dk_at dksX8_after_0 8 rfl rfl)
theorem dX8_after_11 : decode cX8_after 11 = .ok (.iinc 2 1, 3) := dk_132 2 1 (dk_at dksX8_after_0 11 rfl rfl)
theorem dX8_after_14 : decode cX8_after 14 = .ok (.goto (-12), 3) := dk_167 255 244 (dk_at dksX8_after_0 14 rfl rfl)
theorem dX8_after_17 : decode cX8_after 17 = .ok (.aload_n 0, 1) := dk_42 (dk_at dksX8_after_0 17 rfl rfl)
theorem dX8_after_18 : decode cX8_after 18 = .ok (.areturn, 1) := dk_176 (dk_at dksX8_after_0 18 rfl rfl)
abbrev cX8_hour : ByteArray := prog_12_method_3_code
def yX8_hour : MethodName := ⟨RX8, "hour", "()V"⟩
def dkwX8_hour_1 : List UInt8 := [180, 0, 40, 4, 96, 181, 0, 40, 177]
abbrev dktX8_hour_1 : List UInt8 := dkwX8_hour_1 ++ []
def dkwX8_hour_0 : List UInt8 := [42, 180, 0, 9, 182, 0, 33, 42, 180, 0, 15, 42, 180, 0, 9, 182, 0, 36, 42, 180, 0, 9, 89]
abbrev dktX8_hour_0 : List UInt8 := dkwX8_hour_0 ++ dktX8_hour_1
theorem dksX8_hour_0 : cX8_hour.data.toList.drop 0 = dktX8_hour_0 := by decide +kernel
theorem dksX8_hour_1 : cX8_hour.data.toList.drop 23 = dktX8_hour_1 := dk_seg dksX8_hour_0 23 rfl rfl
theorem dX8_hour_0 : decode cX8_hour 0 = .ok (.aload_n 0, 1) := dk_42 (dk_at dksX8_hour_0 0 rfl rfl)
theorem dX8_hour_1 : decode cX8_hour 1 = .ok (.getfield 9, 3) := dk_180 0 9 (dk_at dksX8_hour_0 1 rfl rfl)
theorem dX8_hour_4 : decode cX8_hour 4 = .ok (.invokevirtual 33, 3) := dk_182 0 33 (dk_at dksX8_hour_0 4 rfl rfl)
theorem dX8_hour_7 : decode cX8_hour 7 = .ok (.aload_n 0, 1) := dk_42 (dk_at dksX8_hour_0 7 rfl rfl)
theorem dX8_hour_8 : decode cX8_hour 8 = .ok (.getfield 15, 3) := dk_180 0 15 (dk_at dksX8_hour_0 8 rfl rfl)
theorem dX8_hour_11 : decode cX8_hour 11 = .ok (.aload_n 0, 1) := dk_42 (dk_at dksX8_hour_0 11 rfl rfl)
theorem dX8_hour_12 : decode cX8_hour 12 = .ok (.getfield 9, 3) := dk_180 0 9 (dk_at dksX8_hour_0 12 rfl rfl)
theorem dX8_hour_15 : decode cX8_hour 15 = .ok (.invokevirtual 36, 3) := dk_182 0 36 (dk_at dksX8_hour_0 15 rfl rfl)
theorem dX8_hour_18 : decode cX8_hour 18 = .ok (.aload_n 0, 1) := dk_42 (dk_at dksX8_hour_0 18 rfl rfl)
theorem dX8_hour_19 : decode cX8_hour 19 = .ok (.getfield 9, 3) := dk_180 0 9 (dk_at dksX8_hour_0 19 rfl rfl)
theorem dX8_hour_22 : decode cX8_hour 22 = .ok (.dup, 1) := dk_89 (dk_at dksX8_hour_0 22 rfl rfl)
theorem dX8_hour_23 : decode cX8_hour 23 = .ok (.getfield 40, 3) := dk_180 0 40 (dk_at dksX8_hour_1 0 rfl rfl)
theorem dX8_hour_26 : decode cX8_hour 26 = .ok (.iconst 1, 1) := dk_4 (dk_at dksX8_hour_1 3 rfl rfl)
theorem dX8_hour_27 : decode cX8_hour 27 = .ok (.iadd, 1) := dk_96 (dk_at dksX8_hour_1 4 rfl rfl)
theorem dX8_hour_28 : decode cX8_hour 28 = .ok (.putfield 40, 3) := dk_181 0 40 (dk_at dksX8_hour_1 5 rfl rfl)
theorem dX8_hour_31 : decode cX8_hour 31 = .ok (.return_, 1) := dk_177 (dk_at dksX8_hour_1 8 rfl rfl)
abbrev cX8_spreadSalt : ByteArray := prog_12_method_6_code
def yX8_spreadSalt : MethodName := ⟨RX8, "spreadSalt", "(I)I"⟩
def dkwX8_spreadSalt_2 : List UInt8 := [181, 0, 68, 42, 180, 0, 9, 180, 0, 71, 44, 180, 0, 75, 16, 6, 79, 44, 180, 0, 59, 172]
abbrev dktX8_spreadSalt_2 : List UInt8 := dkwX8_spreadSalt_2 ++ []
def dkwX8_spreadSalt_1 : List UInt8 := [184, 0, 64, 44, 89, 180, 0, 59, 4, 100, 181, 0, 59, 42, 180, 0, 9, 89, 180, 0, 68, 4, 96]
abbrev dktX8_spreadSalt_1 : List UInt8 := dkwX8_spreadSalt_1 ++ dktX8_spreadSalt_2
def dkwX8_spreadSalt_0 : List UInt8 := [42, 180, 0, 9, 180, 0, 55, 27, 50, 77, 44, 180, 0, 59, 158, 0, 7, 4, 167, 0, 4, 3]
abbrev dktX8_spreadSalt_0 : List UInt8 := dkwX8_spreadSalt_0 ++ dktX8_spreadSalt_1
theorem dksX8_spreadSalt_0 : cX8_spreadSalt.data.toList.drop 0 = dktX8_spreadSalt_0 := by decide +kernel
theorem dksX8_spreadSalt_1 : cX8_spreadSalt.data.toList.drop 22 = dktX8_spreadSalt_1 := dk_seg dksX8_spreadSalt_0 22 rfl rfl
theorem dksX8_spreadSalt_2 : cX8_spreadSalt.data.toList.drop 45 = dktX8_spreadSalt_2 := dk_seg dksX8_spreadSalt_1 23 rfl rfl
theorem dX8_spreadSalt_0 : decode cX8_spreadSalt 0 = .ok (.aload_n 0, 1) := dk_42 (dk_at dksX8_spreadSalt_0 0 rfl rfl)
theorem dX8_spreadSalt_1 : decode cX8_spreadSalt 1 = .ok (.getfield 9, 3) := dk_180 0 9 (dk_at dksX8_spreadSalt_0 1 rfl rfl)
theorem dX8_spreadSalt_4 : decode cX8_spreadSalt 4 = .ok (.getfield 55, 3) := dk_180 0 55 (dk_at dksX8_spreadSalt_0 4 rfl rfl)
theorem dX8_spreadSalt_7 : decode cX8_spreadSalt 7 = .ok (.iload_n 1, 1) := dk_27 (dk_at dksX8_spreadSalt_0 7 rfl rfl)
theorem dX8_spreadSalt_8 : decode cX8_spreadSalt 8 = .ok (.aaload, 1) := dk_50 (dk_at dksX8_spreadSalt_0 8 rfl rfl)
theorem dX8_spreadSalt_9 : decode cX8_spreadSalt 9 = .ok (.astore_n 2, 1) := dk_77 (dk_at dksX8_spreadSalt_0 9 rfl rfl)
theorem dX8_spreadSalt_10 : decode cX8_spreadSalt 10 = .ok (.aload_n 2, 1) := dk_44 (dk_at dksX8_spreadSalt_0 10 rfl rfl)
theorem dX8_spreadSalt_11 : decode cX8_spreadSalt 11 = .ok (.getfield 59, 3) := dk_180 0 59 (dk_at dksX8_spreadSalt_0 11 rfl rfl)
theorem dX8_spreadSalt_14 : decode cX8_spreadSalt 14 = .ok (.ifCond .le 7, 3) := dk_158 0 7 (dk_at dksX8_spreadSalt_0 14 rfl rfl)
theorem dX8_spreadSalt_17 : decode cX8_spreadSalt 17 = .ok (.iconst 1, 1) := dk_4 (dk_at dksX8_spreadSalt_0 17 rfl rfl)
theorem dX8_spreadSalt_18 : decode cX8_spreadSalt 18 = .ok (.goto 4, 3) := dk_167 0 4 (dk_at dksX8_spreadSalt_0 18 rfl rfl)
theorem dX8_spreadSalt_21 : decode cX8_spreadSalt 21 = .ok (.iconst 0, 1) := dk_3 (dk_at dksX8_spreadSalt_0 21 rfl rfl)
theorem dX8_spreadSalt_22 : decode cX8_spreadSalt 22 = .ok (.invokestatic 64, 3) := dk_184 0 64 (dk_at dksX8_spreadSalt_1 0 rfl rfl)
theorem dX8_spreadSalt_25 : decode cX8_spreadSalt 25 = .ok (.aload_n 2, 1) := dk_44 (dk_at dksX8_spreadSalt_1 3 rfl rfl)
theorem dX8_spreadSalt_26 : decode cX8_spreadSalt 26 = .ok (.dup, 1) := dk_89 (dk_at dksX8_spreadSalt_1 4 rfl rfl)
theorem dX8_spreadSalt_27 : decode cX8_spreadSalt 27 = .ok (.getfield 59, 3) := dk_180 0 59 (dk_at dksX8_spreadSalt_1 5 rfl rfl)
theorem dX8_spreadSalt_30 : decode cX8_spreadSalt 30 = .ok (.iconst 1, 1) := dk_4 (dk_at dksX8_spreadSalt_1 8 rfl rfl)
theorem dX8_spreadSalt_31 : decode cX8_spreadSalt 31 = .ok (.isub, 1) := dk_100 (dk_at dksX8_spreadSalt_1 9 rfl rfl)
theorem dX8_spreadSalt_32 : decode cX8_spreadSalt 32 = .ok (.putfield 59, 3) := dk_181 0 59 (dk_at dksX8_spreadSalt_1 10 rfl rfl)
theorem dX8_spreadSalt_35 : decode cX8_spreadSalt 35 = .ok (.aload_n 0, 1) := dk_42 (dk_at dksX8_spreadSalt_1 13 rfl rfl)
theorem dX8_spreadSalt_36 : decode cX8_spreadSalt 36 = .ok (.getfield 9, 3) := dk_180 0 9 (dk_at dksX8_spreadSalt_1 14 rfl rfl)
theorem dX8_spreadSalt_39 : decode cX8_spreadSalt 39 = .ok (.dup, 1) := dk_89 (dk_at dksX8_spreadSalt_1 17 rfl rfl)
theorem dX8_spreadSalt_40 : decode cX8_spreadSalt 40 = .ok (.getfield 68, 3) := dk_180 0 68 (dk_at dksX8_spreadSalt_1 18 rfl rfl)
theorem dX8_spreadSalt_43 : decode cX8_spreadSalt 43 = .ok (.iconst 1, 1) := dk_4 (dk_at dksX8_spreadSalt_1 21 rfl rfl)
theorem dX8_spreadSalt_44 : decode cX8_spreadSalt 44 = .ok (.iadd, 1) := dk_96 (dk_at dksX8_spreadSalt_1 22 rfl rfl)
theorem dX8_spreadSalt_45 : decode cX8_spreadSalt 45 = .ok (.putfield 68, 3) := dk_181 0 68 (dk_at dksX8_spreadSalt_2 0 rfl rfl)
theorem dX8_spreadSalt_48 : decode cX8_spreadSalt 48 = .ok (.aload_n 0, 1) := dk_42 (dk_at dksX8_spreadSalt_2 3 rfl rfl)
theorem dX8_spreadSalt_49 : decode cX8_spreadSalt 49 = .ok (.getfield 9, 3) := dk_180 0 9 (dk_at dksX8_spreadSalt_2 4 rfl rfl)
theorem dX8_spreadSalt_52 : decode cX8_spreadSalt 52 = .ok (.getfield 71, 3) := dk_180 0 71 (dk_at dksX8_spreadSalt_2 7 rfl rfl)
theorem dX8_spreadSalt_55 : decode cX8_spreadSalt 55 = .ok (.aload_n 2, 1) := dk_44 (dk_at dksX8_spreadSalt_2 10 rfl rfl)
theorem dX8_spreadSalt_56 : decode cX8_spreadSalt 56 = .ok (.getfield 75, 3) := dk_180 0 75 (dk_at dksX8_spreadSalt_2 11 rfl rfl)
theorem dX8_spreadSalt_59 : decode cX8_spreadSalt 59 = .ok (.bipush 6, 2) := dk_16 6 (dk_at dksX8_spreadSalt_2 14 rfl rfl)
theorem dX8_spreadSalt_61 : decode cX8_spreadSalt 61 = .ok (.iastore, 1) := dk_79 (dk_at dksX8_spreadSalt_2 16 rfl rfl)
theorem dX8_spreadSalt_62 : decode cX8_spreadSalt 62 = .ok (.aload_n 2, 1) := dk_44 (dk_at dksX8_spreadSalt_2 17 rfl rfl)
theorem dX8_spreadSalt_63 : decode cX8_spreadSalt 63 = .ok (.getfield 59, 3) := dk_180 0 59 (dk_at dksX8_spreadSalt_2 18 rfl rfl)
theorem dX8_spreadSalt_66 : decode cX8_spreadSalt 66 = .ok (.ireturn, 1) := dk_172 (dk_at dksX8_spreadSalt_2 21 rfl rfl)
abbrev cX8_recall : ByteArray := prog_12_method_7_code
def yX8_recall : MethodName := ⟨RX8, "recall", "(I)I"⟩
def dkwX8_recall_2 : List UInt8 := [180, 0, 75, 172]
abbrev dktX8_recall_2 : List UInt8 := dkwX8_recall_2 ++ []
def dkwX8_recall_1 : List UInt8 := [180, 0, 40, 182, 0, 86, 42, 180, 0, 9, 27, 182, 0, 92, 42, 180, 0, 9, 180, 0, 55, 27, 50]
abbrev dktX8_recall_1 : List UInt8 := dkwX8_recall_1 ++ dktX8_recall_2
def dkwX8_recall_0 : List UInt8 := [42, 180, 0, 9, 27, 182, 0, 78, 153, 0, 21, 42, 180, 0, 9, 180, 0, 82, 6, 42, 180, 0, 9]
abbrev dktX8_recall_0 : List UInt8 := dkwX8_recall_0 ++ dktX8_recall_1
theorem dksX8_recall_0 : cX8_recall.data.toList.drop 0 = dktX8_recall_0 := by decide +kernel
theorem dksX8_recall_1 : cX8_recall.data.toList.drop 23 = dktX8_recall_1 := dk_seg dksX8_recall_0 23 rfl rfl
theorem dksX8_recall_2 : cX8_recall.data.toList.drop 46 = dktX8_recall_2 := dk_seg dksX8_recall_1 23 rfl rfl
theorem dX8_recall_0 : decode cX8_recall 0 = .ok (.aload_n 0, 1) := dk_42 (dk_at dksX8_recall_0 0 rfl rfl)
theorem dX8_recall_1 : decode cX8_recall 1 = .ok (.getfield 9, 3) := dk_180 0 9 (dk_at dksX8_recall_0 1 rfl rfl)
theorem dX8_recall_4 : decode cX8_recall 4 = .ok (.iload_n 1, 1) := dk_27 (dk_at dksX8_recall_0 4 rfl rfl)
theorem dX8_recall_5 : decode cX8_recall 5 = .ok (.invokevirtual 78, 3) := dk_182 0 78 (dk_at dksX8_recall_0 5 rfl rfl)
theorem dX8_recall_8 : decode cX8_recall 8 = .ok (.ifCond .eq 21, 3) := dk_153 0 21 (dk_at dksX8_recall_0 8 rfl rfl)
theorem dX8_recall_11 : decode cX8_recall 11 = .ok (.aload_n 0, 1) := dk_42 (dk_at dksX8_recall_0 11 rfl rfl)
theorem dX8_recall_12 : decode cX8_recall 12 = .ok (.getfield 9, 3) := dk_180 0 9 (dk_at dksX8_recall_0 12 rfl rfl)
theorem dX8_recall_15 : decode cX8_recall 15 = .ok (.getfield 82, 3) := dk_180 0 82 (dk_at dksX8_recall_0 15 rfl rfl)
theorem dX8_recall_18 : decode cX8_recall 18 = .ok (.iconst 3, 1) := dk_6 (dk_at dksX8_recall_0 18 rfl rfl)
theorem dX8_recall_19 : decode cX8_recall 19 = .ok (.aload_n 0, 1) := dk_42 (dk_at dksX8_recall_0 19 rfl rfl)
theorem dX8_recall_20 : decode cX8_recall 20 = .ok (.getfield 9, 3) := dk_180 0 9 (dk_at dksX8_recall_0 20 rfl rfl)
theorem dX8_recall_23 : decode cX8_recall 23 = .ok (.getfield 40, 3) := dk_180 0 40 (dk_at dksX8_recall_1 0 rfl rfl)
theorem dX8_recall_26 : decode cX8_recall 26 = .ok (.invokevirtual 86, 3) := dk_182 0 86 (dk_at dksX8_recall_1 3 rfl rfl)
theorem dX8_recall_29 : decode cX8_recall 29 = .ok (.aload_n 0, 1) := dk_42 (dk_at dksX8_recall_1 6 rfl rfl)
theorem dX8_recall_30 : decode cX8_recall 30 = .ok (.getfield 9, 3) := dk_180 0 9 (dk_at dksX8_recall_1 7 rfl rfl)
theorem dX8_recall_33 : decode cX8_recall 33 = .ok (.iload_n 1, 1) := dk_27 (dk_at dksX8_recall_1 10 rfl rfl)
theorem dX8_recall_34 : decode cX8_recall 34 = .ok (.invokevirtual 92, 3) := dk_182 0 92 (dk_at dksX8_recall_1 11 rfl rfl)
theorem dX8_recall_37 : decode cX8_recall 37 = .ok (.aload_n 0, 1) := dk_42 (dk_at dksX8_recall_1 14 rfl rfl)
theorem dX8_recall_38 : decode cX8_recall 38 = .ok (.getfield 9, 3) := dk_180 0 9 (dk_at dksX8_recall_1 15 rfl rfl)
theorem dX8_recall_41 : decode cX8_recall 41 = .ok (.getfield 55, 3) := dk_180 0 55 (dk_at dksX8_recall_1 18 rfl rfl)
theorem dX8_recall_44 : decode cX8_recall 44 = .ok (.iload_n 1, 1) := dk_27 (dk_at dksX8_recall_1 21 rfl rfl)
theorem dX8_recall_45 : decode cX8_recall 45 = .ok (.aaload, 1) := dk_50 (dk_at dksX8_recall_1 22 rfl rfl)
theorem dX8_recall_46 : decode cX8_recall 46 = .ok (.getfield 75, 3) := dk_180 0 75 (dk_at dksX8_recall_2 0 rfl rfl)
theorem dX8_recall_49 : decode cX8_recall 49 = .ok (.ireturn, 1) := dk_172 (dk_at dksX8_recall_2 3 rfl rfl)
abbrev cX8_addSacks : ByteArray := prog_12_method_8_code
def yX8_addSacks : MethodName := ⟨RX8, "addSacks", "(II)I"⟩
def dkwX8_addSacks_1 : List UInt8 := [181, 0, 59, 45, 180, 0, 59, 172]
abbrev dktX8_addSacks_1 : List UInt8 := dkwX8_addSacks_1 ++ []
def dkwX8_addSacks_0 : List UInt8 := [42, 180, 0, 9, 180, 0, 55, 27, 50, 78, 45, 16, 99, 45, 180, 0, 59, 28, 96, 184, 0, 96]
abbrev dktX8_addSacks_0 : List UInt8 := dkwX8_addSacks_0 ++ dktX8_addSacks_1
theorem dksX8_addSacks_0 : cX8_addSacks.data.toList.drop 0 = dktX8_addSacks_0 := by decide +kernel
theorem dksX8_addSacks_1 : cX8_addSacks.data.toList.drop 22 = dktX8_addSacks_1 := dk_seg dksX8_addSacks_0 22 rfl rfl
theorem dX8_addSacks_0 : decode cX8_addSacks 0 = .ok (.aload_n 0, 1) := dk_42 (dk_at dksX8_addSacks_0 0 rfl rfl)
theorem dX8_addSacks_1 : decode cX8_addSacks 1 = .ok (.getfield 9, 3) := dk_180 0 9 (dk_at dksX8_addSacks_0 1 rfl rfl)
theorem dX8_addSacks_4 : decode cX8_addSacks 4 = .ok (.getfield 55, 3) := dk_180 0 55 (dk_at dksX8_addSacks_0 4 rfl rfl)
theorem dX8_addSacks_7 : decode cX8_addSacks 7 = .ok (.iload_n 1, 1) := dk_27 (dk_at dksX8_addSacks_0 7 rfl rfl)
theorem dX8_addSacks_8 : decode cX8_addSacks 8 = .ok (.aaload, 1) := dk_50 (dk_at dksX8_addSacks_0 8 rfl rfl)
theorem dX8_addSacks_9 : decode cX8_addSacks 9 = .ok (.astore_n 3, 1) := dk_78 (dk_at dksX8_addSacks_0 9 rfl rfl)
theorem dX8_addSacks_10 : decode cX8_addSacks 10 = .ok (.aload_n 3, 1) := dk_45 (dk_at dksX8_addSacks_0 10 rfl rfl)
theorem dX8_addSacks_11 : decode cX8_addSacks 11 = .ok (.bipush 99, 2) := dk_16 99 (dk_at dksX8_addSacks_0 11 rfl rfl)
theorem dX8_addSacks_13 : decode cX8_addSacks 13 = .ok (.aload_n 3, 1) := dk_45 (dk_at dksX8_addSacks_0 13 rfl rfl)
theorem dX8_addSacks_14 : decode cX8_addSacks 14 = .ok (.getfield 59, 3) := dk_180 0 59 (dk_at dksX8_addSacks_0 14 rfl rfl)
theorem dX8_addSacks_17 : decode cX8_addSacks 17 = .ok (.iload_n 2, 1) := dk_28 (dk_at dksX8_addSacks_0 17 rfl rfl)
theorem dX8_addSacks_18 : decode cX8_addSacks 18 = .ok (.iadd, 1) := dk_96 (dk_at dksX8_addSacks_0 18 rfl rfl)
theorem dX8_addSacks_19 : decode cX8_addSacks 19 = .ok (.invokestatic 96, 3) := dk_184 0 96 (dk_at dksX8_addSacks_0 19 rfl rfl)
theorem dX8_addSacks_22 : decode cX8_addSacks 22 = .ok (.putfield 59, 3) := dk_181 0 59 (dk_at dksX8_addSacks_1 0 rfl rfl)
theorem dX8_addSacks_25 : decode cX8_addSacks 25 = .ok (.aload_n 3, 1) := dk_45 (dk_at dksX8_addSacks_1 3 rfl rfl)
theorem dX8_addSacks_26 : decode cX8_addSacks 26 = .ok (.getfield 59, 3) := dk_180 0 59 (dk_at dksX8_addSacks_1 4 rfl rfl)
theorem dX8_addSacks_29 : decode cX8_addSacks 29 = .ok (.ireturn, 1) := dk_172 (dk_at dksX8_addSacks_1 7 rfl rfl)
abbrev cX8_setSnowfall : ByteArray := prog_12_method_9_code
def yX8_setSnowfall : MethodName := ⟨RX8, "setSnowfall", "(I)I"⟩
def dkwX8_setSnowfall_0 : List UInt8 := [42, 180, 0, 9, 180, 0, 102, 61, 42, 180, 0, 9, 27, 181, 0, 102, 28, 172]
abbrev dktX8_setSnowfall_0 : List UInt8 := dkwX8_setSnowfall_0 ++ []
theorem dksX8_setSnowfall_0 : cX8_setSnowfall.data.toList.drop 0 = dktX8_setSnowfall_0 := by decide +kernel
theorem dX8_setSnowfall_0 : decode cX8_setSnowfall 0 = .ok (.aload_n 0, 1) := dk_42 (dk_at dksX8_setSnowfall_0 0 rfl rfl)
theorem dX8_setSnowfall_1 : decode cX8_setSnowfall 1 = .ok (.getfield 9, 3) := dk_180 0 9 (dk_at dksX8_setSnowfall_0 1 rfl rfl)
theorem dX8_setSnowfall_4 : decode cX8_setSnowfall 4 = .ok (.getfield 102, 3) := dk_180 0 102 (dk_at dksX8_setSnowfall_0 4 rfl rfl)
theorem dX8_setSnowfall_7 : decode cX8_setSnowfall 7 = .ok (.istore_n 2, 1) := dk_61 (dk_at dksX8_setSnowfall_0 7 rfl rfl)
theorem dX8_setSnowfall_8 : decode cX8_setSnowfall 8 = .ok (.aload_n 0, 1) := dk_42 (dk_at dksX8_setSnowfall_0 8 rfl rfl)
theorem dX8_setSnowfall_9 : decode cX8_setSnowfall 9 = .ok (.getfield 9, 3) := dk_180 0 9 (dk_at dksX8_setSnowfall_0 9 rfl rfl)
theorem dX8_setSnowfall_12 : decode cX8_setSnowfall 12 = .ok (.iload_n 1, 1) := dk_27 (dk_at dksX8_setSnowfall_0 12 rfl rfl)
theorem dX8_setSnowfall_13 : decode cX8_setSnowfall 13 = .ok (.putfield 102, 3) := dk_181 0 102 (dk_at dksX8_setSnowfall_0 13 rfl rfl)
theorem dX8_setSnowfall_16 : decode cX8_setSnowfall 16 = .ok (.iload_n 2, 1) := dk_28 (dk_at dksX8_setSnowfall_0 16 rfl rfl)
theorem dX8_setSnowfall_17 : decode cX8_setSnowfall 17 = .ok (.ireturn, 1) := dk_172 (dk_at dksX8_setSnowfall_0 17 rfl rfl)
abbrev cX8_setWind : ByteArray := prog_12_method_10_code
def yX8_setWind : MethodName := ⟨RX8, "setWind", "(I)I"⟩
def dkwX8_setWind_0 : List UInt8 := [42, 180, 0, 9, 180, 0, 105, 61, 42, 180, 0, 9, 27, 181, 0, 105, 28, 172]
abbrev dktX8_setWind_0 : List UInt8 := dkwX8_setWind_0 ++ []
theorem dksX8_setWind_0 : cX8_setWind.data.toList.drop 0 = dktX8_setWind_0 := by decide +kernel
theorem dX8_setWind_0 : decode cX8_setWind 0 = .ok (.aload_n 0, 1) := dk_42 (dk_at dksX8_setWind_0 0 rfl rfl)
theorem dX8_setWind_1 : decode cX8_setWind 1 = .ok (.getfield 9, 3) := dk_180 0 9 (dk_at dksX8_setWind_0 1 rfl rfl)
theorem dX8_setWind_4 : decode cX8_setWind 4 = .ok (.getfield 105, 3) := dk_180 0 105 (dk_at dksX8_setWind_0 4 rfl rfl)
theorem dX8_setWind_7 : decode cX8_setWind 7 = .ok (.istore_n 2, 1) := dk_61 (dk_at dksX8_setWind_0 7 rfl rfl)
theorem dX8_setWind_8 : decode cX8_setWind 8 = .ok (.aload_n 0, 1) := dk_42 (dk_at dksX8_setWind_0 8 rfl rfl)
theorem dX8_setWind_9 : decode cX8_setWind 9 = .ok (.getfield 9, 3) := dk_180 0 9 (dk_at dksX8_setWind_0 9 rfl rfl)
theorem dX8_setWind_12 : decode cX8_setWind 12 = .ok (.iload_n 1, 1) := dk_27 (dk_at dksX8_setWind_0 12 rfl rfl)
theorem dX8_setWind_13 : decode cX8_setWind 13 = .ok (.putfield 105, 3) := dk_181 0 105 (dk_at dksX8_setWind_0 13 rfl rfl)
theorem dX8_setWind_16 : decode cX8_setWind 16 = .ok (.iload_n 2, 1) := dk_28 (dk_at dksX8_setWind_0 16 rfl rfl)
theorem dX8_setWind_17 : decode cX8_setWind 17 = .ok (.ireturn, 1) := dk_172 (dk_at dksX8_setWind_0 17 rfl rfl)
abbrev cX8_queueCart : ByteArray := prog_12_method_11_code
def yX8_queueCart : MethodName := ⟨RX8, "queueCart", "(IZ)I"⟩
def dkwX8_queueCart_1 : List UInt8 := [28, 182, 0, 111, 172]
abbrev dktX8_queueCart_1 : List UInt8 := dkwX8_queueCart_1 ++ []
def dkwX8_queueCart_0 : List UInt8 := [42, 180, 0, 15, 27, 182, 0, 108, 154, 0, 7, 4, 167, 0, 4, 3, 184, 0, 64, 42, 180, 0, 15, 27]
abbrev dktX8_queueCart_0 : List UInt8 := dkwX8_queueCart_0 ++ dktX8_queueCart_1
theorem dksX8_queueCart_0 : cX8_queueCart.data.toList.drop 0 = dktX8_queueCart_0 := by decide +kernel
theorem dksX8_queueCart_1 : cX8_queueCart.data.toList.drop 24 = dktX8_queueCart_1 := dk_seg dksX8_queueCart_0 24 rfl rfl
theorem dX8_queueCart_0 : decode cX8_queueCart 0 = .ok (.aload_n 0, 1) := dk_42 (dk_at dksX8_queueCart_0 0 rfl rfl)
theorem dX8_queueCart_1 : decode cX8_queueCart 1 = .ok (.getfield 15, 3) := dk_180 0 15 (dk_at dksX8_queueCart_0 1 rfl rfl)
theorem dX8_queueCart_4 : decode cX8_queueCart 4 = .ok (.iload_n 1, 1) := dk_27 (dk_at dksX8_queueCart_0 4 rfl rfl)
theorem dX8_queueCart_5 : decode cX8_queueCart 5 = .ok (.invokevirtual 108, 3) := dk_182 0 108 (dk_at dksX8_queueCart_0 5 rfl rfl)
theorem dX8_queueCart_8 : decode cX8_queueCart 8 = .ok (.ifCond .ne 7, 3) := dk_154 0 7 (dk_at dksX8_queueCart_0 8 rfl rfl)
theorem dX8_queueCart_11 : decode cX8_queueCart 11 = .ok (.iconst 1, 1) := dk_4 (dk_at dksX8_queueCart_0 11 rfl rfl)
theorem dX8_queueCart_12 : decode cX8_queueCart 12 = .ok (.goto 4, 3) := dk_167 0 4 (dk_at dksX8_queueCart_0 12 rfl rfl)
theorem dX8_queueCart_15 : decode cX8_queueCart 15 = .ok (.iconst 0, 1) := dk_3 (dk_at dksX8_queueCart_0 15 rfl rfl)
theorem dX8_queueCart_16 : decode cX8_queueCart 16 = .ok (.invokestatic 64, 3) := dk_184 0 64 (dk_at dksX8_queueCart_0 16 rfl rfl)
theorem dX8_queueCart_19 : decode cX8_queueCart 19 = .ok (.aload_n 0, 1) := dk_42 (dk_at dksX8_queueCart_0 19 rfl rfl)
theorem dX8_queueCart_20 : decode cX8_queueCart 20 = .ok (.getfield 15, 3) := dk_180 0 15 (dk_at dksX8_queueCart_0 20 rfl rfl)
theorem dX8_queueCart_23 : decode cX8_queueCart 23 = .ok (.iload_n 1, 1) := dk_27 (dk_at dksX8_queueCart_0 23 rfl rfl)
theorem dX8_queueCart_24 : decode cX8_queueCart 24 = .ok (.iload_n 2, 1) := dk_28 (dk_at dksX8_queueCart_1 0 rfl rfl)
theorem dX8_queueCart_25 : decode cX8_queueCart 25 = .ok (.invokevirtual 111, 3) := dk_182 0 111 (dk_at dksX8_queueCart_1 1 rfl rfl)
theorem dX8_queueCart_28 : decode cX8_queueCart 28 = .ok (.ireturn, 1) := dk_172 (dk_at dksX8_queueCart_1 4 rfl rfl)
abbrev cX8_cancelCart : ByteArray := prog_12_method_12_code
def yX8_cancelCart : MethodName := ⟨RX8, "cancelCart", "(I)I"⟩
def dkwX8_cancelCart_1 : List UInt8 := [180, 0, 15, 44, 182, 0, 121, 172]
abbrev dktX8_cancelCart_1 : List UInt8 := dkwX8_cancelCart_1 ++ []
def dkwX8_cancelCart_0 : List UInt8 := [42, 180, 0, 15, 27, 182, 0, 114, 77, 44, 199, 0, 11, 187, 0, 118, 89, 183, 0, 120, 191, 42]
abbrev dktX8_cancelCart_0 : List UInt8 := dkwX8_cancelCart_0 ++ dktX8_cancelCart_1
theorem dksX8_cancelCart_0 : cX8_cancelCart.data.toList.drop 0 = dktX8_cancelCart_0 := by decide +kernel
theorem dksX8_cancelCart_1 : cX8_cancelCart.data.toList.drop 22 = dktX8_cancelCart_1 := dk_seg dksX8_cancelCart_0 22 rfl rfl
theorem dX8_cancelCart_0 : decode cX8_cancelCart 0 = .ok (.aload_n 0, 1) := dk_42 (dk_at dksX8_cancelCart_0 0 rfl rfl)
theorem dX8_cancelCart_1 : decode cX8_cancelCart 1 = .ok (.getfield 15, 3) := dk_180 0 15 (dk_at dksX8_cancelCart_0 1 rfl rfl)
theorem dX8_cancelCart_4 : decode cX8_cancelCart 4 = .ok (.iload_n 1, 1) := dk_27 (dk_at dksX8_cancelCart_0 4 rfl rfl)
theorem dX8_cancelCart_5 : decode cX8_cancelCart 5 = .ok (.invokevirtual 114, 3) := dk_182 0 114 (dk_at dksX8_cancelCart_0 5 rfl rfl)
theorem dX8_cancelCart_8 : decode cX8_cancelCart 8 = .ok (.astore_n 2, 1) := dk_77 (dk_at dksX8_cancelCart_0 8 rfl rfl)
theorem dX8_cancelCart_9 : decode cX8_cancelCart 9 = .ok (.aload_n 2, 1) := dk_44 (dk_at dksX8_cancelCart_0 9 rfl rfl)
theorem dX8_cancelCart_10 : decode cX8_cancelCart 10 = .ok (.ifnonnull 11, 3) := dk_199 0 11 (dk_at dksX8_cancelCart_0 10 rfl rfl)
theorem dX8_cancelCart_13 : decode cX8_cancelCart 13 = .ok (.new 118, 3) := dk_187 0 118 (dk_at dksX8_cancelCart_0 13 rfl rfl)
theorem dX8_cancelCart_16 : decode cX8_cancelCart 16 = .ok (.dup, 1) := dk_89 (dk_at dksX8_cancelCart_0 16 rfl rfl)
theorem dX8_cancelCart_17 : decode cX8_cancelCart 17 = .ok (.invokespecial 120, 3) := dk_183 0 120 (dk_at dksX8_cancelCart_0 17 rfl rfl)
theorem dX8_cancelCart_20 : decode cX8_cancelCart 20 = .ok (.athrow, 1) := dk_191 (dk_at dksX8_cancelCart_0 20 rfl rfl)
theorem dX8_cancelCart_21 : decode cX8_cancelCart 21 = .ok (.aload_n 0, 1) := dk_42 (dk_at dksX8_cancelCart_0 21 rfl rfl)
theorem dX8_cancelCart_22 : decode cX8_cancelCart 22 = .ok (.getfield 15, 3) := dk_180 0 15 (dk_at dksX8_cancelCart_1 0 rfl rfl)
theorem dX8_cancelCart_25 : decode cX8_cancelCart 25 = .ok (.aload_n 2, 1) := dk_44 (dk_at dksX8_cancelCart_1 3 rfl rfl)
theorem dX8_cancelCart_26 : decode cX8_cancelCart 26 = .ok (.invokevirtual 121, 3) := dk_182 0 121 (dk_at dksX8_cancelCart_1 4 rfl rfl)
theorem dX8_cancelCart_29 : decode cX8_cancelCart 29 = .ok (.ireturn, 1) := dk_172 (dk_at dksX8_cancelCart_1 7 rfl rfl)
theorem q159 : (Jvm.Cond.initialized "SnowPass$State") ∈ lw_all := lw_g (lw_at lw_m1 37 rfl) rfl
theorem q211 : (Jvm.Cond.fieldLinkNest "SnowPass$State" (59 : Nat) "SnowPass$Plough" "sacks" "I" "SnowPass") ∈ lw_tbl := lw_at lw_m1 89 rfl
theorem q215 : (Jvm.Cond.fieldLinkNest "SnowPass$State" (75 : Nat) "SnowPass$Plough" "position" "I" "SnowPass") ∈ lw_tbl := lw_at lw_m1 93 rfl
theorem q272 : (Jvm.Cond.fieldLinkNest "SnowPass$State" (71 : Nat) "SnowPass$Road" "salt" "[I" "SnowPass") ∈ lw_tbl := lw_at lw_m1 150 rfl
theorem q275 : (Jvm.Cond.fieldLinkNest "SnowPass$State" (55 : Nat) "SnowPass$Road" "ploughs" "[LSnowPass$Plough;" "SnowPass") ∈ lw_tbl := lw_at lw_m1 153 rfl
theorem q279 : (Jvm.Cond.fieldLinkNest "SnowPass$State" (82 : Nat) "SnowPass$Road" "book" "LSnowPass$Book;" "SnowPass") ∈ lw_tbl := lw_at lw_m1 157 rfl
theorem q283 : (Jvm.Cond.fieldLinkNest "SnowPass$State" (102 : Nat) "SnowPass$Road" "snowfall" "I" "SnowPass") ∈ lw_tbl := lw_at lw_m1 161 rfl
theorem q287 : (Jvm.Cond.fieldLinkNest "SnowPass$State" (105 : Nat) "SnowPass$Road" "wind" "I" "SnowPass") ∈ lw_tbl := lw_at lw_m1 165 rfl
theorem q289 : (Jvm.Cond.fieldLinkNest "SnowPass$State" (40 : Nat) "SnowPass$Road" "clock" "I" "SnowPass") ∈ lw_tbl := lw_at lw_m1 167 rfl
theorem q300 : (Jvm.Cond.fieldLinkNest "SnowPass$State" (68 : Nat) "SnowPass$Road" "sacksUsed" "I" "SnowPass") ∈ lw_tbl := lw_at lw_m1 178 rfl
theorem q807 : (Jvm.Cond.selects "SnowPass$State" ({ cls := "java/lang/Object", name := "getClass", desc := "()Ljava/lang/Class;" } : Jvm.MethodName) ({ cls := "java/lang/Object", name := "getClass", desc := "()Ljava/lang/Class;" } : Jvm.MethodName)) ∈ lw_all := lw_g (lw_at lw_m3 205 rfl) rfl
theorem q942 : (Jvm.Cond.selects "SnowPass$State" ({ cls := "java/lang/Object", name := "hashCode", desc := "()I" } : Jvm.MethodName) ({ cls := "java/lang/Object", name := "hashCode", desc := "()I" } : Jvm.MethodName)) ∈ lw_all := lw_g (lw_at lw_m4 100 rfl) rfl
theorem q1381 : (Jvm.Cond.selects "SnowPass$State" ({ cls := "java/lang/Object", name := "equals", desc := "(Ljava/lang/Object;)Z" } : Jvm.MethodName) ({ cls := "java/lang/Object", name := "equals", desc := "(Ljava/lang/Object;)Z" } : Jvm.MethodName)) ∈ lw_all := lw_g (lw_at lw_m6 59 rfl) rfl
theorem q1494 : (Jvm.Cond.instantiable "SnowPass$State" (2 : Nat)) ∈ lw_all := lw_g (lw_at lw_m6 172 rfl) rfl
theorem q1496 : (Jvm.Cond.instanceMethod ({ cls := "SnowPass$State", name := "<init>", desc := "(LSnowPass$Road;LSnowPass$Yard;)V" } : Jvm.MethodName)) ∈ lw_all := lw_g (lw_at lw_m6 174 rfl) rfl
theorem q1497 : (Jvm.Cond.code ({ cls := "SnowPass$State", name := "<init>", desc := "(LSnowPass$Road;LSnowPass$Yard;)V" } : Jvm.MethodName) prog_12_method_1_code (3 : Nat) (Option.none : Option Jvm.ClassFile.FieldType)) ∈ lw_all := lw_g (lw_at lw_m6 175 rfl) rfl
theorem q1498 : (Jvm.Cond.methodLink "SnowPass$State" (3 : Nat) ({ cls := "java/lang/Object", name := "<init>", desc := "()V" } : Jvm.MethodName)) ∈ lw_all := lw_g (lw_at lw_m6 176 rfl) rfl
theorem q1499 : (Jvm.Cond.fieldLink "SnowPass$State" (9 : Nat) "SnowPass$State" "road" "LSnowPass$Road;") ∈ lw_all := lw_g (lw_at lw_m6 177 rfl) rfl
theorem q1503 : (Jvm.Cond.fieldLink "SnowPass$State" (15 : Nat) "SnowPass$State" "yard" "LSnowPass$Yard;") ∈ lw_all := lw_g (lw_at lw_m6 181 rfl) rfl
theorem q1506 : (Jvm.Cond.laysFinal "SnowPass$State" "SnowPass$State" "road" "LSnowPass$Road;") ∈ lw_all := lw_g (lw_at lw_m6 184 rfl) rfl
theorem q1507 : (Jvm.Cond.soleField "SnowPass$State" "road") ∈ lw_all := lw_g (lw_at lw_m6 185 rfl) rfl
theorem q1508 : (Jvm.Cond.laysFinal "SnowPass$State" "SnowPass$State" "yard" "LSnowPass$Yard;") ∈ lw_all := lw_g (lw_at lw_m6 186 rfl) rfl
theorem q1509 : (Jvm.Cond.soleField "SnowPass$State" "yard") ∈ lw_all := lw_g (lw_at lw_m6 187 rfl) rfl
theorem q1510 : (Jvm.Cond.superclass "SnowPass$State" "java/lang/Object") ∈ lw_all := lw_g (lw_at lw_m6 188 rfl) rfl
theorem q2065 : (Jvm.Cond.instanceMethod ({ cls := "SnowPass$State", name := "copy", desc := "()LSnowPass$State;" } : Jvm.MethodName)) ∈ lw_all := lw_g (lw_at lw_m9 23 rfl) rfl
theorem q2066 : (Jvm.Cond.selects "SnowPass$State" ({ cls := "SnowPass$State", name := "copy", desc := "()LSnowPass$State;" } : Jvm.MethodName) ({ cls := "SnowPass$State", name := "copy", desc := "()LSnowPass$State;" } : Jvm.MethodName)) ∈ lw_all := lw_g (lw_at lw_m9 24 rfl) rfl
theorem q2067 : (Jvm.Cond.code ({ cls := "SnowPass$State", name := "copy", desc := "()LSnowPass$State;" } : Jvm.MethodName) prog_12_method_2_code (1 : Nat) (Option.some (Jvm.ClassFile.FieldType.object "SnowPass$State"))) ∈ lw_all := lw_g (lw_at lw_m9 25 rfl) rfl
theorem q2068 : (Jvm.Cond.classLink "SnowPass$State" (10 : Nat) "SnowPass$State") ∈ lw_all := lw_g (lw_at lw_m9 26 rfl) rfl
theorem q2069 : (Jvm.Cond.methodLink "SnowPass$State" (19 : Nat) ({ cls := "SnowPass$Road", name := "copy", desc := "()LSnowPass$Road;" } : Jvm.MethodName)) ∈ lw_all := lw_g (lw_at lw_m9 27 rfl) rfl
theorem q2070 : (Jvm.Cond.methodLink "SnowPass$State" (25 : Nat) ({ cls := "SnowPass$Yard", name := "copy", desc := "()LSnowPass$Yard;" } : Jvm.MethodName)) ∈ lw_all := lw_g (lw_at lw_m9 28 rfl) rfl
theorem q2320 : (Jvm.Cond.methodLink "SnowPass$State" (30 : Nat) ({ cls := "SnowPass$State", name := "<init>", desc := "(LSnowPass$Road;LSnowPass$Yard;)V" } : Jvm.MethodName)) ∈ lw_all := lw_g (lw_at lw_m10 38 rfl) rfl
theorem q2697 : (Jvm.Cond.instanceMethod ({ cls := "SnowPass$State", name := "passHours", desc := "(I)I" } : Jvm.MethodName)) ∈ lw_all := lw_g (lw_at lw_m11 175 rfl) rfl
theorem q2698 : (Jvm.Cond.selects "SnowPass$State" ({ cls := "SnowPass$State", name := "passHours", desc := "(I)I" } : Jvm.MethodName) ({ cls := "SnowPass$State", name := "passHours", desc := "(I)I" } : Jvm.MethodName)) ∈ lw_all := lw_g (lw_at lw_m11 176 rfl) rfl
theorem q2699 : (Jvm.Cond.code ({ cls := "SnowPass$State", name := "passHours", desc := "(I)I" } : Jvm.MethodName) prog_12_method_5_code (3 : Nat) (Option.some Jvm.ClassFile.FieldType.int)) ∈ lw_all := lw_g (lw_at lw_m11 177 rfl) rfl
theorem q2700 : (Jvm.Cond.methodLink "SnowPass$State" (47 : Nat) ({ cls := "SnowPass$Yard", name := "crossedAll", desc := "()I" } : Jvm.MethodName)) ∈ lw_all := lw_g (lw_at lw_m11 178 rfl) rfl
theorem q2701 : (Jvm.Cond.methodLink "SnowPass$State" (51 : Nat) ({ cls := "SnowPass$State", name := "after", desc := "(I)LSnowPass$State;" } : Jvm.MethodName)) ∈ lw_all := lw_g (lw_at lw_m11 179 rfl) rfl
theorem q2702 : (Jvm.Cond.instanceMethod ({ cls := "SnowPass$State", name := "after", desc := "(I)LSnowPass$State;" } : Jvm.MethodName)) ∈ lw_all := lw_g (lw_at lw_m11 180 rfl) rfl
theorem q2703 : (Jvm.Cond.selects "SnowPass$State" ({ cls := "SnowPass$State", name := "after", desc := "(I)LSnowPass$State;" } : Jvm.MethodName) ({ cls := "SnowPass$State", name := "after", desc := "(I)LSnowPass$State;" } : Jvm.MethodName)) ∈ lw_all := lw_g (lw_at lw_m11 181 rfl) rfl
theorem q2704 : (Jvm.Cond.code ({ cls := "SnowPass$State", name := "after", desc := "(I)LSnowPass$State;" } : Jvm.MethodName) prog_12_method_4_code (3 : Nat) (Option.some (Jvm.ClassFile.FieldType.object "SnowPass$State"))) ∈ lw_all := lw_g (lw_at lw_m11 182 rfl) rfl
theorem q2705 : (Jvm.Cond.methodLink "SnowPass$State" (44 : Nat) ({ cls := "SnowPass$State", name := "hour", desc := "()V" } : Jvm.MethodName)) ∈ lw_all := lw_g (lw_at lw_m11 183 rfl) rfl
theorem q2706 : (Jvm.Cond.instanceMethod ({ cls := "SnowPass$State", name := "hour", desc := "()V" } : Jvm.MethodName)) ∈ lw_all := lw_g (lw_at lw_m11 184 rfl) rfl
theorem q2707 : (Jvm.Cond.selects "SnowPass$State" ({ cls := "SnowPass$State", name := "hour", desc := "()V" } : Jvm.MethodName) ({ cls := "SnowPass$State", name := "hour", desc := "()V" } : Jvm.MethodName)) ∈ lw_all := lw_g (lw_at lw_m11 185 rfl) rfl
theorem q2708 : (Jvm.Cond.code ({ cls := "SnowPass$State", name := "hour", desc := "()V" } : Jvm.MethodName) prog_12_method_3_code (1 : Nat) (Option.none : Option Jvm.ClassFile.FieldType)) ∈ lw_all := lw_g (lw_at lw_m11 186 rfl) rfl
theorem q2709 : (Jvm.Cond.methodLink "SnowPass$State" (33 : Nat) ({ cls := "SnowPass$Road", name := "workHour", desc := "()V" } : Jvm.MethodName)) ∈ lw_all := lw_g (lw_at lw_m11 187 rfl) rfl
theorem q2710 : (Jvm.Cond.methodLink "SnowPass$State" (36 : Nat) ({ cls := "SnowPass$Yard", name := "cross", desc := "(LSnowPass$Road;)V" } : Jvm.MethodName)) ∈ lw_all := lw_g (lw_at lw_m11 188 rfl) rfl
theorem q2782 : (Jvm.Cond.instanceMethod ({ cls := "SnowPass$State", name := "spreadSalt", desc := "(I)I" } : Jvm.MethodName)) ∈ lw_all := lw_g (lw_at lw_m12 20 rfl) rfl
theorem q2783 : (Jvm.Cond.selects "SnowPass$State" ({ cls := "SnowPass$State", name := "spreadSalt", desc := "(I)I" } : Jvm.MethodName) ({ cls := "SnowPass$State", name := "spreadSalt", desc := "(I)I" } : Jvm.MethodName)) ∈ lw_all := lw_g (lw_at lw_m12 21 rfl) rfl
theorem q2784 : (Jvm.Cond.code ({ cls := "SnowPass$State", name := "spreadSalt", desc := "(I)I" } : Jvm.MethodName) prog_12_method_6_code (3 : Nat) (Option.some Jvm.ClassFile.FieldType.int)) ∈ lw_all := lw_g (lw_at lw_m12 22 rfl) rfl
theorem q2785 : (Jvm.Cond.methodLinkNest "SnowPass$State" (64 : Nat) ({ cls := "SnowPass", name := "checkState", desc := "(Z)V" } : Jvm.MethodName) "SnowPass") ∈ lw_tbl := lw_at lw_m12 23 rfl
theorem q2793 : (Jvm.Cond.instanceMethod ({ cls := "SnowPass$State", name := "recall", desc := "(I)I" } : Jvm.MethodName)) ∈ lw_all := lw_g (lw_at lw_m12 31 rfl) rfl
theorem q2794 : (Jvm.Cond.selects "SnowPass$State" ({ cls := "SnowPass$State", name := "recall", desc := "(I)I" } : Jvm.MethodName) ({ cls := "SnowPass$State", name := "recall", desc := "(I)I" } : Jvm.MethodName)) ∈ lw_all := lw_g (lw_at lw_m12 32 rfl) rfl
theorem q2795 : (Jvm.Cond.code ({ cls := "SnowPass$State", name := "recall", desc := "(I)I" } : Jvm.MethodName) prog_12_method_7_code (2 : Nat) (Option.some Jvm.ClassFile.FieldType.int)) ∈ lw_all := lw_g (lw_at lw_m12 33 rfl) rfl
theorem q2796 : (Jvm.Cond.methodLink "SnowPass$State" (78 : Nat) ({ cls := "SnowPass$Road", name := "withdraw", desc := "(I)Z" } : Jvm.MethodName)) ∈ lw_all := lw_g (lw_at lw_m12 34 rfl) rfl
theorem q2797 : (Jvm.Cond.methodLink "SnowPass$State" (86 : Nat) ({ cls := "SnowPass$Book", name := "add", desc := "(II)V" } : Jvm.MethodName)) ∈ lw_all := lw_g (lw_at lw_m12 35 rfl) rfl
theorem q2798 : (Jvm.Cond.methodLink "SnowPass$State" (92 : Nat) ({ cls := "SnowPass$Road", name := "sendBack", desc := "(I)V" } : Jvm.MethodName)) ∈ lw_all := lw_g (lw_at lw_m12 36 rfl) rfl
theorem q2806 : (Jvm.Cond.instanceMethod ({ cls := "SnowPass$State", name := "addSacks", desc := "(II)I" } : Jvm.MethodName)) ∈ lw_all := lw_g (lw_at lw_m12 44 rfl) rfl
theorem q2807 : (Jvm.Cond.selects "SnowPass$State" ({ cls := "SnowPass$State", name := "addSacks", desc := "(II)I" } : Jvm.MethodName) ({ cls := "SnowPass$State", name := "addSacks", desc := "(II)I" } : Jvm.MethodName)) ∈ lw_all := lw_g (lw_at lw_m12 45 rfl) rfl
theorem q2808 : (Jvm.Cond.code ({ cls := "SnowPass$State", name := "addSacks", desc := "(II)I" } : Jvm.MethodName) prog_12_method_8_code (4 : Nat) (Option.some Jvm.ClassFile.FieldType.int)) ∈ lw_all := lw_g (lw_at lw_m12 46 rfl) rfl
theorem q2809 : (Jvm.Cond.methodLink "SnowPass$State" (96 : Nat) ({ cls := "java/lang/Math", name := "min", desc := "(II)I" } : Jvm.MethodName)) ∈ lw_all := lw_g (lw_at lw_m12 47 rfl) rfl
theorem q2817 : (Jvm.Cond.instanceMethod ({ cls := "SnowPass$State", name := "setSnowfall", desc := "(I)I" } : Jvm.MethodName)) ∈ lw_all := lw_g (lw_at lw_m12 55 rfl) rfl
theorem q2818 : (Jvm.Cond.selects "SnowPass$State" ({ cls := "SnowPass$State", name := "setSnowfall", desc := "(I)I" } : Jvm.MethodName) ({ cls := "SnowPass$State", name := "setSnowfall", desc := "(I)I" } : Jvm.MethodName)) ∈ lw_all := lw_g (lw_at lw_m12 56 rfl) rfl
theorem q2819 : (Jvm.Cond.code ({ cls := "SnowPass$State", name := "setSnowfall", desc := "(I)I" } : Jvm.MethodName) prog_12_method_9_code (3 : Nat) (Option.some Jvm.ClassFile.FieldType.int)) ∈ lw_all := lw_g (lw_at lw_m12 57 rfl) rfl
theorem q2827 : (Jvm.Cond.instanceMethod ({ cls := "SnowPass$State", name := "setWind", desc := "(I)I" } : Jvm.MethodName)) ∈ lw_all := lw_g (lw_at lw_m12 65 rfl) rfl
theorem q2828 : (Jvm.Cond.selects "SnowPass$State" ({ cls := "SnowPass$State", name := "setWind", desc := "(I)I" } : Jvm.MethodName) ({ cls := "SnowPass$State", name := "setWind", desc := "(I)I" } : Jvm.MethodName)) ∈ lw_all := lw_g (lw_at lw_m12 66 rfl) rfl
theorem q2829 : (Jvm.Cond.code ({ cls := "SnowPass$State", name := "setWind", desc := "(I)I" } : Jvm.MethodName) prog_12_method_10_code (3 : Nat) (Option.some Jvm.ClassFile.FieldType.int)) ∈ lw_all := lw_g (lw_at lw_m12 67 rfl) rfl
theorem q2837 : (Jvm.Cond.instanceMethod ({ cls := "SnowPass$State", name := "queueCart", desc := "(IZ)I" } : Jvm.MethodName)) ∈ lw_all := lw_g (lw_at lw_m12 75 rfl) rfl
theorem q2838 : (Jvm.Cond.selects "SnowPass$State" ({ cls := "SnowPass$State", name := "queueCart", desc := "(IZ)I" } : Jvm.MethodName) ({ cls := "SnowPass$State", name := "queueCart", desc := "(IZ)I" } : Jvm.MethodName)) ∈ lw_all := lw_g (lw_at lw_m12 76 rfl) rfl
theorem q2839 : (Jvm.Cond.code ({ cls := "SnowPass$State", name := "queueCart", desc := "(IZ)I" } : Jvm.MethodName) prog_12_method_11_code (3 : Nat) (Option.some Jvm.ClassFile.FieldType.int)) ∈ lw_all := lw_g (lw_at lw_m12 77 rfl) rfl
theorem q2840 : (Jvm.Cond.methodLink "SnowPass$State" (108 : Nat) ({ cls := "SnowPass$Yard", name := "isFull", desc := "(I)Z" } : Jvm.MethodName)) ∈ lw_all := lw_g (lw_at lw_m12 78 rfl) rfl
theorem q2841 : (Jvm.Cond.methodLink "SnowPass$State" (111 : Nat) ({ cls := "SnowPass$Yard", name := "add", desc := "(IZ)I" } : Jvm.MethodName)) ∈ lw_all := lw_g (lw_at lw_m12 79 rfl) rfl
theorem q2849 : (Jvm.Cond.instanceMethod ({ cls := "SnowPass$State", name := "cancelCart", desc := "(I)I" } : Jvm.MethodName)) ∈ lw_all := lw_g (lw_at lw_m12 87 rfl) rfl
theorem q2850 : (Jvm.Cond.selects "SnowPass$State" ({ cls := "SnowPass$State", name := "cancelCart", desc := "(I)I" } : Jvm.MethodName) ({ cls := "SnowPass$State", name := "cancelCart", desc := "(I)I" } : Jvm.MethodName)) ∈ lw_all := lw_g (lw_at lw_m12 88 rfl) rfl
theorem q2851 : (Jvm.Cond.code ({ cls := "SnowPass$State", name := "cancelCart", desc := "(I)I" } : Jvm.MethodName) prog_12_method_12_code (3 : Nat) (Option.some Jvm.ClassFile.FieldType.int)) ∈ lw_all := lw_g (lw_at lw_m12 89 rfl) rfl
theorem q2852 : (Jvm.Cond.methodLink "SnowPass$State" (114 : Nat) ({ cls := "SnowPass$Yard", name := "find", desc := "(I)LSnowPass$Cart;" } : Jvm.MethodName)) ∈ lw_all := lw_g (lw_at lw_m12 90 rfl) rfl
theorem q2853 : (Jvm.Cond.classLink "SnowPass$State" (118 : Nat) "java/util/NoSuchElementException") ∈ lw_all := lw_g (lw_at lw_m12 91 rfl) rfl
theorem q2854 : (Jvm.Cond.methodLink "SnowPass$State" (120 : Nat) ({ cls := "java/util/NoSuchElementException", name := "<init>", desc := "()V" } : Jvm.MethodName)) ∈ lw_all := lw_g (lw_at lw_m12 92 rfl) rfl
theorem q2855 : (Jvm.Cond.methodLink "SnowPass$State" (121 : Nat) ({ cls := "SnowPass$Yard", name := "cancel", desc := "(LSnowPass$Cart;)I" } : Jvm.MethodName)) ∈ lw_all := lw_g (lw_at lw_m12 93 rfl) rfl
theorem q4002 : (Jvm.Cond.castable "SnowPass$State" "java/lang/Object") ∈ lw_tbl := lw_at lw_m17 40 rfl
theorem in_X8 : ∀ w ∈ wsX80, w ∈ lw_all := lw_in wsX80 [1506, 1508] (by decide +kernel) (by decide +kernel)

/-! SnowPass$Parser -/
def RX10 : String := "SnowPass$Parser"
def TX10 : u_T := fun k => match k with
  | 0 => ("SnowPass$Parser", "end", "I", true)
  | 1 => ("SnowPass$Parser", "position", "I", false)
  | 2 => ("SnowPass$Parser", "start", "I", false)
  | 3 => ("SnowPass$Parser", "value", "I", false)
  | 4 => ("SnowPass$Parser", "word", "Ljava/lang/String;", false)
  | 5 => ("SnowPass$Parser", "kind", "LSnowPass$TokenKind;", false)
  | _ => ("SnowPass$Parser", "this$0", "LSnowPass;", true)
def tyX10 : Nat → FieldType := fun k => match k with
  | 0 => .int
  | 1 => .int
  | 2 => .int
  | 3 => .int
  | 4 => .object "java/lang/String"
  | 5 => .object "SnowPass$TokenKind"
  | _ => .object "SnowPass"
abbrev wsX100 : List Cond := u_ws RX10 TX10 7
theorem nmX10 : ∀ a, a < 7 → ∀ b, b < 7 → a ≠ b → (TX10 a).2.1 ≠ (TX10 b).2.1 := by decide +kernel
theorem tyX10_ok : ∀ k, k < 7 → parseFieldDescriptor (TX10 k).2.2.1 = some (tyX10 k) := by decide +kernel
abbrev cX10_init : ByteArray := prog_7_method_1_code
def yX10_init : MethodName := ⟨RX10, "<init>", "(LSnowPass;)V"⟩
def dkwX10_init_1 : List UInt8 := [181, 0, 24, 42, 182, 0, 28, 177]
abbrev dktX10_init_1 : List UInt8 := dkwX10_init_1 ++ []
def dkwX10_init_0 : List UInt8 := [42, 43, 181, 0, 3, 42, 183, 0, 9, 42, 42, 180, 0, 3, 180, 0, 15, 181, 0, 19, 42, 18, 22]
abbrev dktX10_init_0 : List UInt8 := dkwX10_init_0 ++ dktX10_init_1
theorem dksX10_init_0 : cX10_init.data.toList.drop 0 = dktX10_init_0 := by decide +kernel
theorem dksX10_init_1 : cX10_init.data.toList.drop 23 = dktX10_init_1 := dk_seg dksX10_init_0 23 rfl rfl
theorem dX10_init_0 : decode cX10_init 0 = .ok (.aload_n 0, 1) := dk_42 (dk_at dksX10_init_0 0 rfl rfl)
theorem dX10_init_1 : decode cX10_init 1 = .ok (.aload_n 1, 1) := dk_43 (dk_at dksX10_init_0 1 rfl rfl)
theorem dX10_init_2 : decode cX10_init 2 = .ok (.putfield 3, 3) := dk_181 0 3 (dk_at dksX10_init_0 2 rfl rfl)
theorem dX10_init_5 : decode cX10_init 5 = .ok (.aload_n 0, 1) := dk_42 (dk_at dksX10_init_0 5 rfl rfl)
theorem dX10_init_6 : decode cX10_init 6 = .ok (.invokespecial 9, 3) := dk_183 0 9 (dk_at dksX10_init_0 6 rfl rfl)
theorem dX10_init_9 : decode cX10_init 9 = .ok (.aload_n 0, 1) := dk_42 (dk_at dksX10_init_0 9 rfl rfl)
theorem dX10_init_10 : decode cX10_init 10 = .ok (.aload_n 0, 1) := dk_42 (dk_at dksX10_init_0 10 rfl rfl)
theorem dX10_init_11 : decode cX10_init 11 = .ok (.getfield 3, 3) := dk_180 0 3 (dk_at dksX10_init_0 11 rfl rfl)
theorem dX10_init_14 : decode cX10_init 14 = .ok (.getfield 15, 3) := dk_180 0 15 (dk_at dksX10_init_0 14 rfl rfl)
theorem dX10_init_17 : decode cX10_init 17 = .ok (.putfield 19, 3) := dk_181 0 19 (dk_at dksX10_init_0 17 rfl rfl)
theorem dX10_init_20 : decode cX10_init 20 = .ok (.aload_n 0, 1) := dk_42 (dk_at dksX10_init_0 20 rfl rfl)
theorem dX10_init_21 : decode cX10_init 21 = .ok (.ldc 22, 2) := dk_18 22 (dk_at dksX10_init_0 21 rfl rfl)
theorem dX10_init_23 : decode cX10_init 23 = .ok (.putfield 24, 3) := dk_181 0 24 (dk_at dksX10_init_1 0 rfl rfl)
theorem dX10_init_26 : decode cX10_init 26 = .ok (.aload_n 0, 1) := dk_42 (dk_at dksX10_init_1 3 rfl rfl)
theorem dX10_init_27 : decode cX10_init 27 = .ok (.invokevirtual 28, 3) := dk_182 0 28 (dk_at dksX10_init_1 4 rfl rfl)
theorem dX10_init_30 : decode cX10_init 30 = .ok (.return_, 1) := dk_177 (dk_at dksX10_init_1 7 rfl rfl)
abbrev cX10_advance : ByteArray := prog_7_method_3_code
def yX10_advance : MethodName := ⟨RX10, "advance", "()V"⟩
def dkwX10_advance_11 : List UInt8 := [178, 0, 86, 181, 0, 51, 42, 89, 180, 0, 35, 4, 96, 181, 0, 35, 177]
abbrev dktX10_advance_11 : List UInt8 := dkwX10_advance_11 ++ []
def dkwX10_advance_10 : List UInt8 := [167, 0, 7, 42, 180, 0, 83, 181, 0, 83, 42, 89, 180, 0, 35, 4, 96, 181, 0, 35, 167, 255, 182, 42]
abbrev dktX10_advance_10 : List UInt8 := dkwX10_advance_10 ++ dktX10_advance_11
def dkwX10_advance_9 : List UInt8 := [162, 0, 25, 16, 10, 42, 180, 0, 83, 104, 42, 42, 180, 0, 35, 182, 0, 38, 96, 16, 48, 100]
abbrev dktX10_advance_9 : List UInt8 := dkwX10_advance_9 ++ dktX10_advance_10
def dkwX10_advance_8 : List UInt8 := [20, 0, 76, 20, 0, 78, 184, 0, 58, 153, 0, 76, 42, 42, 180, 0, 35, 42, 180, 0, 42, 100, 6]
abbrev dktX10_advance_8 : List UInt8 := dkwX10_advance_8 ++ dktX10_advance_9
def dkwX10_advance_7 : List UInt8 := [153, 0, 92, 42, 178, 0, 80, 181, 0, 51, 42, 3, 181, 0, 83, 42, 42, 180, 0, 35, 182, 0, 38, 133]
abbrev dktX10_advance_7 : List UInt8 := dkwX10_advance_7 ++ dktX10_advance_8
def dkwX10_advance_6 : List UInt8 := [42, 44, 182, 0, 72, 181, 0, 24, 167, 0, 123, 27, 133, 20, 0, 76, 20, 0, 78, 184, 0, 58]
abbrev dktX10_advance_6 : List UInt8 := dkwX10_advance_6 ++ dktX10_advance_7
def dkwX10_advance_5 : List UInt8 := [180, 0, 35, 182, 0, 38, 146, 182, 0, 68, 87, 42, 89, 180, 0, 35, 4, 96, 181, 0, 35, 167, 255, 211]
abbrev dktX10_advance_5 : List UInt8 := dkwX10_advance_5 ++ dktX10_advance_6
def dkwX10_advance_4 : List UInt8 := [42, 42, 180, 0, 35, 182, 0, 38, 133, 20, 0, 54, 20, 0, 56, 184, 0, 58, 153, 0, 30, 44, 42, 42]
abbrev dktX10_advance_4 : List UInt8 := dkwX10_advance_4 ++ dktX10_advance_5
def dkwX10_advance_3 : List UInt8 := [20, 0, 56, 184, 0, 58, 153, 0, 77, 42, 178, 0, 62, 181, 0, 51, 187, 0, 65, 89, 183, 0, 67, 77]
abbrev dktX10_advance_3 : List UInt8 := dkwX10_advance_3 ++ dktX10_advance_4
def dkwX10_advance_2 : List UInt8 := [182, 0, 38, 60, 27, 2, 160, 0, 13, 42, 178, 0, 45, 181, 0, 51, 167, 0, 211, 27, 133, 20, 0, 54]
abbrev dktX10_advance_2 : List UInt8 := dkwX10_advance_2 ++ dktX10_advance_3
def dkwX10_advance_1 : List UInt8 := [167, 255, 233, 42, 42, 180, 0, 35, 181, 0, 42, 42, 18, 22, 181, 0, 24, 42, 42, 180, 0, 35]
abbrev dktX10_advance_1 : List UInt8 := dkwX10_advance_1 ++ dktX10_advance_2
def dkwX10_advance_0 : List UInt8 := [42, 42, 180, 0, 35, 182, 0, 38, 16, 32, 160, 0, 16, 42, 89, 180, 0, 35, 4, 96, 181, 0, 35]
abbrev dktX10_advance_0 : List UInt8 := dkwX10_advance_0 ++ dktX10_advance_1
theorem dksX10_advance_0 : cX10_advance.data.toList.drop 0 = dktX10_advance_0 := by decide +kernel
theorem dksX10_advance_1 : cX10_advance.data.toList.drop 23 = dktX10_advance_1 := dk_seg dksX10_advance_0 23 rfl rfl
theorem dksX10_advance_2 : cX10_advance.data.toList.drop 45 = dktX10_advance_2 := dk_seg dksX10_advance_1 22 rfl rfl
theorem dksX10_advance_3 : cX10_advance.data.toList.drop 69 = dktX10_advance_3 := dk_seg dksX10_advance_2 24 rfl rfl
theorem dksX10_advance_4 : cX10_advance.data.toList.drop 93 = dktX10_advance_4 := dk_seg dksX10_advance_3 24 rfl rfl
theorem dksX10_advance_5 : cX10_advance.data.toList.drop 117 = dktX10_advance_5 := dk_seg dksX10_advance_4 24 rfl rfl
theorem dksX10_advance_6 : cX10_advance.data.toList.drop 141 = dktX10_advance_6 := dk_seg dksX10_advance_5 24 rfl rfl
theorem dksX10_advance_7 : cX10_advance.data.toList.drop 163 = dktX10_advance_7 := dk_seg dksX10_advance_6 22 rfl rfl
theorem dksX10_advance_8 : cX10_advance.data.toList.drop 187 = dktX10_advance_8 := dk_seg dksX10_advance_7 24 rfl rfl
theorem dksX10_advance_9 : cX10_advance.data.toList.drop 210 = dktX10_advance_9 := dk_seg dksX10_advance_8 23 rfl rfl
theorem dksX10_advance_10 : cX10_advance.data.toList.drop 232 = dktX10_advance_10 := dk_seg dksX10_advance_9 22 rfl rfl
theorem dksX10_advance_11 : cX10_advance.data.toList.drop 256 = dktX10_advance_11 := dk_seg dksX10_advance_10 24 rfl rfl
theorem dX10_advance_0 : decode cX10_advance 0 = .ok (.aload_n 0, 1) := dk_42 (dk_at dksX10_advance_0 0 rfl rfl)
theorem dX10_advance_1 : decode cX10_advance 1 = .ok (.aload_n 0, 1) := dk_42 (dk_at dksX10_advance_0 1 rfl rfl)
theorem dX10_advance_2 : decode cX10_advance 2 = .ok (.getfield 35, 3) := dk_180 0 35 (dk_at dksX10_advance_0 2 rfl rfl)
theorem dX10_advance_5 : decode cX10_advance 5 = .ok (.invokevirtual 38, 3) := dk_182 0 38 (dk_at dksX10_advance_0 5 rfl rfl)
theorem dX10_advance_8 : decode cX10_advance 8 = .ok (.bipush 32, 2) := dk_16 32 (dk_at dksX10_advance_0 8 rfl rfl)
theorem dX10_advance_10 : decode cX10_advance 10 = .ok (.if_icmp .ne 16, 3) := dk_160 0 16 (dk_at dksX10_advance_0 10 rfl rfl)
theorem dX10_advance_13 : decode cX10_advance 13 = .ok (.aload_n 0, 1) := dk_42 (dk_at dksX10_advance_0 13 rfl rfl)
theorem dX10_advance_14 : decode cX10_advance 14 = .ok (.dup, 1) := dk_89 (dk_at dksX10_advance_0 14 rfl rfl)
theorem dX10_advance_15 : decode cX10_advance 15 = .ok (.getfield 35, 3) := dk_180 0 35 (dk_at dksX10_advance_0 15 rfl rfl)
theorem dX10_advance_18 : decode cX10_advance 18 = .ok (.iconst 1, 1) := dk_4 (dk_at dksX10_advance_0 18 rfl rfl)
theorem dX10_advance_19 : decode cX10_advance 19 = .ok (.iadd, 1) := dk_96 (dk_at dksX10_advance_0 19 rfl rfl)
theorem dX10_advance_20 : decode cX10_advance 20 = .ok (.putfield 35, 3) := dk_181 0 35 (dk_at dksX10_advance_0 20 rfl rfl)
theorem dX10_advance_23 : decode cX10_advance 23 = .ok (.goto (-23), 3) := dk_167 255 233 (dk_at dksX10_advance_1 0 rfl rfl)
theorem dX10_advance_26 : decode cX10_advance 26 = .ok (.aload_n 0, 1) := dk_42 (dk_at dksX10_advance_1 3 rfl rfl)
theorem dX10_advance_27 : decode cX10_advance 27 = .ok (.aload_n 0, 1) := dk_42 (dk_at dksX10_advance_1 4 rfl rfl)
theorem dX10_advance_28 : decode cX10_advance 28 = .ok (.getfield 35, 3) := dk_180 0 35 (dk_at dksX10_advance_1 5 rfl rfl)
theorem dX10_advance_31 : decode cX10_advance 31 = .ok (.putfield 42, 3) := dk_181 0 42 (dk_at dksX10_advance_1 8 rfl rfl)
theorem dX10_advance_34 : decode cX10_advance 34 = .ok (.aload_n 0, 1) := dk_42 (dk_at dksX10_advance_1 11 rfl rfl)
theorem dX10_advance_35 : decode cX10_advance 35 = .ok (.ldc 22, 2) := dk_18 22 (dk_at dksX10_advance_1 12 rfl rfl)
theorem dX10_advance_37 : decode cX10_advance 37 = .ok (.putfield 24, 3) := dk_181 0 24 (dk_at dksX10_advance_1 14 rfl rfl)
theorem dX10_advance_40 : decode cX10_advance 40 = .ok (.aload_n 0, 1) := dk_42 (dk_at dksX10_advance_1 17 rfl rfl)
theorem dX10_advance_41 : decode cX10_advance 41 = .ok (.aload_n 0, 1) := dk_42 (dk_at dksX10_advance_1 18 rfl rfl)
theorem dX10_advance_42 : decode cX10_advance 42 = .ok (.getfield 35, 3) := dk_180 0 35 (dk_at dksX10_advance_1 19 rfl rfl)
theorem dX10_advance_45 : decode cX10_advance 45 = .ok (.invokevirtual 38, 3) := dk_182 0 38 (dk_at dksX10_advance_2 0 rfl rfl)
theorem dX10_advance_48 : decode cX10_advance 48 = .ok (.istore_n 1, 1) := dk_60 (dk_at dksX10_advance_2 3 rfl rfl)
theorem dX10_advance_49 : decode cX10_advance 49 = .ok (.iload_n 1, 1) := dk_27 (dk_at dksX10_advance_2 4 rfl rfl)
theorem dX10_advance_50 : decode cX10_advance 50 = .ok (.iconst (-1), 1) := dk_2 (dk_at dksX10_advance_2 5 rfl rfl)
theorem dX10_advance_51 : decode cX10_advance 51 = .ok (.if_icmp .ne 13, 3) := dk_160 0 13 (dk_at dksX10_advance_2 6 rfl rfl)
theorem dX10_advance_54 : decode cX10_advance 54 = .ok (.aload_n 0, 1) := dk_42 (dk_at dksX10_advance_2 9 rfl rfl)
theorem dX10_advance_55 : decode cX10_advance 55 = .ok (.getstatic 45, 3) := dk_178 0 45 (dk_at dksX10_advance_2 10 rfl rfl)
theorem dX10_advance_58 : decode cX10_advance 58 = .ok (.putfield 51, 3) := dk_181 0 51 (dk_at dksX10_advance_2 13 rfl rfl)
theorem dX10_advance_61 : decode cX10_advance 61 = .ok (.goto 211, 3) := dk_167 0 211 (dk_at dksX10_advance_2 16 rfl rfl)
theorem dX10_advance_64 : decode cX10_advance 64 = .ok (.iload_n 1, 1) := dk_27 (dk_at dksX10_advance_2 19 rfl rfl)
theorem dX10_advance_65 : decode cX10_advance 65 = .ok (.i2l, 1) := dk_133 (dk_at dksX10_advance_2 20 rfl rfl)
theorem dX10_advance_66 : decode cX10_advance 66 = .ok (.ldc2_w 54, 3) := dk_20 0 54 (dk_at dksX10_advance_2 21 rfl rfl)
theorem dX10_advance_69 : decode cX10_advance 69 = .ok (.ldc2_w 56, 3) := dk_20 0 56 (dk_at dksX10_advance_3 0 rfl rfl)
theorem dX10_advance_72 : decode cX10_advance 72 = .ok (.invokestatic 58, 3) := dk_184 0 58 (dk_at dksX10_advance_3 3 rfl rfl)
theorem dX10_advance_75 : decode cX10_advance 75 = .ok (.ifCond .eq 77, 3) := dk_153 0 77 (dk_at dksX10_advance_3 6 rfl rfl)
theorem dX10_advance_78 : decode cX10_advance 78 = .ok (.aload_n 0, 1) := dk_42 (dk_at dksX10_advance_3 9 rfl rfl)
theorem dX10_advance_79 : decode cX10_advance 79 = .ok (.getstatic 62, 3) := dk_178 0 62 (dk_at dksX10_advance_3 10 rfl rfl)
theorem dX10_advance_82 : decode cX10_advance 82 = .ok (.putfield 51, 3) := dk_181 0 51 (dk_at dksX10_advance_3 13 rfl rfl)
theorem dX10_advance_85 : decode cX10_advance 85 = .ok (.new 65, 3) := dk_187 0 65 (dk_at dksX10_advance_3 16 rfl rfl)
theorem dX10_advance_88 : decode cX10_advance 88 = .ok (.dup, 1) := dk_89 (dk_at dksX10_advance_3 19 rfl rfl)
theorem dX10_advance_89 : decode cX10_advance 89 = .ok (.invokespecial 67, 3) := dk_183 0 67 (dk_at dksX10_advance_3 20 rfl rfl)
theorem dX10_advance_92 : decode cX10_advance 92 = .ok (.astore_n 2, 1) := dk_77 (dk_at dksX10_advance_3 23 rfl rfl)
theorem dX10_advance_93 : decode cX10_advance 93 = .ok (.aload_n 0, 1) := dk_42 (dk_at dksX10_advance_4 0 rfl rfl)
theorem dX10_advance_94 : decode cX10_advance 94 = .ok (.aload_n 0, 1) := dk_42 (dk_at dksX10_advance_4 1 rfl rfl)
theorem dX10_advance_95 : decode cX10_advance 95 = .ok (.getfield 35, 3) := dk_180 0 35 (dk_at dksX10_advance_4 2 rfl rfl)
theorem dX10_advance_98 : decode cX10_advance 98 = .ok (.invokevirtual 38, 3) := dk_182 0 38 (dk_at dksX10_advance_4 5 rfl rfl)
theorem dX10_advance_101 : decode cX10_advance 101 = .ok (.i2l, 1) := dk_133 (dk_at dksX10_advance_4 8 rfl rfl)
theorem dX10_advance_102 : decode cX10_advance 102 = .ok (.ldc2_w 54, 3) := dk_20 0 54 (dk_at dksX10_advance_4 9 rfl rfl)
theorem dX10_advance_105 : decode cX10_advance 105 = .ok (.ldc2_w 56, 3) := dk_20 0 56 (dk_at dksX10_advance_4 12 rfl rfl)
theorem dX10_advance_108 : decode cX10_advance 108 = .ok (.invokestatic 58, 3) := dk_184 0 58 (dk_at dksX10_advance_4 15 rfl rfl)
theorem dX10_advance_111 : decode cX10_advance 111 = .ok (.ifCond .eq 30, 3) := dk_153 0 30 (dk_at dksX10_advance_4 18 rfl rfl)
theorem dX10_advance_114 : decode cX10_advance 114 = .ok (.aload_n 2, 1) := dk_44 (dk_at dksX10_advance_4 21 rfl rfl)
theorem dX10_advance_115 : decode cX10_advance 115 = .ok (.aload_n 0, 1) := dk_42 (dk_at dksX10_advance_4 22 rfl rfl)
theorem dX10_advance_116 : decode cX10_advance 116 = .ok (.aload_n 0, 1) := dk_42 (dk_at dksX10_advance_4 23 rfl rfl)
theorem dX10_advance_117 : decode cX10_advance 117 = .ok (.getfield 35, 3) := dk_180 0 35 (dk_at dksX10_advance_5 0 rfl rfl)
theorem dX10_advance_120 : decode cX10_advance 120 = .ok (.invokevirtual 38, 3) := dk_182 0 38 (dk_at dksX10_advance_5 3 rfl rfl)
theorem dX10_advance_123 : decode cX10_advance 123 = .ok (.i2c, 1) := dk_146 (dk_at dksX10_advance_5 6 rfl rfl)
theorem dX10_advance_124 : decode cX10_advance 124 = .ok (.invokevirtual 68, 3) := dk_182 0 68 (dk_at dksX10_advance_5 7 rfl rfl)
theorem dX10_advance_127 : decode cX10_advance 127 = .ok (.pop, 1) := dk_87 (dk_at dksX10_advance_5 10 rfl rfl)
theorem dX10_advance_128 : decode cX10_advance 128 = .ok (.aload_n 0, 1) := dk_42 (dk_at dksX10_advance_5 11 rfl rfl)
theorem dX10_advance_129 : decode cX10_advance 129 = .ok (.dup, 1) := dk_89 (dk_at dksX10_advance_5 12 rfl rfl)
theorem dX10_advance_130 : decode cX10_advance 130 = .ok (.getfield 35, 3) := dk_180 0 35 (dk_at dksX10_advance_5 13 rfl rfl)
theorem dX10_advance_133 : decode cX10_advance 133 = .ok (.iconst 1, 1) := dk_4 (dk_at dksX10_advance_5 16 rfl rfl)
theorem dX10_advance_134 : decode cX10_advance 134 = .ok (.iadd, 1) := dk_96 (dk_at dksX10_advance_5 17 rfl rfl)
theorem dX10_advance_135 : decode cX10_advance 135 = .ok (.putfield 35, 3) := dk_181 0 35 (dk_at dksX10_advance_5 18 rfl rfl)
theorem dX10_advance_138 : decode cX10_advance 138 = .ok (.goto (-45), 3) := dk_167 255 211 (dk_at dksX10_advance_5 21 rfl rfl)
theorem dX10_advance_141 : decode cX10_advance 141 = .ok (.aload_n 0, 1) := dk_42 (dk_at dksX10_advance_6 0 rfl rfl)
theorem dX10_advance_142 : decode cX10_advance 142 = .ok (.aload_n 2, 1) := dk_44 (dk_at dksX10_advance_6 1 rfl rfl)
theorem dX10_advance_143 : decode cX10_advance 143 = .ok (.invokevirtual 72, 3) := dk_182 0 72 (dk_at dksX10_advance_6 2 rfl rfl)
theorem dX10_advance_146 : decode cX10_advance 146 = .ok (.putfield 24, 3) := dk_181 0 24 (dk_at dksX10_advance_6 5 rfl rfl)
theorem dX10_advance_149 : decode cX10_advance 149 = .ok (.goto 123, 3) := dk_167 0 123 (dk_at dksX10_advance_6 8 rfl rfl)
theorem dX10_advance_152 : decode cX10_advance 152 = .ok (.iload_n 1, 1) := dk_27 (dk_at dksX10_advance_6 11 rfl rfl)
theorem dX10_advance_153 : decode cX10_advance 153 = .ok (.i2l, 1) := dk_133 (dk_at dksX10_advance_6 12 rfl rfl)
theorem dX10_advance_154 : decode cX10_advance 154 = .ok (.ldc2_w 76, 3) := dk_20 0 76 (dk_at dksX10_advance_6 13 rfl rfl)
theorem dX10_advance_157 : decode cX10_advance 157 = .ok (.ldc2_w 78, 3) := dk_20 0 78 (dk_at dksX10_advance_6 16 rfl rfl)
theorem dX10_advance_160 : decode cX10_advance 160 = .ok (.invokestatic 58, 3) := dk_184 0 58 (dk_at dksX10_advance_6 19 rfl rfl)
theorem dX10_advance_163 : decode cX10_advance 163 = .ok (.ifCond .eq 92, 3) := dk_153 0 92 (dk_at dksX10_advance_7 0 rfl rfl)
theorem dX10_advance_166 : decode cX10_advance 166 = .ok (.aload_n 0, 1) := dk_42 (dk_at dksX10_advance_7 3 rfl rfl)
theorem dX10_advance_167 : decode cX10_advance 167 = .ok (.getstatic 80, 3) := dk_178 0 80 (dk_at dksX10_advance_7 4 rfl rfl)
theorem dX10_advance_170 : decode cX10_advance 170 = .ok (.putfield 51, 3) := dk_181 0 51 (dk_at dksX10_advance_7 7 rfl rfl)
theorem dX10_advance_173 : decode cX10_advance 173 = .ok (.aload_n 0, 1) := dk_42 (dk_at dksX10_advance_7 10 rfl rfl)
theorem dX10_advance_174 : decode cX10_advance 174 = .ok (.iconst 0, 1) := dk_3 (dk_at dksX10_advance_7 11 rfl rfl)
theorem dX10_advance_175 : decode cX10_advance 175 = .ok (.putfield 83, 3) := dk_181 0 83 (dk_at dksX10_advance_7 12 rfl rfl)
theorem dX10_advance_178 : decode cX10_advance 178 = .ok (.aload_n 0, 1) := dk_42 (dk_at dksX10_advance_7 15 rfl rfl)
theorem dX10_advance_179 : decode cX10_advance 179 = .ok (.aload_n 0, 1) := dk_42 (dk_at dksX10_advance_7 16 rfl rfl)
theorem dX10_advance_180 : decode cX10_advance 180 = .ok (.getfield 35, 3) := dk_180 0 35 (dk_at dksX10_advance_7 17 rfl rfl)
theorem dX10_advance_183 : decode cX10_advance 183 = .ok (.invokevirtual 38, 3) := dk_182 0 38 (dk_at dksX10_advance_7 20 rfl rfl)
theorem dX10_advance_186 : decode cX10_advance 186 = .ok (.i2l, 1) := dk_133 (dk_at dksX10_advance_7 23 rfl rfl)
theorem dX10_advance_187 : decode cX10_advance 187 = .ok (.ldc2_w 76, 3) := dk_20 0 76 (dk_at dksX10_advance_8 0 rfl rfl)
theorem dX10_advance_190 : decode cX10_advance 190 = .ok (.ldc2_w 78, 3) := dk_20 0 78 (dk_at dksX10_advance_8 3 rfl rfl)
theorem dX10_advance_193 : decode cX10_advance 193 = .ok (.invokestatic 58, 3) := dk_184 0 58 (dk_at dksX10_advance_8 6 rfl rfl)
theorem dX10_advance_196 : decode cX10_advance 196 = .ok (.ifCond .eq 76, 3) := dk_153 0 76 (dk_at dksX10_advance_8 9 rfl rfl)
theorem dX10_advance_199 : decode cX10_advance 199 = .ok (.aload_n 0, 1) := dk_42 (dk_at dksX10_advance_8 12 rfl rfl)
theorem dX10_advance_200 : decode cX10_advance 200 = .ok (.aload_n 0, 1) := dk_42 (dk_at dksX10_advance_8 13 rfl rfl)
theorem dX10_advance_201 : decode cX10_advance 201 = .ok (.getfield 35, 3) := dk_180 0 35 (dk_at dksX10_advance_8 14 rfl rfl)
theorem dX10_advance_204 : decode cX10_advance 204 = .ok (.aload_n 0, 1) := dk_42 (dk_at dksX10_advance_8 17 rfl rfl)
theorem dX10_advance_205 : decode cX10_advance 205 = .ok (.getfield 42, 3) := dk_180 0 42 (dk_at dksX10_advance_8 18 rfl rfl)
theorem dX10_advance_208 : decode cX10_advance 208 = .ok (.isub, 1) := dk_100 (dk_at dksX10_advance_8 21 rfl rfl)
theorem dX10_advance_209 : decode cX10_advance 209 = .ok (.iconst 3, 1) := dk_6 (dk_at dksX10_advance_8 22 rfl rfl)
theorem dX10_advance_210 : decode cX10_advance 210 = .ok (.if_icmp .ge 25, 3) := dk_162 0 25 (dk_at dksX10_advance_9 0 rfl rfl)
theorem dX10_advance_213 : decode cX10_advance 213 = .ok (.bipush 10, 2) := dk_16 10 (dk_at dksX10_advance_9 3 rfl rfl)
theorem dX10_advance_215 : decode cX10_advance 215 = .ok (.aload_n 0, 1) := dk_42 (dk_at dksX10_advance_9 5 rfl rfl)
theorem dX10_advance_216 : decode cX10_advance 216 = .ok (.getfield 83, 3) := dk_180 0 83 (dk_at dksX10_advance_9 6 rfl rfl)
theorem dX10_advance_219 : decode cX10_advance 219 = .ok (.imul, 1) := dk_104 (dk_at dksX10_advance_9 9 rfl rfl)
theorem dX10_advance_220 : decode cX10_advance 220 = .ok (.aload_n 0, 1) := dk_42 (dk_at dksX10_advance_9 10 rfl rfl)
theorem dX10_advance_221 : decode cX10_advance 221 = .ok (.aload_n 0, 1) := dk_42 (dk_at dksX10_advance_9 11 rfl rfl)
theorem dX10_advance_222 : decode cX10_advance 222 = .ok (.getfield 35, 3) := dk_180 0 35 (dk_at dksX10_advance_9 12 rfl rfl)
theorem dX10_advance_225 : decode cX10_advance 225 = .ok (.invokevirtual 38, 3) := dk_182 0 38 (dk_at dksX10_advance_9 15 rfl rfl)
theorem dX10_advance_228 : decode cX10_advance 228 = .ok (.iadd, 1) := dk_96 (dk_at dksX10_advance_9 18 rfl rfl)
theorem dX10_advance_229 : decode cX10_advance 229 = .ok (.bipush 48, 2) := dk_16 48 (dk_at dksX10_advance_9 19 rfl rfl)
theorem dX10_advance_231 : decode cX10_advance 231 = .ok (.isub, 1) := dk_100 (dk_at dksX10_advance_9 21 rfl rfl)
theorem dX10_advance_232 : decode cX10_advance 232 = .ok (.goto 7, 3) := dk_167 0 7 (dk_at dksX10_advance_10 0 rfl rfl)
theorem dX10_advance_235 : decode cX10_advance 235 = .ok (.aload_n 0, 1) := dk_42 (dk_at dksX10_advance_10 3 rfl rfl)
theorem dX10_advance_236 : decode cX10_advance 236 = .ok (.getfield 83, 3) := dk_180 0 83 (dk_at dksX10_advance_10 4 rfl rfl)
theorem dX10_advance_239 : decode cX10_advance 239 = .ok (.putfield 83, 3) := dk_181 0 83 (dk_at dksX10_advance_10 7 rfl rfl)
theorem dX10_advance_242 : decode cX10_advance 242 = .ok (.aload_n 0, 1) := dk_42 (dk_at dksX10_advance_10 10 rfl rfl)
theorem dX10_advance_243 : decode cX10_advance 243 = .ok (.dup, 1) := dk_89 (dk_at dksX10_advance_10 11 rfl rfl)
theorem dX10_advance_244 : decode cX10_advance 244 = .ok (.getfield 35, 3) := dk_180 0 35 (dk_at dksX10_advance_10 12 rfl rfl)
theorem dX10_advance_247 : decode cX10_advance 247 = .ok (.iconst 1, 1) := dk_4 (dk_at dksX10_advance_10 15 rfl rfl)
theorem dX10_advance_248 : decode cX10_advance 248 = .ok (.iadd, 1) := dk_96 (dk_at dksX10_advance_10 16 rfl rfl)
theorem dX10_advance_249 : decode cX10_advance 249 = .ok (.putfield 35, 3) := dk_181 0 35 (dk_at dksX10_advance_10 17 rfl rfl)
theorem dX10_advance_252 : decode cX10_advance 252 = .ok (.goto (-74), 3) := dk_167 255 182 (dk_at dksX10_advance_10 20 rfl rfl)
theorem dX10_advance_255 : decode cX10_advance 255 = .ok (.aload_n 0, 1) := dk_42 (dk_at dksX10_advance_10 23 rfl rfl)
theorem dX10_advance_256 : decode cX10_advance 256 = .ok (.getstatic 86, 3) := dk_178 0 86 (dk_at dksX10_advance_11 0 rfl rfl)
theorem dX10_advance_259 : decode cX10_advance 259 = .ok (.putfield 51, 3) := dk_181 0 51 (dk_at dksX10_advance_11 3 rfl rfl)
theorem dX10_advance_262 : decode cX10_advance 262 = .ok (.aload_n 0, 1) := dk_42 (dk_at dksX10_advance_11 6 rfl rfl)
theorem dX10_advance_263 : decode cX10_advance 263 = .ok (.dup, 1) := dk_89 (dk_at dksX10_advance_11 7 rfl rfl)
theorem dX10_advance_264 : decode cX10_advance 264 = .ok (.getfield 35, 3) := dk_180 0 35 (dk_at dksX10_advance_11 8 rfl rfl)
theorem dX10_advance_267 : decode cX10_advance 267 = .ok (.iconst 1, 1) := dk_4 (dk_at dksX10_advance_11 11 rfl rfl)
theorem dX10_advance_268 : decode cX10_advance 268 = .ok (.iadd, 1) := dk_96 (dk_at dksX10_advance_11 12 rfl rfl)
theorem dX10_advance_269 : decode cX10_advance 269 = .ok (.putfield 35, 3) := dk_181 0 35 (dk_at dksX10_advance_11 13 rfl rfl)
theorem dX10_advance_272 : decode cX10_advance 272 = .ok (.return_, 1) := dk_177 (dk_at dksX10_advance_11 16 rfl rfl)
abbrev cX10_byteAt : ByteArray := prog_7_method_2_code
def yX10_byteAt : MethodName := ⟨RX10, "byteAt", "(I)I"⟩
def dkwX10_byteAt_1 : List UInt8 := [2, 172]
abbrev dktX10_byteAt_1 : List UInt8 := dkwX10_byteAt_1 ++ []
def dkwX10_byteAt_0 : List UInt8 := [27, 42, 180, 0, 19, 162, 0, 19, 42, 180, 0, 3, 180, 0, 31, 27, 51, 17, 0, 255, 126, 167, 0, 4]
abbrev dktX10_byteAt_0 : List UInt8 := dkwX10_byteAt_0 ++ dktX10_byteAt_1
theorem dksX10_byteAt_0 : cX10_byteAt.data.toList.drop 0 = dktX10_byteAt_0 := by decide +kernel
theorem dksX10_byteAt_1 : cX10_byteAt.data.toList.drop 24 = dktX10_byteAt_1 := dk_seg dksX10_byteAt_0 24 rfl rfl
theorem dX10_byteAt_0 : decode cX10_byteAt 0 = .ok (.iload_n 1, 1) := dk_27 (dk_at dksX10_byteAt_0 0 rfl rfl)
theorem dX10_byteAt_1 : decode cX10_byteAt 1 = .ok (.aload_n 0, 1) := dk_42 (dk_at dksX10_byteAt_0 1 rfl rfl)
theorem dX10_byteAt_2 : decode cX10_byteAt 2 = .ok (.getfield 19, 3) := dk_180 0 19 (dk_at dksX10_byteAt_0 2 rfl rfl)
theorem dX10_byteAt_5 : decode cX10_byteAt 5 = .ok (.if_icmp .ge 19, 3) := dk_162 0 19 (dk_at dksX10_byteAt_0 5 rfl rfl)
theorem dX10_byteAt_8 : decode cX10_byteAt 8 = .ok (.aload_n 0, 1) := dk_42 (dk_at dksX10_byteAt_0 8 rfl rfl)
theorem dX10_byteAt_9 : decode cX10_byteAt 9 = .ok (.getfield 3, 3) := dk_180 0 3 (dk_at dksX10_byteAt_0 9 rfl rfl)
theorem dX10_byteAt_12 : decode cX10_byteAt 12 = .ok (.getfield 31, 3) := dk_180 0 31 (dk_at dksX10_byteAt_0 12 rfl rfl)
theorem dX10_byteAt_15 : decode cX10_byteAt 15 = .ok (.iload_n 1, 1) := dk_27 (dk_at dksX10_byteAt_0 15 rfl rfl)
theorem dX10_byteAt_16 : decode cX10_byteAt 16 = .ok (.baload, 1) := dk_51 (dk_at dksX10_byteAt_0 16 rfl rfl)
theorem dX10_byteAt_17 : decode cX10_byteAt 17 = .ok (.sipush 255, 3) := dk_17 0 255 (dk_at dksX10_byteAt_0 17 rfl rfl)
theorem dX10_byteAt_20 : decode cX10_byteAt 20 = .ok (.iand, 1) := dk_126 (dk_at dksX10_byteAt_0 20 rfl rfl)
theorem dX10_byteAt_21 : decode cX10_byteAt 21 = .ok (.goto 4, 3) := dk_167 0 4 (dk_at dksX10_byteAt_0 21 rfl rfl)
theorem dX10_byteAt_24 : decode cX10_byteAt 24 = .ok (.iconst (-1), 1) := dk_2 (dk_at dksX10_byteAt_1 0 rfl rfl)
theorem dX10_byteAt_25 : decode cX10_byteAt 25 = .ok (.ireturn, 1) := dk_172 (dk_at dksX10_byteAt_1 1 rfl rfl)
abbrev cX10_configuration : ByteArray := prog_7_method_11_code
def yX10_configuration : MethodName := ⟨RX10, "configuration", "()LSnowPass$State;"⟩
def dkwX10_configuration_7 : List UInt8 := [182, 0, 158, 181, 0, 161, 25, 6, 176]
abbrev dktX10_configuration_7 : List UInt8 := dkwX10_configuration_7 ++ []
def dkwX10_configuration_6 : List UInt8 := [180, 0, 51, 178, 0, 45, 165, 0, 12, 42, 25, 6, 182, 0, 154, 167, 255, 240, 25, 5, 25, 5]
abbrev dktX10_configuration_6 : List UInt8 := dkwX10_configuration_6 ++ dktX10_configuration_7
def dkwX10_configuration_5 : List UInt8 := [182, 0, 142, 187, 0, 146, 89, 25, 5, 187, 0, 148, 89, 183, 0, 150, 183, 0, 151, 58, 6, 42]
abbrev dktX10_configuration_5 : List UInt8 := dkwX10_configuration_5 ++ dktX10_configuration_6
def dkwX10_configuration_4 : List UInt8 := [18, 104, 25, 5, 180, 0, 138, 3, 50, 182, 0, 142, 42, 18, 106, 25, 5, 180, 0, 138, 4, 50]
abbrev dktX10_configuration_4 : List UInt8 := dkwX10_configuration_4 ++ dktX10_configuration_5
def dkwX10_configuration_3 : List UInt8 := [182, 0, 120, 181, 0, 129, 25, 5, 42, 3, 16, 9, 182, 0, 120, 181, 0, 132, 42, 182, 0, 135, 42]
abbrev dktX10_configuration_3 : List UInt8 := dkwX10_configuration_3 ++ dktX10_configuration_4
def dkwX10_configuration_2 : List UInt8 := [28, 29, 21, 4, 42, 3, 17, 3, 231, 182, 0, 120, 183, 0, 126, 58, 5, 25, 5, 42, 3, 16, 99]
abbrev dktX10_configuration_2 : List UInt8 := dkwX10_configuration_2 ++ dktX10_configuration_3
def dkwX10_configuration_1 : List UInt8 := [3, 16, 50, 182, 0, 120, 62, 42, 29, 4, 96, 17, 3, 231, 182, 0, 120, 54, 4, 187, 0, 124, 89, 27]
abbrev dktX10_configuration_1 : List UInt8 := dkwX10_configuration_1 ++ dktX10_configuration_2
def dkwX10_configuration_0 : List UInt8 := [42, 18, 114, 182, 0, 116, 42, 6, 16, 20, 182, 0, 120, 60, 42, 4, 27, 5, 100, 182, 0, 120, 61, 42]
abbrev dktX10_configuration_0 : List UInt8 := dkwX10_configuration_0 ++ dktX10_configuration_1
theorem dksX10_configuration_0 : cX10_configuration.data.toList.drop 0 = dktX10_configuration_0 := by decide +kernel
theorem dksX10_configuration_1 : cX10_configuration.data.toList.drop 24 = dktX10_configuration_1 := dk_seg dksX10_configuration_0 24 rfl rfl
theorem dksX10_configuration_2 : cX10_configuration.data.toList.drop 48 = dktX10_configuration_2 := dk_seg dksX10_configuration_1 24 rfl rfl
theorem dksX10_configuration_3 : cX10_configuration.data.toList.drop 71 = dktX10_configuration_3 := dk_seg dksX10_configuration_2 23 rfl rfl
theorem dksX10_configuration_4 : cX10_configuration.data.toList.drop 94 = dktX10_configuration_4 := dk_seg dksX10_configuration_3 23 rfl rfl
theorem dksX10_configuration_5 : cX10_configuration.data.toList.drop 116 = dktX10_configuration_5 := dk_seg dksX10_configuration_4 22 rfl rfl
theorem dksX10_configuration_6 : cX10_configuration.data.toList.drop 138 = dktX10_configuration_6 := dk_seg dksX10_configuration_5 22 rfl rfl
theorem dksX10_configuration_7 : cX10_configuration.data.toList.drop 160 = dktX10_configuration_7 := dk_seg dksX10_configuration_6 22 rfl rfl
theorem dX10_configuration_0 : decode cX10_configuration 0 = .ok (.aload_n 0, 1) := dk_42 (dk_at dksX10_configuration_0 0 rfl rfl)
theorem dX10_configuration_1 : decode cX10_configuration 1 = .ok (.ldc 114, 2) := dk_18 114 (dk_at dksX10_configuration_0 1 rfl rfl)
theorem dX10_configuration_3 : decode cX10_configuration 3 = .ok (.invokevirtual 116, 3) := dk_182 0 116 (dk_at dksX10_configuration_0 3 rfl rfl)
theorem dX10_configuration_6 : decode cX10_configuration 6 = .ok (.aload_n 0, 1) := dk_42 (dk_at dksX10_configuration_0 6 rfl rfl)
theorem dX10_configuration_7 : decode cX10_configuration 7 = .ok (.iconst 3, 1) := dk_6 (dk_at dksX10_configuration_0 7 rfl rfl)
theorem dX10_configuration_8 : decode cX10_configuration 8 = .ok (.bipush 20, 2) := dk_16 20 (dk_at dksX10_configuration_0 8 rfl rfl)
theorem dX10_configuration_10 : decode cX10_configuration 10 = .ok (.invokevirtual 120, 3) := dk_182 0 120 (dk_at dksX10_configuration_0 10 rfl rfl)
theorem dX10_configuration_13 : decode cX10_configuration 13 = .ok (.istore_n 1, 1) := dk_60 (dk_at dksX10_configuration_0 13 rfl rfl)
theorem dX10_configuration_14 : decode cX10_configuration 14 = .ok (.aload_n 0, 1) := dk_42 (dk_at dksX10_configuration_0 14 rfl rfl)
theorem dX10_configuration_15 : decode cX10_configuration 15 = .ok (.iconst 1, 1) := dk_4 (dk_at dksX10_configuration_0 15 rfl rfl)
theorem dX10_configuration_16 : decode cX10_configuration 16 = .ok (.iload_n 1, 1) := dk_27 (dk_at dksX10_configuration_0 16 rfl rfl)
theorem dX10_configuration_17 : decode cX10_configuration 17 = .ok (.iconst 2, 1) := dk_5 (dk_at dksX10_configuration_0 17 rfl rfl)
theorem dX10_configuration_18 : decode cX10_configuration 18 = .ok (.isub, 1) := dk_100 (dk_at dksX10_configuration_0 18 rfl rfl)
theorem dX10_configuration_19 : decode cX10_configuration 19 = .ok (.invokevirtual 120, 3) := dk_182 0 120 (dk_at dksX10_configuration_0 19 rfl rfl)
theorem dX10_configuration_22 : decode cX10_configuration 22 = .ok (.istore_n 2, 1) := dk_61 (dk_at dksX10_configuration_0 22 rfl rfl)
theorem dX10_configuration_23 : decode cX10_configuration 23 = .ok (.aload_n 0, 1) := dk_42 (dk_at dksX10_configuration_0 23 rfl rfl)
theorem dX10_configuration_24 : decode cX10_configuration 24 = .ok (.iconst 0, 1) := dk_3 (dk_at dksX10_configuration_1 0 rfl rfl)
theorem dX10_configuration_25 : decode cX10_configuration 25 = .ok (.bipush 50, 2) := dk_16 50 (dk_at dksX10_configuration_1 1 rfl rfl)
theorem dX10_configuration_27 : decode cX10_configuration 27 = .ok (.invokevirtual 120, 3) := dk_182 0 120 (dk_at dksX10_configuration_1 3 rfl rfl)
theorem dX10_configuration_30 : decode cX10_configuration 30 = .ok (.istore_n 3, 1) := dk_62 (dk_at dksX10_configuration_1 6 rfl rfl)
theorem dX10_configuration_31 : decode cX10_configuration 31 = .ok (.aload_n 0, 1) := dk_42 (dk_at dksX10_configuration_1 7 rfl rfl)
theorem dX10_configuration_32 : decode cX10_configuration 32 = .ok (.iload_n 3, 1) := dk_29 (dk_at dksX10_configuration_1 8 rfl rfl)
theorem dX10_configuration_33 : decode cX10_configuration 33 = .ok (.iconst 1, 1) := dk_4 (dk_at dksX10_configuration_1 9 rfl rfl)
theorem dX10_configuration_34 : decode cX10_configuration 34 = .ok (.iadd, 1) := dk_96 (dk_at dksX10_configuration_1 10 rfl rfl)
theorem dX10_configuration_35 : decode cX10_configuration 35 = .ok (.sipush 999, 3) := dk_17 3 231 (dk_at dksX10_configuration_1 11 rfl rfl)
theorem dX10_configuration_38 : decode cX10_configuration 38 = .ok (.invokevirtual 120, 3) := dk_182 0 120 (dk_at dksX10_configuration_1 14 rfl rfl)
theorem dX10_configuration_41 : decode cX10_configuration 41 = .ok (.istore 4, 2) := dk_54 4 (dk_at dksX10_configuration_1 17 rfl rfl)
theorem dX10_configuration_43 : decode cX10_configuration 43 = .ok (.new 124, 3) := dk_187 0 124 (dk_at dksX10_configuration_1 19 rfl rfl)
theorem dX10_configuration_46 : decode cX10_configuration 46 = .ok (.dup, 1) := dk_89 (dk_at dksX10_configuration_1 22 rfl rfl)
theorem dX10_configuration_47 : decode cX10_configuration 47 = .ok (.iload_n 1, 1) := dk_27 (dk_at dksX10_configuration_1 23 rfl rfl)
theorem dX10_configuration_48 : decode cX10_configuration 48 = .ok (.iload_n 2, 1) := dk_28 (dk_at dksX10_configuration_2 0 rfl rfl)
theorem dX10_configuration_49 : decode cX10_configuration 49 = .ok (.iload_n 3, 1) := dk_29 (dk_at dksX10_configuration_2 1 rfl rfl)
theorem dX10_configuration_50 : decode cX10_configuration 50 = .ok (.iload 4, 2) := dk_21 4 (dk_at dksX10_configuration_2 2 rfl rfl)
theorem dX10_configuration_52 : decode cX10_configuration 52 = .ok (.aload_n 0, 1) := dk_42 (dk_at dksX10_configuration_2 4 rfl rfl)
theorem dX10_configuration_53 : decode cX10_configuration 53 = .ok (.iconst 0, 1) := dk_3 (dk_at dksX10_configuration_2 5 rfl rfl)
theorem dX10_configuration_54 : decode cX10_configuration 54 = .ok (.sipush 999, 3) := dk_17 3 231 (dk_at dksX10_configuration_2 6 rfl rfl)
theorem dX10_configuration_57 : decode cX10_configuration 57 = .ok (.invokevirtual 120, 3) := dk_182 0 120 (dk_at dksX10_configuration_2 9 rfl rfl)
theorem dX10_configuration_60 : decode cX10_configuration 60 = .ok (.invokespecial 126, 3) := dk_183 0 126 (dk_at dksX10_configuration_2 12 rfl rfl)
theorem dX10_configuration_63 : decode cX10_configuration 63 = .ok (.astore 5, 2) := dk_58 5 (dk_at dksX10_configuration_2 15 rfl rfl)
theorem dX10_configuration_65 : decode cX10_configuration 65 = .ok (.aload 5, 2) := dk_25 5 (dk_at dksX10_configuration_2 17 rfl rfl)
theorem dX10_configuration_67 : decode cX10_configuration 67 = .ok (.aload_n 0, 1) := dk_42 (dk_at dksX10_configuration_2 19 rfl rfl)
theorem dX10_configuration_68 : decode cX10_configuration 68 = .ok (.iconst 0, 1) := dk_3 (dk_at dksX10_configuration_2 20 rfl rfl)
theorem dX10_configuration_69 : decode cX10_configuration 69 = .ok (.bipush 99, 2) := dk_16 99 (dk_at dksX10_configuration_2 21 rfl rfl)
theorem dX10_configuration_71 : decode cX10_configuration 71 = .ok (.invokevirtual 120, 3) := dk_182 0 120 (dk_at dksX10_configuration_3 0 rfl rfl)
theorem dX10_configuration_74 : decode cX10_configuration 74 = .ok (.putfield 129, 3) := dk_181 0 129 (dk_at dksX10_configuration_3 3 rfl rfl)
theorem dX10_configuration_77 : decode cX10_configuration 77 = .ok (.aload 5, 2) := dk_25 5 (dk_at dksX10_configuration_3 6 rfl rfl)
theorem dX10_configuration_79 : decode cX10_configuration 79 = .ok (.aload_n 0, 1) := dk_42 (dk_at dksX10_configuration_3 8 rfl rfl)
theorem dX10_configuration_80 : decode cX10_configuration 80 = .ok (.iconst 0, 1) := dk_3 (dk_at dksX10_configuration_3 9 rfl rfl)
theorem dX10_configuration_81 : decode cX10_configuration 81 = .ok (.bipush 9, 2) := dk_16 9 (dk_at dksX10_configuration_3 10 rfl rfl)
theorem dX10_configuration_83 : decode cX10_configuration 83 = .ok (.invokevirtual 120, 3) := dk_182 0 120 (dk_at dksX10_configuration_3 12 rfl rfl)
theorem dX10_configuration_86 : decode cX10_configuration 86 = .ok (.putfield 132, 3) := dk_181 0 132 (dk_at dksX10_configuration_3 15 rfl rfl)
theorem dX10_configuration_89 : decode cX10_configuration 89 = .ok (.aload_n 0, 1) := dk_42 (dk_at dksX10_configuration_3 18 rfl rfl)
theorem dX10_configuration_90 : decode cX10_configuration 90 = .ok (.invokevirtual 135, 3) := dk_182 0 135 (dk_at dksX10_configuration_3 19 rfl rfl)
theorem dX10_configuration_93 : decode cX10_configuration 93 = .ok (.aload_n 0, 1) := dk_42 (dk_at dksX10_configuration_3 22 rfl rfl)
theorem dX10_configuration_94 : decode cX10_configuration 94 = .ok (.ldc 104, 2) := dk_18 104 (dk_at dksX10_configuration_4 0 rfl rfl)
theorem dX10_configuration_96 : decode cX10_configuration 96 = .ok (.aload 5, 2) := dk_25 5 (dk_at dksX10_configuration_4 2 rfl rfl)
theorem dX10_configuration_98 : decode cX10_configuration 98 = .ok (.getfield 138, 3) := dk_180 0 138 (dk_at dksX10_configuration_4 4 rfl rfl)
theorem dX10_configuration_101 : decode cX10_configuration 101 = .ok (.iconst 0, 1) := dk_3 (dk_at dksX10_configuration_4 7 rfl rfl)
theorem dX10_configuration_102 : decode cX10_configuration 102 = .ok (.aaload, 1) := dk_50 (dk_at dksX10_configuration_4 8 rfl rfl)
theorem dX10_configuration_103 : decode cX10_configuration 103 = .ok (.invokevirtual 142, 3) := dk_182 0 142 (dk_at dksX10_configuration_4 9 rfl rfl)
theorem dX10_configuration_106 : decode cX10_configuration 106 = .ok (.aload_n 0, 1) := dk_42 (dk_at dksX10_configuration_4 12 rfl rfl)
theorem dX10_configuration_107 : decode cX10_configuration 107 = .ok (.ldc 106, 2) := dk_18 106 (dk_at dksX10_configuration_4 13 rfl rfl)
theorem dX10_configuration_109 : decode cX10_configuration 109 = .ok (.aload 5, 2) := dk_25 5 (dk_at dksX10_configuration_4 15 rfl rfl)
theorem dX10_configuration_111 : decode cX10_configuration 111 = .ok (.getfield 138, 3) := dk_180 0 138 (dk_at dksX10_configuration_4 17 rfl rfl)
theorem dX10_configuration_114 : decode cX10_configuration 114 = .ok (.iconst 1, 1) := dk_4 (dk_at dksX10_configuration_4 20 rfl rfl)
theorem dX10_configuration_115 : decode cX10_configuration 115 = .ok (.aaload, 1) := dk_50 (dk_at dksX10_configuration_4 21 rfl rfl)
theorem dX10_configuration_116 : decode cX10_configuration 116 = .ok (.invokevirtual 142, 3) := dk_182 0 142 (dk_at dksX10_configuration_5 0 rfl rfl)
theorem dX10_configuration_119 : decode cX10_configuration 119 = .ok (.new 146, 3) := dk_187 0 146 (dk_at dksX10_configuration_5 3 rfl rfl)
theorem dX10_configuration_122 : decode cX10_configuration 122 = .ok (.dup, 1) := dk_89 (dk_at dksX10_configuration_5 6 rfl rfl)
theorem dX10_configuration_123 : decode cX10_configuration 123 = .ok (.aload 5, 2) := dk_25 5 (dk_at dksX10_configuration_5 7 rfl rfl)
theorem dX10_configuration_125 : decode cX10_configuration 125 = .ok (.new 148, 3) := dk_187 0 148 (dk_at dksX10_configuration_5 9 rfl rfl)
theorem dX10_configuration_128 : decode cX10_configuration 128 = .ok (.dup, 1) := dk_89 (dk_at dksX10_configuration_5 12 rfl rfl)
theorem dX10_configuration_129 : decode cX10_configuration 129 = .ok (.invokespecial 150, 3) := dk_183 0 150 (dk_at dksX10_configuration_5 13 rfl rfl)
theorem dX10_configuration_132 : decode cX10_configuration 132 = .ok (.invokespecial 151, 3) := dk_183 0 151 (dk_at dksX10_configuration_5 16 rfl rfl)
theorem dX10_configuration_135 : decode cX10_configuration 135 = .ok (.astore 6, 2) := dk_58 6 (dk_at dksX10_configuration_5 19 rfl rfl)
theorem dX10_configuration_137 : decode cX10_configuration 137 = .ok (.aload_n 0, 1) := dk_42 (dk_at dksX10_configuration_5 21 rfl rfl)
theorem dX10_configuration_138 : decode cX10_configuration 138 = .ok (.getfield 51, 3) := dk_180 0 51 (dk_at dksX10_configuration_6 0 rfl rfl)
theorem dX10_configuration_141 : decode cX10_configuration 141 = .ok (.getstatic 45, 3) := dk_178 0 45 (dk_at dksX10_configuration_6 3 rfl rfl)
theorem dX10_configuration_144 : decode cX10_configuration 144 = .ok (.if_acmp .eq 12, 3) := dk_165 0 12 (dk_at dksX10_configuration_6 6 rfl rfl)
theorem dX10_configuration_147 : decode cX10_configuration 147 = .ok (.aload_n 0, 1) := dk_42 (dk_at dksX10_configuration_6 9 rfl rfl)
theorem dX10_configuration_148 : decode cX10_configuration 148 = .ok (.aload 6, 2) := dk_25 6 (dk_at dksX10_configuration_6 10 rfl rfl)
theorem dX10_configuration_150 : decode cX10_configuration 150 = .ok (.invokevirtual 154, 3) := dk_182 0 154 (dk_at dksX10_configuration_6 12 rfl rfl)
theorem dX10_configuration_153 : decode cX10_configuration 153 = .ok (.goto (-16), 3) := dk_167 255 240 (dk_at dksX10_configuration_6 15 rfl rfl)
theorem dX10_configuration_156 : decode cX10_configuration 156 = .ok (.aload 5, 2) := dk_25 5 (dk_at dksX10_configuration_6 18 rfl rfl)
theorem dX10_configuration_158 : decode cX10_configuration 158 = .ok (.aload 5, 2) := dk_25 5 (dk_at dksX10_configuration_6 20 rfl rfl)
theorem dX10_configuration_160 : decode cX10_configuration 160 = .ok (.invokevirtual 158, 3) := dk_182 0 158 (dk_at dksX10_configuration_7 0 rfl rfl)
theorem dX10_configuration_163 : decode cX10_configuration 163 = .ok (.putfield 161, 3) := dk_181 0 161 (dk_at dksX10_configuration_7 3 rfl rfl)
theorem dX10_configuration_166 : decode cX10_configuration 166 = .ok (.aload 6, 2) := dk_25 6 (dk_at dksX10_configuration_7 6 rfl rfl)
theorem dX10_configuration_168 : decode cX10_configuration 168 = .ok (.areturn, 1) := dk_176 (dk_at dksX10_configuration_7 8 rfl rfl)
abbrev cX10_keyword : ByteArray := prog_7_method_6_code
def yX10_keyword : MethodName := ⟨RX10, "keyword", "(Ljava/lang/String;)V"⟩
def dkwX10_keyword_0 : List UInt8 := [42, 42, 180, 0, 24, 43, 182, 0, 98, 4, 182, 0, 94, 42, 182, 0, 28, 177]
abbrev dktX10_keyword_0 : List UInt8 := dkwX10_keyword_0 ++ []
theorem dksX10_keyword_0 : cX10_keyword.data.toList.drop 0 = dktX10_keyword_0 := by decide +kernel
theorem dX10_keyword_0 : decode cX10_keyword 0 = .ok (.aload_n 0, 1) := dk_42 (dk_at dksX10_keyword_0 0 rfl rfl)
theorem dX10_keyword_1 : decode cX10_keyword 1 = .ok (.aload_n 0, 1) := dk_42 (dk_at dksX10_keyword_0 1 rfl rfl)
theorem dX10_keyword_2 : decode cX10_keyword 2 = .ok (.getfield 24, 3) := dk_180 0 24 (dk_at dksX10_keyword_0 2 rfl rfl)
theorem dX10_keyword_5 : decode cX10_keyword 5 = .ok (.aload_n 1, 1) := dk_43 (dk_at dksX10_keyword_0 5 rfl rfl)
theorem dX10_keyword_6 : decode cX10_keyword 6 = .ok (.invokevirtual 98, 3) := dk_182 0 98 (dk_at dksX10_keyword_0 6 rfl rfl)
theorem dX10_keyword_9 : decode cX10_keyword 9 = .ok (.iconst 1, 1) := dk_4 (dk_at dksX10_keyword_0 9 rfl rfl)
theorem dX10_keyword_10 : decode cX10_keyword 10 = .ok (.invokevirtual 94, 3) := dk_182 0 94 (dk_at dksX10_keyword_0 10 rfl rfl)
theorem dX10_keyword_13 : decode cX10_keyword 13 = .ok (.aload_n 0, 1) := dk_42 (dk_at dksX10_keyword_0 13 rfl rfl)
theorem dX10_keyword_14 : decode cX10_keyword 14 = .ok (.invokevirtual 28, 3) := dk_182 0 28 (dk_at dksX10_keyword_0 14 rfl rfl)
theorem dX10_keyword_17 : decode cX10_keyword 17 = .ok (.return_, 1) := dk_177 (dk_at dksX10_keyword_0 17 rfl rfl)
abbrev cX10_require : ByteArray := prog_7_method_4_code
def yX10_require : MethodName := ⟨RX10, "require", "(ZI)V"⟩
def dkwX10_require_0 : List UInt8 := [27, 154, 0, 16, 187, 0, 89, 89, 28, 42, 180, 0, 42, 183, 0, 91, 191, 177]
abbrev dktX10_require_0 : List UInt8 := dkwX10_require_0 ++ []
theorem dksX10_require_0 : cX10_require.data.toList.drop 0 = dktX10_require_0 := by decide +kernel
theorem dX10_require_0 : decode cX10_require 0 = .ok (.iload_n 1, 1) := dk_27 (dk_at dksX10_require_0 0 rfl rfl)
theorem dX10_require_1 : decode cX10_require 1 = .ok (.ifCond .ne 16, 3) := dk_154 0 16 (dk_at dksX10_require_0 1 rfl rfl)
theorem dX10_require_4 : decode cX10_require 4 = .ok (.new 89, 3) := dk_187 0 89 (dk_at dksX10_require_0 4 rfl rfl)
theorem dX10_require_7 : decode cX10_require 7 = .ok (.dup, 1) := dk_89 (dk_at dksX10_require_0 7 rfl rfl)
theorem dX10_require_8 : decode cX10_require 8 = .ok (.iload_n 2, 1) := dk_28 (dk_at dksX10_require_0 8 rfl rfl)
theorem dX10_require_9 : decode cX10_require 9 = .ok (.aload_n 0, 1) := dk_42 (dk_at dksX10_require_0 9 rfl rfl)
theorem dX10_require_10 : decode cX10_require 10 = .ok (.getfield 42, 3) := dk_180 0 42 (dk_at dksX10_require_0 10 rfl rfl)
theorem dX10_require_13 : decode cX10_require 13 = .ok (.invokespecial 91, 3) := dk_183 0 91 (dk_at dksX10_require_0 13 rfl rfl)
theorem dX10_require_16 : decode cX10_require 16 = .ok (.athrow, 1) := dk_191 (dk_at dksX10_require_0 16 rfl rfl)
theorem dX10_require_17 : decode cX10_require 17 = .ok (.return_, 1) := dk_177 (dk_at dksX10_require_0 17 rfl rfl)
abbrev cX10_number : ByteArray := prog_7_method_5_code
def yX10_number : MethodName := ⟨RX10, "number", "(II)I"⟩
def dkwX10_number_2 : List UInt8 := [182, 0, 94, 42, 180, 0, 83, 62, 42, 182, 0, 28, 29, 172]
abbrev dktX10_number_2 : List UInt8 := dkwX10_number_2 ++ []
def dkwX10_number_1 : List UInt8 := [4, 167, 0, 4, 3, 4, 182, 0, 94, 42, 42, 180, 0, 83, 133, 27, 133, 28, 133, 184, 0, 58, 5]
abbrev dktX10_number_1 : List UInt8 := dkwX10_number_1 ++ dktX10_number_2
def dkwX10_number_0 : List UInt8 := [42, 42, 180, 0, 51, 178, 0, 80, 166, 0, 20, 42, 180, 0, 35, 42, 180, 0, 42, 100, 6, 163, 0, 7]
abbrev dktX10_number_0 : List UInt8 := dkwX10_number_0 ++ dktX10_number_1
theorem dksX10_number_0 : cX10_number.data.toList.drop 0 = dktX10_number_0 := by decide +kernel
theorem dksX10_number_1 : cX10_number.data.toList.drop 24 = dktX10_number_1 := dk_seg dksX10_number_0 24 rfl rfl
theorem dksX10_number_2 : cX10_number.data.toList.drop 47 = dktX10_number_2 := dk_seg dksX10_number_1 23 rfl rfl
theorem dX10_number_0 : decode cX10_number 0 = .ok (.aload_n 0, 1) := dk_42 (dk_at dksX10_number_0 0 rfl rfl)
theorem dX10_number_1 : decode cX10_number 1 = .ok (.aload_n 0, 1) := dk_42 (dk_at dksX10_number_0 1 rfl rfl)
theorem dX10_number_2 : decode cX10_number 2 = .ok (.getfield 51, 3) := dk_180 0 51 (dk_at dksX10_number_0 2 rfl rfl)
theorem dX10_number_5 : decode cX10_number 5 = .ok (.getstatic 80, 3) := dk_178 0 80 (dk_at dksX10_number_0 5 rfl rfl)
theorem dX10_number_8 : decode cX10_number 8 = .ok (.if_acmp .ne 20, 3) := dk_166 0 20 (dk_at dksX10_number_0 8 rfl rfl)
theorem dX10_number_11 : decode cX10_number 11 = .ok (.aload_n 0, 1) := dk_42 (dk_at dksX10_number_0 11 rfl rfl)
theorem dX10_number_12 : decode cX10_number 12 = .ok (.getfield 35, 3) := dk_180 0 35 (dk_at dksX10_number_0 12 rfl rfl)
theorem dX10_number_15 : decode cX10_number 15 = .ok (.aload_n 0, 1) := dk_42 (dk_at dksX10_number_0 15 rfl rfl)
theorem dX10_number_16 : decode cX10_number 16 = .ok (.getfield 42, 3) := dk_180 0 42 (dk_at dksX10_number_0 16 rfl rfl)
theorem dX10_number_19 : decode cX10_number 19 = .ok (.isub, 1) := dk_100 (dk_at dksX10_number_0 19 rfl rfl)
theorem dX10_number_20 : decode cX10_number 20 = .ok (.iconst 3, 1) := dk_6 (dk_at dksX10_number_0 20 rfl rfl)
theorem dX10_number_21 : decode cX10_number 21 = .ok (.if_icmp .gt 7, 3) := dk_163 0 7 (dk_at dksX10_number_0 21 rfl rfl)
theorem dX10_number_24 : decode cX10_number 24 = .ok (.iconst 1, 1) := dk_4 (dk_at dksX10_number_1 0 rfl rfl)
theorem dX10_number_25 : decode cX10_number 25 = .ok (.goto 4, 3) := dk_167 0 4 (dk_at dksX10_number_1 1 rfl rfl)
theorem dX10_number_28 : decode cX10_number 28 = .ok (.iconst 0, 1) := dk_3 (dk_at dksX10_number_1 4 rfl rfl)
theorem dX10_number_29 : decode cX10_number 29 = .ok (.iconst 1, 1) := dk_4 (dk_at dksX10_number_1 5 rfl rfl)
theorem dX10_number_30 : decode cX10_number 30 = .ok (.invokevirtual 94, 3) := dk_182 0 94 (dk_at dksX10_number_1 6 rfl rfl)
theorem dX10_number_33 : decode cX10_number 33 = .ok (.aload_n 0, 1) := dk_42 (dk_at dksX10_number_1 9 rfl rfl)
theorem dX10_number_34 : decode cX10_number 34 = .ok (.aload_n 0, 1) := dk_42 (dk_at dksX10_number_1 10 rfl rfl)
theorem dX10_number_35 : decode cX10_number 35 = .ok (.getfield 83, 3) := dk_180 0 83 (dk_at dksX10_number_1 11 rfl rfl)
theorem dX10_number_38 : decode cX10_number 38 = .ok (.i2l, 1) := dk_133 (dk_at dksX10_number_1 14 rfl rfl)
theorem dX10_number_39 : decode cX10_number 39 = .ok (.iload_n 1, 1) := dk_27 (dk_at dksX10_number_1 15 rfl rfl)
theorem dX10_number_40 : decode cX10_number 40 = .ok (.i2l, 1) := dk_133 (dk_at dksX10_number_1 16 rfl rfl)
theorem dX10_number_41 : decode cX10_number 41 = .ok (.iload_n 2, 1) := dk_28 (dk_at dksX10_number_1 17 rfl rfl)
theorem dX10_number_42 : decode cX10_number 42 = .ok (.i2l, 1) := dk_133 (dk_at dksX10_number_1 18 rfl rfl)
theorem dX10_number_43 : decode cX10_number 43 = .ok (.invokestatic 58, 3) := dk_184 0 58 (dk_at dksX10_number_1 19 rfl rfl)
theorem dX10_number_46 : decode cX10_number 46 = .ok (.iconst 2, 1) := dk_5 (dk_at dksX10_number_1 22 rfl rfl)
theorem dX10_number_47 : decode cX10_number 47 = .ok (.invokevirtual 94, 3) := dk_182 0 94 (dk_at dksX10_number_2 0 rfl rfl)
theorem dX10_number_50 : decode cX10_number 50 = .ok (.aload_n 0, 1) := dk_42 (dk_at dksX10_number_2 3 rfl rfl)
theorem dX10_number_51 : decode cX10_number 51 = .ok (.getfield 83, 3) := dk_180 0 83 (dk_at dksX10_number_2 4 rfl rfl)
theorem dX10_number_54 : decode cX10_number 54 = .ok (.istore_n 3, 1) := dk_62 (dk_at dksX10_number_2 7 rfl rfl)
theorem dX10_number_55 : decode cX10_number 55 = .ok (.aload_n 0, 1) := dk_42 (dk_at dksX10_number_2 8 rfl rfl)
theorem dX10_number_56 : decode cX10_number 56 = .ok (.invokevirtual 28, 3) := dk_182 0 28 (dk_at dksX10_number_2 9 rfl rfl)
theorem dX10_number_59 : decode cX10_number 59 = .ok (.iload_n 3, 1) := dk_29 (dk_at dksX10_number_2 12 rfl rfl)
theorem dX10_number_60 : decode cX10_number 60 = .ok (.ireturn, 1) := dk_172 (dk_at dksX10_number_2 13 rfl rfl)
abbrev cX10_semicolon : ByteArray := prog_7_method_10_code
def yX10_semicolon : MethodName := ⟨RX10, "semicolon", "()V"⟩
def dkwX10_semicolon_1 : List UInt8 := [4, 167, 0, 4, 3, 4, 182, 0, 94, 42, 182, 0, 28, 177]
abbrev dktX10_semicolon_1 : List UInt8 := dkwX10_semicolon_1 ++ []
def dkwX10_semicolon_0 : List UInt8 := [42, 42, 180, 0, 51, 178, 0, 86, 166, 0, 20, 42, 42, 180, 0, 42, 182, 0, 38, 16, 59, 160, 0, 7]
abbrev dktX10_semicolon_0 : List UInt8 := dkwX10_semicolon_0 ++ dktX10_semicolon_1
theorem dksX10_semicolon_0 : cX10_semicolon.data.toList.drop 0 = dktX10_semicolon_0 := by decide +kernel
theorem dksX10_semicolon_1 : cX10_semicolon.data.toList.drop 24 = dktX10_semicolon_1 := dk_seg dksX10_semicolon_0 24 rfl rfl
theorem dX10_semicolon_0 : decode cX10_semicolon 0 = .ok (.aload_n 0, 1) := dk_42 (dk_at dksX10_semicolon_0 0 rfl rfl)
theorem dX10_semicolon_1 : decode cX10_semicolon 1 = .ok (.aload_n 0, 1) := dk_42 (dk_at dksX10_semicolon_0 1 rfl rfl)
theorem dX10_semicolon_2 : decode cX10_semicolon 2 = .ok (.getfield 51, 3) := dk_180 0 51 (dk_at dksX10_semicolon_0 2 rfl rfl)
theorem dX10_semicolon_5 : decode cX10_semicolon 5 = .ok (.getstatic 86, 3) := dk_178 0 86 (dk_at dksX10_semicolon_0 5 rfl rfl)
theorem dX10_semicolon_8 : decode cX10_semicolon 8 = .ok (.if_acmp .ne 20, 3) := dk_166 0 20 (dk_at dksX10_semicolon_0 8 rfl rfl)
theorem dX10_semicolon_11 : decode cX10_semicolon 11 = .ok (.aload_n 0, 1) := dk_42 (dk_at dksX10_semicolon_0 11 rfl rfl)
theorem dX10_semicolon_12 : decode cX10_semicolon 12 = .ok (.aload_n 0, 1) := dk_42 (dk_at dksX10_semicolon_0 12 rfl rfl)
theorem dX10_semicolon_13 : decode cX10_semicolon 13 = .ok (.getfield 42, 3) := dk_180 0 42 (dk_at dksX10_semicolon_0 13 rfl rfl)
theorem dX10_semicolon_16 : decode cX10_semicolon 16 = .ok (.invokevirtual 38, 3) := dk_182 0 38 (dk_at dksX10_semicolon_0 16 rfl rfl)
theorem dX10_semicolon_19 : decode cX10_semicolon 19 = .ok (.bipush 59, 2) := dk_16 59 (dk_at dksX10_semicolon_0 19 rfl rfl)
theorem dX10_semicolon_21 : decode cX10_semicolon 21 = .ok (.if_icmp .ne 7, 3) := dk_160 0 7 (dk_at dksX10_semicolon_0 21 rfl rfl)
theorem dX10_semicolon_24 : decode cX10_semicolon 24 = .ok (.iconst 1, 1) := dk_4 (dk_at dksX10_semicolon_1 0 rfl rfl)
theorem dX10_semicolon_25 : decode cX10_semicolon 25 = .ok (.goto 4, 3) := dk_167 0 4 (dk_at dksX10_semicolon_1 1 rfl rfl)
theorem dX10_semicolon_28 : decode cX10_semicolon 28 = .ok (.iconst 0, 1) := dk_3 (dk_at dksX10_semicolon_1 4 rfl rfl)
theorem dX10_semicolon_29 : decode cX10_semicolon 29 = .ok (.iconst 1, 1) := dk_4 (dk_at dksX10_semicolon_1 5 rfl rfl)
theorem dX10_semicolon_30 : decode cX10_semicolon 30 = .ok (.invokevirtual 94, 3) := dk_182 0 94 (dk_at dksX10_semicolon_1 6 rfl rfl)
theorem dX10_semicolon_33 : decode cX10_semicolon 33 = .ok (.aload_n 0, 1) := dk_42 (dk_at dksX10_semicolon_1 9 rfl rfl)
theorem dX10_semicolon_34 : decode cX10_semicolon 34 = .ok (.invokevirtual 28, 3) := dk_182 0 28 (dk_at dksX10_semicolon_1 10 rfl rfl)
theorem dX10_semicolon_37 : decode cX10_semicolon 37 = .ok (.return_, 1) := dk_177 (dk_at dksX10_semicolon_1 13 rfl rfl)
abbrev cX10_plough : ByteArray := prog_7_method_12_code
def yX10_plough : MethodName := ⟨RX10, "plough", "(Ljava/lang/String;LSnowPass$Plough;)V"⟩
def dkwX10_plough_1 : List UInt8 := [184, 0, 164, 42, 182, 0, 135, 177]
abbrev dktX10_plough_1 : List UInt8 := dkwX10_plough_1 ++ []
def dkwX10_plough_0 : List UInt8 := [42, 43, 182, 0, 116, 42, 4, 17, 0, 200, 182, 0, 120, 62, 44, 29, 42, 3, 16, 99, 182, 0, 120]
abbrev dktX10_plough_0 : List UInt8 := dkwX10_plough_0 ++ dktX10_plough_1
theorem dksX10_plough_0 : cX10_plough.data.toList.drop 0 = dktX10_plough_0 := by decide +kernel
theorem dksX10_plough_1 : cX10_plough.data.toList.drop 23 = dktX10_plough_1 := dk_seg dksX10_plough_0 23 rfl rfl
theorem dX10_plough_0 : decode cX10_plough 0 = .ok (.aload_n 0, 1) := dk_42 (dk_at dksX10_plough_0 0 rfl rfl)
theorem dX10_plough_1 : decode cX10_plough 1 = .ok (.aload_n 1, 1) := dk_43 (dk_at dksX10_plough_0 1 rfl rfl)
theorem dX10_plough_2 : decode cX10_plough 2 = .ok (.invokevirtual 116, 3) := dk_182 0 116 (dk_at dksX10_plough_0 2 rfl rfl)
theorem dX10_plough_5 : decode cX10_plough 5 = .ok (.aload_n 0, 1) := dk_42 (dk_at dksX10_plough_0 5 rfl rfl)
theorem dX10_plough_6 : decode cX10_plough 6 = .ok (.iconst 1, 1) := dk_4 (dk_at dksX10_plough_0 6 rfl rfl)
theorem dX10_plough_7 : decode cX10_plough 7 = .ok (.sipush 200, 3) := dk_17 0 200 (dk_at dksX10_plough_0 7 rfl rfl)
theorem dX10_plough_10 : decode cX10_plough 10 = .ok (.invokevirtual 120, 3) := dk_182 0 120 (dk_at dksX10_plough_0 10 rfl rfl)
theorem dX10_plough_13 : decode cX10_plough 13 = .ok (.istore_n 3, 1) := dk_62 (dk_at dksX10_plough_0 13 rfl rfl)
theorem dX10_plough_14 : decode cX10_plough 14 = .ok (.aload_n 2, 1) := dk_44 (dk_at dksX10_plough_0 14 rfl rfl)
theorem dX10_plough_15 : decode cX10_plough 15 = .ok (.iload_n 3, 1) := dk_29 (dk_at dksX10_plough_0 15 rfl rfl)
theorem dX10_plough_16 : decode cX10_plough 16 = .ok (.aload_n 0, 1) := dk_42 (dk_at dksX10_plough_0 16 rfl rfl)
theorem dX10_plough_17 : decode cX10_plough 17 = .ok (.iconst 0, 1) := dk_3 (dk_at dksX10_plough_0 17 rfl rfl)
theorem dX10_plough_18 : decode cX10_plough 18 = .ok (.bipush 99, 2) := dk_16 99 (dk_at dksX10_plough_0 18 rfl rfl)
theorem dX10_plough_20 : decode cX10_plough 20 = .ok (.invokevirtual 120, 3) := dk_182 0 120 (dk_at dksX10_plough_0 20 rfl rfl)
theorem dX10_plough_23 : decode cX10_plough 23 = .ok (.invokestatic 164, 3) := dk_184 0 164 (dk_at dksX10_plough_1 0 rfl rfl)
theorem dX10_plough_26 : decode cX10_plough 26 = .ok (.aload_n 0, 1) := dk_42 (dk_at dksX10_plough_1 3 rfl rfl)
theorem dX10_plough_27 : decode cX10_plough 27 = .ok (.invokevirtual 135, 3) := dk_182 0 135 (dk_at dksX10_plough_1 4 rfl rfl)
theorem dX10_plough_30 : decode cX10_plough 30 = .ok (.return_, 1) := dk_177 (dk_at dksX10_plough_1 7 rfl rfl)
abbrev cX10_statement : ByteArray := prog_7_method_13_code
def yX10_statement : MethodName := ⟨RX10, "statement", "(LSnowPass$State;)V"⟩
def dkwX10_statement_6 : List UInt8 := [4, 182, 0, 94, 42, 182, 0, 135, 177]
abbrev dktX10_statement_6 : List UInt8 := dkwX10_statement_6 ++ []
def dkwX10_statement_5 : List UInt8 := [42, 43, 180, 0, 175, 182, 0, 178, 167, 0, 20, 42, 43, 180, 0, 181, 182, 0, 185, 167, 0, 9, 42, 3]
abbrev dktX10_statement_5 : List UInt8 := dkwX10_statement_5 ++ dktX10_statement_6
def dkwX10_statement_4 : List UInt8 := [171, 0, 0, 0, 0, 48, 0, 0, 0, 2, 0, 0, 0, 0, 0, 0, 0, 26, 0, 0, 0, 1, 0, 0, 0, 37]
abbrev dktX10_statement_4 : List UInt8 := dkwX10_statement_4 ++ dktX10_statement_5
def dkwX10_statement_3 : List UInt8 := [62, 29]
abbrev dktX10_statement_3 : List UInt8 := dkwX10_statement_3 ++ dktX10_statement_4
def dkwX10_statement_2 : List UInt8 := [44, 18, 171, 182, 0, 98, 153, 0, 19, 3, 62, 167, 0, 14, 44, 18, 173, 182, 0, 98, 153, 0, 5, 4]
abbrev dktX10_statement_2 : List UInt8 := dkwX10_statement_2 ++ dktX10_statement_3
def dkwX10_statement_1 : List UInt8 := [171, 0, 0, 0, 50, 0, 0, 0, 2, 0, 46, 123, 32, 0, 0, 0, 39, 117, 164, 159, 51, 0, 0, 0, 25]
abbrev dktX10_statement_1 : List UInt8 := dkwX10_statement_1 ++ dktX10_statement_2
def dkwX10_statement_0 : List UInt8 := [42, 180, 0, 24, 77, 2, 62, 44, 182, 0, 168]
abbrev dktX10_statement_0 : List UInt8 := dkwX10_statement_0 ++ dktX10_statement_1
theorem dksX10_statement_0 : cX10_statement.data.toList.drop 0 = dktX10_statement_0 := by decide +kernel
theorem dksX10_statement_1 : cX10_statement.data.toList.drop 11 = dktX10_statement_1 := dk_seg dksX10_statement_0 11 rfl rfl
theorem dksX10_statement_2 : cX10_statement.data.toList.drop 36 = dktX10_statement_2 := dk_seg dksX10_statement_1 25 rfl rfl
theorem dksX10_statement_3 : cX10_statement.data.toList.drop 60 = dktX10_statement_3 := dk_seg dksX10_statement_2 24 rfl rfl
theorem dksX10_statement_4 : cX10_statement.data.toList.drop 62 = dktX10_statement_4 := dk_seg dksX10_statement_3 2 rfl rfl
theorem dksX10_statement_5 : cX10_statement.data.toList.drop 88 = dktX10_statement_5 := dk_seg dksX10_statement_4 26 rfl rfl
theorem dksX10_statement_6 : cX10_statement.data.toList.drop 112 = dktX10_statement_6 := dk_seg dksX10_statement_5 24 rfl rfl
theorem dX10_statement_0 : decode cX10_statement 0 = .ok (.aload_n 0, 1) := dk_42 (dk_at dksX10_statement_0 0 rfl rfl)
theorem dX10_statement_1 : decode cX10_statement 1 = .ok (.getfield 24, 3) := dk_180 0 24 (dk_at dksX10_statement_0 1 rfl rfl)
theorem dX10_statement_4 : decode cX10_statement 4 = .ok (.astore_n 2, 1) := dk_77 (dk_at dksX10_statement_0 4 rfl rfl)
theorem dX10_statement_5 : decode cX10_statement 5 = .ok (.iconst (-1), 1) := dk_2 (dk_at dksX10_statement_0 5 rfl rfl)
theorem dX10_statement_6 : decode cX10_statement 6 = .ok (.istore_n 3, 1) := dk_62 (dk_at dksX10_statement_0 6 rfl rfl)
theorem dX10_statement_7 : decode cX10_statement 7 = .ok (.aload_n 2, 1) := dk_44 (dk_at dksX10_statement_0 7 rfl rfl)
theorem dX10_statement_8 : decode cX10_statement 8 = .ok (.invokevirtual 168, 3) := dk_182 0 168 (dk_at dksX10_statement_0 8 rfl rfl)
theorem dX10_statement_11 : decode cX10_statement 11 = .ok (.lookupswitch 50 #[(3046176, 39), (1973722931, 25)], 25) := by decide +kernel
theorem dX10_statement_36 : decode cX10_statement 36 = .ok (.aload_n 2, 1) := dk_44 (dk_at dksX10_statement_2 0 rfl rfl)
theorem dX10_statement_37 : decode cX10_statement 37 = .ok (.ldc 171, 2) := dk_18 171 (dk_at dksX10_statement_2 1 rfl rfl)
theorem dX10_statement_39 : decode cX10_statement 39 = .ok (.invokevirtual 98, 3) := dk_182 0 98 (dk_at dksX10_statement_2 3 rfl rfl)
theorem dX10_statement_42 : decode cX10_statement 42 = .ok (.ifCond .eq 19, 3) := dk_153 0 19 (dk_at dksX10_statement_2 6 rfl rfl)
theorem dX10_statement_45 : decode cX10_statement 45 = .ok (.iconst 0, 1) := dk_3 (dk_at dksX10_statement_2 9 rfl rfl)
theorem dX10_statement_46 : decode cX10_statement 46 = .ok (.istore_n 3, 1) := dk_62 (dk_at dksX10_statement_2 10 rfl rfl)
theorem dX10_statement_47 : decode cX10_statement 47 = .ok (.goto 14, 3) := dk_167 0 14 (dk_at dksX10_statement_2 11 rfl rfl)
theorem dX10_statement_50 : decode cX10_statement 50 = .ok (.aload_n 2, 1) := dk_44 (dk_at dksX10_statement_2 14 rfl rfl)
theorem dX10_statement_51 : decode cX10_statement 51 = .ok (.ldc 173, 2) := dk_18 173 (dk_at dksX10_statement_2 15 rfl rfl)
theorem dX10_statement_53 : decode cX10_statement 53 = .ok (.invokevirtual 98, 3) := dk_182 0 98 (dk_at dksX10_statement_2 17 rfl rfl)
theorem dX10_statement_56 : decode cX10_statement 56 = .ok (.ifCond .eq 5, 3) := dk_153 0 5 (dk_at dksX10_statement_2 20 rfl rfl)
theorem dX10_statement_59 : decode cX10_statement 59 = .ok (.iconst 1, 1) := dk_4 (dk_at dksX10_statement_2 23 rfl rfl)
theorem dX10_statement_60 : decode cX10_statement 60 = .ok (.istore_n 3, 1) := dk_62 (dk_at dksX10_statement_3 0 rfl rfl)
theorem dX10_statement_61 : decode cX10_statement 61 = .ok (.iload_n 3, 1) := dk_29 (dk_at dksX10_statement_3 1 rfl rfl)
theorem dX10_statement_62 : decode cX10_statement 62 = .ok (.lookupswitch 48 #[(0, 26), (1, 37)], 26) := by decide +kernel
theorem dX10_statement_88 : decode cX10_statement 88 = .ok (.aload_n 0, 1) := dk_42 (dk_at dksX10_statement_5 0 rfl rfl)
theorem dX10_statement_89 : decode cX10_statement 89 = .ok (.aload_n 1, 1) := dk_43 (dk_at dksX10_statement_5 1 rfl rfl)
theorem dX10_statement_90 : decode cX10_statement 90 = .ok (.getfield 175, 3) := dk_180 0 175 (dk_at dksX10_statement_5 2 rfl rfl)
theorem dX10_statement_93 : decode cX10_statement 93 = .ok (.invokevirtual 178, 3) := dk_182 0 178 (dk_at dksX10_statement_5 5 rfl rfl)
theorem dX10_statement_96 : decode cX10_statement 96 = .ok (.goto 20, 3) := dk_167 0 20 (dk_at dksX10_statement_5 8 rfl rfl)
theorem dX10_statement_99 : decode cX10_statement 99 = .ok (.aload_n 0, 1) := dk_42 (dk_at dksX10_statement_5 11 rfl rfl)
theorem dX10_statement_100 : decode cX10_statement 100 = .ok (.aload_n 1, 1) := dk_43 (dk_at dksX10_statement_5 12 rfl rfl)
theorem dX10_statement_101 : decode cX10_statement 101 = .ok (.getfield 181, 3) := dk_180 0 181 (dk_at dksX10_statement_5 13 rfl rfl)
theorem dX10_statement_104 : decode cX10_statement 104 = .ok (.invokevirtual 185, 3) := dk_182 0 185 (dk_at dksX10_statement_5 16 rfl rfl)
theorem dX10_statement_107 : decode cX10_statement 107 = .ok (.goto 9, 3) := dk_167 0 9 (dk_at dksX10_statement_5 19 rfl rfl)
theorem dX10_statement_110 : decode cX10_statement 110 = .ok (.aload_n 0, 1) := dk_42 (dk_at dksX10_statement_5 22 rfl rfl)
theorem dX10_statement_111 : decode cX10_statement 111 = .ok (.iconst 0, 1) := dk_3 (dk_at dksX10_statement_5 23 rfl rfl)
theorem dX10_statement_112 : decode cX10_statement 112 = .ok (.iconst 1, 1) := dk_4 (dk_at dksX10_statement_6 0 rfl rfl)
theorem dX10_statement_113 : decode cX10_statement 113 = .ok (.invokevirtual 94, 3) := dk_182 0 94 (dk_at dksX10_statement_6 1 rfl rfl)
theorem dX10_statement_116 : decode cX10_statement 116 = .ok (.aload_n 0, 1) := dk_42 (dk_at dksX10_statement_6 4 rfl rfl)
theorem dX10_statement_117 : decode cX10_statement 117 = .ok (.invokevirtual 135, 3) := dk_182 0 135 (dk_at dksX10_statement_6 5 rfl rfl)
theorem dX10_statement_120 : decode cX10_statement 120 = .ok (.return_, 1) := dk_177 (dk_at dksX10_statement_6 8 rfl rfl)
abbrev cX10_segment : ByteArray := prog_7_method_14_code
def yX10_segment : MethodName := ⟨RX10, "segment", "(LSnowPass$Road;)V"⟩
def dkwX10_segment_1 : List UInt8 := [16, 9, 182, 0, 120, 79, 43, 180, 0, 195, 28, 42, 3, 17, 3, 231, 182, 0, 120, 79, 177]
abbrev dktX10_segment_1 : List UInt8 := dkwX10_segment_1 ++ []
def dkwX10_segment_0 : List UInt8 := [42, 182, 0, 28, 42, 3, 43, 182, 0, 188, 4, 100, 182, 0, 120, 61, 43, 180, 0, 191, 28, 42, 3]
abbrev dktX10_segment_0 : List UInt8 := dkwX10_segment_0 ++ dktX10_segment_1
theorem dksX10_segment_0 : cX10_segment.data.toList.drop 0 = dktX10_segment_0 := by decide +kernel
theorem dksX10_segment_1 : cX10_segment.data.toList.drop 23 = dktX10_segment_1 := dk_seg dksX10_segment_0 23 rfl rfl
theorem dX10_segment_0 : decode cX10_segment 0 = .ok (.aload_n 0, 1) := dk_42 (dk_at dksX10_segment_0 0 rfl rfl)
theorem dX10_segment_1 : decode cX10_segment 1 = .ok (.invokevirtual 28, 3) := dk_182 0 28 (dk_at dksX10_segment_0 1 rfl rfl)
theorem dX10_segment_4 : decode cX10_segment 4 = .ok (.aload_n 0, 1) := dk_42 (dk_at dksX10_segment_0 4 rfl rfl)
theorem dX10_segment_5 : decode cX10_segment 5 = .ok (.iconst 0, 1) := dk_3 (dk_at dksX10_segment_0 5 rfl rfl)
theorem dX10_segment_6 : decode cX10_segment 6 = .ok (.aload_n 1, 1) := dk_43 (dk_at dksX10_segment_0 6 rfl rfl)
theorem dX10_segment_7 : decode cX10_segment 7 = .ok (.invokevirtual 188, 3) := dk_182 0 188 (dk_at dksX10_segment_0 7 rfl rfl)
theorem dX10_segment_10 : decode cX10_segment 10 = .ok (.iconst 1, 1) := dk_4 (dk_at dksX10_segment_0 10 rfl rfl)
theorem dX10_segment_11 : decode cX10_segment 11 = .ok (.isub, 1) := dk_100 (dk_at dksX10_segment_0 11 rfl rfl)
theorem dX10_segment_12 : decode cX10_segment 12 = .ok (.invokevirtual 120, 3) := dk_182 0 120 (dk_at dksX10_segment_0 12 rfl rfl)
theorem dX10_segment_15 : decode cX10_segment 15 = .ok (.istore_n 2, 1) := dk_61 (dk_at dksX10_segment_0 15 rfl rfl)
theorem dX10_segment_16 : decode cX10_segment 16 = .ok (.aload_n 1, 1) := dk_43 (dk_at dksX10_segment_0 16 rfl rfl)
theorem dX10_segment_17 : decode cX10_segment 17 = .ok (.getfield 191, 3) := dk_180 0 191 (dk_at dksX10_segment_0 17 rfl rfl)
theorem dX10_segment_20 : decode cX10_segment 20 = .ok (.iload_n 2, 1) := dk_28 (dk_at dksX10_segment_0 20 rfl rfl)
theorem dX10_segment_21 : decode cX10_segment 21 = .ok (.aload_n 0, 1) := dk_42 (dk_at dksX10_segment_0 21 rfl rfl)
theorem dX10_segment_22 : decode cX10_segment 22 = .ok (.iconst 0, 1) := dk_3 (dk_at dksX10_segment_0 22 rfl rfl)
theorem dX10_segment_23 : decode cX10_segment 23 = .ok (.bipush 9, 2) := dk_16 9 (dk_at dksX10_segment_1 0 rfl rfl)
theorem dX10_segment_25 : decode cX10_segment 25 = .ok (.invokevirtual 120, 3) := dk_182 0 120 (dk_at dksX10_segment_1 2 rfl rfl)
theorem dX10_segment_28 : decode cX10_segment 28 = .ok (.iastore, 1) := dk_79 (dk_at dksX10_segment_1 5 rfl rfl)
theorem dX10_segment_29 : decode cX10_segment 29 = .ok (.aload_n 1, 1) := dk_43 (dk_at dksX10_segment_1 6 rfl rfl)
theorem dX10_segment_30 : decode cX10_segment 30 = .ok (.getfield 195, 3) := dk_180 0 195 (dk_at dksX10_segment_1 7 rfl rfl)
theorem dX10_segment_33 : decode cX10_segment 33 = .ok (.iload_n 2, 1) := dk_28 (dk_at dksX10_segment_1 10 rfl rfl)
theorem dX10_segment_34 : decode cX10_segment 34 = .ok (.aload_n 0, 1) := dk_42 (dk_at dksX10_segment_1 11 rfl rfl)
theorem dX10_segment_35 : decode cX10_segment 35 = .ok (.iconst 0, 1) := dk_3 (dk_at dksX10_segment_1 12 rfl rfl)
theorem dX10_segment_36 : decode cX10_segment 36 = .ok (.sipush 999, 3) := dk_17 3 231 (dk_at dksX10_segment_1 13 rfl rfl)
theorem dX10_segment_39 : decode cX10_segment 39 = .ok (.invokevirtual 120, 3) := dk_182 0 120 (dk_at dksX10_segment_1 16 rfl rfl)
theorem dX10_segment_42 : decode cX10_segment 42 = .ok (.iastore, 1) := dk_79 (dk_at dksX10_segment_1 19 rfl rfl)
theorem dX10_segment_43 : decode cX10_segment 43 = .ok (.return_, 1) := dk_177 (dk_at dksX10_segment_1 20 rfl rfl)
abbrev cX10_cart : ByteArray := prog_7_method_15_code
def yX10_cart : MethodName := ⟨RX10, "cart", "(LSnowPass$Yard;)V"⟩
def dkwX10_cart_1 : List UInt8 := [182, 0, 94, 42, 182, 0, 28, 43, 28, 42, 182, 0, 202, 182, 0, 205, 62, 177]
abbrev dktX10_cart_1 : List UInt8 := dkwX10_cart_1 ++ []
def dkwX10_cart_0 : List UInt8 := [42, 182, 0, 28, 42, 182, 0, 108, 61, 42, 43, 28, 182, 0, 198, 154, 0, 7, 4, 167, 0, 4, 3, 6]
abbrev dktX10_cart_0 : List UInt8 := dkwX10_cart_0 ++ dktX10_cart_1
theorem dksX10_cart_0 : cX10_cart.data.toList.drop 0 = dktX10_cart_0 := by decide +kernel
theorem dksX10_cart_1 : cX10_cart.data.toList.drop 24 = dktX10_cart_1 := dk_seg dksX10_cart_0 24 rfl rfl
theorem dX10_cart_0 : decode cX10_cart 0 = .ok (.aload_n 0, 1) := dk_42 (dk_at dksX10_cart_0 0 rfl rfl)
theorem dX10_cart_1 : decode cX10_cart 1 = .ok (.invokevirtual 28, 3) := dk_182 0 28 (dk_at dksX10_cart_0 1 rfl rfl)
theorem dX10_cart_4 : decode cX10_cart 4 = .ok (.aload_n 0, 1) := dk_42 (dk_at dksX10_cart_0 4 rfl rfl)
theorem dX10_cart_5 : decode cX10_cart 5 = .ok (.invokevirtual 108, 3) := dk_182 0 108 (dk_at dksX10_cart_0 5 rfl rfl)
theorem dX10_cart_8 : decode cX10_cart 8 = .ok (.istore_n 2, 1) := dk_61 (dk_at dksX10_cart_0 8 rfl rfl)
theorem dX10_cart_9 : decode cX10_cart 9 = .ok (.aload_n 0, 1) := dk_42 (dk_at dksX10_cart_0 9 rfl rfl)
theorem dX10_cart_10 : decode cX10_cart 10 = .ok (.aload_n 1, 1) := dk_43 (dk_at dksX10_cart_0 10 rfl rfl)
theorem dX10_cart_11 : decode cX10_cart 11 = .ok (.iload_n 2, 1) := dk_28 (dk_at dksX10_cart_0 11 rfl rfl)
theorem dX10_cart_12 : decode cX10_cart 12 = .ok (.invokevirtual 198, 3) := dk_182 0 198 (dk_at dksX10_cart_0 12 rfl rfl)
theorem dX10_cart_15 : decode cX10_cart 15 = .ok (.ifCond .ne 7, 3) := dk_154 0 7 (dk_at dksX10_cart_0 15 rfl rfl)
theorem dX10_cart_18 : decode cX10_cart 18 = .ok (.iconst 1, 1) := dk_4 (dk_at dksX10_cart_0 18 rfl rfl)
theorem dX10_cart_19 : decode cX10_cart 19 = .ok (.goto 4, 3) := dk_167 0 4 (dk_at dksX10_cart_0 19 rfl rfl)
theorem dX10_cart_22 : decode cX10_cart 22 = .ok (.iconst 0, 1) := dk_3 (dk_at dksX10_cart_0 22 rfl rfl)
theorem dX10_cart_23 : decode cX10_cart 23 = .ok (.iconst 3, 1) := dk_6 (dk_at dksX10_cart_0 23 rfl rfl)
theorem dX10_cart_24 : decode cX10_cart 24 = .ok (.invokevirtual 94, 3) := dk_182 0 94 (dk_at dksX10_cart_1 0 rfl rfl)
theorem dX10_cart_27 : decode cX10_cart 27 = .ok (.aload_n 0, 1) := dk_42 (dk_at dksX10_cart_1 3 rfl rfl)
theorem dX10_cart_28 : decode cX10_cart 28 = .ok (.invokevirtual 28, 3) := dk_182 0 28 (dk_at dksX10_cart_1 4 rfl rfl)
theorem dX10_cart_31 : decode cX10_cart 31 = .ok (.aload_n 1, 1) := dk_43 (dk_at dksX10_cart_1 7 rfl rfl)
theorem dX10_cart_32 : decode cX10_cart 32 = .ok (.iload_n 2, 1) := dk_28 (dk_at dksX10_cart_1 8 rfl rfl)
theorem dX10_cart_33 : decode cX10_cart 33 = .ok (.aload_n 0, 1) := dk_42 (dk_at dksX10_cart_1 9 rfl rfl)
theorem dX10_cart_34 : decode cX10_cart 34 = .ok (.invokevirtual 202, 3) := dk_182 0 202 (dk_at dksX10_cart_1 10 rfl rfl)
theorem dX10_cart_37 : decode cX10_cart 37 = .ok (.invokevirtual 205, 3) := dk_182 0 205 (dk_at dksX10_cart_1 13 rfl rfl)
theorem dX10_cart_40 : decode cX10_cart 40 = .ok (.istore_n 3, 1) := dk_62 (dk_at dksX10_cart_1 16 rfl rfl)
theorem dX10_cart_41 : decode cX10_cart 41 = .ok (.return_, 1) := dk_177 (dk_at dksX10_cart_1 17 rfl rfl)
abbrev cX10_peekSide : ByteArray := prog_7_method_7_code
def yX10_peekSide : MethodName := ⟨RX10, "peekSide", "()I"⟩
def dkwX10_peekSide_2 : List UInt8 := [3, 167, 0, 4, 4, 172]
abbrev dktX10_peekSide_2 : List UInt8 := dkwX10_peekSide_2 ++ []
def dkwX10_peekSide_1 : List UInt8 := [153, 0, 7, 4, 167, 0, 4, 3, 4, 182, 0, 94, 42, 180, 0, 24, 18, 104, 182, 0, 98, 153, 0, 7]
abbrev dktX10_peekSide_1 : List UInt8 := dkwX10_peekSide_1 ++ dktX10_peekSide_2
def dkwX10_peekSide_0 : List UInt8 := [42, 42, 180, 0, 24, 18, 104, 182, 0, 98, 154, 0, 15, 42, 180, 0, 24, 18, 106, 182, 0, 98]
abbrev dktX10_peekSide_0 : List UInt8 := dkwX10_peekSide_0 ++ dktX10_peekSide_1
theorem dksX10_peekSide_0 : cX10_peekSide.data.toList.drop 0 = dktX10_peekSide_0 := by decide +kernel
theorem dksX10_peekSide_1 : cX10_peekSide.data.toList.drop 22 = dktX10_peekSide_1 := dk_seg dksX10_peekSide_0 22 rfl rfl
theorem dksX10_peekSide_2 : cX10_peekSide.data.toList.drop 46 = dktX10_peekSide_2 := dk_seg dksX10_peekSide_1 24 rfl rfl
theorem dX10_peekSide_0 : decode cX10_peekSide 0 = .ok (.aload_n 0, 1) := dk_42 (dk_at dksX10_peekSide_0 0 rfl rfl)
theorem dX10_peekSide_1 : decode cX10_peekSide 1 = .ok (.aload_n 0, 1) := dk_42 (dk_at dksX10_peekSide_0 1 rfl rfl)
theorem dX10_peekSide_2 : decode cX10_peekSide 2 = .ok (.getfield 24, 3) := dk_180 0 24 (dk_at dksX10_peekSide_0 2 rfl rfl)
theorem dX10_peekSide_5 : decode cX10_peekSide 5 = .ok (.ldc 104, 2) := dk_18 104 (dk_at dksX10_peekSide_0 5 rfl rfl)
theorem dX10_peekSide_7 : decode cX10_peekSide 7 = .ok (.invokevirtual 98, 3) := dk_182 0 98 (dk_at dksX10_peekSide_0 7 rfl rfl)
theorem dX10_peekSide_10 : decode cX10_peekSide 10 = .ok (.ifCond .ne 15, 3) := dk_154 0 15 (dk_at dksX10_peekSide_0 10 rfl rfl)
theorem dX10_peekSide_13 : decode cX10_peekSide 13 = .ok (.aload_n 0, 1) := dk_42 (dk_at dksX10_peekSide_0 13 rfl rfl)
theorem dX10_peekSide_14 : decode cX10_peekSide 14 = .ok (.getfield 24, 3) := dk_180 0 24 (dk_at dksX10_peekSide_0 14 rfl rfl)
theorem dX10_peekSide_17 : decode cX10_peekSide 17 = .ok (.ldc 106, 2) := dk_18 106 (dk_at dksX10_peekSide_0 17 rfl rfl)
theorem dX10_peekSide_19 : decode cX10_peekSide 19 = .ok (.invokevirtual 98, 3) := dk_182 0 98 (dk_at dksX10_peekSide_0 19 rfl rfl)
theorem dX10_peekSide_22 : decode cX10_peekSide 22 = .ok (.ifCond .eq 7, 3) := dk_153 0 7 (dk_at dksX10_peekSide_1 0 rfl rfl)
theorem dX10_peekSide_25 : decode cX10_peekSide 25 = .ok (.iconst 1, 1) := dk_4 (dk_at dksX10_peekSide_1 3 rfl rfl)
theorem dX10_peekSide_26 : decode cX10_peekSide 26 = .ok (.goto 4, 3) := dk_167 0 4 (dk_at dksX10_peekSide_1 4 rfl rfl)
theorem dX10_peekSide_29 : decode cX10_peekSide 29 = .ok (.iconst 0, 1) := dk_3 (dk_at dksX10_peekSide_1 7 rfl rfl)
theorem dX10_peekSide_30 : decode cX10_peekSide 30 = .ok (.iconst 1, 1) := dk_4 (dk_at dksX10_peekSide_1 8 rfl rfl)
theorem dX10_peekSide_31 : decode cX10_peekSide 31 = .ok (.invokevirtual 94, 3) := dk_182 0 94 (dk_at dksX10_peekSide_1 9 rfl rfl)
theorem dX10_peekSide_34 : decode cX10_peekSide 34 = .ok (.aload_n 0, 1) := dk_42 (dk_at dksX10_peekSide_1 12 rfl rfl)
theorem dX10_peekSide_35 : decode cX10_peekSide 35 = .ok (.getfield 24, 3) := dk_180 0 24 (dk_at dksX10_peekSide_1 13 rfl rfl)
theorem dX10_peekSide_38 : decode cX10_peekSide 38 = .ok (.ldc 104, 2) := dk_18 104 (dk_at dksX10_peekSide_1 16 rfl rfl)
theorem dX10_peekSide_40 : decode cX10_peekSide 40 = .ok (.invokevirtual 98, 3) := dk_182 0 98 (dk_at dksX10_peekSide_1 18 rfl rfl)
theorem dX10_peekSide_43 : decode cX10_peekSide 43 = .ok (.ifCond .eq 7, 3) := dk_153 0 7 (dk_at dksX10_peekSide_1 21 rfl rfl)
theorem dX10_peekSide_46 : decode cX10_peekSide 46 = .ok (.iconst 0, 1) := dk_3 (dk_at dksX10_peekSide_2 0 rfl rfl)
theorem dX10_peekSide_47 : decode cX10_peekSide 47 = .ok (.goto 4, 3) := dk_167 0 4 (dk_at dksX10_peekSide_2 1 rfl rfl)
theorem dX10_peekSide_50 : decode cX10_peekSide 50 = .ok (.iconst 1, 1) := dk_4 (dk_at dksX10_peekSide_2 4 rfl rfl)
theorem dX10_peekSide_51 : decode cX10_peekSide 51 = .ok (.ireturn, 1) := dk_172 (dk_at dksX10_peekSide_2 5 rfl rfl)
abbrev cX10_chains : ByteArray := prog_7_method_9_code
def yX10_chains : MethodName := ⟨RX10, "chains", "()Z"⟩
def dkwX10_chains_0 : List UInt8 := [42, 180, 0, 24, 18, 112, 182, 0, 98, 60, 27, 153, 0, 7, 42, 182, 0, 28, 27, 172]
abbrev dktX10_chains_0 : List UInt8 := dkwX10_chains_0 ++ []
theorem dksX10_chains_0 : cX10_chains.data.toList.drop 0 = dktX10_chains_0 := by decide +kernel
theorem dX10_chains_0 : decode cX10_chains 0 = .ok (.aload_n 0, 1) := dk_42 (dk_at dksX10_chains_0 0 rfl rfl)
theorem dX10_chains_1 : decode cX10_chains 1 = .ok (.getfield 24, 3) := dk_180 0 24 (dk_at dksX10_chains_0 1 rfl rfl)
theorem dX10_chains_4 : decode cX10_chains 4 = .ok (.ldc 112, 2) := dk_18 112 (dk_at dksX10_chains_0 4 rfl rfl)
theorem dX10_chains_6 : decode cX10_chains 6 = .ok (.invokevirtual 98, 3) := dk_182 0 98 (dk_at dksX10_chains_0 6 rfl rfl)
theorem dX10_chains_9 : decode cX10_chains 9 = .ok (.istore_n 1, 1) := dk_60 (dk_at dksX10_chains_0 9 rfl rfl)
theorem dX10_chains_10 : decode cX10_chains 10 = .ok (.iload_n 1, 1) := dk_27 (dk_at dksX10_chains_0 10 rfl rfl)
theorem dX10_chains_11 : decode cX10_chains 11 = .ok (.ifCond .eq 7, 3) := dk_153 0 7 (dk_at dksX10_chains_0 11 rfl rfl)
theorem dX10_chains_14 : decode cX10_chains 14 = .ok (.aload_n 0, 1) := dk_42 (dk_at dksX10_chains_0 14 rfl rfl)
theorem dX10_chains_15 : decode cX10_chains 15 = .ok (.invokevirtual 28, 3) := dk_182 0 28 (dk_at dksX10_chains_0 15 rfl rfl)
theorem dX10_chains_18 : decode cX10_chains 18 = .ok (.iload_n 1, 1) := dk_27 (dk_at dksX10_chains_0 18 rfl rfl)
theorem dX10_chains_19 : decode cX10_chains 19 = .ok (.ireturn, 1) := dk_172 (dk_at dksX10_chains_0 19 rfl rfl)
abbrev cX10_commands : ByteArray := prog_7_method_16_code
def yX10_commands : MethodName := ⟨RX10, "commands", "()[LSnowPass$Operation;"⟩
def dkwX10_commands_2 : List UInt8 := [28, 42, 182, 0, 215, 83, 42, 182, 0, 135, 132, 2, 1, 167, 255, 204, 43, 176]
abbrev dktX10_commands_2 : List UInt8 := dkwX10_commands_2 ++ []
def dkwX10_commands_1 : List UInt8 := [184, 0, 211, 4, 182, 0, 94, 42, 28, 16, 30, 162, 0, 7, 4, 167, 0, 4, 3, 6, 182, 0, 94, 43]
abbrev dktX10_commands_1 : List UInt8 := dkwX10_commands_1 ++ dktX10_commands_2
def dkwX10_commands_0 : List UInt8 := [16, 31, 189, 0, 209, 76, 3, 61, 42, 180, 0, 51, 178, 0, 45, 165, 0, 48, 42, 42, 180, 0, 24]
abbrev dktX10_commands_0 : List UInt8 := dkwX10_commands_0 ++ dktX10_commands_1
theorem dksX10_commands_0 : cX10_commands.data.toList.drop 0 = dktX10_commands_0 := by decide +kernel
theorem dksX10_commands_1 : cX10_commands.data.toList.drop 23 = dktX10_commands_1 := dk_seg dksX10_commands_0 23 rfl rfl
theorem dksX10_commands_2 : cX10_commands.data.toList.drop 47 = dktX10_commands_2 := dk_seg dksX10_commands_1 24 rfl rfl
theorem dX10_commands_0 : decode cX10_commands 0 = .ok (.bipush 31, 2) := dk_16 31 (dk_at dksX10_commands_0 0 rfl rfl)
theorem dX10_commands_2 : decode cX10_commands 2 = .ok (.anewarray 209, 3) := dk_189 0 209 (dk_at dksX10_commands_0 2 rfl rfl)
theorem dX10_commands_5 : decode cX10_commands 5 = .ok (.astore_n 1, 1) := dk_76 (dk_at dksX10_commands_0 5 rfl rfl)
theorem dX10_commands_6 : decode cX10_commands 6 = .ok (.iconst 0, 1) := dk_3 (dk_at dksX10_commands_0 6 rfl rfl)
theorem dX10_commands_7 : decode cX10_commands 7 = .ok (.istore_n 2, 1) := dk_61 (dk_at dksX10_commands_0 7 rfl rfl)
theorem dX10_commands_8 : decode cX10_commands 8 = .ok (.aload_n 0, 1) := dk_42 (dk_at dksX10_commands_0 8 rfl rfl)
theorem dX10_commands_9 : decode cX10_commands 9 = .ok (.getfield 51, 3) := dk_180 0 51 (dk_at dksX10_commands_0 9 rfl rfl)
theorem dX10_commands_12 : decode cX10_commands 12 = .ok (.getstatic 45, 3) := dk_178 0 45 (dk_at dksX10_commands_0 12 rfl rfl)
theorem dX10_commands_15 : decode cX10_commands 15 = .ok (.if_acmp .eq 48, 3) := dk_165 0 48 (dk_at dksX10_commands_0 15 rfl rfl)
theorem dX10_commands_18 : decode cX10_commands 18 = .ok (.aload_n 0, 1) := dk_42 (dk_at dksX10_commands_0 18 rfl rfl)
theorem dX10_commands_19 : decode cX10_commands 19 = .ok (.aload_n 0, 1) := dk_42 (dk_at dksX10_commands_0 19 rfl rfl)
theorem dX10_commands_20 : decode cX10_commands 20 = .ok (.getfield 24, 3) := dk_180 0 24 (dk_at dksX10_commands_0 20 rfl rfl)
theorem dX10_commands_23 : decode cX10_commands 23 = .ok (.invokestatic 211, 3) := dk_184 0 211 (dk_at dksX10_commands_1 0 rfl rfl)
theorem dX10_commands_26 : decode cX10_commands 26 = .ok (.iconst 1, 1) := dk_4 (dk_at dksX10_commands_1 3 rfl rfl)
theorem dX10_commands_27 : decode cX10_commands 27 = .ok (.invokevirtual 94, 3) := dk_182 0 94 (dk_at dksX10_commands_1 4 rfl rfl)
theorem dX10_commands_30 : decode cX10_commands 30 = .ok (.aload_n 0, 1) := dk_42 (dk_at dksX10_commands_1 7 rfl rfl)
theorem dX10_commands_31 : decode cX10_commands 31 = .ok (.iload_n 2, 1) := dk_28 (dk_at dksX10_commands_1 8 rfl rfl)
theorem dX10_commands_32 : decode cX10_commands 32 = .ok (.bipush 30, 2) := dk_16 30 (dk_at dksX10_commands_1 9 rfl rfl)
theorem dX10_commands_34 : decode cX10_commands 34 = .ok (.if_icmp .ge 7, 3) := dk_162 0 7 (dk_at dksX10_commands_1 11 rfl rfl)
theorem dX10_commands_37 : decode cX10_commands 37 = .ok (.iconst 1, 1) := dk_4 (dk_at dksX10_commands_1 14 rfl rfl)
theorem dX10_commands_38 : decode cX10_commands 38 = .ok (.goto 4, 3) := dk_167 0 4 (dk_at dksX10_commands_1 15 rfl rfl)
theorem dX10_commands_41 : decode cX10_commands 41 = .ok (.iconst 0, 1) := dk_3 (dk_at dksX10_commands_1 18 rfl rfl)
theorem dX10_commands_42 : decode cX10_commands 42 = .ok (.iconst 3, 1) := dk_6 (dk_at dksX10_commands_1 19 rfl rfl)
theorem dX10_commands_43 : decode cX10_commands 43 = .ok (.invokevirtual 94, 3) := dk_182 0 94 (dk_at dksX10_commands_1 20 rfl rfl)
theorem dX10_commands_46 : decode cX10_commands 46 = .ok (.aload_n 1, 1) := dk_43 (dk_at dksX10_commands_1 23 rfl rfl)
theorem dX10_commands_47 : decode cX10_commands 47 = .ok (.iload_n 2, 1) := dk_28 (dk_at dksX10_commands_2 0 rfl rfl)
theorem dX10_commands_48 : decode cX10_commands 48 = .ok (.aload_n 0, 1) := dk_42 (dk_at dksX10_commands_2 1 rfl rfl)
theorem dX10_commands_49 : decode cX10_commands 49 = .ok (.invokevirtual 215, 3) := dk_182 0 215 (dk_at dksX10_commands_2 2 rfl rfl)
theorem dX10_commands_52 : decode cX10_commands 52 = .ok (.aastore, 1) := dk_83 (dk_at dksX10_commands_2 5 rfl rfl)
theorem dX10_commands_53 : decode cX10_commands 53 = .ok (.aload_n 0, 1) := dk_42 (dk_at dksX10_commands_2 6 rfl rfl)
theorem dX10_commands_54 : decode cX10_commands 54 = .ok (.invokevirtual 135, 3) := dk_182 0 135 (dk_at dksX10_commands_2 7 rfl rfl)
theorem dX10_commands_57 : decode cX10_commands 57 = .ok (.iinc 2 1, 3) := dk_132 2 1 (dk_at dksX10_commands_2 10 rfl rfl)
theorem dX10_commands_60 : decode cX10_commands 60 = .ok (.goto (-52), 3) := dk_167 255 204 (dk_at dksX10_commands_2 13 rfl rfl)
theorem dX10_commands_63 : decode cX10_commands 63 = .ok (.aload_n 1, 1) := dk_43 (dk_at dksX10_commands_2 16 rfl rfl)
theorem dX10_commands_64 : decode cX10_commands 64 = .ok (.areturn, 1) := dk_176 (dk_at dksX10_commands_2 17 rfl rfl)
abbrev cX10_command : ByteArray := prog_7_method_17_code
def yX10_command : MethodName := ⟨RX10, "command", "()LSnowPass$Operation;"⟩
def dkwX10_command_12 : List UInt8 := [17, 3, 231, 182, 0, 120, 182, 0, 254, 176]
abbrev dktX10_command_12 : List UInt8 := dkwX10_command_12 ++ []
def dkwX10_command_11 : List UInt8 := [182, 0, 120, 182, 0, 248, 167, 0, 26, 42, 42, 182, 0, 233, 182, 0, 251, 167, 0, 15, 42, 42, 3]
abbrev dktX10_command_11 : List UInt8 := dkwX10_command_11 ++ dktX10_command_12
def dkwX10_command_10 : List UInt8 := [167, 0, 54, 42, 42, 3, 16, 99, 182, 0, 120, 182, 0, 245, 167, 0, 40, 42, 42, 3, 16, 9]
abbrev dktX10_command_10 : List UInt8 := dkwX10_command_10 ++ dktX10_command_11
def dkwX10_command_9 : List UInt8 := [167, 0, 76, 42, 42, 182, 0, 233, 182, 0, 239, 167, 0, 65, 42, 42, 182, 0, 233, 182, 0, 242]
abbrev dktX10_command_9 : List UInt8 := dkwX10_command_9 ++ dktX10_command_10
def dkwX10_command_8 : List UInt8 := [42, 42, 4, 16, 48, 182, 0, 120, 182, 0, 229, 167, 0, 87, 42, 42, 182, 0, 233, 182, 0, 236]
abbrev dktX10_command_8 : List UInt8 := dkwX10_command_8 ++ dktX10_command_9
def dkwX10_command_7 : List UInt8 := [170, 0, 0, 0, 0, 0, 129, 0, 0, 0, 0, 0, 0, 0, 6, 0, 0, 0, 43, 0, 0, 0, 57, 0, 0, 0, 68, 0, 0, 0, 79, 0, 0, 0, 90, 0, 0, 0, 104, 0, 0, 0, 118]
abbrev dktX10_command_7 : List UInt8 := dkwX10_command_7 ++ dktX10_command_8
def dkwX10_command_6 : List UInt8 := [62, 29]
abbrev dktX10_command_6 : List UInt8 := dkwX10_command_6 ++ dktX10_command_7
def dkwX10_command_5 : List UInt8 := [18, 228, 182, 0, 98, 153, 0, 20, 8, 62, 167, 0, 15, 44, 18, 173, 182, 0, 98, 153, 0, 6, 16, 6]
abbrev dktX10_command_5 : List UInt8 := dkwX10_command_5 ++ dktX10_command_6
def dkwX10_command_4 : List UInt8 := [153, 0, 48, 6, 62, 167, 0, 43, 44, 18, 227, 182, 0, 98, 153, 0, 34, 7, 62, 167, 0, 29, 44]
abbrev dktX10_command_4 : List UInt8 := dkwX10_command_4 ++ dktX10_command_5
def dkwX10_command_3 : List UInt8 := [62, 167, 0, 71, 44, 18, 223, 182, 0, 98, 153, 0, 62, 5, 62, 167, 0, 57, 44, 18, 225, 182, 0, 98]
abbrev dktX10_command_3 : List UInt8 := dkwX10_command_3 ++ dktX10_command_4
def dkwX10_command_2 : List UInt8 := [44, 18, 219, 182, 0, 98, 153, 0, 90, 3, 62, 167, 0, 85, 44, 18, 221, 182, 0, 98, 153, 0, 76, 4]
abbrev dktX10_command_2 : List UInt8 := dkwX10_command_2 ++ dktX10_command_3
def dkwX10_command_1 : List UInt8 := [171, 0, 0, 0, 0, 0, 163, 0, 0, 0, 7, 200, 70, 55, 17, 0, 0, 0, 95, 0, 46, 123, 32, 0, 0, 0, 151, 0, 52, 100, 17, 0, 0, 0, 67, 0, 53, 192, 86, 0, 0, 0, 81, 0, 55, 176, 8, 0, 0, 0, 137, 6, 130, 39, 253, 0, 0, 0, 109, 41, 59, 79, 126, 0, 0, 0, 123]
abbrev dktX10_command_1 : List UInt8 := dkwX10_command_1 ++ dktX10_command_2
def dkwX10_command_0 : List UInt8 := [42, 180, 0, 24, 76, 42, 182, 0, 28, 43, 77, 2, 62, 44, 182, 0, 168]
abbrev dktX10_command_0 : List UInt8 := dkwX10_command_0 ++ dktX10_command_1
theorem dksX10_command_0 : cX10_command.data.toList.drop 0 = dktX10_command_0 := by decide +kernel
theorem dksX10_command_1 : cX10_command.data.toList.drop 17 = dktX10_command_1 := dk_seg dksX10_command_0 17 rfl rfl
theorem dksX10_command_2 : cX10_command.data.toList.drop 84 = dktX10_command_2 := dk_seg dksX10_command_1 67 rfl rfl
theorem dksX10_command_3 : cX10_command.data.toList.drop 108 = dktX10_command_3 := dk_seg dksX10_command_2 24 rfl rfl
theorem dksX10_command_4 : cX10_command.data.toList.drop 132 = dktX10_command_4 := dk_seg dksX10_command_3 24 rfl rfl
theorem dksX10_command_5 : cX10_command.data.toList.drop 155 = dktX10_command_5 := dk_seg dksX10_command_4 23 rfl rfl
theorem dksX10_command_6 : cX10_command.data.toList.drop 179 = dktX10_command_6 := dk_seg dksX10_command_5 24 rfl rfl
theorem dksX10_command_7 : cX10_command.data.toList.drop 181 = dktX10_command_7 := dk_seg dksX10_command_6 2 rfl rfl
theorem dksX10_command_8 : cX10_command.data.toList.drop 224 = dktX10_command_8 := dk_seg dksX10_command_7 43 rfl rfl
theorem dksX10_command_9 : cX10_command.data.toList.drop 246 = dktX10_command_9 := dk_seg dksX10_command_8 22 rfl rfl
theorem dksX10_command_10 : cX10_command.data.toList.drop 268 = dktX10_command_10 := dk_seg dksX10_command_9 22 rfl rfl
theorem dksX10_command_11 : cX10_command.data.toList.drop 290 = dktX10_command_11 := dk_seg dksX10_command_10 22 rfl rfl
theorem dksX10_command_12 : cX10_command.data.toList.drop 313 = dktX10_command_12 := dk_seg dksX10_command_11 23 rfl rfl
theorem dX10_command_0 : decode cX10_command 0 = .ok (.aload_n 0, 1) := dk_42 (dk_at dksX10_command_0 0 rfl rfl)
theorem dX10_command_1 : decode cX10_command 1 = .ok (.getfield 24, 3) := dk_180 0 24 (dk_at dksX10_command_0 1 rfl rfl)
theorem dX10_command_4 : decode cX10_command 4 = .ok (.astore_n 1, 1) := dk_76 (dk_at dksX10_command_0 4 rfl rfl)
theorem dX10_command_5 : decode cX10_command 5 = .ok (.aload_n 0, 1) := dk_42 (dk_at dksX10_command_0 5 rfl rfl)
theorem dX10_command_6 : decode cX10_command 6 = .ok (.invokevirtual 28, 3) := dk_182 0 28 (dk_at dksX10_command_0 6 rfl rfl)
theorem dX10_command_9 : decode cX10_command 9 = .ok (.aload_n 1, 1) := dk_43 (dk_at dksX10_command_0 9 rfl rfl)
theorem dX10_command_10 : decode cX10_command 10 = .ok (.astore_n 2, 1) := dk_77 (dk_at dksX10_command_0 10 rfl rfl)
theorem dX10_command_11 : decode cX10_command 11 = .ok (.iconst (-1), 1) := dk_2 (dk_at dksX10_command_0 11 rfl rfl)
theorem dX10_command_12 : decode cX10_command 12 = .ok (.istore_n 3, 1) := dk_62 (dk_at dksX10_command_0 12 rfl rfl)
theorem dX10_command_13 : decode cX10_command 13 = .ok (.aload_n 2, 1) := dk_44 (dk_at dksX10_command_0 13 rfl rfl)
theorem dX10_command_14 : decode cX10_command 14 = .ok (.invokevirtual 168, 3) := dk_182 0 168 (dk_at dksX10_command_0 14 rfl rfl)
theorem dX10_command_17 : decode cX10_command 17 = .ok (.lookupswitch 163 #[(-934922479, 95), (3046176, 151), (3433489, 67), (3522646, 81), (3649544, 137), (109193213, 109), (691752830, 123)], 67) := by decide +kernel
theorem dX10_command_84 : decode cX10_command 84 = .ok (.aload_n 2, 1) := dk_44 (dk_at dksX10_command_2 0 rfl rfl)
theorem dX10_command_85 : decode cX10_command 85 = .ok (.ldc 219, 2) := dk_18 219 (dk_at dksX10_command_2 1 rfl rfl)
theorem dX10_command_87 : decode cX10_command 87 = .ok (.invokevirtual 98, 3) := dk_182 0 98 (dk_at dksX10_command_2 3 rfl rfl)
theorem dX10_command_90 : decode cX10_command 90 = .ok (.ifCond .eq 90, 3) := dk_153 0 90 (dk_at dksX10_command_2 6 rfl rfl)
theorem dX10_command_93 : decode cX10_command 93 = .ok (.iconst 0, 1) := dk_3 (dk_at dksX10_command_2 9 rfl rfl)
theorem dX10_command_94 : decode cX10_command 94 = .ok (.istore_n 3, 1) := dk_62 (dk_at dksX10_command_2 10 rfl rfl)
theorem dX10_command_95 : decode cX10_command 95 = .ok (.goto 85, 3) := dk_167 0 85 (dk_at dksX10_command_2 11 rfl rfl)
theorem dX10_command_98 : decode cX10_command 98 = .ok (.aload_n 2, 1) := dk_44 (dk_at dksX10_command_2 14 rfl rfl)
theorem dX10_command_99 : decode cX10_command 99 = .ok (.ldc 221, 2) := dk_18 221 (dk_at dksX10_command_2 15 rfl rfl)
theorem dX10_command_101 : decode cX10_command 101 = .ok (.invokevirtual 98, 3) := dk_182 0 98 (dk_at dksX10_command_2 17 rfl rfl)
theorem dX10_command_104 : decode cX10_command 104 = .ok (.ifCond .eq 76, 3) := dk_153 0 76 (dk_at dksX10_command_2 20 rfl rfl)
theorem dX10_command_107 : decode cX10_command 107 = .ok (.iconst 1, 1) := dk_4 (dk_at dksX10_command_2 23 rfl rfl)
theorem dX10_command_108 : decode cX10_command 108 = .ok (.istore_n 3, 1) := dk_62 (dk_at dksX10_command_3 0 rfl rfl)
theorem dX10_command_109 : decode cX10_command 109 = .ok (.goto 71, 3) := dk_167 0 71 (dk_at dksX10_command_3 1 rfl rfl)
theorem dX10_command_112 : decode cX10_command 112 = .ok (.aload_n 2, 1) := dk_44 (dk_at dksX10_command_3 4 rfl rfl)
theorem dX10_command_113 : decode cX10_command 113 = .ok (.ldc 223, 2) := dk_18 223 (dk_at dksX10_command_3 5 rfl rfl)
theorem dX10_command_115 : decode cX10_command 115 = .ok (.invokevirtual 98, 3) := dk_182 0 98 (dk_at dksX10_command_3 7 rfl rfl)
theorem dX10_command_118 : decode cX10_command 118 = .ok (.ifCond .eq 62, 3) := dk_153 0 62 (dk_at dksX10_command_3 10 rfl rfl)
theorem dX10_command_121 : decode cX10_command 121 = .ok (.iconst 2, 1) := dk_5 (dk_at dksX10_command_3 13 rfl rfl)
theorem dX10_command_122 : decode cX10_command 122 = .ok (.istore_n 3, 1) := dk_62 (dk_at dksX10_command_3 14 rfl rfl)
theorem dX10_command_123 : decode cX10_command 123 = .ok (.goto 57, 3) := dk_167 0 57 (dk_at dksX10_command_3 15 rfl rfl)
theorem dX10_command_126 : decode cX10_command 126 = .ok (.aload_n 2, 1) := dk_44 (dk_at dksX10_command_3 18 rfl rfl)
theorem dX10_command_127 : decode cX10_command 127 = .ok (.ldc 225, 2) := dk_18 225 (dk_at dksX10_command_3 19 rfl rfl)
theorem dX10_command_129 : decode cX10_command 129 = .ok (.invokevirtual 98, 3) := dk_182 0 98 (dk_at dksX10_command_3 21 rfl rfl)
theorem dX10_command_132 : decode cX10_command 132 = .ok (.ifCond .eq 48, 3) := dk_153 0 48 (dk_at dksX10_command_4 0 rfl rfl)
theorem dX10_command_135 : decode cX10_command 135 = .ok (.iconst 3, 1) := dk_6 (dk_at dksX10_command_4 3 rfl rfl)
theorem dX10_command_136 : decode cX10_command 136 = .ok (.istore_n 3, 1) := dk_62 (dk_at dksX10_command_4 4 rfl rfl)
theorem dX10_command_137 : decode cX10_command 137 = .ok (.goto 43, 3) := dk_167 0 43 (dk_at dksX10_command_4 5 rfl rfl)
theorem dX10_command_140 : decode cX10_command 140 = .ok (.aload_n 2, 1) := dk_44 (dk_at dksX10_command_4 8 rfl rfl)
theorem dX10_command_141 : decode cX10_command 141 = .ok (.ldc 227, 2) := dk_18 227 (dk_at dksX10_command_4 9 rfl rfl)
theorem dX10_command_143 : decode cX10_command 143 = .ok (.invokevirtual 98, 3) := dk_182 0 98 (dk_at dksX10_command_4 11 rfl rfl)
theorem dX10_command_146 : decode cX10_command 146 = .ok (.ifCond .eq 34, 3) := dk_153 0 34 (dk_at dksX10_command_4 14 rfl rfl)
theorem dX10_command_149 : decode cX10_command 149 = .ok (.iconst 4, 1) := dk_7 (dk_at dksX10_command_4 17 rfl rfl)
theorem dX10_command_150 : decode cX10_command 150 = .ok (.istore_n 3, 1) := dk_62 (dk_at dksX10_command_4 18 rfl rfl)
theorem dX10_command_151 : decode cX10_command 151 = .ok (.goto 29, 3) := dk_167 0 29 (dk_at dksX10_command_4 19 rfl rfl)
theorem dX10_command_154 : decode cX10_command 154 = .ok (.aload_n 2, 1) := dk_44 (dk_at dksX10_command_4 22 rfl rfl)
theorem dX10_command_155 : decode cX10_command 155 = .ok (.ldc 228, 2) := dk_18 228 (dk_at dksX10_command_5 0 rfl rfl)
theorem dX10_command_157 : decode cX10_command 157 = .ok (.invokevirtual 98, 3) := dk_182 0 98 (dk_at dksX10_command_5 2 rfl rfl)
theorem dX10_command_160 : decode cX10_command 160 = .ok (.ifCond .eq 20, 3) := dk_153 0 20 (dk_at dksX10_command_5 5 rfl rfl)
theorem dX10_command_163 : decode cX10_command 163 = .ok (.iconst 5, 1) := dk_8 (dk_at dksX10_command_5 8 rfl rfl)
theorem dX10_command_164 : decode cX10_command 164 = .ok (.istore_n 3, 1) := dk_62 (dk_at dksX10_command_5 9 rfl rfl)
theorem dX10_command_165 : decode cX10_command 165 = .ok (.goto 15, 3) := dk_167 0 15 (dk_at dksX10_command_5 10 rfl rfl)
theorem dX10_command_168 : decode cX10_command 168 = .ok (.aload_n 2, 1) := dk_44 (dk_at dksX10_command_5 13 rfl rfl)
theorem dX10_command_169 : decode cX10_command 169 = .ok (.ldc 173, 2) := dk_18 173 (dk_at dksX10_command_5 14 rfl rfl)
theorem dX10_command_171 : decode cX10_command 171 = .ok (.invokevirtual 98, 3) := dk_182 0 98 (dk_at dksX10_command_5 16 rfl rfl)
theorem dX10_command_174 : decode cX10_command 174 = .ok (.ifCond .eq 6, 3) := dk_153 0 6 (dk_at dksX10_command_5 19 rfl rfl)
theorem dX10_command_177 : decode cX10_command 177 = .ok (.bipush 6, 2) := dk_16 6 (dk_at dksX10_command_5 22 rfl rfl)
theorem dX10_command_179 : decode cX10_command 179 = .ok (.istore_n 3, 1) := dk_62 (dk_at dksX10_command_6 0 rfl rfl)
theorem dX10_command_180 : decode cX10_command 180 = .ok (.iload_n 3, 1) := dk_29 (dk_at dksX10_command_6 1 rfl rfl)
theorem dX10_command_181 : decode cX10_command 181 = .ok (.tableswitch 129 0 6 #[43, 57, 68, 79, 90, 104, 118], 43) := by decide +kernel
theorem dX10_command_224 : decode cX10_command 224 = .ok (.aload_n 0, 1) := dk_42 (dk_at dksX10_command_8 0 rfl rfl)
theorem dX10_command_225 : decode cX10_command 225 = .ok (.aload_n 0, 1) := dk_42 (dk_at dksX10_command_8 1 rfl rfl)
theorem dX10_command_226 : decode cX10_command 226 = .ok (.iconst 1, 1) := dk_4 (dk_at dksX10_command_8 2 rfl rfl)
theorem dX10_command_227 : decode cX10_command 227 = .ok (.bipush 48, 2) := dk_16 48 (dk_at dksX10_command_8 3 rfl rfl)
theorem dX10_command_229 : decode cX10_command 229 = .ok (.invokevirtual 120, 3) := dk_182 0 120 (dk_at dksX10_command_8 5 rfl rfl)
theorem dX10_command_232 : decode cX10_command 232 = .ok (.invokevirtual 229, 3) := dk_182 0 229 (dk_at dksX10_command_8 8 rfl rfl)
theorem dX10_command_235 : decode cX10_command 235 = .ok (.goto 87, 3) := dk_167 0 87 (dk_at dksX10_command_8 11 rfl rfl)
theorem dX10_command_238 : decode cX10_command 238 = .ok (.aload_n 0, 1) := dk_42 (dk_at dksX10_command_8 14 rfl rfl)
theorem dX10_command_239 : decode cX10_command 239 = .ok (.aload_n 0, 1) := dk_42 (dk_at dksX10_command_8 15 rfl rfl)
theorem dX10_command_240 : decode cX10_command 240 = .ok (.invokevirtual 233, 3) := dk_182 0 233 (dk_at dksX10_command_8 16 rfl rfl)
theorem dX10_command_243 : decode cX10_command 243 = .ok (.invokevirtual 236, 3) := dk_182 0 236 (dk_at dksX10_command_8 19 rfl rfl)
theorem dX10_command_246 : decode cX10_command 246 = .ok (.goto 76, 3) := dk_167 0 76 (dk_at dksX10_command_9 0 rfl rfl)
theorem dX10_command_249 : decode cX10_command 249 = .ok (.aload_n 0, 1) := dk_42 (dk_at dksX10_command_9 3 rfl rfl)
theorem dX10_command_250 : decode cX10_command 250 = .ok (.aload_n 0, 1) := dk_42 (dk_at dksX10_command_9 4 rfl rfl)
theorem dX10_command_251 : decode cX10_command 251 = .ok (.invokevirtual 233, 3) := dk_182 0 233 (dk_at dksX10_command_9 5 rfl rfl)
theorem dX10_command_254 : decode cX10_command 254 = .ok (.invokevirtual 239, 3) := dk_182 0 239 (dk_at dksX10_command_9 8 rfl rfl)
theorem dX10_command_257 : decode cX10_command 257 = .ok (.goto 65, 3) := dk_167 0 65 (dk_at dksX10_command_9 11 rfl rfl)
theorem dX10_command_260 : decode cX10_command 260 = .ok (.aload_n 0, 1) := dk_42 (dk_at dksX10_command_9 14 rfl rfl)
theorem dX10_command_261 : decode cX10_command 261 = .ok (.aload_n 0, 1) := dk_42 (dk_at dksX10_command_9 15 rfl rfl)
theorem dX10_command_262 : decode cX10_command 262 = .ok (.invokevirtual 233, 3) := dk_182 0 233 (dk_at dksX10_command_9 16 rfl rfl)
theorem dX10_command_265 : decode cX10_command 265 = .ok (.invokevirtual 242, 3) := dk_182 0 242 (dk_at dksX10_command_9 19 rfl rfl)
theorem dX10_command_268 : decode cX10_command 268 = .ok (.goto 54, 3) := dk_167 0 54 (dk_at dksX10_command_10 0 rfl rfl)
theorem dX10_command_271 : decode cX10_command 271 = .ok (.aload_n 0, 1) := dk_42 (dk_at dksX10_command_10 3 rfl rfl)
theorem dX10_command_272 : decode cX10_command 272 = .ok (.aload_n 0, 1) := dk_42 (dk_at dksX10_command_10 4 rfl rfl)
theorem dX10_command_273 : decode cX10_command 273 = .ok (.iconst 0, 1) := dk_3 (dk_at dksX10_command_10 5 rfl rfl)
theorem dX10_command_274 : decode cX10_command 274 = .ok (.bipush 99, 2) := dk_16 99 (dk_at dksX10_command_10 6 rfl rfl)
theorem dX10_command_276 : decode cX10_command 276 = .ok (.invokevirtual 120, 3) := dk_182 0 120 (dk_at dksX10_command_10 8 rfl rfl)
theorem dX10_command_279 : decode cX10_command 279 = .ok (.invokevirtual 245, 3) := dk_182 0 245 (dk_at dksX10_command_10 11 rfl rfl)
theorem dX10_command_282 : decode cX10_command 282 = .ok (.goto 40, 3) := dk_167 0 40 (dk_at dksX10_command_10 14 rfl rfl)
theorem dX10_command_285 : decode cX10_command 285 = .ok (.aload_n 0, 1) := dk_42 (dk_at dksX10_command_10 17 rfl rfl)
theorem dX10_command_286 : decode cX10_command 286 = .ok (.aload_n 0, 1) := dk_42 (dk_at dksX10_command_10 18 rfl rfl)
theorem dX10_command_287 : decode cX10_command 287 = .ok (.iconst 0, 1) := dk_3 (dk_at dksX10_command_10 19 rfl rfl)
theorem dX10_command_288 : decode cX10_command 288 = .ok (.bipush 9, 2) := dk_16 9 (dk_at dksX10_command_10 20 rfl rfl)
theorem dX10_command_290 : decode cX10_command 290 = .ok (.invokevirtual 120, 3) := dk_182 0 120 (dk_at dksX10_command_11 0 rfl rfl)
theorem dX10_command_293 : decode cX10_command 293 = .ok (.invokevirtual 248, 3) := dk_182 0 248 (dk_at dksX10_command_11 3 rfl rfl)
theorem dX10_command_296 : decode cX10_command 296 = .ok (.goto 26, 3) := dk_167 0 26 (dk_at dksX10_command_11 6 rfl rfl)
theorem dX10_command_299 : decode cX10_command 299 = .ok (.aload_n 0, 1) := dk_42 (dk_at dksX10_command_11 9 rfl rfl)
theorem dX10_command_300 : decode cX10_command 300 = .ok (.aload_n 0, 1) := dk_42 (dk_at dksX10_command_11 10 rfl rfl)
theorem dX10_command_301 : decode cX10_command 301 = .ok (.invokevirtual 233, 3) := dk_182 0 233 (dk_at dksX10_command_11 11 rfl rfl)
theorem dX10_command_304 : decode cX10_command 304 = .ok (.invokevirtual 251, 3) := dk_182 0 251 (dk_at dksX10_command_11 14 rfl rfl)
theorem dX10_command_307 : decode cX10_command 307 = .ok (.goto 15, 3) := dk_167 0 15 (dk_at dksX10_command_11 17 rfl rfl)
theorem dX10_command_310 : decode cX10_command 310 = .ok (.aload_n 0, 1) := dk_42 (dk_at dksX10_command_11 20 rfl rfl)
theorem dX10_command_311 : decode cX10_command 311 = .ok (.aload_n 0, 1) := dk_42 (dk_at dksX10_command_11 21 rfl rfl)
theorem dX10_command_312 : decode cX10_command 312 = .ok (.iconst 0, 1) := dk_3 (dk_at dksX10_command_11 22 rfl rfl)
theorem dX10_command_313 : decode cX10_command 313 = .ok (.sipush 999, 3) := dk_17 3 231 (dk_at dksX10_command_12 0 rfl rfl)
theorem dX10_command_316 : decode cX10_command 316 = .ok (.invokevirtual 120, 3) := dk_182 0 120 (dk_at dksX10_command_12 3 rfl rfl)
theorem dX10_command_319 : decode cX10_command 319 = .ok (.invokevirtual 254, 3) := dk_182 0 254 (dk_at dksX10_command_12 6 rfl rfl)
theorem dX10_command_322 : decode cX10_command 322 = .ok (.areturn, 1) := dk_176 (dk_at dksX10_command_12 9 rfl rfl)
abbrev cX10_passCommand : ByteArray := prog_7_method_18_code
def yX10_passCommand : MethodName := ⟨RX10, "passCommand", "(I)LSnowPass$Operation;"⟩
theorem dX10_passCommand_0 : decode cX10_passCommand 0 = .ok (.iload_n 1, 1) := by decide +kernel
theorem dX10_passCommand_1 : decode cX10_passCommand 1 = .ok (.invokedynamic 257, 5) := by decide +kernel
theorem dX10_passCommand_6 : decode cX10_passCommand 6 = .ok (.areturn, 1) := by decide +kernel
abbrev cX10_lambda_passCommand_0 : ByteArray := prog_7_method_33_code
def yX10_lambda_passCommand_0 : MethodName := ⟨RX10, "lambda$passCommand$0", "(ILSnowPass$State;)I"⟩
def dkwX10_lambda_passCommand_0_0 : List UInt8 := [43, 26, 182, 1, 35, 172]
abbrev dktX10_lambda_passCommand_0_0 : List UInt8 := dkwX10_lambda_passCommand_0_0 ++ []
theorem dksX10_lambda_passCommand_0_0 : cX10_lambda_passCommand_0.data.toList.drop 0 = dktX10_lambda_passCommand_0_0 := by decide +kernel
theorem dX10_lambda_passCommand_0_0 : decode cX10_lambda_passCommand_0 0 = .ok (.aload_n 1, 1) := dk_43 (dk_at dksX10_lambda_passCommand_0_0 0 rfl rfl)
theorem dX10_lambda_passCommand_0_1 : decode cX10_lambda_passCommand_0 1 = .ok (.iload_n 0, 1) := dk_26 (dk_at dksX10_lambda_passCommand_0_0 1 rfl rfl)
theorem dX10_lambda_passCommand_0_2 : decode cX10_lambda_passCommand_0 2 = .ok (.invokevirtual 291, 3) := dk_182 1 35 (dk_at dksX10_lambda_passCommand_0_0 2 rfl rfl)
theorem dX10_lambda_passCommand_0_5 : decode cX10_lambda_passCommand_0 5 = .ok (.ireturn, 1) := dk_172 (dk_at dksX10_lambda_passCommand_0_0 5 rfl rfl)
abbrev cX10_side : ByteArray := prog_7_method_8_code
def yX10_side : MethodName := ⟨RX10, "side", "()I"⟩
def dkwX10_side_0 : List UInt8 := [42, 182, 0, 108, 60, 42, 182, 0, 28, 27, 172]
abbrev dktX10_side_0 : List UInt8 := dkwX10_side_0 ++ []
theorem dksX10_side_0 : cX10_side.data.toList.drop 0 = dktX10_side_0 := by decide +kernel
theorem dX10_side_0 : decode cX10_side 0 = .ok (.aload_n 0, 1) := dk_42 (dk_at dksX10_side_0 0 rfl rfl)
theorem dX10_side_1 : decode cX10_side 1 = .ok (.invokevirtual 108, 3) := dk_182 0 108 (dk_at dksX10_side_0 1 rfl rfl)
theorem dX10_side_4 : decode cX10_side 4 = .ok (.istore_n 1, 1) := dk_60 (dk_at dksX10_side_0 4 rfl rfl)
theorem dX10_side_5 : decode cX10_side 5 = .ok (.aload_n 0, 1) := dk_42 (dk_at dksX10_side_0 5 rfl rfl)
theorem dX10_side_6 : decode cX10_side 6 = .ok (.invokevirtual 28, 3) := dk_182 0 28 (dk_at dksX10_side_0 6 rfl rfl)
theorem dX10_side_9 : decode cX10_side 9 = .ok (.iload_n 1, 1) := dk_27 (dk_at dksX10_side_0 9 rfl rfl)
theorem dX10_side_10 : decode cX10_side 10 = .ok (.ireturn, 1) := dk_172 (dk_at dksX10_side_0 10 rfl rfl)
abbrev cX10_saltCommand : ByteArray := prog_7_method_19_code
def yX10_saltCommand : MethodName := ⟨RX10, "saltCommand", "(I)LSnowPass$Operation;"⟩
theorem dX10_saltCommand_0 : decode cX10_saltCommand 0 = .ok (.iload_n 1, 1) := by decide +kernel
theorem dX10_saltCommand_1 : decode cX10_saltCommand 1 = .ok (.invokedynamic 260, 5) := by decide +kernel
theorem dX10_saltCommand_6 : decode cX10_saltCommand 6 = .ok (.areturn, 1) := by decide +kernel
abbrev cX10_lambda_saltCommand_1 : ByteArray := prog_7_method_32_code
def yX10_lambda_saltCommand_1 : MethodName := ⟨RX10, "lambda$saltCommand$1", "(ILSnowPass$State;)I"⟩
def dkwX10_lambda_saltCommand_1_0 : List UInt8 := [43, 26, 182, 1, 32, 172]
abbrev dktX10_lambda_saltCommand_1_0 : List UInt8 := dkwX10_lambda_saltCommand_1_0 ++ []
theorem dksX10_lambda_saltCommand_1_0 : cX10_lambda_saltCommand_1.data.toList.drop 0 = dktX10_lambda_saltCommand_1_0 := by decide +kernel
theorem dX10_lambda_saltCommand_1_0 : decode cX10_lambda_saltCommand_1 0 = .ok (.aload_n 1, 1) := dk_43 (dk_at dksX10_lambda_saltCommand_1_0 0 rfl rfl)
theorem dX10_lambda_saltCommand_1_1 : decode cX10_lambda_saltCommand_1 1 = .ok (.iload_n 0, 1) := dk_26 (dk_at dksX10_lambda_saltCommand_1_0 1 rfl rfl)
theorem dX10_lambda_saltCommand_1_2 : decode cX10_lambda_saltCommand_1 2 = .ok (.invokevirtual 288, 3) := dk_182 1 32 (dk_at dksX10_lambda_saltCommand_1_0 2 rfl rfl)
theorem dX10_lambda_saltCommand_1_5 : decode cX10_lambda_saltCommand_1 5 = .ok (.ireturn, 1) := dk_172 (dk_at dksX10_lambda_saltCommand_1_0 5 rfl rfl)
abbrev cX10_recallCommand : ByteArray := prog_7_method_20_code
def yX10_recallCommand : MethodName := ⟨RX10, "recallCommand", "(I)LSnowPass$Operation;"⟩
theorem dX10_recallCommand_0 : decode cX10_recallCommand 0 = .ok (.iload_n 1, 1) := by decide +kernel
theorem dX10_recallCommand_1 : decode cX10_recallCommand 1 = .ok (.invokedynamic 261, 5) := by decide +kernel
theorem dX10_recallCommand_6 : decode cX10_recallCommand 6 = .ok (.areturn, 1) := by decide +kernel
abbrev cX10_lambda_recallCommand_2 : ByteArray := prog_7_method_31_code
def yX10_lambda_recallCommand_2 : MethodName := ⟨RX10, "lambda$recallCommand$2", "(ILSnowPass$State;)I"⟩
def dkwX10_lambda_recallCommand_2_0 : List UInt8 := [43, 26, 182, 1, 30, 172]
abbrev dktX10_lambda_recallCommand_2_0 : List UInt8 := dkwX10_lambda_recallCommand_2_0 ++ []
theorem dksX10_lambda_recallCommand_2_0 : cX10_lambda_recallCommand_2.data.toList.drop 0 = dktX10_lambda_recallCommand_2_0 := by decide +kernel
theorem dX10_lambda_recallCommand_2_0 : decode cX10_lambda_recallCommand_2 0 = .ok (.aload_n 1, 1) := dk_43 (dk_at dksX10_lambda_recallCommand_2_0 0 rfl rfl)
theorem dX10_lambda_recallCommand_2_1 : decode cX10_lambda_recallCommand_2 1 = .ok (.iload_n 0, 1) := dk_26 (dk_at dksX10_lambda_recallCommand_2_0 1 rfl rfl)
theorem dX10_lambda_recallCommand_2_2 : decode cX10_lambda_recallCommand_2 2 = .ok (.invokevirtual 286, 3) := dk_182 1 30 (dk_at dksX10_lambda_recallCommand_2_0 2 rfl rfl)
theorem dX10_lambda_recallCommand_2_5 : decode cX10_lambda_recallCommand_2 5 = .ok (.ireturn, 1) := dk_172 (dk_at dksX10_lambda_recallCommand_2_0 5 rfl rfl)
abbrev cX10_sacksCommand : ByteArray := prog_7_method_21_code
def yX10_sacksCommand : MethodName := ⟨RX10, "sacksCommand", "(I)LSnowPass$Operation;"⟩
def dkwX10_sacksCommand_0 : List UInt8 := [42, 4, 16, 99, 182, 0, 120, 61, 27, 28, 186, 1, 6, 0, 0, 176]
abbrev dktX10_sacksCommand_0 : List UInt8 := dkwX10_sacksCommand_0 ++ []
theorem dksX10_sacksCommand_0 : cX10_sacksCommand.data.toList.drop 0 = dktX10_sacksCommand_0 := by decide +kernel
theorem dX10_sacksCommand_0 : decode cX10_sacksCommand 0 = .ok (.aload_n 0, 1) := dk_42 (dk_at dksX10_sacksCommand_0 0 rfl rfl)
theorem dX10_sacksCommand_1 : decode cX10_sacksCommand 1 = .ok (.iconst 1, 1) := dk_4 (dk_at dksX10_sacksCommand_0 1 rfl rfl)
theorem dX10_sacksCommand_2 : decode cX10_sacksCommand 2 = .ok (.bipush 99, 2) := dk_16 99 (dk_at dksX10_sacksCommand_0 2 rfl rfl)
theorem dX10_sacksCommand_4 : decode cX10_sacksCommand 4 = .ok (.invokevirtual 120, 3) := dk_182 0 120 (dk_at dksX10_sacksCommand_0 4 rfl rfl)
theorem dX10_sacksCommand_7 : decode cX10_sacksCommand 7 = .ok (.istore_n 2, 1) := dk_61 (dk_at dksX10_sacksCommand_0 7 rfl rfl)
theorem dX10_sacksCommand_8 : decode cX10_sacksCommand 8 = .ok (.iload_n 1, 1) := dk_27 (dk_at dksX10_sacksCommand_0 8 rfl rfl)
theorem dX10_sacksCommand_9 : decode cX10_sacksCommand 9 = .ok (.iload_n 2, 1) := dk_28 (dk_at dksX10_sacksCommand_0 9 rfl rfl)
theorem dX10_sacksCommand_10 : decode cX10_sacksCommand 10 = .ok (.invokedynamic 262, 5) := by decide +kernel
theorem dX10_sacksCommand_15 : decode cX10_sacksCommand 15 = .ok (.areturn, 1) := dk_176 (dk_at dksX10_sacksCommand_0 15 rfl rfl)
abbrev cX10_lambda_sacksCommand_3 : ByteArray := prog_7_method_30_code
def yX10_lambda_sacksCommand_3 : MethodName := ⟨RX10, "lambda$sacksCommand$3", "(IILSnowPass$State;)I"⟩
def dkwX10_lambda_sacksCommand_3_0 : List UInt8 := [44, 26, 27, 182, 1, 27, 172]
abbrev dktX10_lambda_sacksCommand_3_0 : List UInt8 := dkwX10_lambda_sacksCommand_3_0 ++ []
theorem dksX10_lambda_sacksCommand_3_0 : cX10_lambda_sacksCommand_3.data.toList.drop 0 = dktX10_lambda_sacksCommand_3_0 := by decide +kernel
theorem dX10_lambda_sacksCommand_3_0 : decode cX10_lambda_sacksCommand_3 0 = .ok (.aload_n 2, 1) := dk_44 (dk_at dksX10_lambda_sacksCommand_3_0 0 rfl rfl)
theorem dX10_lambda_sacksCommand_3_1 : decode cX10_lambda_sacksCommand_3 1 = .ok (.iload_n 0, 1) := dk_26 (dk_at dksX10_lambda_sacksCommand_3_0 1 rfl rfl)
theorem dX10_lambda_sacksCommand_3_2 : decode cX10_lambda_sacksCommand_3 2 = .ok (.iload_n 1, 1) := dk_27 (dk_at dksX10_lambda_sacksCommand_3_0 2 rfl rfl)
theorem dX10_lambda_sacksCommand_3_3 : decode cX10_lambda_sacksCommand_3 3 = .ok (.invokevirtual 283, 3) := dk_182 1 27 (dk_at dksX10_lambda_sacksCommand_3_0 3 rfl rfl)
theorem dX10_lambda_sacksCommand_3_6 : decode cX10_lambda_sacksCommand_3 6 = .ok (.ireturn, 1) := dk_172 (dk_at dksX10_lambda_sacksCommand_3_0 6 rfl rfl)
abbrev cX10_snowfallCommand : ByteArray := prog_7_method_22_code
def yX10_snowfallCommand : MethodName := ⟨RX10, "snowfallCommand", "(I)LSnowPass$Operation;"⟩
theorem dX10_snowfallCommand_0 : decode cX10_snowfallCommand 0 = .ok (.iload_n 1, 1) := by decide +kernel
theorem dX10_snowfallCommand_1 : decode cX10_snowfallCommand 1 = .ok (.invokedynamic 265, 5) := by decide +kernel
theorem dX10_snowfallCommand_6 : decode cX10_snowfallCommand 6 = .ok (.areturn, 1) := by decide +kernel
abbrev cX10_lambda_snowfallCommand_4 : ByteArray := prog_7_method_29_code
def yX10_lambda_snowfallCommand_4 : MethodName := ⟨RX10, "lambda$snowfallCommand$4", "(ILSnowPass$State;)I"⟩
def dkwX10_lambda_snowfallCommand_4_0 : List UInt8 := [43, 26, 182, 1, 24, 172]
abbrev dktX10_lambda_snowfallCommand_4_0 : List UInt8 := dkwX10_lambda_snowfallCommand_4_0 ++ []
theorem dksX10_lambda_snowfallCommand_4_0 : cX10_lambda_snowfallCommand_4.data.toList.drop 0 = dktX10_lambda_snowfallCommand_4_0 := by decide +kernel
theorem dX10_lambda_snowfallCommand_4_0 : decode cX10_lambda_snowfallCommand_4 0 = .ok (.aload_n 1, 1) := dk_43 (dk_at dksX10_lambda_snowfallCommand_4_0 0 rfl rfl)
theorem dX10_lambda_snowfallCommand_4_1 : decode cX10_lambda_snowfallCommand_4 1 = .ok (.iload_n 0, 1) := dk_26 (dk_at dksX10_lambda_snowfallCommand_4_0 1 rfl rfl)
theorem dX10_lambda_snowfallCommand_4_2 : decode cX10_lambda_snowfallCommand_4 2 = .ok (.invokevirtual 280, 3) := dk_182 1 24 (dk_at dksX10_lambda_snowfallCommand_4_0 2 rfl rfl)
theorem dX10_lambda_snowfallCommand_4_5 : decode cX10_lambda_snowfallCommand_4 5 = .ok (.ireturn, 1) := dk_172 (dk_at dksX10_lambda_snowfallCommand_4_0 5 rfl rfl)
abbrev cX10_windCommand : ByteArray := prog_7_method_23_code
def yX10_windCommand : MethodName := ⟨RX10, "windCommand", "(I)LSnowPass$Operation;"⟩
theorem dX10_windCommand_0 : decode cX10_windCommand 0 = .ok (.iload_n 1, 1) := by decide +kernel
theorem dX10_windCommand_1 : decode cX10_windCommand 1 = .ok (.invokedynamic 266, 5) := by decide +kernel
theorem dX10_windCommand_6 : decode cX10_windCommand 6 = .ok (.areturn, 1) := by decide +kernel
abbrev cX10_lambda_windCommand_5 : ByteArray := prog_7_method_28_code
def yX10_lambda_windCommand_5 : MethodName := ⟨RX10, "lambda$windCommand$5", "(ILSnowPass$State;)I"⟩
def dkwX10_lambda_windCommand_5_0 : List UInt8 := [43, 26, 182, 1, 21, 172]
abbrev dktX10_lambda_windCommand_5_0 : List UInt8 := dkwX10_lambda_windCommand_5_0 ++ []
theorem dksX10_lambda_windCommand_5_0 : cX10_lambda_windCommand_5.data.toList.drop 0 = dktX10_lambda_windCommand_5_0 := by decide +kernel
theorem dX10_lambda_windCommand_5_0 : decode cX10_lambda_windCommand_5 0 = .ok (.aload_n 1, 1) := dk_43 (dk_at dksX10_lambda_windCommand_5_0 0 rfl rfl)
theorem dX10_lambda_windCommand_5_1 : decode cX10_lambda_windCommand_5 1 = .ok (.iload_n 0, 1) := dk_26 (dk_at dksX10_lambda_windCommand_5_0 1 rfl rfl)
theorem dX10_lambda_windCommand_5_2 : decode cX10_lambda_windCommand_5 2 = .ok (.invokevirtual 277, 3) := dk_182 1 21 (dk_at dksX10_lambda_windCommand_5_0 2 rfl rfl)
theorem dX10_lambda_windCommand_5_5 : decode cX10_lambda_windCommand_5 5 = .ok (.ireturn, 1) := dk_172 (dk_at dksX10_lambda_windCommand_5_0 5 rfl rfl)
abbrev cX10_cartCommand : ByteArray := prog_7_method_24_code
def yX10_cartCommand : MethodName := ⟨RX10, "cartCommand", "(I)LSnowPass$Operation;"⟩
def dkwX10_cartCommand_0 : List UInt8 := [42, 182, 0, 202, 61, 27, 28, 186, 1, 11, 0, 0, 176]
abbrev dktX10_cartCommand_0 : List UInt8 := dkwX10_cartCommand_0 ++ []
theorem dksX10_cartCommand_0 : cX10_cartCommand.data.toList.drop 0 = dktX10_cartCommand_0 := by decide +kernel
theorem dX10_cartCommand_0 : decode cX10_cartCommand 0 = .ok (.aload_n 0, 1) := dk_42 (dk_at dksX10_cartCommand_0 0 rfl rfl)
theorem dX10_cartCommand_1 : decode cX10_cartCommand 1 = .ok (.invokevirtual 202, 3) := dk_182 0 202 (dk_at dksX10_cartCommand_0 1 rfl rfl)
theorem dX10_cartCommand_4 : decode cX10_cartCommand 4 = .ok (.istore_n 2, 1) := dk_61 (dk_at dksX10_cartCommand_0 4 rfl rfl)
theorem dX10_cartCommand_5 : decode cX10_cartCommand 5 = .ok (.iload_n 1, 1) := dk_27 (dk_at dksX10_cartCommand_0 5 rfl rfl)
theorem dX10_cartCommand_6 : decode cX10_cartCommand 6 = .ok (.iload_n 2, 1) := dk_28 (dk_at dksX10_cartCommand_0 6 rfl rfl)
theorem dX10_cartCommand_7 : decode cX10_cartCommand 7 = .ok (.invokedynamic 267, 5) := by decide +kernel
theorem dX10_cartCommand_12 : decode cX10_cartCommand 12 = .ok (.areturn, 1) := dk_176 (dk_at dksX10_cartCommand_0 12 rfl rfl)
abbrev cX10_lambda_cartCommand_6 : ByteArray := prog_7_method_27_code
def yX10_lambda_cartCommand_6 : MethodName := ⟨RX10, "lambda$cartCommand$6", "(IZLSnowPass$State;)I"⟩
def dkwX10_lambda_cartCommand_6_0 : List UInt8 := [44, 26, 27, 182, 1, 18, 172]
abbrev dktX10_lambda_cartCommand_6_0 : List UInt8 := dkwX10_lambda_cartCommand_6_0 ++ []
theorem dksX10_lambda_cartCommand_6_0 : cX10_lambda_cartCommand_6.data.toList.drop 0 = dktX10_lambda_cartCommand_6_0 := by decide +kernel
theorem dX10_lambda_cartCommand_6_0 : decode cX10_lambda_cartCommand_6 0 = .ok (.aload_n 2, 1) := dk_44 (dk_at dksX10_lambda_cartCommand_6_0 0 rfl rfl)
theorem dX10_lambda_cartCommand_6_1 : decode cX10_lambda_cartCommand_6 1 = .ok (.iload_n 0, 1) := dk_26 (dk_at dksX10_lambda_cartCommand_6_0 1 rfl rfl)
theorem dX10_lambda_cartCommand_6_2 : decode cX10_lambda_cartCommand_6 2 = .ok (.iload_n 1, 1) := dk_27 (dk_at dksX10_lambda_cartCommand_6_0 2 rfl rfl)
theorem dX10_lambda_cartCommand_6_3 : decode cX10_lambda_cartCommand_6 3 = .ok (.invokevirtual 274, 3) := dk_182 1 18 (dk_at dksX10_lambda_cartCommand_6_0 3 rfl rfl)
theorem dX10_lambda_cartCommand_6_6 : decode cX10_lambda_cartCommand_6 6 = .ok (.ireturn, 1) := dk_172 (dk_at dksX10_lambda_cartCommand_6_0 6 rfl rfl)
abbrev cX10_cancelCommand : ByteArray := prog_7_method_25_code
def yX10_cancelCommand : MethodName := ⟨RX10, "cancelCommand", "(I)LSnowPass$Operation;"⟩
theorem dX10_cancelCommand_0 : decode cX10_cancelCommand 0 = .ok (.iload_n 1, 1) := by decide +kernel
theorem dX10_cancelCommand_1 : decode cX10_cancelCommand 1 = .ok (.invokedynamic 270, 5) := by decide +kernel
theorem dX10_cancelCommand_6 : decode cX10_cancelCommand 6 = .ok (.areturn, 1) := by decide +kernel
abbrev cX10_lambda_cancelCommand_7 : ByteArray := prog_7_method_26_code
def yX10_lambda_cancelCommand_7 : MethodName := ⟨RX10, "lambda$cancelCommand$7", "(ILSnowPass$State;)I"⟩
def dkwX10_lambda_cancelCommand_7_0 : List UInt8 := [43, 26, 182, 1, 15, 172]
abbrev dktX10_lambda_cancelCommand_7_0 : List UInt8 := dkwX10_lambda_cancelCommand_7_0 ++ []
theorem dksX10_lambda_cancelCommand_7_0 : cX10_lambda_cancelCommand_7.data.toList.drop 0 = dktX10_lambda_cancelCommand_7_0 := by decide +kernel
theorem dX10_lambda_cancelCommand_7_0 : decode cX10_lambda_cancelCommand_7 0 = .ok (.aload_n 1, 1) := dk_43 (dk_at dksX10_lambda_cancelCommand_7_0 0 rfl rfl)
theorem dX10_lambda_cancelCommand_7_1 : decode cX10_lambda_cancelCommand_7 1 = .ok (.iload_n 0, 1) := dk_26 (dk_at dksX10_lambda_cancelCommand_7_0 1 rfl rfl)
theorem dX10_lambda_cancelCommand_7_2 : decode cX10_lambda_cancelCommand_7 2 = .ok (.invokevirtual 271, 3) := dk_182 1 15 (dk_at dksX10_lambda_cancelCommand_7_0 2 rfl rfl)
theorem dX10_lambda_cancelCommand_7_5 : decode cX10_lambda_cancelCommand_7 5 = .ok (.ireturn, 1) := dk_172 (dk_at dksX10_lambda_cancelCommand_7_0 5 rfl rfl)
theorem q163 : (Jvm.Cond.initialized "SnowPass$Parser") ∈ lw_all := lw_g (lw_at lw_m1 41 rfl) rfl
theorem q266 : (Jvm.Cond.fieldLinkNest "SnowPass$Parser" (195 : Nat) "SnowPass$Road" "depths" "[I" "SnowPass") ∈ lw_tbl := lw_at lw_m1 144 rfl
theorem q269 : (Jvm.Cond.fieldLinkNest "SnowPass$Parser" (191 : Nat) "SnowPass$Road" "exposures" "[I" "SnowPass") ∈ lw_tbl := lw_at lw_m1 147 rfl
theorem q277 : (Jvm.Cond.fieldLinkNest "SnowPass$Parser" (138 : Nat) "SnowPass$Road" "ploughs" "[LSnowPass$Plough;" "SnowPass") ∈ lw_tbl := lw_at lw_m1 155 rfl
theorem q284 : (Jvm.Cond.fieldLinkNest "SnowPass$Parser" (129 : Nat) "SnowPass$Road" "snowfall" "I" "SnowPass") ∈ lw_tbl := lw_at lw_m1 162 rfl
theorem q288 : (Jvm.Cond.fieldLinkNest "SnowPass$Parser" (132 : Nat) "SnowPass$Road" "wind" "I" "SnowPass") ∈ lw_tbl := lw_at lw_m1 166 rfl
theorem q294 : (Jvm.Cond.fieldLinkNest "SnowPass$Parser" (161 : Nat) "SnowPass$Road" "fallen" "I" "SnowPass") ∈ lw_tbl := lw_at lw_m1 172 rfl
theorem q802 : (Jvm.Cond.selects "SnowPass$Parser" ({ cls := "java/lang/Object", name := "getClass", desc := "()Ljava/lang/Class;" } : Jvm.MethodName) ({ cls := "java/lang/Object", name := "getClass", desc := "()Ljava/lang/Class;" } : Jvm.MethodName)) ∈ lw_all := lw_g (lw_at lw_m3 200 rfl) rfl
theorem q937 : (Jvm.Cond.selects "SnowPass$Parser" ({ cls := "java/lang/Object", name := "hashCode", desc := "()I" } : Jvm.MethodName) ({ cls := "java/lang/Object", name := "hashCode", desc := "()I" } : Jvm.MethodName)) ∈ lw_all := lw_g (lw_at lw_m4 95 rfl) rfl
theorem q1376 : (Jvm.Cond.selects "SnowPass$Parser" ({ cls := "java/lang/Object", name := "equals", desc := "(Ljava/lang/Object;)Z" } : Jvm.MethodName) ({ cls := "java/lang/Object", name := "equals", desc := "(Ljava/lang/Object;)Z" } : Jvm.MethodName)) ∈ lw_all := lw_g (lw_at lw_m6 54 rfl) rfl
theorem q1501 : (Jvm.Cond.fieldLinkNest "SnowPass$Parser" (175 : Nat) "SnowPass$State" "road" "LSnowPass$Road;" "SnowPass") ∈ lw_tbl := lw_at lw_m6 179 rfl
theorem q1504 : (Jvm.Cond.fieldLinkNest "SnowPass$Parser" (181 : Nat) "SnowPass$State" "yard" "LSnowPass$Yard;" "SnowPass") ∈ lw_tbl := lw_at lw_m6 182 rfl
theorem q1537 : (Jvm.Cond.fieldLinkNest "SnowPass$Parser" (31 : Nat) "SnowPass" "buffer" "[B" "SnowPass") ∈ lw_tbl := lw_at lw_m6 215 rfl
theorem q1539 : (Jvm.Cond.fieldLinkNest "SnowPass$Parser" (15 : Nat) "SnowPass" "bufferLength" "I" "SnowPass") ∈ lw_tbl := lw_at lw_m6 217 rfl
theorem q2485 : (Jvm.Cond.instantiable "SnowPass$Parser" (7 : Nat)) ∈ lw_all := lw_g (lw_at lw_m10 203 rfl) rfl
theorem q2487 : (Jvm.Cond.instanceMethod ({ cls := "SnowPass$Parser", name := "<init>", desc := "(LSnowPass;)V" } : Jvm.MethodName)) ∈ lw_all := lw_g (lw_at lw_m10 205 rfl) rfl
theorem q2488 : (Jvm.Cond.code ({ cls := "SnowPass$Parser", name := "<init>", desc := "(LSnowPass;)V" } : Jvm.MethodName) prog_7_method_1_code (2 : Nat) (Option.none : Option Jvm.ClassFile.FieldType)) ∈ lw_all := lw_g (lw_at lw_m10 206 rfl) rfl
theorem q2489 : (Jvm.Cond.methodLink "SnowPass$Parser" (9 : Nat) ({ cls := "java/lang/Object", name := "<init>", desc := "()V" } : Jvm.MethodName)) ∈ lw_all := lw_g (lw_at lw_m10 207 rfl) rfl
theorem q2490 : (Jvm.Cond.stringRef "SnowPass$Parser" (22 : Nat) "") ∈ lw_tbl := lw_at lw_m10 208 rfl
theorem q2491 : (Jvm.Cond.methodLink "SnowPass$Parser" (28 : Nat) ({ cls := "SnowPass$Parser", name := "advance", desc := "()V" } : Jvm.MethodName)) ∈ lw_all := lw_g (lw_at lw_m10 209 rfl) rfl
theorem q2492 : (Jvm.Cond.instanceMethod ({ cls := "SnowPass$Parser", name := "advance", desc := "()V" } : Jvm.MethodName)) ∈ lw_all := lw_g (lw_at lw_m10 210 rfl) rfl
theorem q2493 : (Jvm.Cond.selects "SnowPass$Parser" ({ cls := "SnowPass$Parser", name := "advance", desc := "()V" } : Jvm.MethodName) ({ cls := "SnowPass$Parser", name := "advance", desc := "()V" } : Jvm.MethodName)) ∈ lw_all := lw_g (lw_at lw_m10 211 rfl) rfl
theorem q2494 : (Jvm.Cond.code ({ cls := "SnowPass$Parser", name := "advance", desc := "()V" } : Jvm.MethodName) prog_7_method_3_code (3 : Nat) (Option.none : Option Jvm.ClassFile.FieldType)) ∈ lw_all := lw_g (lw_at lw_m10 212 rfl) rfl
theorem q2495 : (Jvm.Cond.methodLink "SnowPass$Parser" (38 : Nat) ({ cls := "SnowPass$Parser", name := "byteAt", desc := "(I)I" } : Jvm.MethodName)) ∈ lw_all := lw_g (lw_at lw_m10 213 rfl) rfl
theorem q2496 : (Jvm.Cond.privateMethod ({ cls := "SnowPass$Parser", name := "byteAt", desc := "(I)I" } : Jvm.MethodName)) ∈ lw_tbl := lw_at lw_m10 214 rfl
theorem q2497 : (Jvm.Cond.instanceMethod ({ cls := "SnowPass$Parser", name := "byteAt", desc := "(I)I" } : Jvm.MethodName)) ∈ lw_all := lw_g (lw_at lw_m10 215 rfl) rfl
theorem q2498 : (Jvm.Cond.code ({ cls := "SnowPass$Parser", name := "byteAt", desc := "(I)I" } : Jvm.MethodName) prog_7_method_2_code (2 : Nat) (Option.some Jvm.ClassFile.FieldType.int)) ∈ lw_all := lw_g (lw_at lw_m10 216 rfl) rfl
theorem q2499 : (Jvm.Cond.fieldLink "SnowPass$Parser" (45 : Nat) "SnowPass$TokenKind" "END" "LSnowPass$TokenKind;") ∈ lw_all := lw_g (lw_at lw_m10 217 rfl) rfl
theorem q2501 : (Jvm.Cond.constantLong "SnowPass$Parser" (54 : Nat) (97 : Int64)) ∈ lw_all := lw_g (lw_at lw_m10 219 rfl) rfl
theorem q2502 : (Jvm.Cond.constantLong "SnowPass$Parser" (56 : Nat) (122 : Int64)) ∈ lw_all := lw_g (lw_at lw_m10 220 rfl) rfl
theorem q2503 : (Jvm.Cond.methodLinkNest "SnowPass$Parser" (58 : Nat) ({ cls := "SnowPass", name := "inRange", desc := "(JJJ)Z" } : Jvm.MethodName) "SnowPass") ∈ lw_tbl := lw_at lw_m10 221 rfl
theorem q2504 : (Jvm.Cond.fieldLink "SnowPass$Parser" (62 : Nat) "SnowPass$TokenKind" "WORD" "LSnowPass$TokenKind;") ∈ lw_all := lw_g (lw_at lw_m10 222 rfl) rfl
theorem q2506 : (Jvm.Cond.classLink "SnowPass$Parser" (65 : Nat) "java/lang/StringBuilder") ∈ lw_all := lw_g (lw_at lw_m10 224 rfl) rfl
theorem q2507 : (Jvm.Cond.methodLink "SnowPass$Parser" (67 : Nat) ({ cls := "java/lang/StringBuilder", name := "<init>", desc := "()V" } : Jvm.MethodName)) ∈ lw_all := lw_g (lw_at lw_m10 225 rfl) rfl
theorem q2508 : (Jvm.Cond.methodLink "SnowPass$Parser" (68 : Nat) ({ cls := "java/lang/StringBuilder", name := "append", desc := "(C)Ljava/lang/StringBuilder;" } : Jvm.MethodName)) ∈ lw_all := lw_g (lw_at lw_m10 226 rfl) rfl
theorem q2509 : (Jvm.Cond.methodLink "SnowPass$Parser" (72 : Nat) ({ cls := "java/lang/StringBuilder", name := "toString", desc := "()Ljava/lang/String;" } : Jvm.MethodName)) ∈ lw_all := lw_g (lw_at lw_m10 227 rfl) rfl
theorem q2510 : (Jvm.Cond.constantLong "SnowPass$Parser" (76 : Nat) (48 : Int64)) ∈ lw_all := lw_g (lw_at lw_m10 228 rfl) rfl
theorem q2511 : (Jvm.Cond.constantLong "SnowPass$Parser" (78 : Nat) (57 : Int64)) ∈ lw_all := lw_g (lw_at lw_m10 229 rfl) rfl
theorem q2512 : (Jvm.Cond.fieldLink "SnowPass$Parser" (80 : Nat) "SnowPass$TokenKind" "NUMBER" "LSnowPass$TokenKind;") ∈ lw_all := lw_g (lw_at lw_m10 230 rfl) rfl
theorem q2514 : (Jvm.Cond.fieldLink "SnowPass$Parser" (86 : Nat) "SnowPass$TokenKind" "OTHER" "LSnowPass$TokenKind;") ∈ lw_all := lw_g (lw_at lw_m10 232 rfl) rfl
theorem q2516 : (Jvm.Cond.fieldLink "SnowPass$Parser" (19 : Nat) "SnowPass$Parser" "end" "I") ∈ lw_all := lw_g (lw_at lw_m10 234 rfl) rfl
theorem q2517 : (Jvm.Cond.fieldLink "SnowPass$Parser" (35 : Nat) "SnowPass$Parser" "position" "I") ∈ lw_all := lw_g (lw_at lw_m10 235 rfl) rfl
theorem q2518 : (Jvm.Cond.fieldLink "SnowPass$Parser" (42 : Nat) "SnowPass$Parser" "start" "I") ∈ lw_all := lw_g (lw_at lw_m10 236 rfl) rfl
theorem q2519 : (Jvm.Cond.fieldLink "SnowPass$Parser" (83 : Nat) "SnowPass$Parser" "value" "I") ∈ lw_all := lw_g (lw_at lw_m10 237 rfl) rfl
theorem q2520 : (Jvm.Cond.fieldLink "SnowPass$Parser" (24 : Nat) "SnowPass$Parser" "word" "Ljava/lang/String;") ∈ lw_all := lw_g (lw_at lw_m10 238 rfl) rfl
theorem q2521 : (Jvm.Cond.fieldLink "SnowPass$Parser" (51 : Nat) "SnowPass$Parser" "kind" "LSnowPass$TokenKind;") ∈ lw_all := lw_g (lw_at lw_m10 239 rfl) rfl
theorem q2522 : (Jvm.Cond.fieldLink "SnowPass$Parser" (3 : Nat) "SnowPass$Parser" "this$0" "LSnowPass;") ∈ lw_all := lw_g (lw_at lw_m11 0 rfl) rfl
theorem q2523 : (Jvm.Cond.laysFinal "SnowPass$Parser" "SnowPass$Parser" "end" "I") ∈ lw_all := lw_g (lw_at lw_m11 1 rfl) rfl
theorem q2524 : (Jvm.Cond.soleField "SnowPass$Parser" "end") ∈ lw_all := lw_g (lw_at lw_m11 2 rfl) rfl
theorem q2525 : (Jvm.Cond.lays "SnowPass$Parser" "SnowPass$Parser" "position" "I") ∈ lw_all := lw_g (lw_at lw_m11 3 rfl) rfl
theorem q2526 : (Jvm.Cond.soleField "SnowPass$Parser" "position") ∈ lw_all := lw_g (lw_at lw_m11 4 rfl) rfl
theorem q2527 : (Jvm.Cond.lays "SnowPass$Parser" "SnowPass$Parser" "start" "I") ∈ lw_all := lw_g (lw_at lw_m11 5 rfl) rfl
theorem q2528 : (Jvm.Cond.soleField "SnowPass$Parser" "start") ∈ lw_all := lw_g (lw_at lw_m11 6 rfl) rfl
theorem q2529 : (Jvm.Cond.lays "SnowPass$Parser" "SnowPass$Parser" "value" "I") ∈ lw_all := lw_g (lw_at lw_m11 7 rfl) rfl
theorem q2530 : (Jvm.Cond.soleField "SnowPass$Parser" "value") ∈ lw_all := lw_g (lw_at lw_m11 8 rfl) rfl
theorem q2531 : (Jvm.Cond.lays "SnowPass$Parser" "SnowPass$Parser" "word" "Ljava/lang/String;") ∈ lw_all := lw_g (lw_at lw_m11 9 rfl) rfl
theorem q2532 : (Jvm.Cond.soleField "SnowPass$Parser" "word") ∈ lw_all := lw_g (lw_at lw_m11 10 rfl) rfl
theorem q2533 : (Jvm.Cond.lays "SnowPass$Parser" "SnowPass$Parser" "kind" "LSnowPass$TokenKind;") ∈ lw_all := lw_g (lw_at lw_m11 11 rfl) rfl
theorem q2534 : (Jvm.Cond.soleField "SnowPass$Parser" "kind") ∈ lw_all := lw_g (lw_at lw_m11 12 rfl) rfl
theorem q2535 : (Jvm.Cond.laysFinal "SnowPass$Parser" "SnowPass$Parser" "this$0" "LSnowPass;") ∈ lw_all := lw_g (lw_at lw_m11 13 rfl) rfl
theorem q2536 : (Jvm.Cond.soleField "SnowPass$Parser" "this$0") ∈ lw_all := lw_g (lw_at lw_m11 14 rfl) rfl
theorem q2537 : (Jvm.Cond.superclass "SnowPass$Parser" "java/lang/Object") ∈ lw_all := lw_g (lw_at lw_m11 15 rfl) rfl
theorem q2539 : (Jvm.Cond.instanceMethod ({ cls := "SnowPass$Parser", name := "configuration", desc := "()LSnowPass$State;" } : Jvm.MethodName)) ∈ lw_all := lw_g (lw_at lw_m11 17 rfl) rfl
theorem q2540 : (Jvm.Cond.selects "SnowPass$Parser" ({ cls := "SnowPass$Parser", name := "configuration", desc := "()LSnowPass$State;" } : Jvm.MethodName) ({ cls := "SnowPass$Parser", name := "configuration", desc := "()LSnowPass$State;" } : Jvm.MethodName)) ∈ lw_all := lw_g (lw_at lw_m11 18 rfl) rfl
theorem q2541 : (Jvm.Cond.code ({ cls := "SnowPass$Parser", name := "configuration", desc := "()LSnowPass$State;" } : Jvm.MethodName) prog_7_method_11_code (7 : Nat) (Option.some (Jvm.ClassFile.FieldType.object "SnowPass$State"))) ∈ lw_all := lw_g (lw_at lw_m11 19 rfl) rfl
theorem q2542 : (Jvm.Cond.stringRef "SnowPass$Parser" (114 : Nat) "road") ∈ lw_tbl := lw_at lw_m11 20 rfl
theorem q2543 : (Jvm.Cond.methodLink "SnowPass$Parser" (116 : Nat) ({ cls := "SnowPass$Parser", name := "keyword", desc := "(Ljava/lang/String;)V" } : Jvm.MethodName)) ∈ lw_all := lw_g (lw_at lw_m11 21 rfl) rfl
theorem q2544 : (Jvm.Cond.privateMethod ({ cls := "SnowPass$Parser", name := "keyword", desc := "(Ljava/lang/String;)V" } : Jvm.MethodName)) ∈ lw_tbl := lw_at lw_m11 22 rfl
theorem q2545 : (Jvm.Cond.instanceMethod ({ cls := "SnowPass$Parser", name := "keyword", desc := "(Ljava/lang/String;)V" } : Jvm.MethodName)) ∈ lw_all := lw_g (lw_at lw_m11 23 rfl) rfl
theorem q2546 : (Jvm.Cond.code ({ cls := "SnowPass$Parser", name := "keyword", desc := "(Ljava/lang/String;)V" } : Jvm.MethodName) prog_7_method_6_code (2 : Nat) (Option.none : Option Jvm.ClassFile.FieldType)) ∈ lw_all := lw_g (lw_at lw_m11 24 rfl) rfl
theorem q2547 : (Jvm.Cond.methodLink "SnowPass$Parser" (98 : Nat) ({ cls := "java/lang/String", name := "equals", desc := "(Ljava/lang/Object;)Z" } : Jvm.MethodName)) ∈ lw_all := lw_g (lw_at lw_m11 25 rfl) rfl
theorem q2548 : (Jvm.Cond.methodLink "SnowPass$Parser" (94 : Nat) ({ cls := "SnowPass$Parser", name := "require", desc := "(ZI)V" } : Jvm.MethodName)) ∈ lw_all := lw_g (lw_at lw_m11 26 rfl) rfl
theorem q2549 : (Jvm.Cond.privateMethod ({ cls := "SnowPass$Parser", name := "require", desc := "(ZI)V" } : Jvm.MethodName)) ∈ lw_tbl := lw_at lw_m11 27 rfl
theorem q2550 : (Jvm.Cond.instanceMethod ({ cls := "SnowPass$Parser", name := "require", desc := "(ZI)V" } : Jvm.MethodName)) ∈ lw_all := lw_g (lw_at lw_m11 28 rfl) rfl
theorem q2551 : (Jvm.Cond.code ({ cls := "SnowPass$Parser", name := "require", desc := "(ZI)V" } : Jvm.MethodName) prog_7_method_4_code (3 : Nat) (Option.none : Option Jvm.ClassFile.FieldType)) ∈ lw_all := lw_g (lw_at lw_m11 29 rfl) rfl
theorem q2552 : (Jvm.Cond.classLink "SnowPass$Parser" (89 : Nat) "SnowPass$ParseError") ∈ lw_all := lw_g (lw_at lw_m11 30 rfl) rfl
theorem q2561 : (Jvm.Cond.methodLink "SnowPass$Parser" (91 : Nat) ({ cls := "SnowPass$ParseError", name := "<init>", desc := "(II)V" } : Jvm.MethodName)) ∈ lw_all := lw_g (lw_at lw_m11 39 rfl) rfl
theorem q2580 : (Jvm.Cond.methodLink "SnowPass$Parser" (120 : Nat) ({ cls := "SnowPass$Parser", name := "number", desc := "(II)I" } : Jvm.MethodName)) ∈ lw_all := lw_g (lw_at lw_m11 58 rfl) rfl
theorem q2581 : (Jvm.Cond.privateMethod ({ cls := "SnowPass$Parser", name := "number", desc := "(II)I" } : Jvm.MethodName)) ∈ lw_tbl := lw_at lw_m11 59 rfl
theorem q2582 : (Jvm.Cond.instanceMethod ({ cls := "SnowPass$Parser", name := "number", desc := "(II)I" } : Jvm.MethodName)) ∈ lw_all := lw_g (lw_at lw_m11 60 rfl) rfl
theorem q2583 : (Jvm.Cond.code ({ cls := "SnowPass$Parser", name := "number", desc := "(II)I" } : Jvm.MethodName) prog_7_method_5_code (4 : Nat) (Option.some Jvm.ClassFile.FieldType.int)) ∈ lw_all := lw_g (lw_at lw_m11 61 rfl) rfl
theorem q2584 : (Jvm.Cond.classLink "SnowPass$Parser" (124 : Nat) "SnowPass$Road") ∈ lw_all := lw_g (lw_at lw_m11 62 rfl) rfl
theorem q2585 : (Jvm.Cond.methodLink "SnowPass$Parser" (126 : Nat) ({ cls := "SnowPass$Road", name := "<init>", desc := "(IIIII)V" } : Jvm.MethodName)) ∈ lw_all := lw_g (lw_at lw_m11 63 rfl) rfl
theorem q2586 : (Jvm.Cond.methodLink "SnowPass$Parser" (135 : Nat) ({ cls := "SnowPass$Parser", name := "semicolon", desc := "()V" } : Jvm.MethodName)) ∈ lw_all := lw_g (lw_at lw_m11 64 rfl) rfl
theorem q2587 : (Jvm.Cond.privateMethod ({ cls := "SnowPass$Parser", name := "semicolon", desc := "()V" } : Jvm.MethodName)) ∈ lw_tbl := lw_at lw_m11 65 rfl
theorem q2588 : (Jvm.Cond.instanceMethod ({ cls := "SnowPass$Parser", name := "semicolon", desc := "()V" } : Jvm.MethodName)) ∈ lw_all := lw_g (lw_at lw_m11 66 rfl) rfl
theorem q2589 : (Jvm.Cond.code ({ cls := "SnowPass$Parser", name := "semicolon", desc := "()V" } : Jvm.MethodName) prog_7_method_10_code (1 : Nat) (Option.none : Option Jvm.ClassFile.FieldType)) ∈ lw_all := lw_g (lw_at lw_m11 67 rfl) rfl
theorem q2590 : (Jvm.Cond.stringRef "SnowPass$Parser" (104 : Nat) "west") ∈ lw_tbl := lw_at lw_m11 68 rfl
theorem q2591 : (Jvm.Cond.methodLink "SnowPass$Parser" (142 : Nat) ({ cls := "SnowPass$Parser", name := "plough", desc := "(Ljava/lang/String;LSnowPass$Plough;)V" } : Jvm.MethodName)) ∈ lw_all := lw_g (lw_at lw_m11 69 rfl) rfl
theorem q2592 : (Jvm.Cond.privateMethod ({ cls := "SnowPass$Parser", name := "plough", desc := "(Ljava/lang/String;LSnowPass$Plough;)V" } : Jvm.MethodName)) ∈ lw_tbl := lw_at lw_m11 70 rfl
theorem q2593 : (Jvm.Cond.instanceMethod ({ cls := "SnowPass$Parser", name := "plough", desc := "(Ljava/lang/String;LSnowPass$Plough;)V" } : Jvm.MethodName)) ∈ lw_all := lw_g (lw_at lw_m11 71 rfl) rfl
theorem q2594 : (Jvm.Cond.code ({ cls := "SnowPass$Parser", name := "plough", desc := "(Ljava/lang/String;LSnowPass$Plough;)V" } : Jvm.MethodName) prog_7_method_12_code (4 : Nat) (Option.none : Option Jvm.ClassFile.FieldType)) ∈ lw_all := lw_g (lw_at lw_m11 72 rfl) rfl
theorem q2595 : (Jvm.Cond.methodLinkNest "SnowPass$Parser" (164 : Nat) ({ cls := "SnowPass", name := "equip", desc := "(LSnowPass$Plough;II)V" } : Jvm.MethodName) "SnowPass") ∈ lw_tbl := lw_at lw_m11 73 rfl
theorem q2596 : (Jvm.Cond.stringRef "SnowPass$Parser" (106 : Nat) "east") ∈ lw_tbl := lw_at lw_m11 74 rfl
theorem q2597 : (Jvm.Cond.classLink "SnowPass$Parser" (146 : Nat) "SnowPass$State") ∈ lw_all := lw_g (lw_at lw_m11 75 rfl) rfl
theorem q2598 : (Jvm.Cond.classLink "SnowPass$Parser" (148 : Nat) "SnowPass$Yard") ∈ lw_all := lw_g (lw_at lw_m11 76 rfl) rfl
theorem q2599 : (Jvm.Cond.methodLink "SnowPass$Parser" (150 : Nat) ({ cls := "SnowPass$Yard", name := "<init>", desc := "()V" } : Jvm.MethodName)) ∈ lw_all := lw_g (lw_at lw_m11 77 rfl) rfl
theorem q2600 : (Jvm.Cond.methodLink "SnowPass$Parser" (151 : Nat) ({ cls := "SnowPass$State", name := "<init>", desc := "(LSnowPass$Road;LSnowPass$Yard;)V" } : Jvm.MethodName)) ∈ lw_all := lw_g (lw_at lw_m11 78 rfl) rfl
theorem q2601 : (Jvm.Cond.methodLink "SnowPass$Parser" (154 : Nat) ({ cls := "SnowPass$Parser", name := "statement", desc := "(LSnowPass$State;)V" } : Jvm.MethodName)) ∈ lw_all := lw_g (lw_at lw_m11 79 rfl) rfl
theorem q2602 : (Jvm.Cond.privateMethod ({ cls := "SnowPass$Parser", name := "statement", desc := "(LSnowPass$State;)V" } : Jvm.MethodName)) ∈ lw_tbl := lw_at lw_m11 80 rfl
theorem q2603 : (Jvm.Cond.instanceMethod ({ cls := "SnowPass$Parser", name := "statement", desc := "(LSnowPass$State;)V" } : Jvm.MethodName)) ∈ lw_all := lw_g (lw_at lw_m11 81 rfl) rfl
theorem q2604 : (Jvm.Cond.code ({ cls := "SnowPass$Parser", name := "statement", desc := "(LSnowPass$State;)V" } : Jvm.MethodName) prog_7_method_13_code (4 : Nat) (Option.none : Option Jvm.ClassFile.FieldType)) ∈ lw_all := lw_g (lw_at lw_m11 82 rfl) rfl
theorem q2605 : (Jvm.Cond.methodLink "SnowPass$Parser" (168 : Nat) ({ cls := "java/lang/String", name := "hashCode", desc := "()I" } : Jvm.MethodName)) ∈ lw_all := lw_g (lw_at lw_m11 83 rfl) rfl
theorem q2606 : (Jvm.Cond.stringRef "SnowPass$Parser" (171 : Nat) "segment") ∈ lw_tbl := lw_at lw_m11 84 rfl
theorem q2607 : (Jvm.Cond.stringRef "SnowPass$Parser" (173 : Nat) "cart") ∈ lw_tbl := lw_at lw_m11 85 rfl
theorem q2608 : (Jvm.Cond.methodLink "SnowPass$Parser" (178 : Nat) ({ cls := "SnowPass$Parser", name := "segment", desc := "(LSnowPass$Road;)V" } : Jvm.MethodName)) ∈ lw_all := lw_g (lw_at lw_m11 86 rfl) rfl
theorem q2609 : (Jvm.Cond.privateMethod ({ cls := "SnowPass$Parser", name := "segment", desc := "(LSnowPass$Road;)V" } : Jvm.MethodName)) ∈ lw_tbl := lw_at lw_m11 87 rfl
theorem q2610 : (Jvm.Cond.instanceMethod ({ cls := "SnowPass$Parser", name := "segment", desc := "(LSnowPass$Road;)V" } : Jvm.MethodName)) ∈ lw_all := lw_g (lw_at lw_m11 88 rfl) rfl
theorem q2611 : (Jvm.Cond.code ({ cls := "SnowPass$Parser", name := "segment", desc := "(LSnowPass$Road;)V" } : Jvm.MethodName) prog_7_method_14_code (3 : Nat) (Option.none : Option Jvm.ClassFile.FieldType)) ∈ lw_all := lw_g (lw_at lw_m11 89 rfl) rfl
theorem q2612 : (Jvm.Cond.methodLink "SnowPass$Parser" (188 : Nat) ({ cls := "SnowPass$Road", name := "segments", desc := "()I" } : Jvm.MethodName)) ∈ lw_all := lw_g (lw_at lw_m11 90 rfl) rfl
theorem q2613 : (Jvm.Cond.methodLink "SnowPass$Parser" (185 : Nat) ({ cls := "SnowPass$Parser", name := "cart", desc := "(LSnowPass$Yard;)V" } : Jvm.MethodName)) ∈ lw_all := lw_g (lw_at lw_m11 91 rfl) rfl
theorem q2614 : (Jvm.Cond.privateMethod ({ cls := "SnowPass$Parser", name := "cart", desc := "(LSnowPass$Yard;)V" } : Jvm.MethodName)) ∈ lw_tbl := lw_at lw_m11 92 rfl
theorem q2615 : (Jvm.Cond.instanceMethod ({ cls := "SnowPass$Parser", name := "cart", desc := "(LSnowPass$Yard;)V" } : Jvm.MethodName)) ∈ lw_all := lw_g (lw_at lw_m11 93 rfl) rfl
theorem q2616 : (Jvm.Cond.code ({ cls := "SnowPass$Parser", name := "cart", desc := "(LSnowPass$Yard;)V" } : Jvm.MethodName) prog_7_method_15_code (4 : Nat) (Option.none : Option Jvm.ClassFile.FieldType)) ∈ lw_all := lw_g (lw_at lw_m11 94 rfl) rfl
theorem q2617 : (Jvm.Cond.methodLink "SnowPass$Parser" (108 : Nat) ({ cls := "SnowPass$Parser", name := "peekSide", desc := "()I" } : Jvm.MethodName)) ∈ lw_all := lw_g (lw_at lw_m11 95 rfl) rfl
theorem q2618 : (Jvm.Cond.privateMethod ({ cls := "SnowPass$Parser", name := "peekSide", desc := "()I" } : Jvm.MethodName)) ∈ lw_tbl := lw_at lw_m11 96 rfl
theorem q2619 : (Jvm.Cond.instanceMethod ({ cls := "SnowPass$Parser", name := "peekSide", desc := "()I" } : Jvm.MethodName)) ∈ lw_all := lw_g (lw_at lw_m11 97 rfl) rfl
theorem q2620 : (Jvm.Cond.code ({ cls := "SnowPass$Parser", name := "peekSide", desc := "()I" } : Jvm.MethodName) prog_7_method_7_code (1 : Nat) (Option.some Jvm.ClassFile.FieldType.int)) ∈ lw_all := lw_g (lw_at lw_m11 98 rfl) rfl
theorem q2621 : (Jvm.Cond.methodLink "SnowPass$Parser" (198 : Nat) ({ cls := "SnowPass$Yard", name := "isFull", desc := "(I)Z" } : Jvm.MethodName)) ∈ lw_all := lw_g (lw_at lw_m11 99 rfl) rfl
theorem q2632 : (Jvm.Cond.methodLink "SnowPass$Parser" (202 : Nat) ({ cls := "SnowPass$Parser", name := "chains", desc := "()Z" } : Jvm.MethodName)) ∈ lw_all := lw_g (lw_at lw_m11 110 rfl) rfl
theorem q2633 : (Jvm.Cond.privateMethod ({ cls := "SnowPass$Parser", name := "chains", desc := "()Z" } : Jvm.MethodName)) ∈ lw_tbl := lw_at lw_m11 111 rfl
theorem q2634 : (Jvm.Cond.instanceMethod ({ cls := "SnowPass$Parser", name := "chains", desc := "()Z" } : Jvm.MethodName)) ∈ lw_all := lw_g (lw_at lw_m11 112 rfl) rfl
theorem q2635 : (Jvm.Cond.code ({ cls := "SnowPass$Parser", name := "chains", desc := "()Z" } : Jvm.MethodName) prog_7_method_9_code (2 : Nat) (Option.some Jvm.ClassFile.FieldType.boolean)) ∈ lw_all := lw_g (lw_at lw_m11 113 rfl) rfl
theorem q2636 : (Jvm.Cond.stringRef "SnowPass$Parser" (112 : Nat) "chains") ∈ lw_tbl := lw_at lw_m11 114 rfl
theorem q2637 : (Jvm.Cond.methodLink "SnowPass$Parser" (205 : Nat) ({ cls := "SnowPass$Yard", name := "add", desc := "(IZ)I" } : Jvm.MethodName)) ∈ lw_all := lw_g (lw_at lw_m11 115 rfl) rfl
theorem q2638 : (Jvm.Cond.methodLink "SnowPass$Parser" (158 : Nat) ({ cls := "SnowPass$Road", name := "total", desc := "()I" } : Jvm.MethodName)) ∈ lw_all := lw_g (lw_at lw_m11 116 rfl) rfl
theorem q2662 : (Jvm.Cond.instanceMethod ({ cls := "SnowPass$Parser", name := "commands", desc := "()[LSnowPass$Operation;" } : Jvm.MethodName)) ∈ lw_all := lw_g (lw_at lw_m11 140 rfl) rfl
theorem q2663 : (Jvm.Cond.selects "SnowPass$Parser" ({ cls := "SnowPass$Parser", name := "commands", desc := "()[LSnowPass$Operation;" } : Jvm.MethodName) ({ cls := "SnowPass$Parser", name := "commands", desc := "()[LSnowPass$Operation;" } : Jvm.MethodName)) ∈ lw_all := lw_g (lw_at lw_m11 141 rfl) rfl
theorem q2664 : (Jvm.Cond.code ({ cls := "SnowPass$Parser", name := "commands", desc := "()[LSnowPass$Operation;" } : Jvm.MethodName) prog_7_method_16_code (3 : Nat) (Option.some (Jvm.ClassFile.FieldType.array (Jvm.ClassFile.FieldType.object "SnowPass$Operation")))) ∈ lw_all := lw_g (lw_at lw_m11 142 rfl) rfl
theorem q2665 : (Jvm.Cond.classLink "SnowPass$Parser" (209 : Nat) "SnowPass$Operation") ∈ lw_all := lw_g (lw_at lw_m11 143 rfl) rfl
theorem q2667 : (Jvm.Cond.methodLinkNest "SnowPass$Parser" (211 : Nat) ({ cls := "SnowPass", name := "isCommand", desc := "(Ljava/lang/String;)Z" } : Jvm.MethodName) "SnowPass") ∈ lw_tbl := lw_at lw_m11 145 rfl
theorem q2680 : (Jvm.Cond.methodLink "SnowPass$Parser" (215 : Nat) ({ cls := "SnowPass$Parser", name := "command", desc := "()LSnowPass$Operation;" } : Jvm.MethodName)) ∈ lw_all := lw_g (lw_at lw_m11 158 rfl) rfl
theorem q2681 : (Jvm.Cond.privateMethod ({ cls := "SnowPass$Parser", name := "command", desc := "()LSnowPass$Operation;" } : Jvm.MethodName)) ∈ lw_tbl := lw_at lw_m11 159 rfl
theorem q2682 : (Jvm.Cond.instanceMethod ({ cls := "SnowPass$Parser", name := "command", desc := "()LSnowPass$Operation;" } : Jvm.MethodName)) ∈ lw_all := lw_g (lw_at lw_m11 160 rfl) rfl
theorem q2683 : (Jvm.Cond.code ({ cls := "SnowPass$Parser", name := "command", desc := "()LSnowPass$Operation;" } : Jvm.MethodName) prog_7_method_17_code (4 : Nat) (Option.some (Jvm.ClassFile.FieldType.object "SnowPass$Operation"))) ∈ lw_all := lw_g (lw_at lw_m11 161 rfl) rfl
theorem q2684 : (Jvm.Cond.stringRef "SnowPass$Parser" (219 : Nat) "pass") ∈ lw_tbl := lw_at lw_m11 162 rfl
theorem q2685 : (Jvm.Cond.stringRef "SnowPass$Parser" (221 : Nat) "salt") ∈ lw_tbl := lw_at lw_m11 163 rfl
theorem q2686 : (Jvm.Cond.stringRef "SnowPass$Parser" (223 : Nat) "recall") ∈ lw_tbl := lw_at lw_m11 164 rfl
theorem q2687 : (Jvm.Cond.stringRef "SnowPass$Parser" (225 : Nat) "sacks") ∈ lw_tbl := lw_at lw_m11 165 rfl
theorem q2688 : (Jvm.Cond.stringRef "SnowPass$Parser" (227 : Nat) "snowfall") ∈ lw_tbl := lw_at lw_m11 166 rfl
theorem q2689 : (Jvm.Cond.stringRef "SnowPass$Parser" (228 : Nat) "wind") ∈ lw_tbl := lw_at lw_m11 167 rfl
theorem q2690 : (Jvm.Cond.methodLink "SnowPass$Parser" (229 : Nat) ({ cls := "SnowPass$Parser", name := "passCommand", desc := "(I)LSnowPass$Operation;" } : Jvm.MethodName)) ∈ lw_all := lw_g (lw_at lw_m11 168 rfl) rfl
theorem q2691 : (Jvm.Cond.privateMethod ({ cls := "SnowPass$Parser", name := "passCommand", desc := "(I)LSnowPass$Operation;" } : Jvm.MethodName)) ∈ lw_tbl := lw_at lw_m11 169 rfl
theorem q2692 : (Jvm.Cond.instanceMethod ({ cls := "SnowPass$Parser", name := "passCommand", desc := "(I)LSnowPass$Operation;" } : Jvm.MethodName)) ∈ lw_all := lw_g (lw_at lw_m11 170 rfl) rfl
theorem q2693 : (Jvm.Cond.code ({ cls := "SnowPass$Parser", name := "passCommand", desc := "(I)LSnowPass$Operation;" } : Jvm.MethodName) prog_7_method_18_code (2 : Nat) (Option.some (Jvm.ClassFile.FieldType.object "SnowPass$Operation"))) ∈ lw_all := lw_g (lw_at lw_m11 171 rfl) rfl
theorem q2694 : (Jvm.Cond.static ({ cls := "SnowPass$Parser", name := "lambda$passCommand$0", desc := "(ILSnowPass$State;)I" } : Jvm.MethodName)) ∈ lw_all := lw_g (lw_at lw_m11 172 rfl) rfl
theorem q2695 : (Jvm.Cond.code ({ cls := "SnowPass$Parser", name := "lambda$passCommand$0", desc := "(ILSnowPass$State;)I" } : Jvm.MethodName) prog_7_method_33_code (2 : Nat) (Option.some Jvm.ClassFile.FieldType.int)) ∈ lw_all := lw_g (lw_at lw_m11 173 rfl) rfl
theorem q2696 : (Jvm.Cond.methodLink "SnowPass$Parser" (291 : Nat) ({ cls := "SnowPass$State", name := "passHours", desc := "(I)I" } : Jvm.MethodName)) ∈ lw_all := lw_g (lw_at lw_m11 174 rfl) rfl
theorem q2771 : (Jvm.Cond.methodLink "SnowPass$Parser" (233 : Nat) ({ cls := "SnowPass$Parser", name := "side", desc := "()I" } : Jvm.MethodName)) ∈ lw_all := lw_g (lw_at lw_m12 9 rfl) rfl
theorem q2772 : (Jvm.Cond.privateMethod ({ cls := "SnowPass$Parser", name := "side", desc := "()I" } : Jvm.MethodName)) ∈ lw_tbl := lw_at lw_m12 10 rfl
theorem q2773 : (Jvm.Cond.instanceMethod ({ cls := "SnowPass$Parser", name := "side", desc := "()I" } : Jvm.MethodName)) ∈ lw_all := lw_g (lw_at lw_m12 11 rfl) rfl
theorem q2774 : (Jvm.Cond.code ({ cls := "SnowPass$Parser", name := "side", desc := "()I" } : Jvm.MethodName) prog_7_method_8_code (2 : Nat) (Option.some Jvm.ClassFile.FieldType.int)) ∈ lw_all := lw_g (lw_at lw_m12 12 rfl) rfl
theorem q2775 : (Jvm.Cond.methodLink "SnowPass$Parser" (236 : Nat) ({ cls := "SnowPass$Parser", name := "saltCommand", desc := "(I)LSnowPass$Operation;" } : Jvm.MethodName)) ∈ lw_all := lw_g (lw_at lw_m12 13 rfl) rfl
theorem q2776 : (Jvm.Cond.privateMethod ({ cls := "SnowPass$Parser", name := "saltCommand", desc := "(I)LSnowPass$Operation;" } : Jvm.MethodName)) ∈ lw_tbl := lw_at lw_m12 14 rfl
theorem q2777 : (Jvm.Cond.instanceMethod ({ cls := "SnowPass$Parser", name := "saltCommand", desc := "(I)LSnowPass$Operation;" } : Jvm.MethodName)) ∈ lw_all := lw_g (lw_at lw_m12 15 rfl) rfl
theorem q2778 : (Jvm.Cond.code ({ cls := "SnowPass$Parser", name := "saltCommand", desc := "(I)LSnowPass$Operation;" } : Jvm.MethodName) prog_7_method_19_code (2 : Nat) (Option.some (Jvm.ClassFile.FieldType.object "SnowPass$Operation"))) ∈ lw_all := lw_g (lw_at lw_m12 16 rfl) rfl
theorem q2779 : (Jvm.Cond.static ({ cls := "SnowPass$Parser", name := "lambda$saltCommand$1", desc := "(ILSnowPass$State;)I" } : Jvm.MethodName)) ∈ lw_all := lw_g (lw_at lw_m12 17 rfl) rfl
theorem q2780 : (Jvm.Cond.code ({ cls := "SnowPass$Parser", name := "lambda$saltCommand$1", desc := "(ILSnowPass$State;)I" } : Jvm.MethodName) prog_7_method_32_code (2 : Nat) (Option.some Jvm.ClassFile.FieldType.int)) ∈ lw_all := lw_g (lw_at lw_m12 18 rfl) rfl
theorem q2781 : (Jvm.Cond.methodLink "SnowPass$Parser" (288 : Nat) ({ cls := "SnowPass$State", name := "spreadSalt", desc := "(I)I" } : Jvm.MethodName)) ∈ lw_all := lw_g (lw_at lw_m12 19 rfl) rfl
theorem q2786 : (Jvm.Cond.methodLink "SnowPass$Parser" (239 : Nat) ({ cls := "SnowPass$Parser", name := "recallCommand", desc := "(I)LSnowPass$Operation;" } : Jvm.MethodName)) ∈ lw_all := lw_g (lw_at lw_m12 24 rfl) rfl
theorem q2787 : (Jvm.Cond.privateMethod ({ cls := "SnowPass$Parser", name := "recallCommand", desc := "(I)LSnowPass$Operation;" } : Jvm.MethodName)) ∈ lw_tbl := lw_at lw_m12 25 rfl
theorem q2788 : (Jvm.Cond.instanceMethod ({ cls := "SnowPass$Parser", name := "recallCommand", desc := "(I)LSnowPass$Operation;" } : Jvm.MethodName)) ∈ lw_all := lw_g (lw_at lw_m12 26 rfl) rfl
theorem q2789 : (Jvm.Cond.code ({ cls := "SnowPass$Parser", name := "recallCommand", desc := "(I)LSnowPass$Operation;" } : Jvm.MethodName) prog_7_method_20_code (2 : Nat) (Option.some (Jvm.ClassFile.FieldType.object "SnowPass$Operation"))) ∈ lw_all := lw_g (lw_at lw_m12 27 rfl) rfl
theorem q2790 : (Jvm.Cond.static ({ cls := "SnowPass$Parser", name := "lambda$recallCommand$2", desc := "(ILSnowPass$State;)I" } : Jvm.MethodName)) ∈ lw_all := lw_g (lw_at lw_m12 28 rfl) rfl
theorem q2791 : (Jvm.Cond.code ({ cls := "SnowPass$Parser", name := "lambda$recallCommand$2", desc := "(ILSnowPass$State;)I" } : Jvm.MethodName) prog_7_method_31_code (2 : Nat) (Option.some Jvm.ClassFile.FieldType.int)) ∈ lw_all := lw_g (lw_at lw_m12 29 rfl) rfl
theorem q2792 : (Jvm.Cond.methodLink "SnowPass$Parser" (286 : Nat) ({ cls := "SnowPass$State", name := "recall", desc := "(I)I" } : Jvm.MethodName)) ∈ lw_all := lw_g (lw_at lw_m12 30 rfl) rfl
theorem q2799 : (Jvm.Cond.methodLink "SnowPass$Parser" (242 : Nat) ({ cls := "SnowPass$Parser", name := "sacksCommand", desc := "(I)LSnowPass$Operation;" } : Jvm.MethodName)) ∈ lw_all := lw_g (lw_at lw_m12 37 rfl) rfl
theorem q2800 : (Jvm.Cond.privateMethod ({ cls := "SnowPass$Parser", name := "sacksCommand", desc := "(I)LSnowPass$Operation;" } : Jvm.MethodName)) ∈ lw_tbl := lw_at lw_m12 38 rfl
theorem q2801 : (Jvm.Cond.instanceMethod ({ cls := "SnowPass$Parser", name := "sacksCommand", desc := "(I)LSnowPass$Operation;" } : Jvm.MethodName)) ∈ lw_all := lw_g (lw_at lw_m12 39 rfl) rfl
theorem q2802 : (Jvm.Cond.code ({ cls := "SnowPass$Parser", name := "sacksCommand", desc := "(I)LSnowPass$Operation;" } : Jvm.MethodName) prog_7_method_21_code (3 : Nat) (Option.some (Jvm.ClassFile.FieldType.object "SnowPass$Operation"))) ∈ lw_all := lw_g (lw_at lw_m12 40 rfl) rfl
theorem q2803 : (Jvm.Cond.static ({ cls := "SnowPass$Parser", name := "lambda$sacksCommand$3", desc := "(IILSnowPass$State;)I" } : Jvm.MethodName)) ∈ lw_all := lw_g (lw_at lw_m12 41 rfl) rfl
theorem q2804 : (Jvm.Cond.code ({ cls := "SnowPass$Parser", name := "lambda$sacksCommand$3", desc := "(IILSnowPass$State;)I" } : Jvm.MethodName) prog_7_method_30_code (3 : Nat) (Option.some Jvm.ClassFile.FieldType.int)) ∈ lw_all := lw_g (lw_at lw_m12 42 rfl) rfl
theorem q2805 : (Jvm.Cond.methodLink "SnowPass$Parser" (283 : Nat) ({ cls := "SnowPass$State", name := "addSacks", desc := "(II)I" } : Jvm.MethodName)) ∈ lw_all := lw_g (lw_at lw_m12 43 rfl) rfl
theorem q2810 : (Jvm.Cond.methodLink "SnowPass$Parser" (245 : Nat) ({ cls := "SnowPass$Parser", name := "snowfallCommand", desc := "(I)LSnowPass$Operation;" } : Jvm.MethodName)) ∈ lw_all := lw_g (lw_at lw_m12 48 rfl) rfl
theorem q2811 : (Jvm.Cond.privateMethod ({ cls := "SnowPass$Parser", name := "snowfallCommand", desc := "(I)LSnowPass$Operation;" } : Jvm.MethodName)) ∈ lw_tbl := lw_at lw_m12 49 rfl
theorem q2812 : (Jvm.Cond.instanceMethod ({ cls := "SnowPass$Parser", name := "snowfallCommand", desc := "(I)LSnowPass$Operation;" } : Jvm.MethodName)) ∈ lw_all := lw_g (lw_at lw_m12 50 rfl) rfl
theorem q2813 : (Jvm.Cond.code ({ cls := "SnowPass$Parser", name := "snowfallCommand", desc := "(I)LSnowPass$Operation;" } : Jvm.MethodName) prog_7_method_22_code (2 : Nat) (Option.some (Jvm.ClassFile.FieldType.object "SnowPass$Operation"))) ∈ lw_all := lw_g (lw_at lw_m12 51 rfl) rfl
theorem q2814 : (Jvm.Cond.static ({ cls := "SnowPass$Parser", name := "lambda$snowfallCommand$4", desc := "(ILSnowPass$State;)I" } : Jvm.MethodName)) ∈ lw_all := lw_g (lw_at lw_m12 52 rfl) rfl
theorem q2815 : (Jvm.Cond.code ({ cls := "SnowPass$Parser", name := "lambda$snowfallCommand$4", desc := "(ILSnowPass$State;)I" } : Jvm.MethodName) prog_7_method_29_code (2 : Nat) (Option.some Jvm.ClassFile.FieldType.int)) ∈ lw_all := lw_g (lw_at lw_m12 53 rfl) rfl
theorem q2816 : (Jvm.Cond.methodLink "SnowPass$Parser" (280 : Nat) ({ cls := "SnowPass$State", name := "setSnowfall", desc := "(I)I" } : Jvm.MethodName)) ∈ lw_all := lw_g (lw_at lw_m12 54 rfl) rfl
theorem q2820 : (Jvm.Cond.methodLink "SnowPass$Parser" (248 : Nat) ({ cls := "SnowPass$Parser", name := "windCommand", desc := "(I)LSnowPass$Operation;" } : Jvm.MethodName)) ∈ lw_all := lw_g (lw_at lw_m12 58 rfl) rfl
theorem q2821 : (Jvm.Cond.privateMethod ({ cls := "SnowPass$Parser", name := "windCommand", desc := "(I)LSnowPass$Operation;" } : Jvm.MethodName)) ∈ lw_tbl := lw_at lw_m12 59 rfl
theorem q2822 : (Jvm.Cond.instanceMethod ({ cls := "SnowPass$Parser", name := "windCommand", desc := "(I)LSnowPass$Operation;" } : Jvm.MethodName)) ∈ lw_all := lw_g (lw_at lw_m12 60 rfl) rfl
theorem q2823 : (Jvm.Cond.code ({ cls := "SnowPass$Parser", name := "windCommand", desc := "(I)LSnowPass$Operation;" } : Jvm.MethodName) prog_7_method_23_code (2 : Nat) (Option.some (Jvm.ClassFile.FieldType.object "SnowPass$Operation"))) ∈ lw_all := lw_g (lw_at lw_m12 61 rfl) rfl
theorem q2824 : (Jvm.Cond.static ({ cls := "SnowPass$Parser", name := "lambda$windCommand$5", desc := "(ILSnowPass$State;)I" } : Jvm.MethodName)) ∈ lw_all := lw_g (lw_at lw_m12 62 rfl) rfl
theorem q2825 : (Jvm.Cond.code ({ cls := "SnowPass$Parser", name := "lambda$windCommand$5", desc := "(ILSnowPass$State;)I" } : Jvm.MethodName) prog_7_method_28_code (2 : Nat) (Option.some Jvm.ClassFile.FieldType.int)) ∈ lw_all := lw_g (lw_at lw_m12 63 rfl) rfl
theorem q2826 : (Jvm.Cond.methodLink "SnowPass$Parser" (277 : Nat) ({ cls := "SnowPass$State", name := "setWind", desc := "(I)I" } : Jvm.MethodName)) ∈ lw_all := lw_g (lw_at lw_m12 64 rfl) rfl
theorem q2830 : (Jvm.Cond.methodLink "SnowPass$Parser" (251 : Nat) ({ cls := "SnowPass$Parser", name := "cartCommand", desc := "(I)LSnowPass$Operation;" } : Jvm.MethodName)) ∈ lw_all := lw_g (lw_at lw_m12 68 rfl) rfl
theorem q2831 : (Jvm.Cond.privateMethod ({ cls := "SnowPass$Parser", name := "cartCommand", desc := "(I)LSnowPass$Operation;" } : Jvm.MethodName)) ∈ lw_tbl := lw_at lw_m12 69 rfl
theorem q2832 : (Jvm.Cond.instanceMethod ({ cls := "SnowPass$Parser", name := "cartCommand", desc := "(I)LSnowPass$Operation;" } : Jvm.MethodName)) ∈ lw_all := lw_g (lw_at lw_m12 70 rfl) rfl
theorem q2833 : (Jvm.Cond.code ({ cls := "SnowPass$Parser", name := "cartCommand", desc := "(I)LSnowPass$Operation;" } : Jvm.MethodName) prog_7_method_24_code (3 : Nat) (Option.some (Jvm.ClassFile.FieldType.object "SnowPass$Operation"))) ∈ lw_all := lw_g (lw_at lw_m12 71 rfl) rfl
theorem q2834 : (Jvm.Cond.static ({ cls := "SnowPass$Parser", name := "lambda$cartCommand$6", desc := "(IZLSnowPass$State;)I" } : Jvm.MethodName)) ∈ lw_all := lw_g (lw_at lw_m12 72 rfl) rfl
theorem q2835 : (Jvm.Cond.code ({ cls := "SnowPass$Parser", name := "lambda$cartCommand$6", desc := "(IZLSnowPass$State;)I" } : Jvm.MethodName) prog_7_method_27_code (3 : Nat) (Option.some Jvm.ClassFile.FieldType.int)) ∈ lw_all := lw_g (lw_at lw_m12 73 rfl) rfl
theorem q2836 : (Jvm.Cond.methodLink "SnowPass$Parser" (274 : Nat) ({ cls := "SnowPass$State", name := "queueCart", desc := "(IZ)I" } : Jvm.MethodName)) ∈ lw_all := lw_g (lw_at lw_m12 74 rfl) rfl
theorem q2842 : (Jvm.Cond.methodLink "SnowPass$Parser" (254 : Nat) ({ cls := "SnowPass$Parser", name := "cancelCommand", desc := "(I)LSnowPass$Operation;" } : Jvm.MethodName)) ∈ lw_all := lw_g (lw_at lw_m12 80 rfl) rfl
theorem q2843 : (Jvm.Cond.privateMethod ({ cls := "SnowPass$Parser", name := "cancelCommand", desc := "(I)LSnowPass$Operation;" } : Jvm.MethodName)) ∈ lw_tbl := lw_at lw_m12 81 rfl
theorem q2844 : (Jvm.Cond.instanceMethod ({ cls := "SnowPass$Parser", name := "cancelCommand", desc := "(I)LSnowPass$Operation;" } : Jvm.MethodName)) ∈ lw_all := lw_g (lw_at lw_m12 82 rfl) rfl
theorem q2845 : (Jvm.Cond.code ({ cls := "SnowPass$Parser", name := "cancelCommand", desc := "(I)LSnowPass$Operation;" } : Jvm.MethodName) prog_7_method_25_code (2 : Nat) (Option.some (Jvm.ClassFile.FieldType.object "SnowPass$Operation"))) ∈ lw_all := lw_g (lw_at lw_m12 83 rfl) rfl
theorem q2846 : (Jvm.Cond.static ({ cls := "SnowPass$Parser", name := "lambda$cancelCommand$7", desc := "(ILSnowPass$State;)I" } : Jvm.MethodName)) ∈ lw_all := lw_g (lw_at lw_m12 84 rfl) rfl
theorem q2847 : (Jvm.Cond.code ({ cls := "SnowPass$Parser", name := "lambda$cancelCommand$7", desc := "(ILSnowPass$State;)I" } : Jvm.MethodName) prog_7_method_26_code (2 : Nat) (Option.some Jvm.ClassFile.FieldType.int)) ∈ lw_all := lw_g (lw_at lw_m12 85 rfl) rfl
theorem q2848 : (Jvm.Cond.methodLink "SnowPass$Parser" (271 : Nat) ({ cls := "SnowPass$State", name := "cancelCart", desc := "(I)I" } : Jvm.MethodName)) ∈ lw_all := lw_g (lw_at lw_m12 86 rfl) rfl
theorem q4006 : (Jvm.Cond.castable "SnowPass$Parser" "java/lang/Object") ∈ lw_tbl := lw_at lw_m17 44 rfl
theorem in_X10 : ∀ w ∈ wsX100, w ∈ lw_all := lw_in wsX100 [2523, 2525, 2527, 2529, 2531, 2533, 2535] (by decide +kernel) (by decide +kernel)

/-! SnowPass$ParseError -/
def RX11 : String := "SnowPass$ParseError"
def TX11 : u_T := fun k => match k with
  | 0 => ("java/lang/Throwable", "cause", "Ljava/lang/Throwable;", false)
  | 1 => ("java/lang/Throwable", "stackTrace", "[Ljava/lang/StackTraceElement;", false)
  | 2 => ("java/lang/Throwable", "suppressedExceptions", "Ljava/util/List;", false)
  | 3 => ("java/lang/Throwable", "detailMessage", "Ljava/lang/String;", false)
  | 4 => ("java/lang/Throwable", "backtrace", "Ljava/lang/Object;", false)
  | 5 => ("java/lang/Throwable", "depth", "I", false)
  | 6 => ("SnowPass$ParseError", "code", "I", true)
  | _ => ("SnowPass$ParseError", "position", "I", true)
def tyX11 : Nat → FieldType := fun k => match k with
  | 0 => .object "java/lang/Throwable"
  | 1 => .array (.object "java/lang/StackTraceElement")
  | 2 => .object "java/util/List"
  | 3 => .object "java/lang/String"
  | 4 => .object "java/lang/Object"
  | 5 => .int
  | 6 => .int
  | _ => .int
abbrev wsX110 : List Cond := u_ws RX11 TX11 8
theorem nmX11 : ∀ a, a < 8 → ∀ b, b < 8 → a ≠ b → (TX11 a).2.1 ≠ (TX11 b).2.1 := by decide +kernel
theorem tyX11_ok : ∀ k, k < 8 → parseFieldDescriptor (TX11 k).2.2.1 = some (tyX11 k) := by decide +kernel
abbrev cX11_init : ByteArray := prog_6_method_1_code
def yX11_init : MethodName := ⟨RX11, "<init>", "(II)V"⟩
def dkwX11_init_0 : List UInt8 := [42, 1, 1, 3, 3, 183, 0, 1, 42, 27, 181, 0, 7, 42, 28, 181, 0, 13, 177]
abbrev dktX11_init_0 : List UInt8 := dkwX11_init_0 ++ []
theorem dksX11_init_0 : cX11_init.data.toList.drop 0 = dktX11_init_0 := by decide +kernel
theorem dX11_init_0 : decode cX11_init 0 = .ok (.aload_n 0, 1) := dk_42 (dk_at dksX11_init_0 0 rfl rfl)
theorem dX11_init_1 : decode cX11_init 1 = .ok (.aconst_null, 1) := dk_1 (dk_at dksX11_init_0 1 rfl rfl)
theorem dX11_init_2 : decode cX11_init 2 = .ok (.aconst_null, 1) := dk_1 (dk_at dksX11_init_0 2 rfl rfl)
theorem dX11_init_3 : decode cX11_init 3 = .ok (.iconst 0, 1) := dk_3 (dk_at dksX11_init_0 3 rfl rfl)
theorem dX11_init_4 : decode cX11_init 4 = .ok (.iconst 0, 1) := dk_3 (dk_at dksX11_init_0 4 rfl rfl)
theorem dX11_init_5 : decode cX11_init 5 = .ok (.invokespecial 1, 3) := dk_183 0 1 (dk_at dksX11_init_0 5 rfl rfl)
theorem dX11_init_8 : decode cX11_init 8 = .ok (.aload_n 0, 1) := dk_42 (dk_at dksX11_init_0 8 rfl rfl)
theorem dX11_init_9 : decode cX11_init 9 = .ok (.iload_n 1, 1) := dk_27 (dk_at dksX11_init_0 9 rfl rfl)
theorem dX11_init_10 : decode cX11_init 10 = .ok (.putfield 7, 3) := dk_181 0 7 (dk_at dksX11_init_0 10 rfl rfl)
theorem dX11_init_13 : decode cX11_init 13 = .ok (.aload_n 0, 1) := dk_42 (dk_at dksX11_init_0 13 rfl rfl)
theorem dX11_init_14 : decode cX11_init 14 = .ok (.iload_n 2, 1) := dk_28 (dk_at dksX11_init_0 14 rfl rfl)
theorem dX11_init_15 : decode cX11_init 15 = .ok (.putfield 13, 3) := dk_181 0 13 (dk_at dksX11_init_0 15 rfl rfl)
theorem dX11_init_18 : decode cX11_init 18 = .ok (.return_, 1) := dk_177 (dk_at dksX11_init_0 18 rfl rfl)
theorem q166 : (Jvm.Cond.initialized "SnowPass$ParseError") ∈ lw_all := lw_g (lw_at lw_m1 44 rfl) rfl
theorem q403 : (Jvm.Cond.selects "SnowPass$ParseError" ({ cls := "java/lang/Throwable", name := "fillInStackTrace", desc := "()Ljava/lang/Throwable;" } : Jvm.MethodName) ({ cls := "java/lang/Throwable", name := "fillInStackTrace", desc := "()Ljava/lang/Throwable;" } : Jvm.MethodName)) ∈ lw_all := lw_g (lw_at lw_m2 41 rfl) rfl
theorem q801 : (Jvm.Cond.selects "SnowPass$ParseError" ({ cls := "java/lang/Object", name := "getClass", desc := "()Ljava/lang/Class;" } : Jvm.MethodName) ({ cls := "java/lang/Object", name := "getClass", desc := "()Ljava/lang/Class;" } : Jvm.MethodName)) ∈ lw_all := lw_g (lw_at lw_m3 199 rfl) rfl
theorem q936 : (Jvm.Cond.selects "SnowPass$ParseError" ({ cls := "java/lang/Object", name := "hashCode", desc := "()I" } : Jvm.MethodName) ({ cls := "java/lang/Object", name := "hashCode", desc := "()I" } : Jvm.MethodName)) ∈ lw_all := lw_g (lw_at lw_m4 94 rfl) rfl
theorem q1375 : (Jvm.Cond.selects "SnowPass$ParseError" ({ cls := "java/lang/Object", name := "equals", desc := "(Ljava/lang/Object;)Z" } : Jvm.MethodName) ({ cls := "java/lang/Object", name := "equals", desc := "(Ljava/lang/Object;)Z" } : Jvm.MethodName)) ∈ lw_all := lw_g (lw_at lw_m6 53 rfl) rfl
theorem q2553 : (Jvm.Cond.instantiable "SnowPass$ParseError" (8 : Nat)) ∈ lw_all := lw_g (lw_at lw_m11 31 rfl) rfl
theorem q2554 : (Jvm.Cond.castable "SnowPass$ParseError" "SnowPass$ParseError") ∈ lw_tbl := lw_at lw_m11 32 rfl
theorem q2555 : (Jvm.Cond.selects "SnowPass$ParseError" ({ cls := "java/lang/Throwable", name := "fillInStackTrace", desc := "(I)Ljava/lang/Throwable;" } : Jvm.MethodName) ({ cls := "java/lang/Throwable", name := "fillInStackTrace", desc := "(I)Ljava/lang/Throwable;" } : Jvm.MethodName)) ∈ lw_all := lw_g (lw_at lw_m11 33 rfl) rfl
theorem q2556 : (Jvm.Cond.lays "SnowPass$ParseError" "java/lang/Throwable" "cause" "Ljava/lang/Throwable;") ∈ lw_all := lw_g (lw_at lw_m11 34 rfl) rfl
theorem q2557 : (Jvm.Cond.lays "SnowPass$ParseError" "java/lang/Throwable" "stackTrace" "[Ljava/lang/StackTraceElement;") ∈ lw_all := lw_g (lw_at lw_m11 35 rfl) rfl
theorem q2558 : (Jvm.Cond.lays "SnowPass$ParseError" "java/lang/Throwable" "suppressedExceptions" "Ljava/util/List;") ∈ lw_all := lw_g (lw_at lw_m11 36 rfl) rfl
theorem q2559 : (Jvm.Cond.lays "SnowPass$ParseError" "java/lang/Throwable" "detailMessage" "Ljava/lang/String;") ∈ lw_all := lw_g (lw_at lw_m11 37 rfl) rfl
theorem q2560 : (Jvm.Cond.lays "SnowPass$ParseError" "java/lang/Throwable" "backtrace" "Ljava/lang/Object;") ∈ lw_all := lw_g (lw_at lw_m11 38 rfl) rfl
theorem q2562 : (Jvm.Cond.instanceMethod ({ cls := "SnowPass$ParseError", name := "<init>", desc := "(II)V" } : Jvm.MethodName)) ∈ lw_all := lw_g (lw_at lw_m11 40 rfl) rfl
theorem q2563 : (Jvm.Cond.code ({ cls := "SnowPass$ParseError", name := "<init>", desc := "(II)V" } : Jvm.MethodName) prog_6_method_1_code (3 : Nat) (Option.none : Option Jvm.ClassFile.FieldType)) ∈ lw_all := lw_g (lw_at lw_m11 41 rfl) rfl
theorem q2564 : (Jvm.Cond.methodLink "SnowPass$ParseError" (1 : Nat) ({ cls := "java/lang/Exception", name := "<init>", desc := "(Ljava/lang/String;Ljava/lang/Throwable;ZZ)V" } : Jvm.MethodName)) ∈ lw_all := lw_g (lw_at lw_m11 42 rfl) rfl
theorem q2570 : (Jvm.Cond.fieldLink "SnowPass$ParseError" (7 : Nat) "SnowPass$ParseError" "code" "I") ∈ lw_all := lw_g (lw_at lw_m11 48 rfl) rfl
theorem q2572 : (Jvm.Cond.fieldLink "SnowPass$ParseError" (13 : Nat) "SnowPass$ParseError" "position" "I") ∈ lw_all := lw_g (lw_at lw_m11 50 rfl) rfl
theorem q2574 : (Jvm.Cond.laysFinal "SnowPass$ParseError" "SnowPass$ParseError" "code" "I") ∈ lw_all := lw_g (lw_at lw_m11 52 rfl) rfl
theorem q2575 : (Jvm.Cond.soleField "SnowPass$ParseError" "code") ∈ lw_all := lw_g (lw_at lw_m11 53 rfl) rfl
theorem q2576 : (Jvm.Cond.laysFinal "SnowPass$ParseError" "SnowPass$ParseError" "position" "I") ∈ lw_all := lw_g (lw_at lw_m11 54 rfl) rfl
theorem q2577 : (Jvm.Cond.soleField "SnowPass$ParseError" "position") ∈ lw_all := lw_g (lw_at lw_m11 55 rfl) rfl
theorem q2578 : (Jvm.Cond.lays "SnowPass$ParseError" "java/lang/Throwable" "depth" "I") ∈ lw_all := lw_g (lw_at lw_m11 56 rfl) rfl
theorem q2579 : (Jvm.Cond.superclass "SnowPass$ParseError" "java/lang/Exception") ∈ lw_all := lw_g (lw_at lw_m11 57 rfl) rfl
theorem q4008 : (Jvm.Cond.castable "SnowPass$ParseError" "java/lang/Object") ∈ lw_tbl := lw_at lw_m17 46 rfl
theorem in_X11 : ∀ w ∈ wsX110, w ∈ lw_all := lw_in wsX110 [2556, 2557, 2558, 2559, 2560, 2578, 2574, 2576] (by decide +kernel) (by decide +kernel)

/-! SnowPass$Side -/
def RX12 : String := "SnowPass$Side"
def TX12 : u_T := fun k => match k with
  | 0 => ("SnowPass$Side", "from", "I", true)
  | _ => ("SnowPass$Side", "to", "I", true)
def tyX12 : Nat → FieldType := fun k => match k with
  | 0 => .int
  | _ => .int
abbrev wsX120 : List Cond := u_ws RX12 TX12 2
theorem nmX12 : ∀ a, a < 2 → ∀ b, b < 2 → a ≠ b → (TX12 a).2.1 ≠ (TX12 b).2.1 := by decide +kernel
theorem tyX12_ok : ∀ k, k < 2 → parseFieldDescriptor (TX12 k).2.2.1 = some (tyX12 k) := by decide +kernel
abbrev cX12_init : ByteArray := prog_10_method_1_code
def yX12_init : MethodName := ⟨RX12, "<init>", "(II)V"⟩
def dkwX12_init_0 : List UInt8 := [42, 183, 0, 1, 42, 27, 181, 0, 7, 42, 28, 181, 0, 13, 177]
abbrev dktX12_init_0 : List UInt8 := dkwX12_init_0 ++ []
theorem dksX12_init_0 : cX12_init.data.toList.drop 0 = dktX12_init_0 := by decide +kernel
theorem dX12_init_0 : decode cX12_init 0 = .ok (.aload_n 0, 1) := dk_42 (dk_at dksX12_init_0 0 rfl rfl)
theorem dX12_init_1 : decode cX12_init 1 = .ok (.invokespecial 1, 3) := dk_183 0 1 (dk_at dksX12_init_0 1 rfl rfl)
theorem dX12_init_4 : decode cX12_init 4 = .ok (.aload_n 0, 1) := dk_42 (dk_at dksX12_init_0 4 rfl rfl)
theorem dX12_init_5 : decode cX12_init 5 = .ok (.iload_n 1, 1) := dk_27 (dk_at dksX12_init_0 5 rfl rfl)
theorem dX12_init_6 : decode cX12_init 6 = .ok (.putfield 7, 3) := dk_181 0 7 (dk_at dksX12_init_0 6 rfl rfl)
theorem dX12_init_9 : decode cX12_init 9 = .ok (.aload_n 0, 1) := dk_42 (dk_at dksX12_init_0 9 rfl rfl)
theorem dX12_init_10 : decode cX12_init 10 = .ok (.iload_n 2, 1) := dk_28 (dk_at dksX12_init_0 10 rfl rfl)
theorem dX12_init_11 : decode cX12_init 11 = .ok (.putfield 13, 3) := dk_181 0 13 (dk_at dksX12_init_0 11 rfl rfl)
theorem dX12_init_14 : decode cX12_init 14 = .ok (.return_, 1) := dk_177 (dk_at dksX12_init_0 14 rfl rfl)
abbrev cX12_iterator : ByteArray := prog_10_method_2_code
def yX12_iterator : MethodName := ⟨RX12, "iterator", "()Ljava/util/Iterator;"⟩
def dkwX12_iterator_0 : List UInt8 := [187, 0, 16, 89, 42, 183, 0, 18, 176]
abbrev dktX12_iterator_0 : List UInt8 := dkwX12_iterator_0 ++ []
theorem dksX12_iterator_0 : cX12_iterator.data.toList.drop 0 = dktX12_iterator_0 := by decide +kernel
theorem dX12_iterator_0 : decode cX12_iterator 0 = .ok (.new 16, 3) := dk_187 0 16 (dk_at dksX12_iterator_0 0 rfl rfl)
theorem dX12_iterator_3 : decode cX12_iterator 3 = .ok (.dup, 1) := dk_89 (dk_at dksX12_iterator_0 3 rfl rfl)
theorem dX12_iterator_4 : decode cX12_iterator 4 = .ok (.aload_n 0, 1) := dk_42 (dk_at dksX12_iterator_0 4 rfl rfl)
theorem dX12_iterator_5 : decode cX12_iterator 5 = .ok (.invokespecial 18, 3) := dk_183 0 18 (dk_at dksX12_iterator_0 5 rfl rfl)
theorem dX12_iterator_8 : decode cX12_iterator 8 = .ok (.areturn, 1) := dk_176 (dk_at dksX12_iterator_0 8 rfl rfl)
theorem q180 : (Jvm.Cond.initialized "SnowPass$Side") ∈ lw_all := lw_g (lw_at lw_m1 58 rfl) rfl
theorem q805 : (Jvm.Cond.selects "SnowPass$Side" ({ cls := "java/lang/Object", name := "getClass", desc := "()Ljava/lang/Class;" } : Jvm.MethodName) ({ cls := "java/lang/Object", name := "getClass", desc := "()Ljava/lang/Class;" } : Jvm.MethodName)) ∈ lw_all := lw_g (lw_at lw_m3 203 rfl) rfl
theorem q940 : (Jvm.Cond.selects "SnowPass$Side" ({ cls := "java/lang/Object", name := "hashCode", desc := "()I" } : Jvm.MethodName) ({ cls := "java/lang/Object", name := "hashCode", desc := "()I" } : Jvm.MethodName)) ∈ lw_all := lw_g (lw_at lw_m4 98 rfl) rfl
theorem q1379 : (Jvm.Cond.selects "SnowPass$Side" ({ cls := "java/lang/Object", name := "equals", desc := "(Ljava/lang/Object;)Z" } : Jvm.MethodName) ({ cls := "java/lang/Object", name := "equals", desc := "(Ljava/lang/Object;)Z" } : Jvm.MethodName)) ∈ lw_all := lw_g (lw_at lw_m6 57 rfl) rfl
theorem q1606 : (Jvm.Cond.instantiable "SnowPass$Side" (2 : Nat)) ∈ lw_all := lw_g (lw_at lw_m7 44 rfl) rfl
theorem q1608 : (Jvm.Cond.instanceMethod ({ cls := "SnowPass$Side", name := "<init>", desc := "(II)V" } : Jvm.MethodName)) ∈ lw_all := lw_g (lw_at lw_m7 46 rfl) rfl
theorem q1609 : (Jvm.Cond.code ({ cls := "SnowPass$Side", name := "<init>", desc := "(II)V" } : Jvm.MethodName) prog_10_method_1_code (3 : Nat) (Option.none : Option Jvm.ClassFile.FieldType)) ∈ lw_all := lw_g (lw_at lw_m7 47 rfl) rfl
theorem q1610 : (Jvm.Cond.methodLink "SnowPass$Side" (1 : Nat) ({ cls := "java/lang/Object", name := "<init>", desc := "()V" } : Jvm.MethodName)) ∈ lw_all := lw_g (lw_at lw_m7 48 rfl) rfl
theorem q1611 : (Jvm.Cond.fieldLink "SnowPass$Side" (7 : Nat) "SnowPass$Side" "from" "I") ∈ lw_all := lw_g (lw_at lw_m7 49 rfl) rfl
theorem q1613 : (Jvm.Cond.fieldLink "SnowPass$Side" (13 : Nat) "SnowPass$Side" "to" "I") ∈ lw_all := lw_g (lw_at lw_m7 51 rfl) rfl
theorem q1615 : (Jvm.Cond.laysFinal "SnowPass$Side" "SnowPass$Side" "from" "I") ∈ lw_all := lw_g (lw_at lw_m7 53 rfl) rfl
theorem q1616 : (Jvm.Cond.soleField "SnowPass$Side" "from") ∈ lw_all := lw_g (lw_at lw_m7 54 rfl) rfl
theorem q1617 : (Jvm.Cond.laysFinal "SnowPass$Side" "SnowPass$Side" "to" "I") ∈ lw_all := lw_g (lw_at lw_m7 55 rfl) rfl
theorem q1618 : (Jvm.Cond.soleField "SnowPass$Side" "to") ∈ lw_all := lw_g (lw_at lw_m7 56 rfl) rfl
theorem q1619 : (Jvm.Cond.superclass "SnowPass$Side" "java/lang/Object") ∈ lw_all := lw_g (lw_at lw_m7 57 rfl) rfl
theorem q1621 : (Jvm.Cond.instanceMethod ({ cls := "SnowPass$Side", name := "iterator", desc := "()Ljava/util/Iterator;" } : Jvm.MethodName)) ∈ lw_all := lw_g (lw_at lw_m7 59 rfl) rfl
theorem q1622 : (Jvm.Cond.selects "SnowPass$Side" ({ cls := "SnowPass$Side", name := "iterator", desc := "()Ljava/util/Iterator;" } : Jvm.MethodName) ({ cls := "SnowPass$Side", name := "iterator", desc := "()Ljava/util/Iterator;" } : Jvm.MethodName)) ∈ lw_all := lw_g (lw_at lw_m7 60 rfl) rfl
theorem q1623 : (Jvm.Cond.code ({ cls := "SnowPass$Side", name := "iterator", desc := "()Ljava/util/Iterator;" } : Jvm.MethodName) prog_10_method_2_code (1 : Nat) (Option.some (Jvm.ClassFile.FieldType.object "java/util/Iterator"))) ∈ lw_all := lw_g (lw_at lw_m7 61 rfl) rfl
theorem q1624 : (Jvm.Cond.classLink "SnowPass$Side" (16 : Nat) "SnowPass$Side$Walk") ∈ lw_all := lw_g (lw_at lw_m7 62 rfl) rfl
theorem q1626 : (Jvm.Cond.methodLinkNest "SnowPass$Side" (18 : Nat) ({ cls := "SnowPass$Side$Walk", name := "<init>", desc := "(LSnowPass$Side;)V" } : Jvm.MethodName) "SnowPass") ∈ lw_tbl := lw_at lw_m7 64 rfl
theorem q3011 : (Jvm.Cond.castable "SnowPass$Side" "java/lang/Iterable") ∈ lw_tbl := lw_at lw_m13 9 rfl
theorem q3012 : (Jvm.Cond.selects "SnowPass$Side" ({ cls := "java/lang/Iterable", name := "iterator", desc := "()Ljava/util/Iterator;" } : Jvm.MethodName) ({ cls := "SnowPass$Side", name := "iterator", desc := "()Ljava/util/Iterator;" } : Jvm.MethodName)) ∈ lw_all := lw_g (lw_at lw_m13 10 rfl) rfl
theorem q3013 : (Jvm.Cond.unhidden "SnowPass$Side" "iterator" "()Ljava/util/Iterator;") ∈ lw_tbl := lw_at lw_m13 11 rfl
theorem q3014 : (Jvm.Cond.publicMethod ({ cls := "SnowPass$Side", name := "iterator", desc := "()Ljava/util/Iterator;" } : Jvm.MethodName)) ∈ lw_tbl := lw_at lw_m13 12 rfl
theorem q4014 : (Jvm.Cond.castable "SnowPass$Side" "java/lang/Object") ∈ lw_tbl := lw_at lw_m17 52 rfl
theorem in_X12 : ∀ w ∈ wsX120, w ∈ lw_all := lw_in wsX120 [1615, 1617] (by decide +kernel) (by decide +kernel)

/-! SnowPass$Side$Walk -/
def RX13 : String := "SnowPass$Side$Walk"
def TX13 : u_T := fun k => match k with
  | 0 => ("SnowPass$Side$Walk", "step", "I", true)
  | 1 => ("SnowPass$Side$Walk", "next", "I", false)
  | 2 => ("SnowPass$Side$Walk", "done", "Z", false)
  | _ => ("SnowPass$Side$Walk", "this$0", "LSnowPass$Side;", true)
def tyX13 : Nat → FieldType := fun k => match k with
  | 0 => .int
  | 1 => .int
  | 2 => .boolean
  | _ => .object "SnowPass$Side"
abbrev wsX130 : List Cond := u_ws RX13 TX13 4
theorem nmX13 : ∀ a, a < 4 → ∀ b, b < 4 → a ≠ b → (TX13 a).2.1 ≠ (TX13 b).2.1 := by decide +kernel
theorem tyX13_ok : ∀ k, k < 4 → parseFieldDescriptor (TX13 k).2.2.1 = some (tyX13 k) := by decide +kernel
abbrev cX13_init : ByteArray := prog_11_method_1_code
def yX13_init : MethodName := ⟨RX13, "<init>", "(LSnowPass$Side;)V"⟩
def dkwX13_init_1 : List UInt8 := [100, 184, 0, 22, 181, 0, 28, 42, 42, 180, 0, 1, 180, 0, 19, 181, 0, 31, 177]
abbrev dktX13_init_1 : List UInt8 := dkwX13_init_1 ++ []
def dkwX13_init_0 : List UInt8 := [42, 43, 181, 0, 1, 42, 183, 0, 7, 42, 42, 180, 0, 1, 180, 0, 13, 42, 180, 0, 1, 180, 0, 19]
abbrev dktX13_init_0 : List UInt8 := dkwX13_init_0 ++ dktX13_init_1
theorem dksX13_init_0 : cX13_init.data.toList.drop 0 = dktX13_init_0 := by decide +kernel
theorem dksX13_init_1 : cX13_init.data.toList.drop 24 = dktX13_init_1 := dk_seg dksX13_init_0 24 rfl rfl
theorem dX13_init_0 : decode cX13_init 0 = .ok (.aload_n 0, 1) := dk_42 (dk_at dksX13_init_0 0 rfl rfl)
theorem dX13_init_1 : decode cX13_init 1 = .ok (.aload_n 1, 1) := dk_43 (dk_at dksX13_init_0 1 rfl rfl)
theorem dX13_init_2 : decode cX13_init 2 = .ok (.putfield 1, 3) := dk_181 0 1 (dk_at dksX13_init_0 2 rfl rfl)
theorem dX13_init_5 : decode cX13_init 5 = .ok (.aload_n 0, 1) := dk_42 (dk_at dksX13_init_0 5 rfl rfl)
theorem dX13_init_6 : decode cX13_init 6 = .ok (.invokespecial 7, 3) := dk_183 0 7 (dk_at dksX13_init_0 6 rfl rfl)
theorem dX13_init_9 : decode cX13_init 9 = .ok (.aload_n 0, 1) := dk_42 (dk_at dksX13_init_0 9 rfl rfl)
theorem dX13_init_10 : decode cX13_init 10 = .ok (.aload_n 0, 1) := dk_42 (dk_at dksX13_init_0 10 rfl rfl)
theorem dX13_init_11 : decode cX13_init 11 = .ok (.getfield 1, 3) := dk_180 0 1 (dk_at dksX13_init_0 11 rfl rfl)
theorem dX13_init_14 : decode cX13_init 14 = .ok (.getfield 13, 3) := dk_180 0 13 (dk_at dksX13_init_0 14 rfl rfl)
theorem dX13_init_17 : decode cX13_init 17 = .ok (.aload_n 0, 1) := dk_42 (dk_at dksX13_init_0 17 rfl rfl)
theorem dX13_init_18 : decode cX13_init 18 = .ok (.getfield 1, 3) := dk_180 0 1 (dk_at dksX13_init_0 18 rfl rfl)
theorem dX13_init_21 : decode cX13_init 21 = .ok (.getfield 19, 3) := dk_180 0 19 (dk_at dksX13_init_0 21 rfl rfl)
theorem dX13_init_24 : decode cX13_init 24 = .ok (.isub, 1) := dk_100 (dk_at dksX13_init_1 0 rfl rfl)
theorem dX13_init_25 : decode cX13_init 25 = .ok (.invokestatic 22, 3) := dk_184 0 22 (dk_at dksX13_init_1 1 rfl rfl)
theorem dX13_init_28 : decode cX13_init 28 = .ok (.putfield 28, 3) := dk_181 0 28 (dk_at dksX13_init_1 4 rfl rfl)
theorem dX13_init_31 : decode cX13_init 31 = .ok (.aload_n 0, 1) := dk_42 (dk_at dksX13_init_1 7 rfl rfl)
theorem dX13_init_32 : decode cX13_init 32 = .ok (.aload_n 0, 1) := dk_42 (dk_at dksX13_init_1 8 rfl rfl)
theorem dX13_init_33 : decode cX13_init 33 = .ok (.getfield 1, 3) := dk_180 0 1 (dk_at dksX13_init_1 9 rfl rfl)
theorem dX13_init_36 : decode cX13_init 36 = .ok (.getfield 19, 3) := dk_180 0 19 (dk_at dksX13_init_1 12 rfl rfl)
theorem dX13_init_39 : decode cX13_init 39 = .ok (.putfield 31, 3) := dk_181 0 31 (dk_at dksX13_init_1 15 rfl rfl)
theorem dX13_init_42 : decode cX13_init 42 = .ok (.return_, 1) := dk_177 (dk_at dksX13_init_1 18 rfl rfl)
abbrev cX13_hasNext : ByteArray := prog_11_method_2_code
def yX13_hasNext : MethodName := ⟨RX13, "hasNext", "()Z"⟩
def dkwX13_hasNext_0 : List UInt8 := [42, 180, 0, 34, 154, 0, 7, 4, 167, 0, 4, 3, 172]
abbrev dktX13_hasNext_0 : List UInt8 := dkwX13_hasNext_0 ++ []
theorem dksX13_hasNext_0 : cX13_hasNext.data.toList.drop 0 = dktX13_hasNext_0 := by decide +kernel
theorem dX13_hasNext_0 : decode cX13_hasNext 0 = .ok (.aload_n 0, 1) := dk_42 (dk_at dksX13_hasNext_0 0 rfl rfl)
theorem dX13_hasNext_1 : decode cX13_hasNext 1 = .ok (.getfield 34, 3) := dk_180 0 34 (dk_at dksX13_hasNext_0 1 rfl rfl)
theorem dX13_hasNext_4 : decode cX13_hasNext 4 = .ok (.ifCond .ne 7, 3) := dk_154 0 7 (dk_at dksX13_hasNext_0 4 rfl rfl)
theorem dX13_hasNext_7 : decode cX13_hasNext 7 = .ok (.iconst 1, 1) := dk_4 (dk_at dksX13_hasNext_0 7 rfl rfl)
theorem dX13_hasNext_8 : decode cX13_hasNext 8 = .ok (.goto 4, 3) := dk_167 0 4 (dk_at dksX13_hasNext_0 8 rfl rfl)
theorem dX13_hasNext_11 : decode cX13_hasNext 11 = .ok (.iconst 0, 1) := dk_3 (dk_at dksX13_hasNext_0 11 rfl rfl)
theorem dX13_hasNext_12 : decode cX13_hasNext 12 = .ok (.ireturn, 1) := dk_172 (dk_at dksX13_hasNext_0 12 rfl rfl)
abbrev cX13_next : ByteArray := prog_11_method_4_code
def yX13_next : MethodName := ⟨RX13, "next", "()Ljava/lang/Object;"⟩
theorem dX13_next_0 : decode cX13_next 0 = .ok (.aload_n 0, 1) := by decide +kernel
theorem dX13_next_1 : decode cX13_next 1 = .ok (.invokevirtual 42, 3) := by decide +kernel
theorem dX13_next_4 : decode cX13_next 4 = .ok (.areturn, 1) := by decide +kernel
abbrev cX13_next_2 : ByteArray := prog_11_method_3_code
def yX13_next_2 : MethodName := ⟨RX13, "next", "()Ljava/lang/Integer;"⟩
def dkwX13_next_2_1 : List UInt8 := [181, 0, 34, 42, 89, 180, 0, 31, 42, 180, 0, 28, 96, 181, 0, 31, 27, 184, 0, 38, 176]
abbrev dktX13_next_2_1 : List UInt8 := dkwX13_next_2_1 ++ []
def dkwX13_next_2_0 : List UInt8 := [42, 180, 0, 31, 60, 42, 27, 42, 180, 0, 1, 180, 0, 13, 160, 0, 7, 4, 167, 0, 4, 3]
abbrev dktX13_next_2_0 : List UInt8 := dkwX13_next_2_0 ++ dktX13_next_2_1
theorem dksX13_next_2_0 : cX13_next_2.data.toList.drop 0 = dktX13_next_2_0 := by decide +kernel
theorem dksX13_next_2_1 : cX13_next_2.data.toList.drop 22 = dktX13_next_2_1 := dk_seg dksX13_next_2_0 22 rfl rfl
theorem dX13_next_2_0 : decode cX13_next_2 0 = .ok (.aload_n 0, 1) := dk_42 (dk_at dksX13_next_2_0 0 rfl rfl)
theorem dX13_next_2_1 : decode cX13_next_2 1 = .ok (.getfield 31, 3) := dk_180 0 31 (dk_at dksX13_next_2_0 1 rfl rfl)
theorem dX13_next_2_4 : decode cX13_next_2 4 = .ok (.istore_n 1, 1) := dk_60 (dk_at dksX13_next_2_0 4 rfl rfl)
theorem dX13_next_2_5 : decode cX13_next_2 5 = .ok (.aload_n 0, 1) := dk_42 (dk_at dksX13_next_2_0 5 rfl rfl)
theorem dX13_next_2_6 : decode cX13_next_2 6 = .ok (.iload_n 1, 1) := dk_27 (dk_at dksX13_next_2_0 6 rfl rfl)
theorem dX13_next_2_7 : decode cX13_next_2 7 = .ok (.aload_n 0, 1) := dk_42 (dk_at dksX13_next_2_0 7 rfl rfl)
theorem dX13_next_2_8 : decode cX13_next_2 8 = .ok (.getfield 1, 3) := dk_180 0 1 (dk_at dksX13_next_2_0 8 rfl rfl)
theorem dX13_next_2_11 : decode cX13_next_2 11 = .ok (.getfield 13, 3) := dk_180 0 13 (dk_at dksX13_next_2_0 11 rfl rfl)
theorem dX13_next_2_14 : decode cX13_next_2 14 = .ok (.if_icmp .ne 7, 3) := dk_160 0 7 (dk_at dksX13_next_2_0 14 rfl rfl)
theorem dX13_next_2_17 : decode cX13_next_2 17 = .ok (.iconst 1, 1) := dk_4 (dk_at dksX13_next_2_0 17 rfl rfl)
theorem dX13_next_2_18 : decode cX13_next_2 18 = .ok (.goto 4, 3) := dk_167 0 4 (dk_at dksX13_next_2_0 18 rfl rfl)
theorem dX13_next_2_21 : decode cX13_next_2 21 = .ok (.iconst 0, 1) := dk_3 (dk_at dksX13_next_2_0 21 rfl rfl)
theorem dX13_next_2_22 : decode cX13_next_2 22 = .ok (.putfield 34, 3) := dk_181 0 34 (dk_at dksX13_next_2_1 0 rfl rfl)
theorem dX13_next_2_25 : decode cX13_next_2 25 = .ok (.aload_n 0, 1) := dk_42 (dk_at dksX13_next_2_1 3 rfl rfl)
theorem dX13_next_2_26 : decode cX13_next_2 26 = .ok (.dup, 1) := dk_89 (dk_at dksX13_next_2_1 4 rfl rfl)
theorem dX13_next_2_27 : decode cX13_next_2 27 = .ok (.getfield 31, 3) := dk_180 0 31 (dk_at dksX13_next_2_1 5 rfl rfl)
theorem dX13_next_2_30 : decode cX13_next_2 30 = .ok (.aload_n 0, 1) := dk_42 (dk_at dksX13_next_2_1 8 rfl rfl)
theorem dX13_next_2_31 : decode cX13_next_2 31 = .ok (.getfield 28, 3) := dk_180 0 28 (dk_at dksX13_next_2_1 9 rfl rfl)
theorem dX13_next_2_34 : decode cX13_next_2 34 = .ok (.iadd, 1) := dk_96 (dk_at dksX13_next_2_1 12 rfl rfl)
theorem dX13_next_2_35 : decode cX13_next_2 35 = .ok (.putfield 31, 3) := dk_181 0 31 (dk_at dksX13_next_2_1 13 rfl rfl)
theorem dX13_next_2_38 : decode cX13_next_2 38 = .ok (.iload_n 1, 1) := dk_27 (dk_at dksX13_next_2_1 16 rfl rfl)
theorem dX13_next_2_39 : decode cX13_next_2 39 = .ok (.invokestatic 38, 3) := dk_184 0 38 (dk_at dksX13_next_2_1 17 rfl rfl)
theorem dX13_next_2_42 : decode cX13_next_2 42 = .ok (.areturn, 1) := dk_176 (dk_at dksX13_next_2_1 20 rfl rfl)
theorem q181 : (Jvm.Cond.initialized "SnowPass$Side$Walk") ∈ lw_all := lw_g (lw_at lw_m1 59 rfl) rfl
theorem q806 : (Jvm.Cond.selects "SnowPass$Side$Walk" ({ cls := "java/lang/Object", name := "getClass", desc := "()Ljava/lang/Class;" } : Jvm.MethodName) ({ cls := "java/lang/Object", name := "getClass", desc := "()Ljava/lang/Class;" } : Jvm.MethodName)) ∈ lw_all := lw_g (lw_at lw_m3 204 rfl) rfl
theorem q941 : (Jvm.Cond.selects "SnowPass$Side$Walk" ({ cls := "java/lang/Object", name := "hashCode", desc := "()I" } : Jvm.MethodName) ({ cls := "java/lang/Object", name := "hashCode", desc := "()I" } : Jvm.MethodName)) ∈ lw_all := lw_g (lw_at lw_m4 99 rfl) rfl
theorem q1380 : (Jvm.Cond.selects "SnowPass$Side$Walk" ({ cls := "java/lang/Object", name := "equals", desc := "(Ljava/lang/Object;)Z" } : Jvm.MethodName) ({ cls := "java/lang/Object", name := "equals", desc := "(Ljava/lang/Object;)Z" } : Jvm.MethodName)) ∈ lw_all := lw_g (lw_at lw_m6 58 rfl) rfl
theorem q1612 : (Jvm.Cond.fieldLinkNest "SnowPass$Side$Walk" (19 : Nat) "SnowPass$Side" "from" "I" "SnowPass") ∈ lw_tbl := lw_at lw_m7 50 rfl
theorem q1614 : (Jvm.Cond.fieldLinkNest "SnowPass$Side$Walk" (13 : Nat) "SnowPass$Side" "to" "I" "SnowPass") ∈ lw_tbl := lw_at lw_m7 52 rfl
theorem q1625 : (Jvm.Cond.instantiable "SnowPass$Side$Walk" (4 : Nat)) ∈ lw_all := lw_g (lw_at lw_m7 63 rfl) rfl
theorem q1627 : (Jvm.Cond.instanceMethod ({ cls := "SnowPass$Side$Walk", name := "<init>", desc := "(LSnowPass$Side;)V" } : Jvm.MethodName)) ∈ lw_all := lw_g (lw_at lw_m7 65 rfl) rfl
theorem q1628 : (Jvm.Cond.code ({ cls := "SnowPass$Side$Walk", name := "<init>", desc := "(LSnowPass$Side;)V" } : Jvm.MethodName) prog_11_method_1_code (2 : Nat) (Option.none : Option Jvm.ClassFile.FieldType)) ∈ lw_all := lw_g (lw_at lw_m7 66 rfl) rfl
theorem q1629 : (Jvm.Cond.methodLink "SnowPass$Side$Walk" (7 : Nat) ({ cls := "java/lang/Object", name := "<init>", desc := "()V" } : Jvm.MethodName)) ∈ lw_all := lw_g (lw_at lw_m7 67 rfl) rfl
theorem q1630 : (Jvm.Cond.methodLink "SnowPass$Side$Walk" (22 : Nat) ({ cls := "java/lang/Integer", name := "signum", desc := "(I)I" } : Jvm.MethodName)) ∈ lw_all := lw_g (lw_at lw_m7 68 rfl) rfl
theorem q1633 : (Jvm.Cond.fieldLink "SnowPass$Side$Walk" (28 : Nat) "SnowPass$Side$Walk" "step" "I") ∈ lw_all := lw_g (lw_at lw_m7 71 rfl) rfl
theorem q1634 : (Jvm.Cond.fieldLink "SnowPass$Side$Walk" (31 : Nat) "SnowPass$Side$Walk" "next" "I") ∈ lw_all := lw_g (lw_at lw_m7 72 rfl) rfl
theorem q1635 : (Jvm.Cond.fieldLink "SnowPass$Side$Walk" (34 : Nat) "SnowPass$Side$Walk" "done" "Z") ∈ lw_all := lw_g (lw_at lw_m7 73 rfl) rfl
theorem q1636 : (Jvm.Cond.fieldLink "SnowPass$Side$Walk" (1 : Nat) "SnowPass$Side$Walk" "this$0" "LSnowPass$Side;") ∈ lw_all := lw_g (lw_at lw_m7 74 rfl) rfl
theorem q1637 : (Jvm.Cond.laysFinal "SnowPass$Side$Walk" "SnowPass$Side$Walk" "step" "I") ∈ lw_all := lw_g (lw_at lw_m7 75 rfl) rfl
theorem q1638 : (Jvm.Cond.soleField "SnowPass$Side$Walk" "step") ∈ lw_all := lw_g (lw_at lw_m7 76 rfl) rfl
theorem q1639 : (Jvm.Cond.lays "SnowPass$Side$Walk" "SnowPass$Side$Walk" "next" "I") ∈ lw_all := lw_g (lw_at lw_m7 77 rfl) rfl
theorem q1640 : (Jvm.Cond.soleField "SnowPass$Side$Walk" "next") ∈ lw_all := lw_g (lw_at lw_m7 78 rfl) rfl
theorem q1641 : (Jvm.Cond.lays "SnowPass$Side$Walk" "SnowPass$Side$Walk" "done" "Z") ∈ lw_all := lw_g (lw_at lw_m7 79 rfl) rfl
theorem q1642 : (Jvm.Cond.soleField "SnowPass$Side$Walk" "done") ∈ lw_all := lw_g (lw_at lw_m7 80 rfl) rfl
theorem q1643 : (Jvm.Cond.laysFinal "SnowPass$Side$Walk" "SnowPass$Side$Walk" "this$0" "LSnowPass$Side;") ∈ lw_all := lw_g (lw_at lw_m7 81 rfl) rfl
theorem q1644 : (Jvm.Cond.soleField "SnowPass$Side$Walk" "this$0") ∈ lw_all := lw_g (lw_at lw_m7 82 rfl) rfl
theorem q1645 : (Jvm.Cond.superclass "SnowPass$Side$Walk" "java/lang/Object") ∈ lw_all := lw_g (lw_at lw_m7 83 rfl) rfl
theorem q1650 : (Jvm.Cond.castable "SnowPass$Side$Walk" "java/util/Iterator") ∈ lw_tbl := lw_at lw_m7 88 rfl
theorem q1651 : (Jvm.Cond.selects "SnowPass$Side$Walk" ({ cls := "java/util/Iterator", name := "hasNext", desc := "()Z" } : Jvm.MethodName) ({ cls := "SnowPass$Side$Walk", name := "hasNext", desc := "()Z" } : Jvm.MethodName)) ∈ lw_all := lw_g (lw_at lw_m7 89 rfl) rfl
theorem q1652 : (Jvm.Cond.unhidden "SnowPass$Side$Walk" "hasNext" "()Z") ∈ lw_tbl := lw_at lw_m7 90 rfl
theorem q1653 : (Jvm.Cond.instanceMethod ({ cls := "SnowPass$Side$Walk", name := "hasNext", desc := "()Z" } : Jvm.MethodName)) ∈ lw_all := lw_g (lw_at lw_m7 91 rfl) rfl
theorem q1654 : (Jvm.Cond.publicMethod ({ cls := "SnowPass$Side$Walk", name := "hasNext", desc := "()Z" } : Jvm.MethodName)) ∈ lw_tbl := lw_at lw_m7 92 rfl
theorem q1655 : (Jvm.Cond.code ({ cls := "SnowPass$Side$Walk", name := "hasNext", desc := "()Z" } : Jvm.MethodName) prog_11_method_2_code (1 : Nat) (Option.some Jvm.ClassFile.FieldType.boolean)) ∈ lw_all := lw_g (lw_at lw_m7 93 rfl) rfl
theorem q1681 : (Jvm.Cond.selects "SnowPass$Side$Walk" ({ cls := "java/util/Iterator", name := "next", desc := "()Ljava/lang/Object;" } : Jvm.MethodName) ({ cls := "SnowPass$Side$Walk", name := "next", desc := "()Ljava/lang/Object;" } : Jvm.MethodName)) ∈ lw_all := lw_g (lw_at lw_m7 119 rfl) rfl
theorem q1682 : (Jvm.Cond.unhidden "SnowPass$Side$Walk" "next" "()Ljava/lang/Object;") ∈ lw_tbl := lw_at lw_m7 120 rfl
theorem q1683 : (Jvm.Cond.instanceMethod ({ cls := "SnowPass$Side$Walk", name := "next", desc := "()Ljava/lang/Object;" } : Jvm.MethodName)) ∈ lw_all := lw_g (lw_at lw_m7 121 rfl) rfl
theorem q1684 : (Jvm.Cond.publicMethod ({ cls := "SnowPass$Side$Walk", name := "next", desc := "()Ljava/lang/Object;" } : Jvm.MethodName)) ∈ lw_tbl := lw_at lw_m7 122 rfl
theorem q1685 : (Jvm.Cond.code ({ cls := "SnowPass$Side$Walk", name := "next", desc := "()Ljava/lang/Object;" } : Jvm.MethodName) prog_11_method_4_code (1 : Nat) (Option.some (Jvm.ClassFile.FieldType.object "java/lang/Object"))) ∈ lw_all := lw_g (lw_at lw_m7 123 rfl) rfl
theorem q1686 : (Jvm.Cond.methodLink "SnowPass$Side$Walk" (42 : Nat) ({ cls := "SnowPass$Side$Walk", name := "next", desc := "()Ljava/lang/Integer;" } : Jvm.MethodName)) ∈ lw_all := lw_g (lw_at lw_m7 124 rfl) rfl
theorem q1687 : (Jvm.Cond.instanceMethod ({ cls := "SnowPass$Side$Walk", name := "next", desc := "()Ljava/lang/Integer;" } : Jvm.MethodName)) ∈ lw_all := lw_g (lw_at lw_m7 125 rfl) rfl
theorem q1688 : (Jvm.Cond.selects "SnowPass$Side$Walk" ({ cls := "SnowPass$Side$Walk", name := "next", desc := "()Ljava/lang/Integer;" } : Jvm.MethodName) ({ cls := "SnowPass$Side$Walk", name := "next", desc := "()Ljava/lang/Integer;" } : Jvm.MethodName)) ∈ lw_all := lw_g (lw_at lw_m7 126 rfl) rfl
theorem q1689 : (Jvm.Cond.code ({ cls := "SnowPass$Side$Walk", name := "next", desc := "()Ljava/lang/Integer;" } : Jvm.MethodName) prog_11_method_3_code (2 : Nat) (Option.some (Jvm.ClassFile.FieldType.object "java/lang/Integer"))) ∈ lw_all := lw_g (lw_at lw_m7 127 rfl) rfl
theorem q1690 : (Jvm.Cond.methodLink "SnowPass$Side$Walk" (38 : Nat) ({ cls := "java/lang/Integer", name := "valueOf", desc := "(I)Ljava/lang/Integer;" } : Jvm.MethodName)) ∈ lw_all := lw_g (lw_at lw_m7 128 rfl) rfl
theorem q4015 : (Jvm.Cond.castable "SnowPass$Side$Walk" "java/lang/Object") ∈ lw_tbl := lw_at lw_m17 53 rfl
theorem in_X13 : ∀ w ∈ wsX130, w ∈ lw_all := lw_in wsX130 [1637, 1639, 1641, 1643] (by decide +kernel) (by decide +kernel)

/-! SnowPass$1Trial -/
def RX14 : String := "SnowPass$1Trial"
def TX14 : u_T := fun k => match k with
  | 0 => ("SnowPass$1Trial", "best", "I", false)
  | 1 => ("SnowPass$1Trial", "least", "I", false)
  | 2 => ("SnowPass$1Trial", "val$hours", "I", true)
  | _ => ("SnowPass$1Trial", "this$0", "LSnowPass;", true)
def tyX14 : Nat → FieldType := fun k => match k with
  | 0 => .int
  | 1 => .int
  | 2 => .int
  | _ => .object "SnowPass"
abbrev wsX140 : List Cond := u_ws RX14 TX14 4
theorem nmX14 : ∀ a, a < 4 → ∀ b, b < 4 → a ≠ b → (TX14 a).2.1 ≠ (TX14 b).2.1 := by decide +kernel
theorem tyX14_ok : ∀ k, k < 4 → parseFieldDescriptor (TX14 k).2.2.1 = some (tyX14 k) := by decide +kernel
abbrev cX14_init : ByteArray := prog_2_method_1_code
def yX14_init : MethodName := ⟨RX14, "<init>", "(LSnowPass;I)V"⟩
def dkwX14_init_0 : List UInt8 := [42, 43, 181, 0, 3, 42, 28, 181, 0, 9, 42, 183, 0, 13, 42, 2, 181, 0, 19, 177]
abbrev dktX14_init_0 : List UInt8 := dkwX14_init_0 ++ []
theorem dksX14_init_0 : cX14_init.data.toList.drop 0 = dktX14_init_0 := by decide +kernel
theorem dX14_init_0 : decode cX14_init 0 = .ok (.aload_n 0, 1) := dk_42 (dk_at dksX14_init_0 0 rfl rfl)
theorem dX14_init_1 : decode cX14_init 1 = .ok (.aload_n 1, 1) := dk_43 (dk_at dksX14_init_0 1 rfl rfl)
theorem dX14_init_2 : decode cX14_init 2 = .ok (.putfield 3, 3) := dk_181 0 3 (dk_at dksX14_init_0 2 rfl rfl)
theorem dX14_init_5 : decode cX14_init 5 = .ok (.aload_n 0, 1) := dk_42 (dk_at dksX14_init_0 5 rfl rfl)
theorem dX14_init_6 : decode cX14_init 6 = .ok (.iload_n 2, 1) := dk_28 (dk_at dksX14_init_0 6 rfl rfl)
theorem dX14_init_7 : decode cX14_init 7 = .ok (.putfield 9, 3) := dk_181 0 9 (dk_at dksX14_init_0 7 rfl rfl)
theorem dX14_init_10 : decode cX14_init 10 = .ok (.aload_n 0, 1) := dk_42 (dk_at dksX14_init_0 10 rfl rfl)
theorem dX14_init_11 : decode cX14_init 11 = .ok (.invokespecial 13, 3) := dk_183 0 13 (dk_at dksX14_init_0 11 rfl rfl)
theorem dX14_init_14 : decode cX14_init 14 = .ok (.aload_n 0, 1) := dk_42 (dk_at dksX14_init_0 14 rfl rfl)
theorem dX14_init_15 : decode cX14_init 15 = .ok (.iconst (-1), 1) := dk_2 (dk_at dksX14_init_0 15 rfl rfl)
theorem dX14_init_16 : decode cX14_init 16 = .ok (.putfield 19, 3) := dk_181 0 19 (dk_at dksX14_init_0 16 rfl rfl)
theorem dX14_init_19 : decode cX14_init 19 = .ok (.return_, 1) := dk_177 (dk_at dksX14_init_0 19 rfl rfl)
abbrev cX14_add : ByteArray := prog_2_method_2_code
def yX14_add : MethodName := ⟨RX14, "add", "(I)V"⟩
def dkwX14_add_2 : List UInt8 := [161, 0, 4, 177, 42, 27, 181, 0, 19, 42, 29, 181, 0, 50, 177]
abbrev dktX14_add_2 : List UInt8 := dkwX14_add_2 ++ []
def dkwX14_add_1 : List UInt8 := [180, 0, 9, 182, 0, 42, 182, 0, 46, 62, 42, 180, 0, 19, 2, 159, 0, 12, 29, 42, 180, 0, 50]
abbrev dktX14_add_1 : List UInt8 := dkwX14_add_1 ++ dktX14_add_2
def dkwX14_add_0 : List UInt8 := [42, 180, 0, 3, 180, 0, 22, 180, 0, 26, 182, 0, 32, 77, 44, 180, 0, 38, 27, 16, 6, 79, 44, 42]
abbrev dktX14_add_0 : List UInt8 := dkwX14_add_0 ++ dktX14_add_1
theorem dksX14_add_0 : cX14_add.data.toList.drop 0 = dktX14_add_0 := by decide +kernel
theorem dksX14_add_1 : cX14_add.data.toList.drop 24 = dktX14_add_1 := dk_seg dksX14_add_0 24 rfl rfl
theorem dksX14_add_2 : cX14_add.data.toList.drop 47 = dktX14_add_2 := dk_seg dksX14_add_1 23 rfl rfl
theorem dX14_add_0 : decode cX14_add 0 = .ok (.aload_n 0, 1) := dk_42 (dk_at dksX14_add_0 0 rfl rfl)
theorem dX14_add_1 : decode cX14_add 1 = .ok (.getfield 3, 3) := dk_180 0 3 (dk_at dksX14_add_0 1 rfl rfl)
theorem dX14_add_4 : decode cX14_add 4 = .ok (.getfield 22, 3) := dk_180 0 22 (dk_at dksX14_add_0 4 rfl rfl)
theorem dX14_add_7 : decode cX14_add 7 = .ok (.getfield 26, 3) := dk_180 0 26 (dk_at dksX14_add_0 7 rfl rfl)
theorem dX14_add_10 : decode cX14_add 10 = .ok (.invokevirtual 32, 3) := dk_182 0 32 (dk_at dksX14_add_0 10 rfl rfl)
theorem dX14_add_13 : decode cX14_add 13 = .ok (.astore_n 2, 1) := dk_77 (dk_at dksX14_add_0 13 rfl rfl)
theorem dX14_add_14 : decode cX14_add 14 = .ok (.aload_n 2, 1) := dk_44 (dk_at dksX14_add_0 14 rfl rfl)
theorem dX14_add_15 : decode cX14_add 15 = .ok (.getfield 38, 3) := dk_180 0 38 (dk_at dksX14_add_0 15 rfl rfl)
theorem dX14_add_18 : decode cX14_add 18 = .ok (.iload_n 1, 1) := dk_27 (dk_at dksX14_add_0 18 rfl rfl)
theorem dX14_add_19 : decode cX14_add 19 = .ok (.bipush 6, 2) := dk_16 6 (dk_at dksX14_add_0 19 rfl rfl)
theorem dX14_add_21 : decode cX14_add 21 = .ok (.iastore, 1) := dk_79 (dk_at dksX14_add_0 21 rfl rfl)
theorem dX14_add_22 : decode cX14_add 22 = .ok (.aload_n 2, 1) := dk_44 (dk_at dksX14_add_0 22 rfl rfl)
theorem dX14_add_23 : decode cX14_add 23 = .ok (.aload_n 0, 1) := dk_42 (dk_at dksX14_add_0 23 rfl rfl)
theorem dX14_add_24 : decode cX14_add 24 = .ok (.getfield 9, 3) := dk_180 0 9 (dk_at dksX14_add_1 0 rfl rfl)
theorem dX14_add_27 : decode cX14_add 27 = .ok (.invokevirtual 42, 3) := dk_182 0 42 (dk_at dksX14_add_1 3 rfl rfl)
theorem dX14_add_30 : decode cX14_add 30 = .ok (.invokevirtual 46, 3) := dk_182 0 46 (dk_at dksX14_add_1 6 rfl rfl)
theorem dX14_add_33 : decode cX14_add 33 = .ok (.istore_n 3, 1) := dk_62 (dk_at dksX14_add_1 9 rfl rfl)
theorem dX14_add_34 : decode cX14_add 34 = .ok (.aload_n 0, 1) := dk_42 (dk_at dksX14_add_1 10 rfl rfl)
theorem dX14_add_35 : decode cX14_add 35 = .ok (.getfield 19, 3) := dk_180 0 19 (dk_at dksX14_add_1 11 rfl rfl)
theorem dX14_add_38 : decode cX14_add 38 = .ok (.iconst (-1), 1) := dk_2 (dk_at dksX14_add_1 14 rfl rfl)
theorem dX14_add_39 : decode cX14_add 39 = .ok (.if_icmp .eq 12, 3) := dk_159 0 12 (dk_at dksX14_add_1 15 rfl rfl)
theorem dX14_add_42 : decode cX14_add 42 = .ok (.iload_n 3, 1) := dk_29 (dk_at dksX14_add_1 18 rfl rfl)
theorem dX14_add_43 : decode cX14_add 43 = .ok (.aload_n 0, 1) := dk_42 (dk_at dksX14_add_1 19 rfl rfl)
theorem dX14_add_44 : decode cX14_add 44 = .ok (.getfield 50, 3) := dk_180 0 50 (dk_at dksX14_add_1 20 rfl rfl)
theorem dX14_add_47 : decode cX14_add 47 = .ok (.if_icmp .lt 4, 3) := dk_161 0 4 (dk_at dksX14_add_2 0 rfl rfl)
theorem dX14_add_50 : decode cX14_add 50 = .ok (.return_, 1) := dk_177 (dk_at dksX14_add_2 3 rfl rfl)
theorem dX14_add_51 : decode cX14_add 51 = .ok (.aload_n 0, 1) := dk_42 (dk_at dksX14_add_2 4 rfl rfl)
theorem dX14_add_52 : decode cX14_add 52 = .ok (.iload_n 1, 1) := dk_27 (dk_at dksX14_add_2 5 rfl rfl)
theorem dX14_add_53 : decode cX14_add 53 = .ok (.putfield 19, 3) := dk_181 0 19 (dk_at dksX14_add_2 6 rfl rfl)
theorem dX14_add_56 : decode cX14_add 56 = .ok (.aload_n 0, 1) := dk_42 (dk_at dksX14_add_2 9 rfl rfl)
theorem dX14_add_57 : decode cX14_add 57 = .ok (.iload_n 3, 1) := dk_29 (dk_at dksX14_add_2 10 rfl rfl)
theorem dX14_add_58 : decode cX14_add 58 = .ok (.putfield 50, 3) := dk_181 0 50 (dk_at dksX14_add_2 11 rfl rfl)
theorem dX14_add_61 : decode cX14_add 61 = .ok (.return_, 1) := dk_177 (dk_at dksX14_add_2 14 rfl rfl)
theorem q182 : (Jvm.Cond.initialized "SnowPass$1Trial") ∈ lw_all := lw_g (lw_at lw_m1 60 rfl) rfl
theorem q270 : (Jvm.Cond.fieldLinkNest "SnowPass$1Trial" (38 : Nat) "SnowPass$Road" "salt" "[I" "SnowPass") ∈ lw_tbl := lw_at lw_m1 148 rfl
theorem q798 : (Jvm.Cond.selects "SnowPass$1Trial" ({ cls := "java/lang/Object", name := "getClass", desc := "()Ljava/lang/Class;" } : Jvm.MethodName) ({ cls := "java/lang/Object", name := "getClass", desc := "()Ljava/lang/Class;" } : Jvm.MethodName)) ∈ lw_all := lw_g (lw_at lw_m3 196 rfl) rfl
theorem q933 : (Jvm.Cond.selects "SnowPass$1Trial" ({ cls := "java/lang/Object", name := "hashCode", desc := "()I" } : Jvm.MethodName) ({ cls := "java/lang/Object", name := "hashCode", desc := "()I" } : Jvm.MethodName)) ∈ lw_all := lw_g (lw_at lw_m4 91 rfl) rfl
theorem q1372 : (Jvm.Cond.selects "SnowPass$1Trial" ({ cls := "java/lang/Object", name := "equals", desc := "(Ljava/lang/Object;)Z" } : Jvm.MethodName) ({ cls := "java/lang/Object", name := "equals", desc := "(Ljava/lang/Object;)Z" } : Jvm.MethodName)) ∈ lw_all := lw_g (lw_at lw_m6 50 rfl) rfl
theorem q1500 : (Jvm.Cond.fieldLinkNest "SnowPass$1Trial" (26 : Nat) "SnowPass$State" "road" "LSnowPass$Road;" "SnowPass") ∈ lw_tbl := lw_at lw_m6 178 rfl
theorem q1533 : (Jvm.Cond.fieldLinkNest "SnowPass$1Trial" (22 : Nat) "SnowPass" "state" "LSnowPass$State;" "SnowPass") ∈ lw_tbl := lw_at lw_m6 211 rfl
theorem q3121 : (Jvm.Cond.instantiable "SnowPass$1Trial" (4 : Nat)) ∈ lw_all := lw_g (lw_at lw_m13 119 rfl) rfl
theorem q3123 : (Jvm.Cond.instanceMethod ({ cls := "SnowPass$1Trial", name := "<init>", desc := "(LSnowPass;I)V" } : Jvm.MethodName)) ∈ lw_all := lw_g (lw_at lw_m13 121 rfl) rfl
theorem q3124 : (Jvm.Cond.code ({ cls := "SnowPass$1Trial", name := "<init>", desc := "(LSnowPass;I)V" } : Jvm.MethodName) prog_2_method_1_code (3 : Nat) (Option.none : Option Jvm.ClassFile.FieldType)) ∈ lw_all := lw_g (lw_at lw_m13 122 rfl) rfl
theorem q3125 : (Jvm.Cond.methodLink "SnowPass$1Trial" (13 : Nat) ({ cls := "java/lang/Object", name := "<init>", desc := "()V" } : Jvm.MethodName)) ∈ lw_all := lw_g (lw_at lw_m13 123 rfl) rfl
theorem q3126 : (Jvm.Cond.fieldLink "SnowPass$1Trial" (19 : Nat) "SnowPass$1Trial" "best" "I") ∈ lw_all := lw_g (lw_at lw_m13 124 rfl) rfl
theorem q3128 : (Jvm.Cond.fieldLink "SnowPass$1Trial" (50 : Nat) "SnowPass$1Trial" "least" "I") ∈ lw_all := lw_g (lw_at lw_m13 126 rfl) rfl
theorem q3129 : (Jvm.Cond.fieldLink "SnowPass$1Trial" (9 : Nat) "SnowPass$1Trial" "val$hours" "I") ∈ lw_all := lw_g (lw_at lw_m13 127 rfl) rfl
theorem q3130 : (Jvm.Cond.fieldLink "SnowPass$1Trial" (3 : Nat) "SnowPass$1Trial" "this$0" "LSnowPass;") ∈ lw_all := lw_g (lw_at lw_m13 128 rfl) rfl
theorem q3131 : (Jvm.Cond.lays "SnowPass$1Trial" "SnowPass$1Trial" "best" "I") ∈ lw_all := lw_g (lw_at lw_m13 129 rfl) rfl
theorem q3132 : (Jvm.Cond.soleField "SnowPass$1Trial" "best") ∈ lw_all := lw_g (lw_at lw_m13 130 rfl) rfl
theorem q3133 : (Jvm.Cond.lays "SnowPass$1Trial" "SnowPass$1Trial" "least" "I") ∈ lw_all := lw_g (lw_at lw_m13 131 rfl) rfl
theorem q3134 : (Jvm.Cond.soleField "SnowPass$1Trial" "least") ∈ lw_all := lw_g (lw_at lw_m13 132 rfl) rfl
theorem q3135 : (Jvm.Cond.laysFinal "SnowPass$1Trial" "SnowPass$1Trial" "val$hours" "I") ∈ lw_all := lw_g (lw_at lw_m13 133 rfl) rfl
theorem q3136 : (Jvm.Cond.soleField "SnowPass$1Trial" "val$hours") ∈ lw_all := lw_g (lw_at lw_m13 134 rfl) rfl
theorem q3137 : (Jvm.Cond.laysFinal "SnowPass$1Trial" "SnowPass$1Trial" "this$0" "LSnowPass;") ∈ lw_all := lw_g (lw_at lw_m13 135 rfl) rfl
theorem q3138 : (Jvm.Cond.soleField "SnowPass$1Trial" "this$0") ∈ lw_all := lw_g (lw_at lw_m13 136 rfl) rfl
theorem q3139 : (Jvm.Cond.superclass "SnowPass$1Trial" "java/lang/Object") ∈ lw_all := lw_g (lw_at lw_m13 137 rfl) rfl
theorem q3141 : (Jvm.Cond.instanceMethod ({ cls := "SnowPass$1Trial", name := "add", desc := "(I)V" } : Jvm.MethodName)) ∈ lw_all := lw_g (lw_at lw_m13 139 rfl) rfl
theorem q3142 : (Jvm.Cond.selects "SnowPass$1Trial" ({ cls := "SnowPass$1Trial", name := "add", desc := "(I)V" } : Jvm.MethodName) ({ cls := "SnowPass$1Trial", name := "add", desc := "(I)V" } : Jvm.MethodName)) ∈ lw_all := lw_g (lw_at lw_m13 140 rfl) rfl
theorem q3143 : (Jvm.Cond.code ({ cls := "SnowPass$1Trial", name := "add", desc := "(I)V" } : Jvm.MethodName) prog_2_method_2_code (4 : Nat) (Option.none : Option Jvm.ClassFile.FieldType)) ∈ lw_all := lw_g (lw_at lw_m13 141 rfl) rfl
theorem q3144 : (Jvm.Cond.methodLink "SnowPass$1Trial" (32 : Nat) ({ cls := "SnowPass$Road", name := "copy", desc := "()LSnowPass$Road;" } : Jvm.MethodName)) ∈ lw_all := lw_g (lw_at lw_m13 142 rfl) rfl
theorem q3145 : (Jvm.Cond.methodLink "SnowPass$1Trial" (42 : Nat) ({ cls := "SnowPass$Road", name := "after", desc := "(I)LSnowPass$Road;" } : Jvm.MethodName)) ∈ lw_all := lw_g (lw_at lw_m13 143 rfl) rfl
theorem q3146 : (Jvm.Cond.methodLink "SnowPass$1Trial" (46 : Nat) ({ cls := "SnowPass$Road", name := "total", desc := "()I" } : Jvm.MethodName)) ∈ lw_all := lw_g (lw_at lw_m13 144 rfl) rfl
theorem q4019 : (Jvm.Cond.castable "SnowPass$1Trial" "java/lang/Object") ∈ lw_tbl := lw_at lw_m17 57 rfl
theorem in_X14 : ∀ w ∈ wsX140, w ∈ lw_all := lw_in wsX140 [3131, 3133, 3135, 3137] (by decide +kernel) (by decide +kernel)
