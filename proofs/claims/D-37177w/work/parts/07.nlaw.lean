/-! KeylockBodyLaw -/
set_option maxRecDepth 100000
def RX0 : String := "KeylockBodyLaw"
abbrev cX0_table : ByteArray := method_3_code
def yX0_table : MethodName := ⟨RX0, "table", "(LKeylockBody;III[J)I"⟩
def dkwX0_table_0 : List UInt8 := [25, 4, 3, 42, 27, 28, 29, 182, 0, 7, 133, 80, 167, 0, 7, 58, 5, 4, 172, 3, 172]
abbrev dktX0_table_0 : List UInt8 := dkwX0_table_0 ++ []
theorem dksX0_table_0 : cX0_table.data.toList.drop 0 = dktX0_table_0 := by decide +kernel
theorem dX0_table_0 : decode cX0_table 0 = .ok (.aload 4, 2) := dk_25 4 (dk_at dksX0_table_0 0 rfl rfl)
theorem dX0_table_2 : decode cX0_table 2 = .ok (.iconst 0, 1) := dk_3 (dk_at dksX0_table_0 2 rfl rfl)
theorem dX0_table_3 : decode cX0_table 3 = .ok (.aload_n 0, 1) := dk_42 (dk_at dksX0_table_0 3 rfl rfl)
theorem dX0_table_4 : decode cX0_table 4 = .ok (.iload_n 1, 1) := dk_27 (dk_at dksX0_table_0 4 rfl rfl)
theorem dX0_table_5 : decode cX0_table 5 = .ok (.iload_n 2, 1) := dk_28 (dk_at dksX0_table_0 5 rfl rfl)
theorem dX0_table_6 : decode cX0_table 6 = .ok (.iload_n 3, 1) := dk_29 (dk_at dksX0_table_0 6 rfl rfl)
theorem dX0_table_7 : decode cX0_table 7 = .ok (.invokevirtual 7, 3) := dk_182 0 7 (dk_at dksX0_table_0 7 rfl rfl)
theorem dX0_table_10 : decode cX0_table 10 = .ok (.i2l, 1) := dk_133 (dk_at dksX0_table_0 10 rfl rfl)
theorem dX0_table_11 : decode cX0_table 11 = .ok (.lastore, 1) := dk_80 (dk_at dksX0_table_0 11 rfl rfl)
theorem dX0_table_12 : decode cX0_table 12 = .ok (.goto 7, 3) := dk_167 0 7 (dk_at dksX0_table_0 12 rfl rfl)
theorem dX0_table_15 : decode cX0_table 15 = .ok (.astore 5, 2) := dk_58 5 (dk_at dksX0_table_0 15 rfl rfl)
theorem dX0_table_17 : decode cX0_table 17 = .ok (.iconst 1, 1) := dk_4 (dk_at dksX0_table_0 17 rfl rfl)
theorem dX0_table_18 : decode cX0_table 18 = .ok (.ireturn, 1) := dk_172 (dk_at dksX0_table_0 18 rfl rfl)
theorem dX0_table_19 : decode cX0_table 19 = .ok (.iconst 0, 1) := dk_3 (dk_at dksX0_table_0 19 rfl rfl)
theorem dX0_table_20 : decode cX0_table 20 = .ok (.ireturn, 1) := dk_172 (dk_at dksX0_table_0 20 rfl rfl)
abbrev cX0_fit : ByteArray := method_4_code
def yX0_fit : MethodName := ⟨RX0, "fit", "(LKeylockBody;II[J)I"⟩
def dkwX0_fit_0 : List UInt8 := [45, 3, 42, 27, 28, 182, 0, 15, 133, 80, 167, 0, 7, 58, 4, 4, 172, 3, 172]
abbrev dktX0_fit_0 : List UInt8 := dkwX0_fit_0 ++ []
theorem dksX0_fit_0 : cX0_fit.data.toList.drop 0 = dktX0_fit_0 := by decide +kernel
theorem dX0_fit_0 : decode cX0_fit 0 = .ok (.aload_n 3, 1) := dk_45 (dk_at dksX0_fit_0 0 rfl rfl)
theorem dX0_fit_1 : decode cX0_fit 1 = .ok (.iconst 0, 1) := dk_3 (dk_at dksX0_fit_0 1 rfl rfl)
theorem dX0_fit_2 : decode cX0_fit 2 = .ok (.aload_n 0, 1) := dk_42 (dk_at dksX0_fit_0 2 rfl rfl)
theorem dX0_fit_3 : decode cX0_fit 3 = .ok (.iload_n 1, 1) := dk_27 (dk_at dksX0_fit_0 3 rfl rfl)
theorem dX0_fit_4 : decode cX0_fit 4 = .ok (.iload_n 2, 1) := dk_28 (dk_at dksX0_fit_0 4 rfl rfl)
theorem dX0_fit_5 : decode cX0_fit 5 = .ok (.invokevirtual 15, 3) := dk_182 0 15 (dk_at dksX0_fit_0 5 rfl rfl)
theorem dX0_fit_8 : decode cX0_fit 8 = .ok (.i2l, 1) := dk_133 (dk_at dksX0_fit_0 8 rfl rfl)
theorem dX0_fit_9 : decode cX0_fit 9 = .ok (.lastore, 1) := dk_80 (dk_at dksX0_fit_0 9 rfl rfl)
theorem dX0_fit_10 : decode cX0_fit 10 = .ok (.goto 7, 3) := dk_167 0 7 (dk_at dksX0_fit_0 10 rfl rfl)
theorem dX0_fit_13 : decode cX0_fit 13 = .ok (.astore 4, 2) := dk_58 4 (dk_at dksX0_fit_0 13 rfl rfl)
theorem dX0_fit_15 : decode cX0_fit 15 = .ok (.iconst 1, 1) := dk_4 (dk_at dksX0_fit_0 15 rfl rfl)
theorem dX0_fit_16 : decode cX0_fit 16 = .ok (.ireturn, 1) := dk_172 (dk_at dksX0_fit_0 16 rfl rfl)
theorem dX0_fit_17 : decode cX0_fit 17 = .ok (.iconst 0, 1) := dk_3 (dk_at dksX0_fit_0 17 rfl rfl)
theorem dX0_fit_18 : decode cX0_fit 18 = .ok (.ireturn, 1) := dk_172 (dk_at dksX0_fit_0 18 rfl rfl)
abbrev cX0_mark : ByteArray := method_5_code
def yX0_mark : MethodName := ⟨RX0, "mark", "(LKeylockBody;II[J)I"⟩
def dkwX0_mark_0 : List UInt8 := [45, 3, 42, 27, 28, 182, 0, 19, 133, 80, 167, 0, 7, 58, 4, 4, 172, 3, 172]
abbrev dktX0_mark_0 : List UInt8 := dkwX0_mark_0 ++ []
theorem dksX0_mark_0 : cX0_mark.data.toList.drop 0 = dktX0_mark_0 := by decide +kernel
theorem dX0_mark_0 : decode cX0_mark 0 = .ok (.aload_n 3, 1) := dk_45 (dk_at dksX0_mark_0 0 rfl rfl)
theorem dX0_mark_1 : decode cX0_mark 1 = .ok (.iconst 0, 1) := dk_3 (dk_at dksX0_mark_0 1 rfl rfl)
theorem dX0_mark_2 : decode cX0_mark 2 = .ok (.aload_n 0, 1) := dk_42 (dk_at dksX0_mark_0 2 rfl rfl)
theorem dX0_mark_3 : decode cX0_mark 3 = .ok (.iload_n 1, 1) := dk_27 (dk_at dksX0_mark_0 3 rfl rfl)
theorem dX0_mark_4 : decode cX0_mark 4 = .ok (.iload_n 2, 1) := dk_28 (dk_at dksX0_mark_0 4 rfl rfl)
theorem dX0_mark_5 : decode cX0_mark 5 = .ok (.invokevirtual 19, 3) := dk_182 0 19 (dk_at dksX0_mark_0 5 rfl rfl)
theorem dX0_mark_8 : decode cX0_mark 8 = .ok (.i2l, 1) := dk_133 (dk_at dksX0_mark_0 8 rfl rfl)
theorem dX0_mark_9 : decode cX0_mark 9 = .ok (.lastore, 1) := dk_80 (dk_at dksX0_mark_0 9 rfl rfl)
theorem dX0_mark_10 : decode cX0_mark 10 = .ok (.goto 7, 3) := dk_167 0 7 (dk_at dksX0_mark_0 10 rfl rfl)
theorem dX0_mark_13 : decode cX0_mark 13 = .ok (.astore 4, 2) := dk_58 4 (dk_at dksX0_mark_0 13 rfl rfl)
theorem dX0_mark_15 : decode cX0_mark 15 = .ok (.iconst 1, 1) := dk_4 (dk_at dksX0_mark_0 15 rfl rfl)
theorem dX0_mark_16 : decode cX0_mark 16 = .ok (.ireturn, 1) := dk_172 (dk_at dksX0_mark_0 16 rfl rfl)
theorem dX0_mark_17 : decode cX0_mark 17 = .ok (.iconst 0, 1) := dk_3 (dk_at dksX0_mark_0 17 rfl rfl)
theorem dX0_mark_18 : decode cX0_mark 18 = .ok (.ireturn, 1) := dk_172 (dk_at dksX0_mark_0 18 rfl rfl)
abbrev cX0_own : ByteArray := method_6_code
def yX0_own : MethodName := ⟨RX0, "own", "(LKeylockBody;I[J)I"⟩
def dkwX0_own_0 : List UInt8 := [44, 3, 42, 27, 182, 0, 22, 133, 80, 167, 0, 9, 78, 4, 172, 78, 5, 172, 3, 172]
abbrev dktX0_own_0 : List UInt8 := dkwX0_own_0 ++ []
theorem dksX0_own_0 : cX0_own.data.toList.drop 0 = dktX0_own_0 := by decide +kernel
theorem dX0_own_0 : decode cX0_own 0 = .ok (.aload_n 2, 1) := dk_44 (dk_at dksX0_own_0 0 rfl rfl)
theorem dX0_own_1 : decode cX0_own 1 = .ok (.iconst 0, 1) := dk_3 (dk_at dksX0_own_0 1 rfl rfl)
theorem dX0_own_2 : decode cX0_own 2 = .ok (.aload_n 0, 1) := dk_42 (dk_at dksX0_own_0 2 rfl rfl)
theorem dX0_own_3 : decode cX0_own 3 = .ok (.iload_n 1, 1) := dk_27 (dk_at dksX0_own_0 3 rfl rfl)
theorem dX0_own_4 : decode cX0_own 4 = .ok (.invokevirtual 22, 3) := dk_182 0 22 (dk_at dksX0_own_0 4 rfl rfl)
theorem dX0_own_7 : decode cX0_own 7 = .ok (.i2l, 1) := dk_133 (dk_at dksX0_own_0 7 rfl rfl)
theorem dX0_own_8 : decode cX0_own 8 = .ok (.lastore, 1) := dk_80 (dk_at dksX0_own_0 8 rfl rfl)
theorem dX0_own_9 : decode cX0_own 9 = .ok (.goto 9, 3) := dk_167 0 9 (dk_at dksX0_own_0 9 rfl rfl)
theorem dX0_own_12 : decode cX0_own 12 = .ok (.astore_n 3, 1) := dk_78 (dk_at dksX0_own_0 12 rfl rfl)
theorem dX0_own_13 : decode cX0_own 13 = .ok (.iconst 1, 1) := dk_4 (dk_at dksX0_own_0 13 rfl rfl)
theorem dX0_own_14 : decode cX0_own 14 = .ok (.ireturn, 1) := dk_172 (dk_at dksX0_own_0 14 rfl rfl)
theorem dX0_own_15 : decode cX0_own 15 = .ok (.astore_n 3, 1) := dk_78 (dk_at dksX0_own_0 15 rfl rfl)
theorem dX0_own_16 : decode cX0_own 16 = .ok (.iconst 2, 1) := dk_5 (dk_at dksX0_own_0 16 rfl rfl)
theorem dX0_own_17 : decode cX0_own 17 = .ok (.ireturn, 1) := dk_172 (dk_at dksX0_own_0 17 rfl rfl)
theorem dX0_own_18 : decode cX0_own 18 = .ok (.iconst 0, 1) := dk_3 (dk_at dksX0_own_0 18 rfl rfl)
theorem dX0_own_19 : decode cX0_own 19 = .ok (.ireturn, 1) := dk_172 (dk_at dksX0_own_0 19 rfl rfl)
abbrev cX0_harm : ByteArray := method_7_code
def yX0_harm : MethodName := ⟨RX0, "harm", "(LKeylockBody;I[J)I"⟩
def dkwX0_harm_0 : List UInt8 := [44, 3, 42, 27, 182, 0, 28, 133, 80, 167, 0, 6, 78, 4, 172, 3, 172]
abbrev dktX0_harm_0 : List UInt8 := dkwX0_harm_0 ++ []
theorem dksX0_harm_0 : cX0_harm.data.toList.drop 0 = dktX0_harm_0 := by decide +kernel
theorem dX0_harm_0 : decode cX0_harm 0 = .ok (.aload_n 2, 1) := dk_44 (dk_at dksX0_harm_0 0 rfl rfl)
theorem dX0_harm_1 : decode cX0_harm 1 = .ok (.iconst 0, 1) := dk_3 (dk_at dksX0_harm_0 1 rfl rfl)
theorem dX0_harm_2 : decode cX0_harm 2 = .ok (.aload_n 0, 1) := dk_42 (dk_at dksX0_harm_0 2 rfl rfl)
theorem dX0_harm_3 : decode cX0_harm 3 = .ok (.iload_n 1, 1) := dk_27 (dk_at dksX0_harm_0 3 rfl rfl)
theorem dX0_harm_4 : decode cX0_harm 4 = .ok (.invokevirtual 28, 3) := dk_182 0 28 (dk_at dksX0_harm_0 4 rfl rfl)
theorem dX0_harm_7 : decode cX0_harm 7 = .ok (.i2l, 1) := dk_133 (dk_at dksX0_harm_0 7 rfl rfl)
theorem dX0_harm_8 : decode cX0_harm 8 = .ok (.lastore, 1) := dk_80 (dk_at dksX0_harm_0 8 rfl rfl)
theorem dX0_harm_9 : decode cX0_harm 9 = .ok (.goto 6, 3) := dk_167 0 6 (dk_at dksX0_harm_0 9 rfl rfl)
theorem dX0_harm_12 : decode cX0_harm 12 = .ok (.astore_n 3, 1) := dk_78 (dk_at dksX0_harm_0 12 rfl rfl)
theorem dX0_harm_13 : decode cX0_harm 13 = .ok (.iconst 1, 1) := dk_4 (dk_at dksX0_harm_0 13 rfl rfl)
theorem dX0_harm_14 : decode cX0_harm 14 = .ok (.ireturn, 1) := dk_172 (dk_at dksX0_harm_0 14 rfl rfl)
theorem dX0_harm_15 : decode cX0_harm 15 = .ok (.iconst 0, 1) := dk_3 (dk_at dksX0_harm_0 15 rfl rfl)
theorem dX0_harm_16 : decode cX0_harm 16 = .ok (.ireturn, 1) := dk_172 (dk_at dksX0_harm_0 16 rfl rfl)
abbrev cX0_nearness : ByteArray := method_8_code
def yX0_nearness : MethodName := ⟨RX0, "nearness", "(LKeylockBody;I[J)I"⟩
def dkwX0_nearness_0 : List UInt8 := [44, 3, 42, 27, 182, 0, 33, 133, 80, 167, 0, 6, 78, 4, 172, 3, 172]
abbrev dktX0_nearness_0 : List UInt8 := dkwX0_nearness_0 ++ []
theorem dksX0_nearness_0 : cX0_nearness.data.toList.drop 0 = dktX0_nearness_0 := by decide +kernel
theorem dX0_nearness_0 : decode cX0_nearness 0 = .ok (.aload_n 2, 1) := dk_44 (dk_at dksX0_nearness_0 0 rfl rfl)
theorem dX0_nearness_1 : decode cX0_nearness 1 = .ok (.iconst 0, 1) := dk_3 (dk_at dksX0_nearness_0 1 rfl rfl)
theorem dX0_nearness_2 : decode cX0_nearness 2 = .ok (.aload_n 0, 1) := dk_42 (dk_at dksX0_nearness_0 2 rfl rfl)
theorem dX0_nearness_3 : decode cX0_nearness 3 = .ok (.iload_n 1, 1) := dk_27 (dk_at dksX0_nearness_0 3 rfl rfl)
theorem dX0_nearness_4 : decode cX0_nearness 4 = .ok (.invokevirtual 33, 3) := dk_182 0 33 (dk_at dksX0_nearness_0 4 rfl rfl)
theorem dX0_nearness_7 : decode cX0_nearness 7 = .ok (.i2l, 1) := dk_133 (dk_at dksX0_nearness_0 7 rfl rfl)
theorem dX0_nearness_8 : decode cX0_nearness 8 = .ok (.lastore, 1) := dk_80 (dk_at dksX0_nearness_0 8 rfl rfl)
theorem dX0_nearness_9 : decode cX0_nearness 9 = .ok (.goto 6, 3) := dk_167 0 6 (dk_at dksX0_nearness_0 9 rfl rfl)
theorem dX0_nearness_12 : decode cX0_nearness 12 = .ok (.astore_n 3, 1) := dk_78 (dk_at dksX0_nearness_0 12 rfl rfl)
theorem dX0_nearness_13 : decode cX0_nearness 13 = .ok (.iconst 1, 1) := dk_4 (dk_at dksX0_nearness_0 13 rfl rfl)
theorem dX0_nearness_14 : decode cX0_nearness 14 = .ok (.ireturn, 1) := dk_172 (dk_at dksX0_nearness_0 14 rfl rfl)
theorem dX0_nearness_15 : decode cX0_nearness 15 = .ok (.iconst 0, 1) := dk_3 (dk_at dksX0_nearness_0 15 rfl rfl)
theorem dX0_nearness_16 : decode cX0_nearness 16 = .ok (.ireturn, 1) := dk_172 (dk_at dksX0_nearness_0 16 rfl rfl)
abbrev cX0_segment : ByteArray := method_9_code
def yX0_segment : MethodName := ⟨RX0, "segment", "(LKeylockBody;II[J)I"⟩
def dkwX0_segment_0 : List UInt8 := [45, 3, 42, 27, 28, 182, 0, 36, 133, 80, 167, 0, 11, 58, 4, 4, 172, 58, 4, 5, 172, 3, 172]
abbrev dktX0_segment_0 : List UInt8 := dkwX0_segment_0 ++ []
theorem dksX0_segment_0 : cX0_segment.data.toList.drop 0 = dktX0_segment_0 := by decide +kernel
theorem dX0_segment_0 : decode cX0_segment 0 = .ok (.aload_n 3, 1) := dk_45 (dk_at dksX0_segment_0 0 rfl rfl)
theorem dX0_segment_1 : decode cX0_segment 1 = .ok (.iconst 0, 1) := dk_3 (dk_at dksX0_segment_0 1 rfl rfl)
theorem dX0_segment_2 : decode cX0_segment 2 = .ok (.aload_n 0, 1) := dk_42 (dk_at dksX0_segment_0 2 rfl rfl)
theorem dX0_segment_3 : decode cX0_segment 3 = .ok (.iload_n 1, 1) := dk_27 (dk_at dksX0_segment_0 3 rfl rfl)
theorem dX0_segment_4 : decode cX0_segment 4 = .ok (.iload_n 2, 1) := dk_28 (dk_at dksX0_segment_0 4 rfl rfl)
theorem dX0_segment_5 : decode cX0_segment 5 = .ok (.invokevirtual 36, 3) := dk_182 0 36 (dk_at dksX0_segment_0 5 rfl rfl)
theorem dX0_segment_8 : decode cX0_segment 8 = .ok (.i2l, 1) := dk_133 (dk_at dksX0_segment_0 8 rfl rfl)
theorem dX0_segment_9 : decode cX0_segment 9 = .ok (.lastore, 1) := dk_80 (dk_at dksX0_segment_0 9 rfl rfl)
theorem dX0_segment_10 : decode cX0_segment 10 = .ok (.goto 11, 3) := dk_167 0 11 (dk_at dksX0_segment_0 10 rfl rfl)
theorem dX0_segment_13 : decode cX0_segment 13 = .ok (.astore 4, 2) := dk_58 4 (dk_at dksX0_segment_0 13 rfl rfl)
theorem dX0_segment_15 : decode cX0_segment 15 = .ok (.iconst 1, 1) := dk_4 (dk_at dksX0_segment_0 15 rfl rfl)
theorem dX0_segment_16 : decode cX0_segment 16 = .ok (.ireturn, 1) := dk_172 (dk_at dksX0_segment_0 16 rfl rfl)
theorem dX0_segment_17 : decode cX0_segment 17 = .ok (.astore 4, 2) := dk_58 4 (dk_at dksX0_segment_0 17 rfl rfl)
theorem dX0_segment_19 : decode cX0_segment 19 = .ok (.iconst 2, 1) := dk_5 (dk_at dksX0_segment_0 19 rfl rfl)
theorem dX0_segment_20 : decode cX0_segment 20 = .ok (.ireturn, 1) := dk_172 (dk_at dksX0_segment_0 20 rfl rfl)
theorem dX0_segment_21 : decode cX0_segment 21 = .ok (.iconst 0, 1) := dk_3 (dk_at dksX0_segment_0 21 rfl rfl)
theorem dX0_segment_22 : decode cX0_segment 22 = .ok (.ireturn, 1) := dk_172 (dk_at dksX0_segment_0 22 rfl rfl)
abbrev cX0_joint : ByteArray := method_10_code
def yX0_joint : MethodName := ⟨RX0, "joint", "(LKeylockBody;I[J)I"⟩
def dkwX0_joint_0 : List UInt8 := [44, 3, 42, 27, 182, 0, 39, 133, 80, 167, 0, 9, 78, 4, 172, 78, 5, 172, 3, 172]
abbrev dktX0_joint_0 : List UInt8 := dkwX0_joint_0 ++ []
theorem dksX0_joint_0 : cX0_joint.data.toList.drop 0 = dktX0_joint_0 := by decide +kernel
theorem dX0_joint_0 : decode cX0_joint 0 = .ok (.aload_n 2, 1) := dk_44 (dk_at dksX0_joint_0 0 rfl rfl)
theorem dX0_joint_1 : decode cX0_joint 1 = .ok (.iconst 0, 1) := dk_3 (dk_at dksX0_joint_0 1 rfl rfl)
theorem dX0_joint_2 : decode cX0_joint 2 = .ok (.aload_n 0, 1) := dk_42 (dk_at dksX0_joint_0 2 rfl rfl)
theorem dX0_joint_3 : decode cX0_joint 3 = .ok (.iload_n 1, 1) := dk_27 (dk_at dksX0_joint_0 3 rfl rfl)
theorem dX0_joint_4 : decode cX0_joint 4 = .ok (.invokevirtual 39, 3) := dk_182 0 39 (dk_at dksX0_joint_0 4 rfl rfl)
theorem dX0_joint_7 : decode cX0_joint 7 = .ok (.i2l, 1) := dk_133 (dk_at dksX0_joint_0 7 rfl rfl)
theorem dX0_joint_8 : decode cX0_joint 8 = .ok (.lastore, 1) := dk_80 (dk_at dksX0_joint_0 8 rfl rfl)
theorem dX0_joint_9 : decode cX0_joint 9 = .ok (.goto 9, 3) := dk_167 0 9 (dk_at dksX0_joint_0 9 rfl rfl)
theorem dX0_joint_12 : decode cX0_joint 12 = .ok (.astore_n 3, 1) := dk_78 (dk_at dksX0_joint_0 12 rfl rfl)
theorem dX0_joint_13 : decode cX0_joint 13 = .ok (.iconst 1, 1) := dk_4 (dk_at dksX0_joint_0 13 rfl rfl)
theorem dX0_joint_14 : decode cX0_joint 14 = .ok (.ireturn, 1) := dk_172 (dk_at dksX0_joint_0 14 rfl rfl)
theorem dX0_joint_15 : decode cX0_joint 15 = .ok (.astore_n 3, 1) := dk_78 (dk_at dksX0_joint_0 15 rfl rfl)
theorem dX0_joint_16 : decode cX0_joint 16 = .ok (.iconst 2, 1) := dk_5 (dk_at dksX0_joint_0 16 rfl rfl)
theorem dX0_joint_17 : decode cX0_joint 17 = .ok (.ireturn, 1) := dk_172 (dk_at dksX0_joint_0 17 rfl rfl)
theorem dX0_joint_18 : decode cX0_joint 18 = .ok (.iconst 0, 1) := dk_3 (dk_at dksX0_joint_0 18 rfl rfl)
theorem dX0_joint_19 : decode cX0_joint 19 = .ok (.ireturn, 1) := dk_172 (dk_at dksX0_joint_0 19 rfl rfl)
abbrev cX0_draw : ByteArray := method_11_code
def yX0_draw : MethodName := ⟨RX0, "draw", "(LKeylockBody;IIIZ[J)I"⟩
def dkwX0_draw_1 : List UInt8 := [172, 58, 6, 6, 172, 3, 172]
abbrev dktX0_draw_1 : List UInt8 := dkwX0_draw_1 ++ []
def dkwX0_draw_0 : List UInt8 := [25, 5, 3, 42, 27, 28, 29, 21, 4, 182, 0, 42, 133, 80, 167, 0, 15, 58, 6, 4, 172, 58, 6, 5]
abbrev dktX0_draw_0 : List UInt8 := dkwX0_draw_0 ++ dktX0_draw_1
theorem dksX0_draw_0 : cX0_draw.data.toList.drop 0 = dktX0_draw_0 := by decide +kernel
theorem dksX0_draw_1 : cX0_draw.data.toList.drop 24 = dktX0_draw_1 := dk_seg dksX0_draw_0 24 rfl rfl
theorem dX0_draw_0 : decode cX0_draw 0 = .ok (.aload 5, 2) := dk_25 5 (dk_at dksX0_draw_0 0 rfl rfl)
theorem dX0_draw_2 : decode cX0_draw 2 = .ok (.iconst 0, 1) := dk_3 (dk_at dksX0_draw_0 2 rfl rfl)
theorem dX0_draw_3 : decode cX0_draw 3 = .ok (.aload_n 0, 1) := dk_42 (dk_at dksX0_draw_0 3 rfl rfl)
theorem dX0_draw_4 : decode cX0_draw 4 = .ok (.iload_n 1, 1) := dk_27 (dk_at dksX0_draw_0 4 rfl rfl)
theorem dX0_draw_5 : decode cX0_draw 5 = .ok (.iload_n 2, 1) := dk_28 (dk_at dksX0_draw_0 5 rfl rfl)
theorem dX0_draw_6 : decode cX0_draw 6 = .ok (.iload_n 3, 1) := dk_29 (dk_at dksX0_draw_0 6 rfl rfl)
theorem dX0_draw_7 : decode cX0_draw 7 = .ok (.iload 4, 2) := dk_21 4 (dk_at dksX0_draw_0 7 rfl rfl)
theorem dX0_draw_9 : decode cX0_draw 9 = .ok (.invokevirtual 42, 3) := dk_182 0 42 (dk_at dksX0_draw_0 9 rfl rfl)
theorem dX0_draw_12 : decode cX0_draw 12 = .ok (.i2l, 1) := dk_133 (dk_at dksX0_draw_0 12 rfl rfl)
theorem dX0_draw_13 : decode cX0_draw 13 = .ok (.lastore, 1) := dk_80 (dk_at dksX0_draw_0 13 rfl rfl)
theorem dX0_draw_14 : decode cX0_draw 14 = .ok (.goto 15, 3) := dk_167 0 15 (dk_at dksX0_draw_0 14 rfl rfl)
theorem dX0_draw_17 : decode cX0_draw 17 = .ok (.astore 6, 2) := dk_58 6 (dk_at dksX0_draw_0 17 rfl rfl)
theorem dX0_draw_19 : decode cX0_draw 19 = .ok (.iconst 1, 1) := dk_4 (dk_at dksX0_draw_0 19 rfl rfl)
theorem dX0_draw_20 : decode cX0_draw 20 = .ok (.ireturn, 1) := dk_172 (dk_at dksX0_draw_0 20 rfl rfl)
theorem dX0_draw_21 : decode cX0_draw 21 = .ok (.astore 6, 2) := dk_58 6 (dk_at dksX0_draw_0 21 rfl rfl)
theorem dX0_draw_23 : decode cX0_draw 23 = .ok (.iconst 2, 1) := dk_5 (dk_at dksX0_draw_0 23 rfl rfl)
theorem dX0_draw_24 : decode cX0_draw 24 = .ok (.ireturn, 1) := dk_172 (dk_at dksX0_draw_1 0 rfl rfl)
theorem dX0_draw_25 : decode cX0_draw 25 = .ok (.astore 6, 2) := dk_58 6 (dk_at dksX0_draw_1 1 rfl rfl)
theorem dX0_draw_27 : decode cX0_draw 27 = .ok (.iconst 3, 1) := dk_6 (dk_at dksX0_draw_1 3 rfl rfl)
theorem dX0_draw_28 : decode cX0_draw 28 = .ok (.ireturn, 1) := dk_172 (dk_at dksX0_draw_1 4 rfl rfl)
theorem dX0_draw_29 : decode cX0_draw 29 = .ok (.iconst 0, 1) := dk_3 (dk_at dksX0_draw_1 5 rfl rfl)
theorem dX0_draw_30 : decode cX0_draw 30 = .ok (.ireturn, 1) := dk_172 (dk_at dksX0_draw_1 6 rfl rfl)
abbrev cX0_slip : ByteArray := method_12_code
def yX0_slip : MethodName := ⟨RX0, "slip", "(LKeylockBody;III[J)I"⟩
def dkwX0_slip_1 : List UInt8 := [58, 5, 6, 172, 3, 172]
abbrev dktX0_slip_1 : List UInt8 := dkwX0_slip_1 ++ []
def dkwX0_slip_0 : List UInt8 := [25, 4, 3, 42, 27, 28, 29, 182, 0, 46, 133, 80, 167, 0, 15, 58, 5, 4, 172, 58, 5, 5, 172]
abbrev dktX0_slip_0 : List UInt8 := dkwX0_slip_0 ++ dktX0_slip_1
theorem dksX0_slip_0 : cX0_slip.data.toList.drop 0 = dktX0_slip_0 := by decide +kernel
theorem dksX0_slip_1 : cX0_slip.data.toList.drop 23 = dktX0_slip_1 := dk_seg dksX0_slip_0 23 rfl rfl
theorem dX0_slip_0 : decode cX0_slip 0 = .ok (.aload 4, 2) := dk_25 4 (dk_at dksX0_slip_0 0 rfl rfl)
theorem dX0_slip_2 : decode cX0_slip 2 = .ok (.iconst 0, 1) := dk_3 (dk_at dksX0_slip_0 2 rfl rfl)
theorem dX0_slip_3 : decode cX0_slip 3 = .ok (.aload_n 0, 1) := dk_42 (dk_at dksX0_slip_0 3 rfl rfl)
theorem dX0_slip_4 : decode cX0_slip 4 = .ok (.iload_n 1, 1) := dk_27 (dk_at dksX0_slip_0 4 rfl rfl)
theorem dX0_slip_5 : decode cX0_slip 5 = .ok (.iload_n 2, 1) := dk_28 (dk_at dksX0_slip_0 5 rfl rfl)
theorem dX0_slip_6 : decode cX0_slip 6 = .ok (.iload_n 3, 1) := dk_29 (dk_at dksX0_slip_0 6 rfl rfl)
theorem dX0_slip_7 : decode cX0_slip 7 = .ok (.invokevirtual 46, 3) := dk_182 0 46 (dk_at dksX0_slip_0 7 rfl rfl)
theorem dX0_slip_10 : decode cX0_slip 10 = .ok (.i2l, 1) := dk_133 (dk_at dksX0_slip_0 10 rfl rfl)
theorem dX0_slip_11 : decode cX0_slip 11 = .ok (.lastore, 1) := dk_80 (dk_at dksX0_slip_0 11 rfl rfl)
theorem dX0_slip_12 : decode cX0_slip 12 = .ok (.goto 15, 3) := dk_167 0 15 (dk_at dksX0_slip_0 12 rfl rfl)
theorem dX0_slip_15 : decode cX0_slip 15 = .ok (.astore 5, 2) := dk_58 5 (dk_at dksX0_slip_0 15 rfl rfl)
theorem dX0_slip_17 : decode cX0_slip 17 = .ok (.iconst 1, 1) := dk_4 (dk_at dksX0_slip_0 17 rfl rfl)
theorem dX0_slip_18 : decode cX0_slip 18 = .ok (.ireturn, 1) := dk_172 (dk_at dksX0_slip_0 18 rfl rfl)
theorem dX0_slip_19 : decode cX0_slip 19 = .ok (.astore 5, 2) := dk_58 5 (dk_at dksX0_slip_0 19 rfl rfl)
theorem dX0_slip_21 : decode cX0_slip 21 = .ok (.iconst 2, 1) := dk_5 (dk_at dksX0_slip_0 21 rfl rfl)
theorem dX0_slip_22 : decode cX0_slip 22 = .ok (.ireturn, 1) := dk_172 (dk_at dksX0_slip_0 22 rfl rfl)
theorem dX0_slip_23 : decode cX0_slip 23 = .ok (.astore 5, 2) := dk_58 5 (dk_at dksX0_slip_1 0 rfl rfl)
theorem dX0_slip_25 : decode cX0_slip 25 = .ok (.iconst 3, 1) := dk_6 (dk_at dksX0_slip_1 2 rfl rfl)
theorem dX0_slip_26 : decode cX0_slip 26 = .ok (.ireturn, 1) := dk_172 (dk_at dksX0_slip_1 3 rfl rfl)
theorem dX0_slip_27 : decode cX0_slip 27 = .ok (.iconst 0, 1) := dk_3 (dk_at dksX0_slip_1 4 rfl rfl)
theorem dX0_slip_28 : decode cX0_slip 28 = .ok (.ireturn, 1) := dk_172 (dk_at dksX0_slip_1 5 rfl rfl)
abbrev cX0_cellIs : ByteArray := method_13_code
def yX0_cellIs : MethodName := ⟨RX0, "cellIs", "(LKeylockBody;II[J)I"⟩
def dkwX0_cellIs_0 : List UInt8 := [45, 3, 42, 27, 28, 182, 0, 49, 133, 80, 167, 0, 11, 58, 4, 4, 172, 58, 4, 5, 172, 3, 172]
abbrev dktX0_cellIs_0 : List UInt8 := dkwX0_cellIs_0 ++ []
theorem dksX0_cellIs_0 : cX0_cellIs.data.toList.drop 0 = dktX0_cellIs_0 := by decide +kernel
theorem dX0_cellIs_0 : decode cX0_cellIs 0 = .ok (.aload_n 3, 1) := dk_45 (dk_at dksX0_cellIs_0 0 rfl rfl)
theorem dX0_cellIs_1 : decode cX0_cellIs 1 = .ok (.iconst 0, 1) := dk_3 (dk_at dksX0_cellIs_0 1 rfl rfl)
theorem dX0_cellIs_2 : decode cX0_cellIs 2 = .ok (.aload_n 0, 1) := dk_42 (dk_at dksX0_cellIs_0 2 rfl rfl)
theorem dX0_cellIs_3 : decode cX0_cellIs 3 = .ok (.iload_n 1, 1) := dk_27 (dk_at dksX0_cellIs_0 3 rfl rfl)
theorem dX0_cellIs_4 : decode cX0_cellIs 4 = .ok (.iload_n 2, 1) := dk_28 (dk_at dksX0_cellIs_0 4 rfl rfl)
theorem dX0_cellIs_5 : decode cX0_cellIs 5 = .ok (.invokevirtual 49, 3) := dk_182 0 49 (dk_at dksX0_cellIs_0 5 rfl rfl)
theorem dX0_cellIs_8 : decode cX0_cellIs 8 = .ok (.i2l, 1) := dk_133 (dk_at dksX0_cellIs_0 8 rfl rfl)
theorem dX0_cellIs_9 : decode cX0_cellIs 9 = .ok (.lastore, 1) := dk_80 (dk_at dksX0_cellIs_0 9 rfl rfl)
theorem dX0_cellIs_10 : decode cX0_cellIs 10 = .ok (.goto 11, 3) := dk_167 0 11 (dk_at dksX0_cellIs_0 10 rfl rfl)
theorem dX0_cellIs_13 : decode cX0_cellIs 13 = .ok (.astore 4, 2) := dk_58 4 (dk_at dksX0_cellIs_0 13 rfl rfl)
theorem dX0_cellIs_15 : decode cX0_cellIs 15 = .ok (.iconst 1, 1) := dk_4 (dk_at dksX0_cellIs_0 15 rfl rfl)
theorem dX0_cellIs_16 : decode cX0_cellIs 16 = .ok (.ireturn, 1) := dk_172 (dk_at dksX0_cellIs_0 16 rfl rfl)
theorem dX0_cellIs_17 : decode cX0_cellIs 17 = .ok (.astore 4, 2) := dk_58 4 (dk_at dksX0_cellIs_0 17 rfl rfl)
theorem dX0_cellIs_19 : decode cX0_cellIs 19 = .ok (.iconst 2, 1) := dk_5 (dk_at dksX0_cellIs_0 19 rfl rfl)
theorem dX0_cellIs_20 : decode cX0_cellIs 20 = .ok (.ireturn, 1) := dk_172 (dk_at dksX0_cellIs_0 20 rfl rfl)
theorem dX0_cellIs_21 : decode cX0_cellIs 21 = .ok (.iconst 0, 1) := dk_3 (dk_at dksX0_cellIs_0 21 rfl rfl)
theorem dX0_cellIs_22 : decode cX0_cellIs 22 = .ok (.ireturn, 1) := dk_172 (dk_at dksX0_cellIs_0 22 rfl rfl)
abbrev cX0_invade : ByteArray := method_14_code
def yX0_invade : MethodName := ⟨RX0, "invade", "(LKeylockBody;III[J)I"⟩
def dkwX0_invade_1 : List UInt8 := [172]
abbrev dktX0_invade_1 : List UInt8 := dkwX0_invade_1 ++ []
def dkwX0_invade_0 : List UInt8 := [25, 4, 3, 42, 27, 28, 29, 182, 0, 52, 133, 80, 167, 0, 11, 58, 5, 4, 172, 58, 5, 5, 172, 3]
abbrev dktX0_invade_0 : List UInt8 := dkwX0_invade_0 ++ dktX0_invade_1
theorem dksX0_invade_0 : cX0_invade.data.toList.drop 0 = dktX0_invade_0 := by decide +kernel
theorem dksX0_invade_1 : cX0_invade.data.toList.drop 24 = dktX0_invade_1 := dk_seg dksX0_invade_0 24 rfl rfl
theorem dX0_invade_0 : decode cX0_invade 0 = .ok (.aload 4, 2) := dk_25 4 (dk_at dksX0_invade_0 0 rfl rfl)
theorem dX0_invade_2 : decode cX0_invade 2 = .ok (.iconst 0, 1) := dk_3 (dk_at dksX0_invade_0 2 rfl rfl)
theorem dX0_invade_3 : decode cX0_invade 3 = .ok (.aload_n 0, 1) := dk_42 (dk_at dksX0_invade_0 3 rfl rfl)
theorem dX0_invade_4 : decode cX0_invade 4 = .ok (.iload_n 1, 1) := dk_27 (dk_at dksX0_invade_0 4 rfl rfl)
theorem dX0_invade_5 : decode cX0_invade 5 = .ok (.iload_n 2, 1) := dk_28 (dk_at dksX0_invade_0 5 rfl rfl)
theorem dX0_invade_6 : decode cX0_invade 6 = .ok (.iload_n 3, 1) := dk_29 (dk_at dksX0_invade_0 6 rfl rfl)
theorem dX0_invade_7 : decode cX0_invade 7 = .ok (.invokevirtual 52, 3) := dk_182 0 52 (dk_at dksX0_invade_0 7 rfl rfl)
theorem dX0_invade_10 : decode cX0_invade 10 = .ok (.i2l, 1) := dk_133 (dk_at dksX0_invade_0 10 rfl rfl)
theorem dX0_invade_11 : decode cX0_invade 11 = .ok (.lastore, 1) := dk_80 (dk_at dksX0_invade_0 11 rfl rfl)
theorem dX0_invade_12 : decode cX0_invade 12 = .ok (.goto 11, 3) := dk_167 0 11 (dk_at dksX0_invade_0 12 rfl rfl)
theorem dX0_invade_15 : decode cX0_invade 15 = .ok (.astore 5, 2) := dk_58 5 (dk_at dksX0_invade_0 15 rfl rfl)
theorem dX0_invade_17 : decode cX0_invade 17 = .ok (.iconst 1, 1) := dk_4 (dk_at dksX0_invade_0 17 rfl rfl)
theorem dX0_invade_18 : decode cX0_invade 18 = .ok (.ireturn, 1) := dk_172 (dk_at dksX0_invade_0 18 rfl rfl)
theorem dX0_invade_19 : decode cX0_invade 19 = .ok (.astore 5, 2) := dk_58 5 (dk_at dksX0_invade_0 19 rfl rfl)
theorem dX0_invade_21 : decode cX0_invade 21 = .ok (.iconst 2, 1) := dk_5 (dk_at dksX0_invade_0 21 rfl rfl)
theorem dX0_invade_22 : decode cX0_invade 22 = .ok (.ireturn, 1) := dk_172 (dk_at dksX0_invade_0 22 rfl rfl)
theorem dX0_invade_23 : decode cX0_invade 23 = .ok (.iconst 0, 1) := dk_3 (dk_at dksX0_invade_0 23 rfl rfl)
theorem dX0_invade_24 : decode cX0_invade 24 = .ok (.ireturn, 1) := dk_172 (dk_at dksX0_invade_1 0 rfl rfl)
abbrev cX0_change : ByteArray := method_15_code
def yX0_change : MethodName := ⟨RX0, "change", "(LKeylockBody;II[J)I"⟩
def dkwX0_change_1 : List UInt8 := [172, 3, 172]
abbrev dktX0_change_1 : List UInt8 := dkwX0_change_1 ++ []
def dkwX0_change_0 : List UInt8 := [45, 3, 42, 27, 28, 182, 0, 55, 133, 80, 167, 0, 15, 58, 4, 4, 172, 58, 4, 5, 172, 58, 4, 6]
abbrev dktX0_change_0 : List UInt8 := dkwX0_change_0 ++ dktX0_change_1
theorem dksX0_change_0 : cX0_change.data.toList.drop 0 = dktX0_change_0 := by decide +kernel
theorem dksX0_change_1 : cX0_change.data.toList.drop 24 = dktX0_change_1 := dk_seg dksX0_change_0 24 rfl rfl
theorem dX0_change_0 : decode cX0_change 0 = .ok (.aload_n 3, 1) := dk_45 (dk_at dksX0_change_0 0 rfl rfl)
theorem dX0_change_1 : decode cX0_change 1 = .ok (.iconst 0, 1) := dk_3 (dk_at dksX0_change_0 1 rfl rfl)
theorem dX0_change_2 : decode cX0_change 2 = .ok (.aload_n 0, 1) := dk_42 (dk_at dksX0_change_0 2 rfl rfl)
theorem dX0_change_3 : decode cX0_change 3 = .ok (.iload_n 1, 1) := dk_27 (dk_at dksX0_change_0 3 rfl rfl)
theorem dX0_change_4 : decode cX0_change 4 = .ok (.iload_n 2, 1) := dk_28 (dk_at dksX0_change_0 4 rfl rfl)
theorem dX0_change_5 : decode cX0_change 5 = .ok (.invokevirtual 55, 3) := dk_182 0 55 (dk_at dksX0_change_0 5 rfl rfl)
theorem dX0_change_8 : decode cX0_change 8 = .ok (.i2l, 1) := dk_133 (dk_at dksX0_change_0 8 rfl rfl)
theorem dX0_change_9 : decode cX0_change 9 = .ok (.lastore, 1) := dk_80 (dk_at dksX0_change_0 9 rfl rfl)
theorem dX0_change_10 : decode cX0_change 10 = .ok (.goto 15, 3) := dk_167 0 15 (dk_at dksX0_change_0 10 rfl rfl)
theorem dX0_change_13 : decode cX0_change 13 = .ok (.astore 4, 2) := dk_58 4 (dk_at dksX0_change_0 13 rfl rfl)
theorem dX0_change_15 : decode cX0_change 15 = .ok (.iconst 1, 1) := dk_4 (dk_at dksX0_change_0 15 rfl rfl)
theorem dX0_change_16 : decode cX0_change 16 = .ok (.ireturn, 1) := dk_172 (dk_at dksX0_change_0 16 rfl rfl)
theorem dX0_change_17 : decode cX0_change 17 = .ok (.astore 4, 2) := dk_58 4 (dk_at dksX0_change_0 17 rfl rfl)
theorem dX0_change_19 : decode cX0_change 19 = .ok (.iconst 2, 1) := dk_5 (dk_at dksX0_change_0 19 rfl rfl)
theorem dX0_change_20 : decode cX0_change 20 = .ok (.ireturn, 1) := dk_172 (dk_at dksX0_change_0 20 rfl rfl)
theorem dX0_change_21 : decode cX0_change 21 = .ok (.astore 4, 2) := dk_58 4 (dk_at dksX0_change_0 21 rfl rfl)
theorem dX0_change_23 : decode cX0_change 23 = .ok (.iconst 3, 1) := dk_6 (dk_at dksX0_change_0 23 rfl rfl)
theorem dX0_change_24 : decode cX0_change 24 = .ok (.ireturn, 1) := dk_172 (dk_at dksX0_change_1 0 rfl rfl)
theorem dX0_change_25 : decode cX0_change 25 = .ok (.iconst 0, 1) := dk_3 (dk_at dksX0_change_1 1 rfl rfl)
theorem dX0_change_26 : decode cX0_change 26 = .ok (.ireturn, 1) := dk_172 (dk_at dksX0_change_1 2 rfl rfl)
abbrev cX0_invaderIs : ByteArray := method_16_code
def yX0_invaderIs : MethodName := ⟨RX0, "invaderIs", "(LKeylockBody;II[J)I"⟩
def dkwX0_invaderIs_0 : List UInt8 := [45, 3, 42, 27, 28, 182, 0, 58, 133, 80, 167, 0, 11, 58, 4, 4, 172, 58, 4, 5, 172, 3, 172]
abbrev dktX0_invaderIs_0 : List UInt8 := dkwX0_invaderIs_0 ++ []
theorem dksX0_invaderIs_0 : cX0_invaderIs.data.toList.drop 0 = dktX0_invaderIs_0 := by decide +kernel
theorem dX0_invaderIs_0 : decode cX0_invaderIs 0 = .ok (.aload_n 3, 1) := dk_45 (dk_at dksX0_invaderIs_0 0 rfl rfl)
theorem dX0_invaderIs_1 : decode cX0_invaderIs 1 = .ok (.iconst 0, 1) := dk_3 (dk_at dksX0_invaderIs_0 1 rfl rfl)
theorem dX0_invaderIs_2 : decode cX0_invaderIs 2 = .ok (.aload_n 0, 1) := dk_42 (dk_at dksX0_invaderIs_0 2 rfl rfl)
theorem dX0_invaderIs_3 : decode cX0_invaderIs 3 = .ok (.iload_n 1, 1) := dk_27 (dk_at dksX0_invaderIs_0 3 rfl rfl)
theorem dX0_invaderIs_4 : decode cX0_invaderIs 4 = .ok (.iload_n 2, 1) := dk_28 (dk_at dksX0_invaderIs_0 4 rfl rfl)
theorem dX0_invaderIs_5 : decode cX0_invaderIs 5 = .ok (.invokevirtual 58, 3) := dk_182 0 58 (dk_at dksX0_invaderIs_0 5 rfl rfl)
theorem dX0_invaderIs_8 : decode cX0_invaderIs 8 = .ok (.i2l, 1) := dk_133 (dk_at dksX0_invaderIs_0 8 rfl rfl)
theorem dX0_invaderIs_9 : decode cX0_invaderIs 9 = .ok (.lastore, 1) := dk_80 (dk_at dksX0_invaderIs_0 9 rfl rfl)
theorem dX0_invaderIs_10 : decode cX0_invaderIs 10 = .ok (.goto 11, 3) := dk_167 0 11 (dk_at dksX0_invaderIs_0 10 rfl rfl)
theorem dX0_invaderIs_13 : decode cX0_invaderIs 13 = .ok (.astore 4, 2) := dk_58 4 (dk_at dksX0_invaderIs_0 13 rfl rfl)
theorem dX0_invaderIs_15 : decode cX0_invaderIs 15 = .ok (.iconst 1, 1) := dk_4 (dk_at dksX0_invaderIs_0 15 rfl rfl)
theorem dX0_invaderIs_16 : decode cX0_invaderIs 16 = .ok (.ireturn, 1) := dk_172 (dk_at dksX0_invaderIs_0 16 rfl rfl)
theorem dX0_invaderIs_17 : decode cX0_invaderIs 17 = .ok (.astore 4, 2) := dk_58 4 (dk_at dksX0_invaderIs_0 17 rfl rfl)
theorem dX0_invaderIs_19 : decode cX0_invaderIs 19 = .ok (.iconst 2, 1) := dk_5 (dk_at dksX0_invaderIs_0 19 rfl rfl)
theorem dX0_invaderIs_20 : decode cX0_invaderIs 20 = .ok (.ireturn, 1) := dk_172 (dk_at dksX0_invaderIs_0 20 rfl rfl)
theorem dX0_invaderIs_21 : decode cX0_invaderIs 21 = .ok (.iconst 0, 1) := dk_3 (dk_at dksX0_invaderIs_0 21 rfl rfl)
theorem dX0_invaderIs_22 : decode cX0_invaderIs 22 = .ok (.ireturn, 1) := dk_172 (dk_at dksX0_invaderIs_0 22 rfl rfl)
abbrev cX0_why : ByteArray := method_17_code
def yX0_why : MethodName := ⟨RX0, "why", "(LKeylockBody;I[J)I"⟩
def dkwX0_why_0 : List UInt8 := [44, 3, 42, 27, 182, 0, 61, 133, 80, 167, 0, 6, 78, 4, 172, 3, 172]
abbrev dktX0_why_0 : List UInt8 := dkwX0_why_0 ++ []
theorem dksX0_why_0 : cX0_why.data.toList.drop 0 = dktX0_why_0 := by decide +kernel
theorem dX0_why_0 : decode cX0_why 0 = .ok (.aload_n 2, 1) := dk_44 (dk_at dksX0_why_0 0 rfl rfl)
theorem dX0_why_1 : decode cX0_why 1 = .ok (.iconst 0, 1) := dk_3 (dk_at dksX0_why_0 1 rfl rfl)
theorem dX0_why_2 : decode cX0_why 2 = .ok (.aload_n 0, 1) := dk_42 (dk_at dksX0_why_0 2 rfl rfl)
theorem dX0_why_3 : decode cX0_why 3 = .ok (.iload_n 1, 1) := dk_27 (dk_at dksX0_why_0 3 rfl rfl)
theorem dX0_why_4 : decode cX0_why 4 = .ok (.invokevirtual 61, 3) := dk_182 0 61 (dk_at dksX0_why_0 4 rfl rfl)
theorem dX0_why_7 : decode cX0_why 7 = .ok (.i2l, 1) := dk_133 (dk_at dksX0_why_0 7 rfl rfl)
theorem dX0_why_8 : decode cX0_why 8 = .ok (.lastore, 1) := dk_80 (dk_at dksX0_why_0 8 rfl rfl)
theorem dX0_why_9 : decode cX0_why 9 = .ok (.goto 6, 3) := dk_167 0 6 (dk_at dksX0_why_0 9 rfl rfl)
theorem dX0_why_12 : decode cX0_why 12 = .ok (.astore_n 3, 1) := dk_78 (dk_at dksX0_why_0 12 rfl rfl)
theorem dX0_why_13 : decode cX0_why 13 = .ok (.iconst 1, 1) := dk_4 (dk_at dksX0_why_0 13 rfl rfl)
theorem dX0_why_14 : decode cX0_why 14 = .ok (.ireturn, 1) := dk_172 (dk_at dksX0_why_0 14 rfl rfl)
theorem dX0_why_15 : decode cX0_why 15 = .ok (.iconst 0, 1) := dk_3 (dk_at dksX0_why_0 15 rfl rfl)
theorem dX0_why_16 : decode cX0_why 16 = .ok (.ireturn, 1) := dk_172 (dk_at dksX0_why_0 16 rfl rfl)
abbrev cX0_pass : ByteArray := method_18_code
def yX0_pass : MethodName := ⟨RX0, "pass", "(LKeylockBody;I[J)I"⟩
def dkwX0_pass_0 : List UInt8 := [44, 3, 42, 27, 182, 0, 64, 133, 80, 167, 0, 9, 78, 4, 172, 78, 5, 172, 3, 172]
abbrev dktX0_pass_0 : List UInt8 := dkwX0_pass_0 ++ []
theorem dksX0_pass_0 : cX0_pass.data.toList.drop 0 = dktX0_pass_0 := by decide +kernel
theorem dX0_pass_0 : decode cX0_pass 0 = .ok (.aload_n 2, 1) := dk_44 (dk_at dksX0_pass_0 0 rfl rfl)
theorem dX0_pass_1 : decode cX0_pass 1 = .ok (.iconst 0, 1) := dk_3 (dk_at dksX0_pass_0 1 rfl rfl)
theorem dX0_pass_2 : decode cX0_pass 2 = .ok (.aload_n 0, 1) := dk_42 (dk_at dksX0_pass_0 2 rfl rfl)
theorem dX0_pass_3 : decode cX0_pass 3 = .ok (.iload_n 1, 1) := dk_27 (dk_at dksX0_pass_0 3 rfl rfl)
theorem dX0_pass_4 : decode cX0_pass 4 = .ok (.invokevirtual 64, 3) := dk_182 0 64 (dk_at dksX0_pass_0 4 rfl rfl)
theorem dX0_pass_7 : decode cX0_pass 7 = .ok (.i2l, 1) := dk_133 (dk_at dksX0_pass_0 7 rfl rfl)
theorem dX0_pass_8 : decode cX0_pass 8 = .ok (.lastore, 1) := dk_80 (dk_at dksX0_pass_0 8 rfl rfl)
theorem dX0_pass_9 : decode cX0_pass 9 = .ok (.goto 9, 3) := dk_167 0 9 (dk_at dksX0_pass_0 9 rfl rfl)
theorem dX0_pass_12 : decode cX0_pass 12 = .ok (.astore_n 3, 1) := dk_78 (dk_at dksX0_pass_0 12 rfl rfl)
theorem dX0_pass_13 : decode cX0_pass 13 = .ok (.iconst 1, 1) := dk_4 (dk_at dksX0_pass_0 13 rfl rfl)
theorem dX0_pass_14 : decode cX0_pass 14 = .ok (.ireturn, 1) := dk_172 (dk_at dksX0_pass_0 14 rfl rfl)
theorem dX0_pass_15 : decode cX0_pass 15 = .ok (.astore_n 3, 1) := dk_78 (dk_at dksX0_pass_0 15 rfl rfl)
theorem dX0_pass_16 : decode cX0_pass 16 = .ok (.iconst 2, 1) := dk_5 (dk_at dksX0_pass_0 16 rfl rfl)
theorem dX0_pass_17 : decode cX0_pass 17 = .ok (.ireturn, 1) := dk_172 (dk_at dksX0_pass_0 17 rfl rfl)
theorem dX0_pass_18 : decode cX0_pass 18 = .ok (.iconst 0, 1) := dk_3 (dk_at dksX0_pass_0 18 rfl rfl)
theorem dX0_pass_19 : decode cX0_pass 19 = .ok (.ireturn, 1) := dk_172 (dk_at dksX0_pass_0 19 rfl rfl)
abbrev cX0_ahead : ByteArray := method_19_code
def yX0_ahead : MethodName := ⟨RX0, "ahead", "(LKeylockBody;II[J)I"⟩
def dkwX0_ahead_0 : List UInt8 := [45, 3, 42, 27, 28, 182, 0, 67, 133, 80, 167, 0, 7, 58, 4, 4, 172, 3, 172]
abbrev dktX0_ahead_0 : List UInt8 := dkwX0_ahead_0 ++ []
theorem dksX0_ahead_0 : cX0_ahead.data.toList.drop 0 = dktX0_ahead_0 := by decide +kernel
theorem dX0_ahead_0 : decode cX0_ahead 0 = .ok (.aload_n 3, 1) := dk_45 (dk_at dksX0_ahead_0 0 rfl rfl)
theorem dX0_ahead_1 : decode cX0_ahead 1 = .ok (.iconst 0, 1) := dk_3 (dk_at dksX0_ahead_0 1 rfl rfl)
theorem dX0_ahead_2 : decode cX0_ahead 2 = .ok (.aload_n 0, 1) := dk_42 (dk_at dksX0_ahead_0 2 rfl rfl)
theorem dX0_ahead_3 : decode cX0_ahead 3 = .ok (.iload_n 1, 1) := dk_27 (dk_at dksX0_ahead_0 3 rfl rfl)
theorem dX0_ahead_4 : decode cX0_ahead 4 = .ok (.iload_n 2, 1) := dk_28 (dk_at dksX0_ahead_0 4 rfl rfl)
theorem dX0_ahead_5 : decode cX0_ahead 5 = .ok (.invokevirtual 67, 3) := dk_182 0 67 (dk_at dksX0_ahead_0 5 rfl rfl)
theorem dX0_ahead_8 : decode cX0_ahead 8 = .ok (.i2l, 1) := dk_133 (dk_at dksX0_ahead_0 8 rfl rfl)
theorem dX0_ahead_9 : decode cX0_ahead 9 = .ok (.lastore, 1) := dk_80 (dk_at dksX0_ahead_0 9 rfl rfl)
theorem dX0_ahead_10 : decode cX0_ahead 10 = .ok (.goto 7, 3) := dk_167 0 7 (dk_at dksX0_ahead_0 10 rfl rfl)
theorem dX0_ahead_13 : decode cX0_ahead 13 = .ok (.astore 4, 2) := dk_58 4 (dk_at dksX0_ahead_0 13 rfl rfl)
theorem dX0_ahead_15 : decode cX0_ahead 15 = .ok (.iconst 1, 1) := dk_4 (dk_at dksX0_ahead_0 15 rfl rfl)
theorem dX0_ahead_16 : decode cX0_ahead 16 = .ok (.ireturn, 1) := dk_172 (dk_at dksX0_ahead_0 16 rfl rfl)
theorem dX0_ahead_17 : decode cX0_ahead 17 = .ok (.iconst 0, 1) := dk_3 (dk_at dksX0_ahead_0 17 rfl rfl)
theorem dX0_ahead_18 : decode cX0_ahead 18 = .ok (.ireturn, 1) := dk_172 (dk_at dksX0_ahead_0 18 rfl rfl)
abbrev cX0_sum : ByteArray := method_20_code
def yX0_sum : MethodName := ⟨RX0, "sum", "(LKeylockBody;I[J)I"⟩
def dkwX0_sum_0 : List UInt8 := [44, 3, 42, 27, 182, 0, 70, 133, 80, 167, 0, 6, 78, 4, 172, 3, 172]
abbrev dktX0_sum_0 : List UInt8 := dkwX0_sum_0 ++ []
theorem dksX0_sum_0 : cX0_sum.data.toList.drop 0 = dktX0_sum_0 := by decide +kernel
theorem dX0_sum_0 : decode cX0_sum 0 = .ok (.aload_n 2, 1) := dk_44 (dk_at dksX0_sum_0 0 rfl rfl)
theorem dX0_sum_1 : decode cX0_sum 1 = .ok (.iconst 0, 1) := dk_3 (dk_at dksX0_sum_0 1 rfl rfl)
theorem dX0_sum_2 : decode cX0_sum 2 = .ok (.aload_n 0, 1) := dk_42 (dk_at dksX0_sum_0 2 rfl rfl)
theorem dX0_sum_3 : decode cX0_sum 3 = .ok (.iload_n 1, 1) := dk_27 (dk_at dksX0_sum_0 3 rfl rfl)
theorem dX0_sum_4 : decode cX0_sum 4 = .ok (.invokevirtual 70, 3) := dk_182 0 70 (dk_at dksX0_sum_0 4 rfl rfl)
theorem dX0_sum_7 : decode cX0_sum 7 = .ok (.i2l, 1) := dk_133 (dk_at dksX0_sum_0 7 rfl rfl)
theorem dX0_sum_8 : decode cX0_sum 8 = .ok (.lastore, 1) := dk_80 (dk_at dksX0_sum_0 8 rfl rfl)
theorem dX0_sum_9 : decode cX0_sum 9 = .ok (.goto 6, 3) := dk_167 0 6 (dk_at dksX0_sum_0 9 rfl rfl)
theorem dX0_sum_12 : decode cX0_sum 12 = .ok (.astore_n 3, 1) := dk_78 (dk_at dksX0_sum_0 12 rfl rfl)
theorem dX0_sum_13 : decode cX0_sum 13 = .ok (.iconst 1, 1) := dk_4 (dk_at dksX0_sum_0 13 rfl rfl)
theorem dX0_sum_14 : decode cX0_sum 14 = .ok (.ireturn, 1) := dk_172 (dk_at dksX0_sum_0 14 rfl rfl)
theorem dX0_sum_15 : decode cX0_sum 15 = .ok (.iconst 0, 1) := dk_3 (dk_at dksX0_sum_0 15 rfl rfl)
theorem dX0_sum_16 : decode cX0_sum 16 = .ok (.ireturn, 1) := dk_172 (dk_at dksX0_sum_0 16 rfl rfl)
abbrev cX0_isHole : ByteArray := method_21_code
def yX0_isHole : MethodName := ⟨RX0, "isHole", "(LKeylockBody;I[J)I"⟩
def dkwX0_isHole_0 : List UInt8 := [44, 3, 42, 27, 182, 0, 73, 153, 0, 7, 10, 167, 0, 4, 9, 80, 167, 0, 6, 78, 4, 172, 3, 172]
abbrev dktX0_isHole_0 : List UInt8 := dkwX0_isHole_0 ++ []
theorem dksX0_isHole_0 : cX0_isHole.data.toList.drop 0 = dktX0_isHole_0 := by decide +kernel
theorem dX0_isHole_0 : decode cX0_isHole 0 = .ok (.aload_n 2, 1) := dk_44 (dk_at dksX0_isHole_0 0 rfl rfl)
theorem dX0_isHole_1 : decode cX0_isHole 1 = .ok (.iconst 0, 1) := dk_3 (dk_at dksX0_isHole_0 1 rfl rfl)
theorem dX0_isHole_2 : decode cX0_isHole 2 = .ok (.aload_n 0, 1) := dk_42 (dk_at dksX0_isHole_0 2 rfl rfl)
theorem dX0_isHole_3 : decode cX0_isHole 3 = .ok (.iload_n 1, 1) := dk_27 (dk_at dksX0_isHole_0 3 rfl rfl)
theorem dX0_isHole_4 : decode cX0_isHole 4 = .ok (.invokevirtual 73, 3) := dk_182 0 73 (dk_at dksX0_isHole_0 4 rfl rfl)
theorem dX0_isHole_7 : decode cX0_isHole 7 = .ok (.ifCond .eq 7, 3) := dk_153 0 7 (dk_at dksX0_isHole_0 7 rfl rfl)
theorem dX0_isHole_10 : decode cX0_isHole 10 = .ok (.lconst 1, 1) := dk_10 (dk_at dksX0_isHole_0 10 rfl rfl)
theorem dX0_isHole_11 : decode cX0_isHole 11 = .ok (.goto 4, 3) := dk_167 0 4 (dk_at dksX0_isHole_0 11 rfl rfl)
theorem dX0_isHole_14 : decode cX0_isHole 14 = .ok (.lconst 0, 1) := dk_9 (dk_at dksX0_isHole_0 14 rfl rfl)
theorem dX0_isHole_15 : decode cX0_isHole 15 = .ok (.lastore, 1) := dk_80 (dk_at dksX0_isHole_0 15 rfl rfl)
theorem dX0_isHole_16 : decode cX0_isHole 16 = .ok (.goto 6, 3) := dk_167 0 6 (dk_at dksX0_isHole_0 16 rfl rfl)
theorem dX0_isHole_19 : decode cX0_isHole 19 = .ok (.astore_n 3, 1) := dk_78 (dk_at dksX0_isHole_0 19 rfl rfl)
theorem dX0_isHole_20 : decode cX0_isHole 20 = .ok (.iconst 1, 1) := dk_4 (dk_at dksX0_isHole_0 20 rfl rfl)
theorem dX0_isHole_21 : decode cX0_isHole 21 = .ok (.ireturn, 1) := dk_172 (dk_at dksX0_isHole_0 21 rfl rfl)
theorem dX0_isHole_22 : decode cX0_isHole 22 = .ok (.iconst 0, 1) := dk_3 (dk_at dksX0_isHole_0 22 rfl rfl)
theorem dX0_isHole_23 : decode cX0_isHole 23 = .ok (.ireturn, 1) := dk_172 (dk_at dksX0_isHole_0 23 rfl rfl)
theorem q36 : (Jvm.Cond.initialized "KeylockBodyLaw") ∈ lw_all := lw_g (lw_at lw_m1 0 rfl) rfl
theorem q62 : (Jvm.Cond.classLink "KeylockBodyLaw" (8 : Nat) "KeylockBody") ∈ lw_all := lw_g (lw_at lw_m1 26 rfl) rfl
theorem q64 : (Jvm.Cond.methodLink "KeylockBodyLaw" (77 : Nat) ({ cls := "KeylockBody", name := "<init>", desc := "()V" } : Jvm.MethodName)) ∈ lw_all := lw_g (lw_at lw_m1 28 rfl) rfl
theorem q156 : (Jvm.Cond.methodLink "KeylockBodyLaw" (148 : Nat) ({ cls := "KeylockBody", name := "holes", desc := "()I" } : Jvm.MethodName)) ∈ lw_all := lw_g (lw_at lw_m1 120 rfl) rfl
theorem q295 : (Jvm.Cond.methodLink "KeylockBodyLaw" (152 : Nat) ({ cls := "KeylockBody", name := "holesAnew", desc := "()I" } : Jvm.MethodName)) ∈ lw_all := lw_g (lw_at lw_m2 19 rfl) rfl
theorem q303 : (Jvm.Cond.methodLink "KeylockBodyLaw" (81 : Nat) ({ cls := "KeylockBodyLaw", name := "table", desc := "(LKeylockBody;III[J)I" } : Jvm.MethodName)) ∈ lw_all := lw_g (lw_at lw_m2 27 rfl) rfl
theorem q304 : (Jvm.Cond.static ({ cls := "KeylockBodyLaw", name := "table", desc := "(LKeylockBody;III[J)I" } : Jvm.MethodName)) ∈ lw_all := lw_g (lw_at lw_m2 28 rfl) rfl
theorem q305 : (Jvm.Cond.codeWith ({ cls := "KeylockBodyLaw", name := "table", desc := "(LKeylockBody;III[J)I" } : Jvm.MethodName) method_3_code (6 : Nat) (Option.some Jvm.ClassFile.FieldType.int) [((0 : Nat), (12 : Nat), (15 : Nat), (13 : Nat))]) ∈ lw_all := lw_g (lw_at lw_m2 29 rfl) rfl
theorem q306 : (Jvm.Cond.classLink "KeylockBodyLaw" (13 : Nat) "java/lang/IllegalArgumentException") ∈ lw_all := lw_g (lw_at lw_m2 30 rfl) rfl
theorem q307 : (Jvm.Cond.methodLink "KeylockBodyLaw" (7 : Nat) ({ cls := "KeylockBody", name := "table", desc := "(III)I" } : Jvm.MethodName)) ∈ lw_all := lw_g (lw_at lw_m2 31 rfl) rfl
theorem q314 : (Jvm.Cond.methodLink "KeylockBodyLaw" (91 : Nat) ({ cls := "KeylockBodyLaw", name := "fit", desc := "(LKeylockBody;II[J)I" } : Jvm.MethodName)) ∈ lw_all := lw_g (lw_at lw_m2 38 rfl) rfl
theorem q315 : (Jvm.Cond.static ({ cls := "KeylockBodyLaw", name := "fit", desc := "(LKeylockBody;II[J)I" } : Jvm.MethodName)) ∈ lw_all := lw_g (lw_at lw_m2 39 rfl) rfl
theorem q316 : (Jvm.Cond.codeWith ({ cls := "KeylockBodyLaw", name := "fit", desc := "(LKeylockBody;II[J)I" } : Jvm.MethodName) method_4_code (5 : Nat) (Option.some Jvm.ClassFile.FieldType.int) [((0 : Nat), (10 : Nat), (13 : Nat), (13 : Nat))]) ∈ lw_all := lw_g (lw_at lw_m2 40 rfl) rfl
theorem q317 : (Jvm.Cond.methodLink "KeylockBodyLaw" (15 : Nat) ({ cls := "KeylockBody", name := "fit", desc := "(II)I" } : Jvm.MethodName)) ∈ lw_all := lw_g (lw_at lw_m2 41 rfl) rfl
theorem q321 : (Jvm.Cond.methodLink "KeylockBodyLaw" (95 : Nat) ({ cls := "KeylockBodyLaw", name := "mark", desc := "(LKeylockBody;II[J)I" } : Jvm.MethodName)) ∈ lw_all := lw_g (lw_at lw_m2 45 rfl) rfl
theorem q322 : (Jvm.Cond.static ({ cls := "KeylockBodyLaw", name := "mark", desc := "(LKeylockBody;II[J)I" } : Jvm.MethodName)) ∈ lw_all := lw_g (lw_at lw_m2 46 rfl) rfl
theorem q323 : (Jvm.Cond.codeWith ({ cls := "KeylockBodyLaw", name := "mark", desc := "(LKeylockBody;II[J)I" } : Jvm.MethodName) method_5_code (5 : Nat) (Option.some Jvm.ClassFile.FieldType.int) [((0 : Nat), (10 : Nat), (13 : Nat), (13 : Nat))]) ∈ lw_all := lw_g (lw_at lw_m2 47 rfl) rfl
theorem q324 : (Jvm.Cond.methodLink "KeylockBodyLaw" (19 : Nat) ({ cls := "KeylockBody", name := "mark", desc := "(II)I" } : Jvm.MethodName)) ∈ lw_all := lw_g (lw_at lw_m2 48 rfl) rfl
theorem q332 : (Jvm.Cond.methodLink "KeylockBodyLaw" (98 : Nat) ({ cls := "KeylockBodyLaw", name := "own", desc := "(LKeylockBody;I[J)I" } : Jvm.MethodName)) ∈ lw_all := lw_g (lw_at lw_m2 56 rfl) rfl
theorem q333 : (Jvm.Cond.static ({ cls := "KeylockBodyLaw", name := "own", desc := "(LKeylockBody;I[J)I" } : Jvm.MethodName)) ∈ lw_all := lw_g (lw_at lw_m2 57 rfl) rfl
theorem q334 : (Jvm.Cond.codeWith ({ cls := "KeylockBodyLaw", name := "own", desc := "(LKeylockBody;I[J)I" } : Jvm.MethodName) method_6_code (4 : Nat) (Option.some Jvm.ClassFile.FieldType.int) [((0 : Nat), (9 : Nat), (12 : Nat), (13 : Nat)), ((0 : Nat), (9 : Nat), (15 : Nat), (26 : Nat))]) ∈ lw_all := lw_g (lw_at lw_m2 58 rfl) rfl
theorem q335 : (Jvm.Cond.classLink "KeylockBodyLaw" (26 : Nat) "java/lang/IllegalStateException") ∈ lw_all := lw_g (lw_at lw_m2 59 rfl) rfl
theorem q336 : (Jvm.Cond.methodLink "KeylockBodyLaw" (22 : Nat) ({ cls := "KeylockBody", name := "own", desc := "(I)I" } : Jvm.MethodName)) ∈ lw_all := lw_g (lw_at lw_m2 60 rfl) rfl
theorem q439 : (Jvm.Cond.methodLink "KeylockBodyLaw" (102 : Nat) ({ cls := "KeylockBodyLaw", name := "harm", desc := "(LKeylockBody;I[J)I" } : Jvm.MethodName)) ∈ lw_all := lw_g (lw_at lw_m2 163 rfl) rfl
theorem q440 : (Jvm.Cond.static ({ cls := "KeylockBodyLaw", name := "harm", desc := "(LKeylockBody;I[J)I" } : Jvm.MethodName)) ∈ lw_all := lw_g (lw_at lw_m2 164 rfl) rfl
theorem q441 : (Jvm.Cond.codeWith ({ cls := "KeylockBodyLaw", name := "harm", desc := "(LKeylockBody;I[J)I" } : Jvm.MethodName) method_7_code (4 : Nat) (Option.some Jvm.ClassFile.FieldType.int) [((0 : Nat), (9 : Nat), (12 : Nat), (31 : Nat))]) ∈ lw_all := lw_g (lw_at lw_m2 165 rfl) rfl
theorem q442 : (Jvm.Cond.classLink "KeylockBodyLaw" (31 : Nat) "java/lang/IndexOutOfBoundsException") ∈ lw_all := lw_g (lw_at lw_m2 166 rfl) rfl
theorem q475 : (Jvm.Cond.methodLink "KeylockBodyLaw" (28 : Nat) ({ cls := "KeylockBody", name := "harm", desc := "(I)I" } : Jvm.MethodName)) ∈ lw_all := lw_g (lw_at lw_m2 199 rfl) rfl
theorem q497 : (Jvm.Cond.methodLink "KeylockBodyLaw" (105 : Nat) ({ cls := "KeylockBodyLaw", name := "nearness", desc := "(LKeylockBody;I[J)I" } : Jvm.MethodName)) ∈ lw_all := lw_g (lw_at lw_m2 221 rfl) rfl
theorem q498 : (Jvm.Cond.static ({ cls := "KeylockBodyLaw", name := "nearness", desc := "(LKeylockBody;I[J)I" } : Jvm.MethodName)) ∈ lw_all := lw_g (lw_at lw_m2 222 rfl) rfl
theorem q499 : (Jvm.Cond.codeWith ({ cls := "KeylockBodyLaw", name := "nearness", desc := "(LKeylockBody;I[J)I" } : Jvm.MethodName) method_8_code (4 : Nat) (Option.some Jvm.ClassFile.FieldType.int) [((0 : Nat), (9 : Nat), (12 : Nat), (13 : Nat))]) ∈ lw_all := lw_g (lw_at lw_m2 223 rfl) rfl
theorem q500 : (Jvm.Cond.methodLink "KeylockBodyLaw" (33 : Nat) ({ cls := "KeylockBody", name := "nearness", desc := "(I)I" } : Jvm.MethodName)) ∈ lw_all := lw_g (lw_at lw_m2 224 rfl) rfl
theorem q504 : (Jvm.Cond.methodLink "KeylockBodyLaw" (108 : Nat) ({ cls := "KeylockBodyLaw", name := "segment", desc := "(LKeylockBody;II[J)I" } : Jvm.MethodName)) ∈ lw_all := lw_g (lw_at lw_m2 228 rfl) rfl
theorem q505 : (Jvm.Cond.static ({ cls := "KeylockBodyLaw", name := "segment", desc := "(LKeylockBody;II[J)I" } : Jvm.MethodName)) ∈ lw_all := lw_g (lw_at lw_m2 229 rfl) rfl
theorem q506 : (Jvm.Cond.codeWith ({ cls := "KeylockBodyLaw", name := "segment", desc := "(LKeylockBody;II[J)I" } : Jvm.MethodName) method_9_code (5 : Nat) (Option.some Jvm.ClassFile.FieldType.int) [((0 : Nat), (10 : Nat), (13 : Nat), (13 : Nat)), ((0 : Nat), (10 : Nat), (17 : Nat), (26 : Nat))]) ∈ lw_all := lw_g (lw_at lw_m2 230 rfl) rfl
theorem q507 : (Jvm.Cond.methodLink "KeylockBodyLaw" (36 : Nat) ({ cls := "KeylockBody", name := "segment", desc := "(II)I" } : Jvm.MethodName)) ∈ lw_all := lw_g (lw_at lw_m2 231 rfl) rfl
theorem q511 : (Jvm.Cond.methodLink "KeylockBodyLaw" (111 : Nat) ({ cls := "KeylockBodyLaw", name := "joint", desc := "(LKeylockBody;I[J)I" } : Jvm.MethodName)) ∈ lw_all := lw_g (lw_at lw_m2 235 rfl) rfl
theorem q512 : (Jvm.Cond.static ({ cls := "KeylockBodyLaw", name := "joint", desc := "(LKeylockBody;I[J)I" } : Jvm.MethodName)) ∈ lw_all := lw_g (lw_at lw_m2 236 rfl) rfl
theorem q513 : (Jvm.Cond.codeWith ({ cls := "KeylockBodyLaw", name := "joint", desc := "(LKeylockBody;I[J)I" } : Jvm.MethodName) method_10_code (4 : Nat) (Option.some Jvm.ClassFile.FieldType.int) [((0 : Nat), (9 : Nat), (12 : Nat), (13 : Nat)), ((0 : Nat), (9 : Nat), (15 : Nat), (26 : Nat))]) ∈ lw_all := lw_g (lw_at lw_m2 237 rfl) rfl
theorem q514 : (Jvm.Cond.methodLink "KeylockBodyLaw" (39 : Nat) ({ cls := "KeylockBody", name := "joint", desc := "(I)I" } : Jvm.MethodName)) ∈ lw_all := lw_g (lw_at lw_m2 238 rfl) rfl
theorem q518 : (Jvm.Cond.methodLink "KeylockBodyLaw" (114 : Nat) ({ cls := "KeylockBodyLaw", name := "draw", desc := "(LKeylockBody;IIIZ[J)I" } : Jvm.MethodName)) ∈ lw_all := lw_g (lw_at lw_m3 2 rfl) rfl
theorem q519 : (Jvm.Cond.static ({ cls := "KeylockBodyLaw", name := "draw", desc := "(LKeylockBody;IIIZ[J)I" } : Jvm.MethodName)) ∈ lw_all := lw_g (lw_at lw_m3 3 rfl) rfl
theorem q520 : (Jvm.Cond.codeWith ({ cls := "KeylockBodyLaw", name := "draw", desc := "(LKeylockBody;IIIZ[J)I" } : Jvm.MethodName) method_11_code (7 : Nat) (Option.some Jvm.ClassFile.FieldType.int) [((0 : Nat), (14 : Nat), (17 : Nat), (31 : Nat)), ((0 : Nat), (14 : Nat), (21 : Nat), (13 : Nat)), ((0 : Nat), (14 : Nat), (25 : Nat), (26 : Nat))]) ∈ lw_all := lw_g (lw_at lw_m3 4 rfl) rfl
theorem q521 : (Jvm.Cond.methodLink "KeylockBodyLaw" (42 : Nat) ({ cls := "KeylockBody", name := "draw", desc := "(IIIZ)I" } : Jvm.MethodName)) ∈ lw_all := lw_g (lw_at lw_m3 5 rfl) rfl
theorem q570 : (Jvm.Cond.methodLink "KeylockBodyLaw" (118 : Nat) ({ cls := "KeylockBodyLaw", name := "slip", desc := "(LKeylockBody;III[J)I" } : Jvm.MethodName)) ∈ lw_all := lw_g (lw_at lw_m3 54 rfl) rfl
theorem q571 : (Jvm.Cond.static ({ cls := "KeylockBodyLaw", name := "slip", desc := "(LKeylockBody;III[J)I" } : Jvm.MethodName)) ∈ lw_all := lw_g (lw_at lw_m3 55 rfl) rfl
theorem q572 : (Jvm.Cond.codeWith ({ cls := "KeylockBodyLaw", name := "slip", desc := "(LKeylockBody;III[J)I" } : Jvm.MethodName) method_12_code (6 : Nat) (Option.some Jvm.ClassFile.FieldType.int) [((0 : Nat), (12 : Nat), (15 : Nat), (31 : Nat)), ((0 : Nat), (12 : Nat), (19 : Nat), (13 : Nat)), ((0 : Nat), (12 : Nat), (23 : Nat), (26 : Nat))]) ∈ lw_all := lw_g (lw_at lw_m3 56 rfl) rfl
theorem q573 : (Jvm.Cond.methodLink "KeylockBodyLaw" (46 : Nat) ({ cls := "KeylockBody", name := "slip", desc := "(III)I" } : Jvm.MethodName)) ∈ lw_all := lw_g (lw_at lw_m3 57 rfl) rfl
theorem q581 : (Jvm.Cond.methodLink "KeylockBodyLaw" (121 : Nat) ({ cls := "KeylockBodyLaw", name := "cellIs", desc := "(LKeylockBody;II[J)I" } : Jvm.MethodName)) ∈ lw_all := lw_g (lw_at lw_m3 65 rfl) rfl
theorem q582 : (Jvm.Cond.static ({ cls := "KeylockBodyLaw", name := "cellIs", desc := "(LKeylockBody;II[J)I" } : Jvm.MethodName)) ∈ lw_all := lw_g (lw_at lw_m3 66 rfl) rfl
theorem q583 : (Jvm.Cond.codeWith ({ cls := "KeylockBodyLaw", name := "cellIs", desc := "(LKeylockBody;II[J)I" } : Jvm.MethodName) method_13_code (5 : Nat) (Option.some Jvm.ClassFile.FieldType.int) [((0 : Nat), (10 : Nat), (13 : Nat), (31 : Nat)), ((0 : Nat), (10 : Nat), (17 : Nat), (13 : Nat))]) ∈ lw_all := lw_g (lw_at lw_m3 67 rfl) rfl
theorem q584 : (Jvm.Cond.methodLink "KeylockBodyLaw" (49 : Nat) ({ cls := "KeylockBody", name := "cellIs", desc := "(II)I" } : Jvm.MethodName)) ∈ lw_all := lw_g (lw_at lw_m3 68 rfl) rfl
theorem q588 : (Jvm.Cond.methodLink "KeylockBodyLaw" (124 : Nat) ({ cls := "KeylockBodyLaw", name := "invade", desc := "(LKeylockBody;III[J)I" } : Jvm.MethodName)) ∈ lw_all := lw_g (lw_at lw_m3 72 rfl) rfl
theorem q589 : (Jvm.Cond.static ({ cls := "KeylockBodyLaw", name := "invade", desc := "(LKeylockBody;III[J)I" } : Jvm.MethodName)) ∈ lw_all := lw_g (lw_at lw_m3 73 rfl) rfl
theorem q590 : (Jvm.Cond.codeWith ({ cls := "KeylockBodyLaw", name := "invade", desc := "(LKeylockBody;III[J)I" } : Jvm.MethodName) method_14_code (6 : Nat) (Option.some Jvm.ClassFile.FieldType.int) [((0 : Nat), (12 : Nat), (15 : Nat), (13 : Nat)), ((0 : Nat), (12 : Nat), (19 : Nat), (26 : Nat))]) ∈ lw_all := lw_g (lw_at lw_m3 74 rfl) rfl
theorem q591 : (Jvm.Cond.methodLink "KeylockBodyLaw" (52 : Nat) ({ cls := "KeylockBody", name := "invade", desc := "(III)I" } : Jvm.MethodName)) ∈ lw_all := lw_g (lw_at lw_m3 75 rfl) rfl
theorem q626 : (Jvm.Cond.methodLink "KeylockBodyLaw" (127 : Nat) ({ cls := "KeylockBodyLaw", name := "change", desc := "(LKeylockBody;II[J)I" } : Jvm.MethodName)) ∈ lw_all := lw_g (lw_at lw_m3 110 rfl) rfl
theorem q627 : (Jvm.Cond.static ({ cls := "KeylockBodyLaw", name := "change", desc := "(LKeylockBody;II[J)I" } : Jvm.MethodName)) ∈ lw_all := lw_g (lw_at lw_m3 111 rfl) rfl
theorem q628 : (Jvm.Cond.codeWith ({ cls := "KeylockBodyLaw", name := "change", desc := "(LKeylockBody;II[J)I" } : Jvm.MethodName) method_15_code (5 : Nat) (Option.some Jvm.ClassFile.FieldType.int) [((0 : Nat), (10 : Nat), (13 : Nat), (31 : Nat)), ((0 : Nat), (10 : Nat), (17 : Nat), (13 : Nat)), ((0 : Nat), (10 : Nat), (21 : Nat), (26 : Nat))]) ∈ lw_all := lw_g (lw_at lw_m3 112 rfl) rfl
theorem q629 : (Jvm.Cond.methodLink "KeylockBodyLaw" (55 : Nat) ({ cls := "KeylockBody", name := "change", desc := "(II)I" } : Jvm.MethodName)) ∈ lw_all := lw_g (lw_at lw_m3 113 rfl) rfl
theorem q637 : (Jvm.Cond.methodLink "KeylockBodyLaw" (130 : Nat) ({ cls := "KeylockBodyLaw", name := "invaderIs", desc := "(LKeylockBody;II[J)I" } : Jvm.MethodName)) ∈ lw_all := lw_g (lw_at lw_m3 121 rfl) rfl
theorem q638 : (Jvm.Cond.static ({ cls := "KeylockBodyLaw", name := "invaderIs", desc := "(LKeylockBody;II[J)I" } : Jvm.MethodName)) ∈ lw_all := lw_g (lw_at lw_m3 122 rfl) rfl
theorem q639 : (Jvm.Cond.codeWith ({ cls := "KeylockBodyLaw", name := "invaderIs", desc := "(LKeylockBody;II[J)I" } : Jvm.MethodName) method_16_code (5 : Nat) (Option.some Jvm.ClassFile.FieldType.int) [((0 : Nat), (10 : Nat), (13 : Nat), (31 : Nat)), ((0 : Nat), (10 : Nat), (17 : Nat), (13 : Nat))]) ∈ lw_all := lw_g (lw_at lw_m3 123 rfl) rfl
theorem q640 : (Jvm.Cond.methodLink "KeylockBodyLaw" (58 : Nat) ({ cls := "KeylockBody", name := "invaderIs", desc := "(II)I" } : Jvm.MethodName)) ∈ lw_all := lw_g (lw_at lw_m3 124 rfl) rfl
theorem q644 : (Jvm.Cond.methodLink "KeylockBodyLaw" (133 : Nat) ({ cls := "KeylockBodyLaw", name := "why", desc := "(LKeylockBody;I[J)I" } : Jvm.MethodName)) ∈ lw_all := lw_g (lw_at lw_m3 128 rfl) rfl
theorem q645 : (Jvm.Cond.static ({ cls := "KeylockBodyLaw", name := "why", desc := "(LKeylockBody;I[J)I" } : Jvm.MethodName)) ∈ lw_all := lw_g (lw_at lw_m3 129 rfl) rfl
theorem q646 : (Jvm.Cond.codeWith ({ cls := "KeylockBodyLaw", name := "why", desc := "(LKeylockBody;I[J)I" } : Jvm.MethodName) method_17_code (4 : Nat) (Option.some Jvm.ClassFile.FieldType.int) [((0 : Nat), (9 : Nat), (12 : Nat), (31 : Nat))]) ∈ lw_all := lw_g (lw_at lw_m3 130 rfl) rfl
theorem q647 : (Jvm.Cond.methodLink "KeylockBodyLaw" (61 : Nat) ({ cls := "KeylockBody", name := "why", desc := "(I)I" } : Jvm.MethodName)) ∈ lw_all := lw_g (lw_at lw_m3 131 rfl) rfl
theorem q659 : (Jvm.Cond.methodLink "KeylockBodyLaw" (136 : Nat) ({ cls := "KeylockBodyLaw", name := "pass", desc := "(LKeylockBody;I[J)I" } : Jvm.MethodName)) ∈ lw_all := lw_g (lw_at lw_m3 143 rfl) rfl
theorem q660 : (Jvm.Cond.static ({ cls := "KeylockBodyLaw", name := "pass", desc := "(LKeylockBody;I[J)I" } : Jvm.MethodName)) ∈ lw_all := lw_g (lw_at lw_m3 144 rfl) rfl
theorem q661 : (Jvm.Cond.codeWith ({ cls := "KeylockBodyLaw", name := "pass", desc := "(LKeylockBody;I[J)I" } : Jvm.MethodName) method_18_code (4 : Nat) (Option.some Jvm.ClassFile.FieldType.int) [((0 : Nat), (9 : Nat), (12 : Nat), (13 : Nat)), ((0 : Nat), (9 : Nat), (15 : Nat), (26 : Nat))]) ∈ lw_all := lw_g (lw_at lw_m3 145 rfl) rfl
theorem q662 : (Jvm.Cond.methodLink "KeylockBodyLaw" (64 : Nat) ({ cls := "KeylockBody", name := "pass", desc := "(I)I" } : Jvm.MethodName)) ∈ lw_all := lw_g (lw_at lw_m3 146 rfl) rfl
theorem q744 : (Jvm.Cond.methodLink "KeylockBodyLaw" (139 : Nat) ({ cls := "KeylockBodyLaw", name := "ahead", desc := "(LKeylockBody;II[J)I" } : Jvm.MethodName)) ∈ lw_all := lw_g (lw_at lw_m3 228 rfl) rfl
theorem q745 : (Jvm.Cond.static ({ cls := "KeylockBodyLaw", name := "ahead", desc := "(LKeylockBody;II[J)I" } : Jvm.MethodName)) ∈ lw_all := lw_g (lw_at lw_m3 229 rfl) rfl
theorem q746 : (Jvm.Cond.codeWith ({ cls := "KeylockBodyLaw", name := "ahead", desc := "(LKeylockBody;II[J)I" } : Jvm.MethodName) method_19_code (5 : Nat) (Option.some Jvm.ClassFile.FieldType.int) [((0 : Nat), (10 : Nat), (13 : Nat), (13 : Nat))]) ∈ lw_all := lw_g (lw_at lw_m3 230 rfl) rfl
theorem q747 : (Jvm.Cond.methodLink "KeylockBodyLaw" (67 : Nat) ({ cls := "KeylockBody", name := "ahead", desc := "(II)I" } : Jvm.MethodName)) ∈ lw_all := lw_g (lw_at lw_m3 231 rfl) rfl
theorem q773 : (Jvm.Cond.methodLink "KeylockBodyLaw" (142 : Nat) ({ cls := "KeylockBodyLaw", name := "sum", desc := "(LKeylockBody;I[J)I" } : Jvm.MethodName)) ∈ lw_all := lw_g (lw_at lw_m4 17 rfl) rfl
theorem q774 : (Jvm.Cond.static ({ cls := "KeylockBodyLaw", name := "sum", desc := "(LKeylockBody;I[J)I" } : Jvm.MethodName)) ∈ lw_all := lw_g (lw_at lw_m4 18 rfl) rfl
theorem q775 : (Jvm.Cond.codeWith ({ cls := "KeylockBodyLaw", name := "sum", desc := "(LKeylockBody;I[J)I" } : Jvm.MethodName) method_20_code (4 : Nat) (Option.some Jvm.ClassFile.FieldType.int) [((0 : Nat), (9 : Nat), (12 : Nat), (13 : Nat))]) ∈ lw_all := lw_g (lw_at lw_m4 19 rfl) rfl
theorem q776 : (Jvm.Cond.methodLink "KeylockBodyLaw" (70 : Nat) ({ cls := "KeylockBody", name := "sum", desc := "(I)I" } : Jvm.MethodName)) ∈ lw_all := lw_g (lw_at lw_m4 20 rfl) rfl
theorem q780 : (Jvm.Cond.methodLink "KeylockBodyLaw" (145 : Nat) ({ cls := "KeylockBodyLaw", name := "isHole", desc := "(LKeylockBody;I[J)I" } : Jvm.MethodName)) ∈ lw_all := lw_g (lw_at lw_m4 24 rfl) rfl
theorem q781 : (Jvm.Cond.static ({ cls := "KeylockBodyLaw", name := "isHole", desc := "(LKeylockBody;I[J)I" } : Jvm.MethodName)) ∈ lw_all := lw_g (lw_at lw_m4 25 rfl) rfl
theorem q782 : (Jvm.Cond.codeWith ({ cls := "KeylockBodyLaw", name := "isHole", desc := "(LKeylockBody;I[J)I" } : Jvm.MethodName) method_21_code (4 : Nat) (Option.some Jvm.ClassFile.FieldType.int) [((0 : Nat), (16 : Nat), (19 : Nat), (13 : Nat))]) ∈ lw_all := lw_g (lw_at lw_m4 26 rfl) rfl
theorem q783 : (Jvm.Cond.methodLink "KeylockBodyLaw" (73 : Nat) ({ cls := "KeylockBody", name := "isHole", desc := "(I)Z" } : Jvm.MethodName)) ∈ lw_all := lw_g (lw_at lw_m4 27 rfl) rfl
theorem q784 : (Jvm.Cond.classLink "KeylockBodyLaw" (78 : Nat) "KeylockBodyModel") ∈ lw_all := lw_g (lw_at lw_m4 28 rfl) rfl
theorem q786 : (Jvm.Cond.methodLink "KeylockBodyLaw" (80 : Nat) ({ cls := "KeylockBodyModel", name := "<init>", desc := "()V" } : Jvm.MethodName)) ∈ lw_all := lw_g (lw_at lw_m4 30 rfl) rfl
theorem q852 : (Jvm.Cond.methodLink "KeylockBodyLaw" (87 : Nat) ({ cls := "KeylockBodyModel", name := "thrown", desc := "()I" } : Jvm.MethodName)) ∈ lw_all := lw_g (lw_at lw_m4 96 rfl) rfl
theorem q856 : (Jvm.Cond.methodLink "KeylockBodyLaw" (86 : Nat) ({ cls := "KeylockBodyModel", name := "table", desc := "(III)I" } : Jvm.MethodName)) ∈ lw_all := lw_g (lw_at lw_m4 100 rfl) rfl
theorem q866 : (Jvm.Cond.methodLink "KeylockBodyLaw" (94 : Nat) ({ cls := "KeylockBodyModel", name := "fit", desc := "(II)I" } : Jvm.MethodName)) ∈ lw_all := lw_g (lw_at lw_m4 110 rfl) rfl
theorem q880 : (Jvm.Cond.methodLink "KeylockBodyLaw" (97 : Nat) ({ cls := "KeylockBodyModel", name := "mark", desc := "(II)I" } : Jvm.MethodName)) ∈ lw_all := lw_g (lw_at lw_m4 124 rfl) rfl
theorem q884 : (Jvm.Cond.methodLink "KeylockBodyLaw" (101 : Nat) ({ cls := "KeylockBodyModel", name := "own", desc := "(I)I" } : Jvm.MethodName)) ∈ lw_all := lw_g (lw_at lw_m4 128 rfl) rfl
theorem q888 : (Jvm.Cond.methodLink "KeylockBodyLaw" (104 : Nat) ({ cls := "KeylockBodyModel", name := "harm", desc := "(I)I" } : Jvm.MethodName)) ∈ lw_all := lw_g (lw_at lw_m4 132 rfl) rfl
theorem q892 : (Jvm.Cond.methodLink "KeylockBodyLaw" (107 : Nat) ({ cls := "KeylockBodyModel", name := "nearness", desc := "(I)I" } : Jvm.MethodName)) ∈ lw_all := lw_g (lw_at lw_m4 136 rfl) rfl
theorem q900 : (Jvm.Cond.methodLink "KeylockBodyLaw" (110 : Nat) ({ cls := "KeylockBodyModel", name := "segment", desc := "(II)I" } : Jvm.MethodName)) ∈ lw_all := lw_g (lw_at lw_m4 144 rfl) rfl
theorem q904 : (Jvm.Cond.methodLink "KeylockBodyLaw" (113 : Nat) ({ cls := "KeylockBodyModel", name := "joint", desc := "(I)I" } : Jvm.MethodName)) ∈ lw_all := lw_g (lw_at lw_m4 148 rfl) rfl
theorem q908 : (Jvm.Cond.methodLink "KeylockBodyLaw" (117 : Nat) ({ cls := "KeylockBodyModel", name := "draw", desc := "(IIIZ)I" } : Jvm.MethodName)) ∈ lw_all := lw_g (lw_at lw_m4 152 rfl) rfl
theorem q916 : (Jvm.Cond.methodLink "KeylockBodyLaw" (120 : Nat) ({ cls := "KeylockBodyModel", name := "slip", desc := "(III)I" } : Jvm.MethodName)) ∈ lw_all := lw_g (lw_at lw_m4 160 rfl) rfl
theorem q920 : (Jvm.Cond.methodLink "KeylockBodyLaw" (123 : Nat) ({ cls := "KeylockBodyModel", name := "cellIs", desc := "(II)I" } : Jvm.MethodName)) ∈ lw_all := lw_g (lw_at lw_m4 164 rfl) rfl
theorem q924 : (Jvm.Cond.methodLink "KeylockBodyLaw" (126 : Nat) ({ cls := "KeylockBodyModel", name := "invade", desc := "(III)I" } : Jvm.MethodName)) ∈ lw_all := lw_g (lw_at lw_m4 168 rfl) rfl
theorem q928 : (Jvm.Cond.methodLink "KeylockBodyLaw" (129 : Nat) ({ cls := "KeylockBodyModel", name := "change", desc := "(II)I" } : Jvm.MethodName)) ∈ lw_all := lw_g (lw_at lw_m4 172 rfl) rfl
theorem q936 : (Jvm.Cond.methodLink "KeylockBodyLaw" (132 : Nat) ({ cls := "KeylockBodyModel", name := "invaderIs", desc := "(II)I" } : Jvm.MethodName)) ∈ lw_all := lw_g (lw_at lw_m4 180 rfl) rfl
theorem q940 : (Jvm.Cond.methodLink "KeylockBodyLaw" (135 : Nat) ({ cls := "KeylockBodyModel", name := "why", desc := "(I)I" } : Jvm.MethodName)) ∈ lw_all := lw_g (lw_at lw_m4 184 rfl) rfl
theorem q948 : (Jvm.Cond.methodLink "KeylockBodyLaw" (138 : Nat) ({ cls := "KeylockBodyModel", name := "pass", desc := "(I)I" } : Jvm.MethodName)) ∈ lw_all := lw_g (lw_at lw_m4 192 rfl) rfl
theorem q1004 : (Jvm.Cond.methodLink "KeylockBodyLaw" (141 : Nat) ({ cls := "KeylockBodyModel", name := "ahead", desc := "(II)I" } : Jvm.MethodName)) ∈ lw_all := lw_g (lw_at lw_m5 8 rfl) rfl
theorem q1012 : (Jvm.Cond.methodLink "KeylockBodyLaw" (144 : Nat) ({ cls := "KeylockBodyModel", name := "sum", desc := "(I)I" } : Jvm.MethodName)) ∈ lw_all := lw_g (lw_at lw_m5 16 rfl) rfl
theorem q1016 : (Jvm.Cond.methodLink "KeylockBodyLaw" (147 : Nat) ({ cls := "KeylockBodyModel", name := "isHole", desc := "(I)Z" } : Jvm.MethodName)) ∈ lw_all := lw_g (lw_at lw_m5 20 rfl) rfl
theorem q1028 : (Jvm.Cond.methodLink "KeylockBodyLaw" (151 : Nat) ({ cls := "KeylockBodyModel", name := "holes", desc := "()I" } : Jvm.MethodName)) ∈ lw_all := lw_g (lw_at lw_m5 32 rfl) rfl
theorem q1032 : (Jvm.Cond.methodLink "KeylockBodyLaw" (155 : Nat) ({ cls := "KeylockBodyModel", name := "holesAnew", desc := "()I" } : Jvm.MethodName)) ∈ lw_all := lw_g (lw_at lw_m5 36 rfl) rfl

/-! the law's own entry -/
set_option maxRecDepth 100000
abbrev cL_law : ByteArray := code
def dkwL_law_59 : List UInt8 := [167, 250, 115, 4, 172]
abbrev dktL_law_59 : List UInt8 := dkwL_law_59 ++ []
def dkwL_law_58 : List UInt8 := [182, 0, 151, 159, 0, 18, 3, 172, 43, 182, 0, 152, 44, 182, 0, 155, 159, 0, 5, 3, 172, 132, 4, 5]
abbrev dktL_law_58 : List UInt8 := dkwL_law_58 ++ dktL_law_59
def dkwL_law_57 : List UInt8 := [21, 6, 153, 0, 7, 10, 167, 0, 4, 9, 148, 153, 0, 5, 3, 172, 167, 0, 29, 43, 182, 0, 148, 44]
abbrev dktL_law_57 : List UInt8 := dkwL_law_57 ++ dktL_law_58
def dkwL_law_56 : List UInt8 := [182, 0, 147, 54, 6, 44, 182, 0, 87, 21, 5, 159, 0, 5, 3, 172, 21, 5, 154, 0, 22, 45, 3, 47]
abbrev dktL_law_56 : List UInt8 := dkwL_law_56 ++ dktL_law_57
def dkwL_law_55 : List UInt8 := [167, 0, 92, 43, 42, 21, 4, 4, 96, 46, 45, 184, 0, 145, 54, 5, 44, 42, 21, 4, 4, 96, 46]
abbrev dktL_law_55 : List UInt8 := dkwL_law_55 ++ dktL_law_56
def dkwL_law_54 : List UInt8 := [21, 5, 159, 0, 5, 3, 172, 21, 5, 154, 0, 15, 45, 3, 47, 21, 6, 133, 148, 153, 0, 5, 3, 172]
abbrev dktL_law_54 : List UInt8 := dkwL_law_54 ++ dktL_law_55
def dkwL_law_53 : List UInt8 := [46, 45, 184, 0, 142, 54, 5, 44, 42, 21, 4, 4, 96, 46, 182, 0, 144, 54, 6, 44, 182, 0, 87]
abbrev dktL_law_53 : List UInt8 := dkwL_law_53 ++ dktL_law_54
def dkwL_law_52 : List UInt8 := [154, 0, 15, 45, 3, 47, 21, 6, 133, 148, 153, 0, 5, 3, 172, 167, 0, 148, 43, 42, 21, 4, 4, 96]
abbrev dktL_law_52 : List UInt8 := dkwL_law_52 ++ dktL_law_53
def dkwL_law_51 : List UInt8 := [42, 21, 4, 5, 96, 46, 182, 0, 141, 54, 6, 44, 182, 0, 87, 21, 5, 159, 0, 5, 3, 172, 21, 5]
abbrev dktL_law_51 : List UInt8 := dkwL_law_51 ++ dktL_law_52
def dkwL_law_50 : List UInt8 := [21, 4, 4, 96, 46, 42, 21, 4, 5, 96, 46, 45, 184, 0, 139, 54, 5, 44, 42, 21, 4, 4, 96, 46]
abbrev dktL_law_50 : List UInt8 := dkwL_law_50 ++ dktL_law_51
def dkwL_law_49 : List UInt8 := [172, 21, 5, 154, 0, 15, 45, 3, 47, 21, 6, 133, 148, 153, 0, 5, 3, 172, 167, 0, 216, 43, 42]
abbrev dktL_law_49 : List UInt8 := dkwL_law_49 ++ dktL_law_50
def dkwL_law_48 : List UInt8 := [54, 5, 44, 42, 21, 4, 4, 96, 46, 182, 0, 138, 54, 6, 44, 182, 0, 87, 21, 5, 159, 0, 5, 3]
abbrev dktL_law_48 : List UInt8 := dkwL_law_48 ++ dktL_law_49
def dkwL_law_47 : List UInt8 := [21, 6, 133, 148, 153, 0, 5, 3, 172, 167, 1, 16, 43, 42, 21, 4, 4, 96, 46, 45, 184, 0, 136]
abbrev dktL_law_47 : List UInt8 := dkwL_law_47 ++ dktL_law_48
def dkwL_law_46 : List UInt8 := [182, 0, 135, 54, 6, 44, 182, 0, 87, 21, 5, 159, 0, 5, 3, 172, 21, 5, 154, 0, 15, 45, 3, 47]
abbrev dktL_law_46 : List UInt8 := dkwL_law_46 ++ dktL_law_47
def dkwL_law_45 : List UInt8 := [167, 1, 72, 43, 42, 21, 4, 4, 96, 46, 45, 184, 0, 133, 54, 5, 44, 42, 21, 4, 4, 96, 46]
abbrev dktL_law_45 : List UInt8 := dkwL_law_45 ++ dktL_law_46
def dkwL_law_44 : List UInt8 := [159, 0, 5, 3, 172, 21, 5, 154, 0, 15, 45, 3, 47, 21, 6, 133, 148, 153, 0, 5, 3, 172]
abbrev dktL_law_44 : List UInt8 := dkwL_law_44 ++ dktL_law_45
def dkwL_law_43 : List UInt8 := [21, 4, 4, 96, 46, 42, 21, 4, 5, 96, 46, 182, 0, 132, 54, 6, 44, 182, 0, 87, 21, 5]
abbrev dktL_law_43 : List UInt8 := dkwL_law_43 ++ dktL_law_44
def dkwL_law_42 : List UInt8 := [167, 1, 140, 43, 42, 21, 4, 4, 96, 46, 42, 21, 4, 5, 96, 46, 45, 184, 0, 130, 54, 5, 44, 42]
abbrev dktL_law_42 : List UInt8 := dkwL_law_42 ++ dktL_law_43
def dkwL_law_41 : List UInt8 := [159, 0, 5, 3, 172, 21, 5, 154, 0, 15, 45, 3, 47, 21, 6, 133, 148, 153, 0, 5, 3, 172]
abbrev dktL_law_41 : List UInt8 := dkwL_law_41 ++ dktL_law_42
def dkwL_law_40 : List UInt8 := [21, 4, 4, 96, 46, 42, 21, 4, 5, 96, 46, 182, 0, 129, 54, 6, 44, 182, 0, 87, 21, 5]
abbrev dktL_law_40 : List UInt8 := dkwL_law_40 ++ dktL_law_41
def dkwL_law_39 : List UInt8 := [167, 1, 208, 43, 42, 21, 4, 4, 96, 46, 42, 21, 4, 5, 96, 46, 45, 184, 0, 127, 54, 5, 44, 42]
abbrev dktL_law_39 : List UInt8 := dkwL_law_39 ++ dktL_law_40
def dkwL_law_38 : List UInt8 := [159, 0, 5, 3, 172, 21, 5, 154, 0, 15, 45, 3, 47, 21, 6, 133, 148, 153, 0, 5, 3, 172]
abbrev dktL_law_38 : List UInt8 := dkwL_law_38 ++ dktL_law_39
def dkwL_law_37 : List UInt8 := [21, 4, 5, 96, 46, 42, 21, 4, 6, 96, 46, 182, 0, 126, 54, 6, 44, 182, 0, 87, 21, 5]
abbrev dktL_law_37 : List UInt8 := dkwL_law_37 ++ dktL_law_38
def dkwL_law_36 : List UInt8 := [5, 96, 46, 42, 21, 4, 6, 96, 46, 45, 184, 0, 124, 54, 5, 44, 42, 21, 4, 4, 96, 46, 42]
abbrev dktL_law_36 : List UInt8 := dkwL_law_36 ++ dktL_law_37
def dkwL_law_35 : List UInt8 := [3, 47, 21, 6, 133, 148, 153, 0, 5, 3, 172, 167, 2, 32, 43, 42, 21, 4, 4, 96, 46, 42, 21, 4]
abbrev dktL_law_35 : List UInt8 := dkwL_law_35 ++ dktL_law_36
def dkwL_law_34 : List UInt8 := [96, 46, 182, 0, 123, 54, 6, 44, 182, 0, 87, 21, 5, 159, 0, 5, 3, 172, 21, 5, 154, 0, 15, 45]
abbrev dktL_law_34 : List UInt8 := dkwL_law_34 ++ dktL_law_35
def dkwL_law_33 : List UInt8 := [46, 42, 21, 4, 5, 96, 46, 45, 184, 0, 121, 54, 5, 44, 42, 21, 4, 4, 96, 46, 42, 21, 4, 5]
abbrev dktL_law_33 : List UInt8 := dkwL_law_33 ++ dktL_law_34
def dkwL_law_32 : List UInt8 := [154, 0, 15, 45, 3, 47, 21, 6, 133, 148, 153, 0, 5, 3, 172, 167, 2, 100, 43, 42, 21, 4, 4, 96]
abbrev dktL_law_32 : List UInt8 := dkwL_law_32 ++ dktL_law_33
def dkwL_law_31 : List UInt8 := [21, 4, 6, 96, 46, 182, 0, 120, 54, 6, 44, 182, 0, 87, 21, 5, 159, 0, 5, 3, 172, 21, 5]
abbrev dktL_law_31 : List UInt8 := dkwL_law_31 ++ dktL_law_32
def dkwL_law_30 : List UInt8 := [6, 96, 46, 45, 184, 0, 118, 54, 5, 44, 42, 21, 4, 4, 96, 46, 42, 21, 4, 5, 96, 46, 42]
abbrev dktL_law_30 : List UInt8 := dkwL_law_30 ++ dktL_law_31
def dkwL_law_29 : List UInt8 := [153, 0, 5, 3, 172, 167, 2, 180, 43, 42, 21, 4, 4, 96, 46, 42, 21, 4, 5, 96, 46, 42, 21, 4]
abbrev dktL_law_29 : List UInt8 := dkwL_law_29 ++ dktL_law_30
def dkwL_law_28 : List UInt8 := [44, 182, 0, 87, 21, 5, 159, 0, 5, 3, 172, 21, 5, 154, 0, 15, 45, 3, 47, 21, 6, 133, 148]
abbrev dktL_law_28 : List UInt8 := dkwL_law_28 ++ dktL_law_29
def dkwL_law_27 : List UInt8 := [21, 4, 6, 96, 46, 42, 21, 4, 7, 96, 46, 153, 0, 7, 4, 167, 0, 4, 3, 182, 0, 117, 54, 6]
abbrev dktL_law_27 : List UInt8 := dkwL_law_27 ++ dktL_law_28
def dkwL_law_26 : List UInt8 := [167, 0, 4, 3, 45, 184, 0, 114, 54, 5, 44, 42, 21, 4, 4, 96, 46, 42, 21, 4, 5, 96, 46, 42]
abbrev dktL_law_26 : List UInt8 := dkwL_law_26 ++ dktL_law_27
def dkwL_law_25 : List UInt8 := [46, 42, 21, 4, 5, 96, 46, 42, 21, 4, 6, 96, 46, 42, 21, 4, 7, 96, 46, 153, 0, 7, 4]
abbrev dktL_law_25 : List UInt8 := dkwL_law_25 ++ dktL_law_26
def dkwL_law_24 : List UInt8 := [154, 0, 15, 45, 3, 47, 21, 6, 133, 148, 153, 0, 5, 3, 172, 167, 3, 32, 43, 42, 21, 4, 4, 96]
abbrev dktL_law_24 : List UInt8 := dkwL_law_24 ++ dktL_law_25
def dkwL_law_23 : List UInt8 := [21, 4, 4, 96, 46, 182, 0, 113, 54, 6, 44, 182, 0, 87, 21, 5, 159, 0, 5, 3, 172, 21, 5]
abbrev dktL_law_23 : List UInt8 := dkwL_law_23 ++ dktL_law_24
def dkwL_law_22 : List UInt8 := [148, 153, 0, 5, 3, 172, 167, 3, 88, 43, 42, 21, 4, 4, 96, 46, 45, 184, 0, 111, 54, 5, 44, 42]
abbrev dktL_law_22 : List UInt8 := dkwL_law_22 ++ dktL_law_23
def dkwL_law_21 : List UInt8 := [54, 6, 44, 182, 0, 87, 21, 5, 159, 0, 5, 3, 172, 21, 5, 154, 0, 15, 45, 3, 47, 21, 6, 133]
abbrev dktL_law_21 : List UInt8 := dkwL_law_21 ++ dktL_law_22
def dkwL_law_20 : List UInt8 := [46, 45, 184, 0, 108, 54, 5, 44, 42, 21, 4, 4, 96, 46, 42, 21, 4, 5, 96, 46, 182, 0, 110]
abbrev dktL_law_20 : List UInt8 := dkwL_law_20 ++ dktL_law_21
def dkwL_law_19 : List UInt8 := [21, 6, 133, 148, 153, 0, 5, 3, 172, 167, 3, 156, 43, 42, 21, 4, 4, 96, 46, 42, 21, 4, 5, 96]
abbrev dktL_law_19 : List UInt8 := dkwL_law_19 ++ dktL_law_20
def dkwL_law_18 : List UInt8 := [182, 0, 107, 54, 6, 44, 182, 0, 87, 21, 5, 159, 0, 5, 3, 172, 21, 5, 154, 0, 15, 45, 3, 47]
abbrev dktL_law_18 : List UInt8 := dkwL_law_18 ++ dktL_law_19
def dkwL_law_17 : List UInt8 := [167, 3, 212, 43, 42, 21, 4, 4, 96, 46, 45, 184, 0, 105, 54, 5, 44, 42, 21, 4, 4, 96, 46]
abbrev dktL_law_17 : List UInt8 := dkwL_law_17 ++ dktL_law_18
def dkwL_law_16 : List UInt8 := [21, 5, 159, 0, 5, 3, 172, 21, 5, 154, 0, 15, 45, 3, 47, 21, 6, 133, 148, 153, 0, 5, 3, 172]
abbrev dktL_law_16 : List UInt8 := dkwL_law_16 ++ dktL_law_17
def dkwL_law_15 : List UInt8 := [46, 45, 184, 0, 102, 54, 5, 44, 42, 21, 4, 4, 96, 46, 182, 0, 104, 54, 6, 44, 182, 0, 87]
abbrev dktL_law_15 : List UInt8 := dkwL_law_15 ++ dktL_law_16
def dkwL_law_14 : List UInt8 := [154, 0, 15, 45, 3, 47, 21, 6, 133, 148, 153, 0, 5, 3, 172, 167, 4, 12, 43, 42, 21, 4, 4, 96]
abbrev dktL_law_14 : List UInt8 := dkwL_law_14 ++ dktL_law_15
def dkwL_law_13 : List UInt8 := [21, 4, 4, 96, 46, 182, 0, 101, 54, 6, 44, 182, 0, 87, 21, 5, 159, 0, 5, 3, 172, 21, 5]
abbrev dktL_law_13 : List UInt8 := dkwL_law_13 ++ dktL_law_14
def dkwL_law_12 : List UInt8 := [153, 0, 5, 3, 172, 167, 4, 68, 43, 42, 21, 4, 4, 96, 46, 45, 184, 0, 98, 54, 5, 44, 42]
abbrev dktL_law_12 : List UInt8 := dkwL_law_12 ++ dktL_law_13
def dkwL_law_11 : List UInt8 := [182, 0, 87, 21, 5, 159, 0, 5, 3, 172, 21, 5, 154, 0, 15, 45, 3, 47, 21, 6, 133, 148]
abbrev dktL_law_11 : List UInt8 := dkwL_law_11 ++ dktL_law_12
def dkwL_law_10 : List UInt8 := [184, 0, 95, 54, 5, 44, 42, 21, 4, 4, 96, 46, 42, 21, 4, 5, 96, 46, 182, 0, 97, 54, 6, 44]
abbrev dktL_law_10 : List UInt8 := dkwL_law_10 ++ dktL_law_11
def dkwL_law_9 : List UInt8 := [153, 0, 5, 3, 172, 167, 4, 136, 43, 42, 21, 4, 4, 96, 46, 42, 21, 4, 5, 96, 46, 45]
abbrev dktL_law_9 : List UInt8 := dkwL_law_9 ++ dktL_law_10
def dkwL_law_8 : List UInt8 := [182, 0, 87, 21, 5, 159, 0, 5, 3, 172, 21, 5, 154, 0, 15, 45, 3, 47, 21, 6, 133, 148]
abbrev dktL_law_8 : List UInt8 := dkwL_law_8 ++ dktL_law_9
def dkwL_law_7 : List UInt8 := [184, 0, 91, 54, 5, 44, 42, 21, 4, 4, 96, 46, 42, 21, 4, 5, 96, 46, 182, 0, 94, 54, 6, 44]
abbrev dktL_law_7 : List UInt8 := dkwL_law_7 ++ dktL_law_8
def dkwL_law_6 : List UInt8 := [148, 153, 0, 5, 3, 172, 167, 4, 204, 43, 42, 21, 4, 4, 96, 46, 42, 21, 4, 5, 96, 46, 45]
abbrev dktL_law_6 : List UInt8 := dkwL_law_6 ++ dktL_law_7
def dkwL_law_5 : List UInt8 := [54, 6, 44, 182, 0, 87, 21, 5, 159, 0, 5, 3, 172, 21, 5, 154, 0, 15, 45, 3, 47, 21, 6, 133]
abbrev dktL_law_5 : List UInt8 := dkwL_law_5 ++ dktL_law_6
def dkwL_law_4 : List UInt8 := [54, 5, 44, 42, 21, 4, 4, 96, 46, 42, 21, 4, 5, 96, 46, 42, 21, 4, 6, 96, 46, 182, 0, 86]
abbrev dktL_law_4 : List UInt8 := dkwL_law_4 ++ dktL_law_5
def dkwL_law_3 : List UInt8 := [43, 42, 21, 4, 4, 96, 46, 42, 21, 4, 5, 96, 46, 42, 21, 4, 6, 96, 46, 45, 184, 0, 81]
abbrev dktL_law_3 : List UInt8 := dkwL_law_3 ++ dktL_law_4
def dkwL_law_2 : List UInt8 := [170, 0, 0, 5, 122, 0, 0, 0, 0, 0, 0, 0, 20, 0, 0, 0, 97, 0, 0, 0, 177, 0, 0, 0, 245, 0, 0, 1, 57, 0, 0, 1, 113, 0, 0, 1, 169, 0, 0, 1, 225, 0, 0, 2, 37, 0, 0, 2, 93, 0, 0, 2, 201, 0, 0, 3, 25, 0, 0, 3, 93, 0, 0, 3, 173, 0, 0, 3, 241, 0, 0, 4, 53, 0, 0, 4, 109, 0, 0, 4, 165, 0, 0, 4, 233, 0, 0, 5, 33, 0, 0, 5, 96, 0, 0, 5, 109]
abbrev dktL_law_2 : List UInt8 := dkwL_law_2 ++ dktL_law_3
def dkwL_law_1 : List UInt8 := [21, 4, 42, 190, 8, 100, 163, 5, 138, 42, 21, 4, 46, 16, 31, 126]
abbrev dktL_law_1 : List UInt8 := dkwL_law_1 ++ dktL_law_2
def dkwL_law_0 : List UInt8 := [187, 0, 8, 89, 183, 0, 77, 76, 187, 0, 78, 89, 183, 0, 80, 77, 4, 188, 11, 78, 3, 54, 4]
abbrev dktL_law_0 : List UInt8 := dkwL_law_0 ++ dktL_law_1
theorem dksL_law_0 : cL_law.data.toList.drop 0 = dktL_law_0 := by decide +kernel
theorem dksL_law_1 : cL_law.data.toList.drop 23 = dktL_law_1 := dk_seg dksL_law_0 23 rfl rfl
theorem dksL_law_2 : cL_law.data.toList.drop 39 = dktL_law_2 := dk_seg dksL_law_1 16 rfl rfl
theorem dksL_law_3 : cL_law.data.toList.drop 136 = dktL_law_3 := dk_seg dksL_law_2 97 rfl rfl
theorem dksL_law_4 : cL_law.data.toList.drop 159 = dktL_law_4 := dk_seg dksL_law_3 23 rfl rfl
theorem dksL_law_5 : cL_law.data.toList.drop 183 = dktL_law_5 := dk_seg dksL_law_4 24 rfl rfl
theorem dksL_law_6 : cL_law.data.toList.drop 207 = dktL_law_6 := dk_seg dksL_law_5 24 rfl rfl
theorem dksL_law_7 : cL_law.data.toList.drop 230 = dktL_law_7 := dk_seg dksL_law_6 23 rfl rfl
theorem dksL_law_8 : cL_law.data.toList.drop 254 = dktL_law_8 := dk_seg dksL_law_7 24 rfl rfl
theorem dksL_law_9 : cL_law.data.toList.drop 276 = dktL_law_9 := dk_seg dksL_law_8 22 rfl rfl
theorem dksL_law_10 : cL_law.data.toList.drop 298 = dktL_law_10 := dk_seg dksL_law_9 22 rfl rfl
theorem dksL_law_11 : cL_law.data.toList.drop 322 = dktL_law_11 := dk_seg dksL_law_10 24 rfl rfl
theorem dksL_law_12 : cL_law.data.toList.drop 344 = dktL_law_12 := dk_seg dksL_law_11 22 rfl rfl
theorem dksL_law_13 : cL_law.data.toList.drop 367 = dktL_law_13 := dk_seg dksL_law_12 23 rfl rfl
theorem dksL_law_14 : cL_law.data.toList.drop 390 = dktL_law_14 := dk_seg dksL_law_13 23 rfl rfl
theorem dksL_law_15 : cL_law.data.toList.drop 414 = dktL_law_15 := dk_seg dksL_law_14 24 rfl rfl
theorem dksL_law_16 : cL_law.data.toList.drop 437 = dktL_law_16 := dk_seg dksL_law_15 23 rfl rfl
theorem dksL_law_17 : cL_law.data.toList.drop 461 = dktL_law_17 := dk_seg dksL_law_16 24 rfl rfl
theorem dksL_law_18 : cL_law.data.toList.drop 484 = dktL_law_18 := dk_seg dksL_law_17 23 rfl rfl
theorem dksL_law_19 : cL_law.data.toList.drop 508 = dktL_law_19 := dk_seg dksL_law_18 24 rfl rfl
theorem dksL_law_20 : cL_law.data.toList.drop 532 = dktL_law_20 := dk_seg dksL_law_19 24 rfl rfl
theorem dksL_law_21 : cL_law.data.toList.drop 555 = dktL_law_21 := dk_seg dksL_law_20 23 rfl rfl
theorem dksL_law_22 : cL_law.data.toList.drop 579 = dktL_law_22 := dk_seg dksL_law_21 24 rfl rfl
theorem dksL_law_23 : cL_law.data.toList.drop 603 = dktL_law_23 := dk_seg dksL_law_22 24 rfl rfl
theorem dksL_law_24 : cL_law.data.toList.drop 626 = dktL_law_24 := dk_seg dksL_law_23 23 rfl rfl
theorem dksL_law_25 : cL_law.data.toList.drop 650 = dktL_law_25 := dk_seg dksL_law_24 24 rfl rfl
theorem dksL_law_26 : cL_law.data.toList.drop 673 = dktL_law_26 := dk_seg dksL_law_25 23 rfl rfl
theorem dksL_law_27 : cL_law.data.toList.drop 697 = dktL_law_27 := dk_seg dksL_law_26 24 rfl rfl
theorem dksL_law_28 : cL_law.data.toList.drop 721 = dktL_law_28 := dk_seg dksL_law_27 24 rfl rfl
theorem dksL_law_29 : cL_law.data.toList.drop 744 = dktL_law_29 := dk_seg dksL_law_28 23 rfl rfl
theorem dksL_law_30 : cL_law.data.toList.drop 768 = dktL_law_30 := dk_seg dksL_law_29 24 rfl rfl
theorem dksL_law_31 : cL_law.data.toList.drop 791 = dktL_law_31 := dk_seg dksL_law_30 23 rfl rfl
theorem dksL_law_32 : cL_law.data.toList.drop 814 = dktL_law_32 := dk_seg dksL_law_31 23 rfl rfl
theorem dksL_law_33 : cL_law.data.toList.drop 838 = dktL_law_33 := dk_seg dksL_law_32 24 rfl rfl
theorem dksL_law_34 : cL_law.data.toList.drop 862 = dktL_law_34 := dk_seg dksL_law_33 24 rfl rfl
theorem dksL_law_35 : cL_law.data.toList.drop 886 = dktL_law_35 := dk_seg dksL_law_34 24 rfl rfl
theorem dksL_law_36 : cL_law.data.toList.drop 910 = dktL_law_36 := dk_seg dksL_law_35 24 rfl rfl
theorem dksL_law_37 : cL_law.data.toList.drop 933 = dktL_law_37 := dk_seg dksL_law_36 23 rfl rfl
theorem dksL_law_38 : cL_law.data.toList.drop 955 = dktL_law_38 := dk_seg dksL_law_37 22 rfl rfl
theorem dksL_law_39 : cL_law.data.toList.drop 977 = dktL_law_39 := dk_seg dksL_law_38 22 rfl rfl
theorem dksL_law_40 : cL_law.data.toList.drop 1001 = dktL_law_40 := dk_seg dksL_law_39 24 rfl rfl
theorem dksL_law_41 : cL_law.data.toList.drop 1023 = dktL_law_41 := dk_seg dksL_law_40 22 rfl rfl
theorem dksL_law_42 : cL_law.data.toList.drop 1045 = dktL_law_42 := dk_seg dksL_law_41 22 rfl rfl
theorem dksL_law_43 : cL_law.data.toList.drop 1069 = dktL_law_43 := dk_seg dksL_law_42 24 rfl rfl
theorem dksL_law_44 : cL_law.data.toList.drop 1091 = dktL_law_44 := dk_seg dksL_law_43 22 rfl rfl
theorem dksL_law_45 : cL_law.data.toList.drop 1113 = dktL_law_45 := dk_seg dksL_law_44 22 rfl rfl
theorem dksL_law_46 : cL_law.data.toList.drop 1136 = dktL_law_46 := dk_seg dksL_law_45 23 rfl rfl
theorem dksL_law_47 : cL_law.data.toList.drop 1160 = dktL_law_47 := dk_seg dksL_law_46 24 rfl rfl
theorem dksL_law_48 : cL_law.data.toList.drop 1183 = dktL_law_48 := dk_seg dksL_law_47 23 rfl rfl
theorem dksL_law_49 : cL_law.data.toList.drop 1207 = dktL_law_49 := dk_seg dksL_law_48 24 rfl rfl
theorem dksL_law_50 : cL_law.data.toList.drop 1230 = dktL_law_50 := dk_seg dksL_law_49 23 rfl rfl
theorem dksL_law_51 : cL_law.data.toList.drop 1254 = dktL_law_51 := dk_seg dksL_law_50 24 rfl rfl
theorem dksL_law_52 : cL_law.data.toList.drop 1278 = dktL_law_52 := dk_seg dksL_law_51 24 rfl rfl
theorem dksL_law_53 : cL_law.data.toList.drop 1302 = dktL_law_53 := dk_seg dksL_law_52 24 rfl rfl
theorem dksL_law_54 : cL_law.data.toList.drop 1325 = dktL_law_54 := dk_seg dksL_law_53 23 rfl rfl
theorem dksL_law_55 : cL_law.data.toList.drop 1349 = dktL_law_55 := dk_seg dksL_law_54 24 rfl rfl
theorem dksL_law_56 : cL_law.data.toList.drop 1372 = dktL_law_56 := dk_seg dksL_law_55 23 rfl rfl
theorem dksL_law_57 : cL_law.data.toList.drop 1396 = dktL_law_57 := dk_seg dksL_law_56 24 rfl rfl
theorem dksL_law_58 : cL_law.data.toList.drop 1420 = dktL_law_58 := dk_seg dksL_law_57 24 rfl rfl
theorem dksL_law_59 : cL_law.data.toList.drop 1444 = dktL_law_59 := dk_seg dksL_law_58 24 rfl rfl
theorem dL_law_0 : decode cL_law 0 = .ok (.new 8, 3) := dk_187 0 8 (dk_at dksL_law_0 0 rfl rfl)
theorem dL_law_3 : decode cL_law 3 = .ok (.dup, 1) := dk_89 (dk_at dksL_law_0 3 rfl rfl)
theorem dL_law_4 : decode cL_law 4 = .ok (.invokespecial 77, 3) := dk_183 0 77 (dk_at dksL_law_0 4 rfl rfl)
theorem dL_law_7 : decode cL_law 7 = .ok (.astore_n 1, 1) := dk_76 (dk_at dksL_law_0 7 rfl rfl)
theorem dL_law_8 : decode cL_law 8 = .ok (.new 78, 3) := dk_187 0 78 (dk_at dksL_law_0 8 rfl rfl)
theorem dL_law_11 : decode cL_law 11 = .ok (.dup, 1) := dk_89 (dk_at dksL_law_0 11 rfl rfl)
theorem dL_law_12 : decode cL_law 12 = .ok (.invokespecial 80, 3) := dk_183 0 80 (dk_at dksL_law_0 12 rfl rfl)
theorem dL_law_15 : decode cL_law 15 = .ok (.astore_n 2, 1) := dk_77 (dk_at dksL_law_0 15 rfl rfl)
theorem dL_law_16 : decode cL_law 16 = .ok (.iconst 1, 1) := dk_4 (dk_at dksL_law_0 16 rfl rfl)
theorem dL_law_17 : decode cL_law 17 = .ok (.newarray .long, 2) := dk_188_11 (dk_at dksL_law_0 17 rfl rfl)
theorem dL_law_19 : decode cL_law 19 = .ok (.astore_n 3, 1) := dk_78 (dk_at dksL_law_0 19 rfl rfl)
theorem dL_law_20 : decode cL_law 20 = .ok (.iconst 0, 1) := dk_3 (dk_at dksL_law_0 20 rfl rfl)
theorem dL_law_21 : decode cL_law 21 = .ok (.istore 4, 2) := dk_54 4 (dk_at dksL_law_0 21 rfl rfl)
theorem dL_law_23 : decode cL_law 23 = .ok (.iload 4, 2) := dk_21 4 (dk_at dksL_law_1 0 rfl rfl)
theorem dL_law_25 : decode cL_law 25 = .ok (.aload_n 0, 1) := dk_42 (dk_at dksL_law_1 2 rfl rfl)
theorem dL_law_26 : decode cL_law 26 = .ok (.arraylength, 1) := dk_190 (dk_at dksL_law_1 3 rfl rfl)
theorem dL_law_27 : decode cL_law 27 = .ok (.iconst 5, 1) := dk_8 (dk_at dksL_law_1 4 rfl rfl)
theorem dL_law_28 : decode cL_law 28 = .ok (.isub, 1) := dk_100 (dk_at dksL_law_1 5 rfl rfl)
theorem dL_law_29 : decode cL_law 29 = .ok (.if_icmp .gt 1418, 3) := dk_163 5 138 (dk_at dksL_law_1 6 rfl rfl)
theorem dL_law_32 : decode cL_law 32 = .ok (.aload_n 0, 1) := dk_42 (dk_at dksL_law_1 9 rfl rfl)
theorem dL_law_33 : decode cL_law 33 = .ok (.iload 4, 2) := dk_21 4 (dk_at dksL_law_1 10 rfl rfl)
theorem dL_law_35 : decode cL_law 35 = .ok (.iaload, 1) := dk_46 (dk_at dksL_law_1 12 rfl rfl)
theorem dL_law_36 : decode cL_law 36 = .ok (.bipush 31, 2) := dk_16 31 (dk_at dksL_law_1 13 rfl rfl)
theorem dL_law_38 : decode cL_law 38 = .ok (.iand, 1) := dk_126 (dk_at dksL_law_1 15 rfl rfl)
theorem dL_law_39 : decode cL_law 39 = .ok (.tableswitch 1402 0 20 #[97, 177, 245, 313, 369, 425, 481, 549, 605, 713, 793, 861, 941, 1009, 1077, 1133, 1189, 1257, 1313, 1376, 1389], 97) := by decide +kernel
theorem dL_law_136 : decode cL_law 136 = .ok (.aload_n 1, 1) := dk_43 (dk_at dksL_law_3 0 rfl rfl)
theorem dL_law_137 : decode cL_law 137 = .ok (.aload_n 0, 1) := dk_42 (dk_at dksL_law_3 1 rfl rfl)
theorem dL_law_138 : decode cL_law 138 = .ok (.iload 4, 2) := dk_21 4 (dk_at dksL_law_3 2 rfl rfl)
theorem dL_law_140 : decode cL_law 140 = .ok (.iconst 1, 1) := dk_4 (dk_at dksL_law_3 4 rfl rfl)
theorem dL_law_141 : decode cL_law 141 = .ok (.iadd, 1) := dk_96 (dk_at dksL_law_3 5 rfl rfl)
theorem dL_law_142 : decode cL_law 142 = .ok (.iaload, 1) := dk_46 (dk_at dksL_law_3 6 rfl rfl)
theorem dL_law_143 : decode cL_law 143 = .ok (.aload_n 0, 1) := dk_42 (dk_at dksL_law_3 7 rfl rfl)
theorem dL_law_144 : decode cL_law 144 = .ok (.iload 4, 2) := dk_21 4 (dk_at dksL_law_3 8 rfl rfl)
theorem dL_law_146 : decode cL_law 146 = .ok (.iconst 2, 1) := dk_5 (dk_at dksL_law_3 10 rfl rfl)
theorem dL_law_147 : decode cL_law 147 = .ok (.iadd, 1) := dk_96 (dk_at dksL_law_3 11 rfl rfl)
theorem dL_law_148 : decode cL_law 148 = .ok (.iaload, 1) := dk_46 (dk_at dksL_law_3 12 rfl rfl)
theorem dL_law_149 : decode cL_law 149 = .ok (.aload_n 0, 1) := dk_42 (dk_at dksL_law_3 13 rfl rfl)
theorem dL_law_150 : decode cL_law 150 = .ok (.iload 4, 2) := dk_21 4 (dk_at dksL_law_3 14 rfl rfl)
theorem dL_law_152 : decode cL_law 152 = .ok (.iconst 3, 1) := dk_6 (dk_at dksL_law_3 16 rfl rfl)
theorem dL_law_153 : decode cL_law 153 = .ok (.iadd, 1) := dk_96 (dk_at dksL_law_3 17 rfl rfl)
theorem dL_law_154 : decode cL_law 154 = .ok (.iaload, 1) := dk_46 (dk_at dksL_law_3 18 rfl rfl)
theorem dL_law_155 : decode cL_law 155 = .ok (.aload_n 3, 1) := dk_45 (dk_at dksL_law_3 19 rfl rfl)
theorem dL_law_156 : decode cL_law 156 = .ok (.invokestatic 81, 3) := dk_184 0 81 (dk_at dksL_law_3 20 rfl rfl)
theorem dL_law_159 : decode cL_law 159 = .ok (.istore 5, 2) := dk_54 5 (dk_at dksL_law_4 0 rfl rfl)
theorem dL_law_161 : decode cL_law 161 = .ok (.aload_n 2, 1) := dk_44 (dk_at dksL_law_4 2 rfl rfl)
theorem dL_law_162 : decode cL_law 162 = .ok (.aload_n 0, 1) := dk_42 (dk_at dksL_law_4 3 rfl rfl)
theorem dL_law_163 : decode cL_law 163 = .ok (.iload 4, 2) := dk_21 4 (dk_at dksL_law_4 4 rfl rfl)
theorem dL_law_165 : decode cL_law 165 = .ok (.iconst 1, 1) := dk_4 (dk_at dksL_law_4 6 rfl rfl)
theorem dL_law_166 : decode cL_law 166 = .ok (.iadd, 1) := dk_96 (dk_at dksL_law_4 7 rfl rfl)
theorem dL_law_167 : decode cL_law 167 = .ok (.iaload, 1) := dk_46 (dk_at dksL_law_4 8 rfl rfl)
theorem dL_law_168 : decode cL_law 168 = .ok (.aload_n 0, 1) := dk_42 (dk_at dksL_law_4 9 rfl rfl)
theorem dL_law_169 : decode cL_law 169 = .ok (.iload 4, 2) := dk_21 4 (dk_at dksL_law_4 10 rfl rfl)
theorem dL_law_171 : decode cL_law 171 = .ok (.iconst 2, 1) := dk_5 (dk_at dksL_law_4 12 rfl rfl)
theorem dL_law_172 : decode cL_law 172 = .ok (.iadd, 1) := dk_96 (dk_at dksL_law_4 13 rfl rfl)
theorem dL_law_173 : decode cL_law 173 = .ok (.iaload, 1) := dk_46 (dk_at dksL_law_4 14 rfl rfl)
theorem dL_law_174 : decode cL_law 174 = .ok (.aload_n 0, 1) := dk_42 (dk_at dksL_law_4 15 rfl rfl)
theorem dL_law_175 : decode cL_law 175 = .ok (.iload 4, 2) := dk_21 4 (dk_at dksL_law_4 16 rfl rfl)
theorem dL_law_177 : decode cL_law 177 = .ok (.iconst 3, 1) := dk_6 (dk_at dksL_law_4 18 rfl rfl)
theorem dL_law_178 : decode cL_law 178 = .ok (.iadd, 1) := dk_96 (dk_at dksL_law_4 19 rfl rfl)
theorem dL_law_179 : decode cL_law 179 = .ok (.iaload, 1) := dk_46 (dk_at dksL_law_4 20 rfl rfl)
theorem dL_law_180 : decode cL_law 180 = .ok (.invokevirtual 86, 3) := dk_182 0 86 (dk_at dksL_law_4 21 rfl rfl)
theorem dL_law_183 : decode cL_law 183 = .ok (.istore 6, 2) := dk_54 6 (dk_at dksL_law_5 0 rfl rfl)
theorem dL_law_185 : decode cL_law 185 = .ok (.aload_n 2, 1) := dk_44 (dk_at dksL_law_5 2 rfl rfl)
theorem dL_law_186 : decode cL_law 186 = .ok (.invokevirtual 87, 3) := dk_182 0 87 (dk_at dksL_law_5 3 rfl rfl)
theorem dL_law_189 : decode cL_law 189 = .ok (.iload 5, 2) := dk_21 5 (dk_at dksL_law_5 6 rfl rfl)
theorem dL_law_191 : decode cL_law 191 = .ok (.if_icmp .eq 5, 3) := dk_159 0 5 (dk_at dksL_law_5 8 rfl rfl)
theorem dL_law_194 : decode cL_law 194 = .ok (.iconst 0, 1) := dk_3 (dk_at dksL_law_5 11 rfl rfl)
theorem dL_law_195 : decode cL_law 195 = .ok (.ireturn, 1) := dk_172 (dk_at dksL_law_5 12 rfl rfl)
theorem dL_law_196 : decode cL_law 196 = .ok (.iload 5, 2) := dk_21 5 (dk_at dksL_law_5 13 rfl rfl)
theorem dL_law_198 : decode cL_law 198 = .ok (.ifCond .ne 15, 3) := dk_154 0 15 (dk_at dksL_law_5 15 rfl rfl)
theorem dL_law_201 : decode cL_law 201 = .ok (.aload_n 3, 1) := dk_45 (dk_at dksL_law_5 18 rfl rfl)
theorem dL_law_202 : decode cL_law 202 = .ok (.iconst 0, 1) := dk_3 (dk_at dksL_law_5 19 rfl rfl)
theorem dL_law_203 : decode cL_law 203 = .ok (.laload, 1) := dk_47 (dk_at dksL_law_5 20 rfl rfl)
theorem dL_law_204 : decode cL_law 204 = .ok (.iload 6, 2) := dk_21 6 (dk_at dksL_law_5 21 rfl rfl)
theorem dL_law_206 : decode cL_law 206 = .ok (.i2l, 1) := dk_133 (dk_at dksL_law_5 23 rfl rfl)
theorem dL_law_207 : decode cL_law 207 = .ok (.lcmp, 1) := dk_148 (dk_at dksL_law_6 0 rfl rfl)
theorem dL_law_208 : decode cL_law 208 = .ok (.ifCond .eq 5, 3) := dk_153 0 5 (dk_at dksL_law_6 1 rfl rfl)
theorem dL_law_211 : decode cL_law 211 = .ok (.iconst 0, 1) := dk_3 (dk_at dksL_law_6 4 rfl rfl)
theorem dL_law_212 : decode cL_law 212 = .ok (.ireturn, 1) := dk_172 (dk_at dksL_law_6 5 rfl rfl)
theorem dL_law_213 : decode cL_law 213 = .ok (.goto 1228, 3) := dk_167 4 204 (dk_at dksL_law_6 6 rfl rfl)
theorem dL_law_216 : decode cL_law 216 = .ok (.aload_n 1, 1) := dk_43 (dk_at dksL_law_6 9 rfl rfl)
theorem dL_law_217 : decode cL_law 217 = .ok (.aload_n 0, 1) := dk_42 (dk_at dksL_law_6 10 rfl rfl)
theorem dL_law_218 : decode cL_law 218 = .ok (.iload 4, 2) := dk_21 4 (dk_at dksL_law_6 11 rfl rfl)
theorem dL_law_220 : decode cL_law 220 = .ok (.iconst 1, 1) := dk_4 (dk_at dksL_law_6 13 rfl rfl)
theorem dL_law_221 : decode cL_law 221 = .ok (.iadd, 1) := dk_96 (dk_at dksL_law_6 14 rfl rfl)
theorem dL_law_222 : decode cL_law 222 = .ok (.iaload, 1) := dk_46 (dk_at dksL_law_6 15 rfl rfl)
theorem dL_law_223 : decode cL_law 223 = .ok (.aload_n 0, 1) := dk_42 (dk_at dksL_law_6 16 rfl rfl)
theorem dL_law_224 : decode cL_law 224 = .ok (.iload 4, 2) := dk_21 4 (dk_at dksL_law_6 17 rfl rfl)
theorem dL_law_226 : decode cL_law 226 = .ok (.iconst 2, 1) := dk_5 (dk_at dksL_law_6 19 rfl rfl)
theorem dL_law_227 : decode cL_law 227 = .ok (.iadd, 1) := dk_96 (dk_at dksL_law_6 20 rfl rfl)
theorem dL_law_228 : decode cL_law 228 = .ok (.iaload, 1) := dk_46 (dk_at dksL_law_6 21 rfl rfl)
theorem dL_law_229 : decode cL_law 229 = .ok (.aload_n 3, 1) := dk_45 (dk_at dksL_law_6 22 rfl rfl)
theorem dL_law_230 : decode cL_law 230 = .ok (.invokestatic 91, 3) := dk_184 0 91 (dk_at dksL_law_7 0 rfl rfl)
theorem dL_law_233 : decode cL_law 233 = .ok (.istore 5, 2) := dk_54 5 (dk_at dksL_law_7 3 rfl rfl)
theorem dL_law_235 : decode cL_law 235 = .ok (.aload_n 2, 1) := dk_44 (dk_at dksL_law_7 5 rfl rfl)
theorem dL_law_236 : decode cL_law 236 = .ok (.aload_n 0, 1) := dk_42 (dk_at dksL_law_7 6 rfl rfl)
theorem dL_law_237 : decode cL_law 237 = .ok (.iload 4, 2) := dk_21 4 (dk_at dksL_law_7 7 rfl rfl)
theorem dL_law_239 : decode cL_law 239 = .ok (.iconst 1, 1) := dk_4 (dk_at dksL_law_7 9 rfl rfl)
theorem dL_law_240 : decode cL_law 240 = .ok (.iadd, 1) := dk_96 (dk_at dksL_law_7 10 rfl rfl)
theorem dL_law_241 : decode cL_law 241 = .ok (.iaload, 1) := dk_46 (dk_at dksL_law_7 11 rfl rfl)
theorem dL_law_242 : decode cL_law 242 = .ok (.aload_n 0, 1) := dk_42 (dk_at dksL_law_7 12 rfl rfl)
theorem dL_law_243 : decode cL_law 243 = .ok (.iload 4, 2) := dk_21 4 (dk_at dksL_law_7 13 rfl rfl)
theorem dL_law_245 : decode cL_law 245 = .ok (.iconst 2, 1) := dk_5 (dk_at dksL_law_7 15 rfl rfl)
theorem dL_law_246 : decode cL_law 246 = .ok (.iadd, 1) := dk_96 (dk_at dksL_law_7 16 rfl rfl)
theorem dL_law_247 : decode cL_law 247 = .ok (.iaload, 1) := dk_46 (dk_at dksL_law_7 17 rfl rfl)
theorem dL_law_248 : decode cL_law 248 = .ok (.invokevirtual 94, 3) := dk_182 0 94 (dk_at dksL_law_7 18 rfl rfl)
theorem dL_law_251 : decode cL_law 251 = .ok (.istore 6, 2) := dk_54 6 (dk_at dksL_law_7 21 rfl rfl)
theorem dL_law_253 : decode cL_law 253 = .ok (.aload_n 2, 1) := dk_44 (dk_at dksL_law_7 23 rfl rfl)
theorem dL_law_254 : decode cL_law 254 = .ok (.invokevirtual 87, 3) := dk_182 0 87 (dk_at dksL_law_8 0 rfl rfl)
theorem dL_law_257 : decode cL_law 257 = .ok (.iload 5, 2) := dk_21 5 (dk_at dksL_law_8 3 rfl rfl)
theorem dL_law_259 : decode cL_law 259 = .ok (.if_icmp .eq 5, 3) := dk_159 0 5 (dk_at dksL_law_8 5 rfl rfl)
theorem dL_law_262 : decode cL_law 262 = .ok (.iconst 0, 1) := dk_3 (dk_at dksL_law_8 8 rfl rfl)
theorem dL_law_263 : decode cL_law 263 = .ok (.ireturn, 1) := dk_172 (dk_at dksL_law_8 9 rfl rfl)
theorem dL_law_264 : decode cL_law 264 = .ok (.iload 5, 2) := dk_21 5 (dk_at dksL_law_8 10 rfl rfl)
theorem dL_law_266 : decode cL_law 266 = .ok (.ifCond .ne 15, 3) := dk_154 0 15 (dk_at dksL_law_8 12 rfl rfl)
theorem dL_law_269 : decode cL_law 269 = .ok (.aload_n 3, 1) := dk_45 (dk_at dksL_law_8 15 rfl rfl)
theorem dL_law_270 : decode cL_law 270 = .ok (.iconst 0, 1) := dk_3 (dk_at dksL_law_8 16 rfl rfl)
theorem dL_law_271 : decode cL_law 271 = .ok (.laload, 1) := dk_47 (dk_at dksL_law_8 17 rfl rfl)
theorem dL_law_272 : decode cL_law 272 = .ok (.iload 6, 2) := dk_21 6 (dk_at dksL_law_8 18 rfl rfl)
theorem dL_law_274 : decode cL_law 274 = .ok (.i2l, 1) := dk_133 (dk_at dksL_law_8 20 rfl rfl)
theorem dL_law_275 : decode cL_law 275 = .ok (.lcmp, 1) := dk_148 (dk_at dksL_law_8 21 rfl rfl)
theorem dL_law_276 : decode cL_law 276 = .ok (.ifCond .eq 5, 3) := dk_153 0 5 (dk_at dksL_law_9 0 rfl rfl)
theorem dL_law_279 : decode cL_law 279 = .ok (.iconst 0, 1) := dk_3 (dk_at dksL_law_9 3 rfl rfl)
theorem dL_law_280 : decode cL_law 280 = .ok (.ireturn, 1) := dk_172 (dk_at dksL_law_9 4 rfl rfl)
theorem dL_law_281 : decode cL_law 281 = .ok (.goto 1160, 3) := dk_167 4 136 (dk_at dksL_law_9 5 rfl rfl)
theorem dL_law_284 : decode cL_law 284 = .ok (.aload_n 1, 1) := dk_43 (dk_at dksL_law_9 8 rfl rfl)
theorem dL_law_285 : decode cL_law 285 = .ok (.aload_n 0, 1) := dk_42 (dk_at dksL_law_9 9 rfl rfl)
theorem dL_law_286 : decode cL_law 286 = .ok (.iload 4, 2) := dk_21 4 (dk_at dksL_law_9 10 rfl rfl)
theorem dL_law_288 : decode cL_law 288 = .ok (.iconst 1, 1) := dk_4 (dk_at dksL_law_9 12 rfl rfl)
theorem dL_law_289 : decode cL_law 289 = .ok (.iadd, 1) := dk_96 (dk_at dksL_law_9 13 rfl rfl)
theorem dL_law_290 : decode cL_law 290 = .ok (.iaload, 1) := dk_46 (dk_at dksL_law_9 14 rfl rfl)
theorem dL_law_291 : decode cL_law 291 = .ok (.aload_n 0, 1) := dk_42 (dk_at dksL_law_9 15 rfl rfl)
theorem dL_law_292 : decode cL_law 292 = .ok (.iload 4, 2) := dk_21 4 (dk_at dksL_law_9 16 rfl rfl)
theorem dL_law_294 : decode cL_law 294 = .ok (.iconst 2, 1) := dk_5 (dk_at dksL_law_9 18 rfl rfl)
theorem dL_law_295 : decode cL_law 295 = .ok (.iadd, 1) := dk_96 (dk_at dksL_law_9 19 rfl rfl)
theorem dL_law_296 : decode cL_law 296 = .ok (.iaload, 1) := dk_46 (dk_at dksL_law_9 20 rfl rfl)
theorem dL_law_297 : decode cL_law 297 = .ok (.aload_n 3, 1) := dk_45 (dk_at dksL_law_9 21 rfl rfl)
theorem dL_law_298 : decode cL_law 298 = .ok (.invokestatic 95, 3) := dk_184 0 95 (dk_at dksL_law_10 0 rfl rfl)
theorem dL_law_301 : decode cL_law 301 = .ok (.istore 5, 2) := dk_54 5 (dk_at dksL_law_10 3 rfl rfl)
theorem dL_law_303 : decode cL_law 303 = .ok (.aload_n 2, 1) := dk_44 (dk_at dksL_law_10 5 rfl rfl)
theorem dL_law_304 : decode cL_law 304 = .ok (.aload_n 0, 1) := dk_42 (dk_at dksL_law_10 6 rfl rfl)
theorem dL_law_305 : decode cL_law 305 = .ok (.iload 4, 2) := dk_21 4 (dk_at dksL_law_10 7 rfl rfl)
theorem dL_law_307 : decode cL_law 307 = .ok (.iconst 1, 1) := dk_4 (dk_at dksL_law_10 9 rfl rfl)
theorem dL_law_308 : decode cL_law 308 = .ok (.iadd, 1) := dk_96 (dk_at dksL_law_10 10 rfl rfl)
theorem dL_law_309 : decode cL_law 309 = .ok (.iaload, 1) := dk_46 (dk_at dksL_law_10 11 rfl rfl)
theorem dL_law_310 : decode cL_law 310 = .ok (.aload_n 0, 1) := dk_42 (dk_at dksL_law_10 12 rfl rfl)
theorem dL_law_311 : decode cL_law 311 = .ok (.iload 4, 2) := dk_21 4 (dk_at dksL_law_10 13 rfl rfl)
theorem dL_law_313 : decode cL_law 313 = .ok (.iconst 2, 1) := dk_5 (dk_at dksL_law_10 15 rfl rfl)
theorem dL_law_314 : decode cL_law 314 = .ok (.iadd, 1) := dk_96 (dk_at dksL_law_10 16 rfl rfl)
theorem dL_law_315 : decode cL_law 315 = .ok (.iaload, 1) := dk_46 (dk_at dksL_law_10 17 rfl rfl)
theorem dL_law_316 : decode cL_law 316 = .ok (.invokevirtual 97, 3) := dk_182 0 97 (dk_at dksL_law_10 18 rfl rfl)
theorem dL_law_319 : decode cL_law 319 = .ok (.istore 6, 2) := dk_54 6 (dk_at dksL_law_10 21 rfl rfl)
theorem dL_law_321 : decode cL_law 321 = .ok (.aload_n 2, 1) := dk_44 (dk_at dksL_law_10 23 rfl rfl)
theorem dL_law_322 : decode cL_law 322 = .ok (.invokevirtual 87, 3) := dk_182 0 87 (dk_at dksL_law_11 0 rfl rfl)
theorem dL_law_325 : decode cL_law 325 = .ok (.iload 5, 2) := dk_21 5 (dk_at dksL_law_11 3 rfl rfl)
theorem dL_law_327 : decode cL_law 327 = .ok (.if_icmp .eq 5, 3) := dk_159 0 5 (dk_at dksL_law_11 5 rfl rfl)
theorem dL_law_330 : decode cL_law 330 = .ok (.iconst 0, 1) := dk_3 (dk_at dksL_law_11 8 rfl rfl)
theorem dL_law_331 : decode cL_law 331 = .ok (.ireturn, 1) := dk_172 (dk_at dksL_law_11 9 rfl rfl)
theorem dL_law_332 : decode cL_law 332 = .ok (.iload 5, 2) := dk_21 5 (dk_at dksL_law_11 10 rfl rfl)
theorem dL_law_334 : decode cL_law 334 = .ok (.ifCond .ne 15, 3) := dk_154 0 15 (dk_at dksL_law_11 12 rfl rfl)
theorem dL_law_337 : decode cL_law 337 = .ok (.aload_n 3, 1) := dk_45 (dk_at dksL_law_11 15 rfl rfl)
theorem dL_law_338 : decode cL_law 338 = .ok (.iconst 0, 1) := dk_3 (dk_at dksL_law_11 16 rfl rfl)
theorem dL_law_339 : decode cL_law 339 = .ok (.laload, 1) := dk_47 (dk_at dksL_law_11 17 rfl rfl)
theorem dL_law_340 : decode cL_law 340 = .ok (.iload 6, 2) := dk_21 6 (dk_at dksL_law_11 18 rfl rfl)
theorem dL_law_342 : decode cL_law 342 = .ok (.i2l, 1) := dk_133 (dk_at dksL_law_11 20 rfl rfl)
theorem dL_law_343 : decode cL_law 343 = .ok (.lcmp, 1) := dk_148 (dk_at dksL_law_11 21 rfl rfl)
theorem dL_law_344 : decode cL_law 344 = .ok (.ifCond .eq 5, 3) := dk_153 0 5 (dk_at dksL_law_12 0 rfl rfl)
theorem dL_law_347 : decode cL_law 347 = .ok (.iconst 0, 1) := dk_3 (dk_at dksL_law_12 3 rfl rfl)
theorem dL_law_348 : decode cL_law 348 = .ok (.ireturn, 1) := dk_172 (dk_at dksL_law_12 4 rfl rfl)
theorem dL_law_349 : decode cL_law 349 = .ok (.goto 1092, 3) := dk_167 4 68 (dk_at dksL_law_12 5 rfl rfl)
theorem dL_law_352 : decode cL_law 352 = .ok (.aload_n 1, 1) := dk_43 (dk_at dksL_law_12 8 rfl rfl)
theorem dL_law_353 : decode cL_law 353 = .ok (.aload_n 0, 1) := dk_42 (dk_at dksL_law_12 9 rfl rfl)
theorem dL_law_354 : decode cL_law 354 = .ok (.iload 4, 2) := dk_21 4 (dk_at dksL_law_12 10 rfl rfl)
theorem dL_law_356 : decode cL_law 356 = .ok (.iconst 1, 1) := dk_4 (dk_at dksL_law_12 12 rfl rfl)
theorem dL_law_357 : decode cL_law 357 = .ok (.iadd, 1) := dk_96 (dk_at dksL_law_12 13 rfl rfl)
theorem dL_law_358 : decode cL_law 358 = .ok (.iaload, 1) := dk_46 (dk_at dksL_law_12 14 rfl rfl)
theorem dL_law_359 : decode cL_law 359 = .ok (.aload_n 3, 1) := dk_45 (dk_at dksL_law_12 15 rfl rfl)
theorem dL_law_360 : decode cL_law 360 = .ok (.invokestatic 98, 3) := dk_184 0 98 (dk_at dksL_law_12 16 rfl rfl)
theorem dL_law_363 : decode cL_law 363 = .ok (.istore 5, 2) := dk_54 5 (dk_at dksL_law_12 19 rfl rfl)
theorem dL_law_365 : decode cL_law 365 = .ok (.aload_n 2, 1) := dk_44 (dk_at dksL_law_12 21 rfl rfl)
theorem dL_law_366 : decode cL_law 366 = .ok (.aload_n 0, 1) := dk_42 (dk_at dksL_law_12 22 rfl rfl)
theorem dL_law_367 : decode cL_law 367 = .ok (.iload 4, 2) := dk_21 4 (dk_at dksL_law_13 0 rfl rfl)
theorem dL_law_369 : decode cL_law 369 = .ok (.iconst 1, 1) := dk_4 (dk_at dksL_law_13 2 rfl rfl)
theorem dL_law_370 : decode cL_law 370 = .ok (.iadd, 1) := dk_96 (dk_at dksL_law_13 3 rfl rfl)
theorem dL_law_371 : decode cL_law 371 = .ok (.iaload, 1) := dk_46 (dk_at dksL_law_13 4 rfl rfl)
theorem dL_law_372 : decode cL_law 372 = .ok (.invokevirtual 101, 3) := dk_182 0 101 (dk_at dksL_law_13 5 rfl rfl)
theorem dL_law_375 : decode cL_law 375 = .ok (.istore 6, 2) := dk_54 6 (dk_at dksL_law_13 8 rfl rfl)
theorem dL_law_377 : decode cL_law 377 = .ok (.aload_n 2, 1) := dk_44 (dk_at dksL_law_13 10 rfl rfl)
theorem dL_law_378 : decode cL_law 378 = .ok (.invokevirtual 87, 3) := dk_182 0 87 (dk_at dksL_law_13 11 rfl rfl)
theorem dL_law_381 : decode cL_law 381 = .ok (.iload 5, 2) := dk_21 5 (dk_at dksL_law_13 14 rfl rfl)
theorem dL_law_383 : decode cL_law 383 = .ok (.if_icmp .eq 5, 3) := dk_159 0 5 (dk_at dksL_law_13 16 rfl rfl)
theorem dL_law_386 : decode cL_law 386 = .ok (.iconst 0, 1) := dk_3 (dk_at dksL_law_13 19 rfl rfl)
theorem dL_law_387 : decode cL_law 387 = .ok (.ireturn, 1) := dk_172 (dk_at dksL_law_13 20 rfl rfl)
theorem dL_law_388 : decode cL_law 388 = .ok (.iload 5, 2) := dk_21 5 (dk_at dksL_law_13 21 rfl rfl)
theorem dL_law_390 : decode cL_law 390 = .ok (.ifCond .ne 15, 3) := dk_154 0 15 (dk_at dksL_law_14 0 rfl rfl)
theorem dL_law_393 : decode cL_law 393 = .ok (.aload_n 3, 1) := dk_45 (dk_at dksL_law_14 3 rfl rfl)
theorem dL_law_394 : decode cL_law 394 = .ok (.iconst 0, 1) := dk_3 (dk_at dksL_law_14 4 rfl rfl)
theorem dL_law_395 : decode cL_law 395 = .ok (.laload, 1) := dk_47 (dk_at dksL_law_14 5 rfl rfl)
theorem dL_law_396 : decode cL_law 396 = .ok (.iload 6, 2) := dk_21 6 (dk_at dksL_law_14 6 rfl rfl)
theorem dL_law_398 : decode cL_law 398 = .ok (.i2l, 1) := dk_133 (dk_at dksL_law_14 8 rfl rfl)
theorem dL_law_399 : decode cL_law 399 = .ok (.lcmp, 1) := dk_148 (dk_at dksL_law_14 9 rfl rfl)
theorem dL_law_400 : decode cL_law 400 = .ok (.ifCond .eq 5, 3) := dk_153 0 5 (dk_at dksL_law_14 10 rfl rfl)
theorem dL_law_403 : decode cL_law 403 = .ok (.iconst 0, 1) := dk_3 (dk_at dksL_law_14 13 rfl rfl)
theorem dL_law_404 : decode cL_law 404 = .ok (.ireturn, 1) := dk_172 (dk_at dksL_law_14 14 rfl rfl)
theorem dL_law_405 : decode cL_law 405 = .ok (.goto 1036, 3) := dk_167 4 12 (dk_at dksL_law_14 15 rfl rfl)
theorem dL_law_408 : decode cL_law 408 = .ok (.aload_n 1, 1) := dk_43 (dk_at dksL_law_14 18 rfl rfl)
theorem dL_law_409 : decode cL_law 409 = .ok (.aload_n 0, 1) := dk_42 (dk_at dksL_law_14 19 rfl rfl)
theorem dL_law_410 : decode cL_law 410 = .ok (.iload 4, 2) := dk_21 4 (dk_at dksL_law_14 20 rfl rfl)
theorem dL_law_412 : decode cL_law 412 = .ok (.iconst 1, 1) := dk_4 (dk_at dksL_law_14 22 rfl rfl)
theorem dL_law_413 : decode cL_law 413 = .ok (.iadd, 1) := dk_96 (dk_at dksL_law_14 23 rfl rfl)
theorem dL_law_414 : decode cL_law 414 = .ok (.iaload, 1) := dk_46 (dk_at dksL_law_15 0 rfl rfl)
theorem dL_law_415 : decode cL_law 415 = .ok (.aload_n 3, 1) := dk_45 (dk_at dksL_law_15 1 rfl rfl)
theorem dL_law_416 : decode cL_law 416 = .ok (.invokestatic 102, 3) := dk_184 0 102 (dk_at dksL_law_15 2 rfl rfl)
theorem dL_law_419 : decode cL_law 419 = .ok (.istore 5, 2) := dk_54 5 (dk_at dksL_law_15 5 rfl rfl)
theorem dL_law_421 : decode cL_law 421 = .ok (.aload_n 2, 1) := dk_44 (dk_at dksL_law_15 7 rfl rfl)
theorem dL_law_422 : decode cL_law 422 = .ok (.aload_n 0, 1) := dk_42 (dk_at dksL_law_15 8 rfl rfl)
theorem dL_law_423 : decode cL_law 423 = .ok (.iload 4, 2) := dk_21 4 (dk_at dksL_law_15 9 rfl rfl)
theorem dL_law_425 : decode cL_law 425 = .ok (.iconst 1, 1) := dk_4 (dk_at dksL_law_15 11 rfl rfl)
theorem dL_law_426 : decode cL_law 426 = .ok (.iadd, 1) := dk_96 (dk_at dksL_law_15 12 rfl rfl)
theorem dL_law_427 : decode cL_law 427 = .ok (.iaload, 1) := dk_46 (dk_at dksL_law_15 13 rfl rfl)
theorem dL_law_428 : decode cL_law 428 = .ok (.invokevirtual 104, 3) := dk_182 0 104 (dk_at dksL_law_15 14 rfl rfl)
theorem dL_law_431 : decode cL_law 431 = .ok (.istore 6, 2) := dk_54 6 (dk_at dksL_law_15 17 rfl rfl)
theorem dL_law_433 : decode cL_law 433 = .ok (.aload_n 2, 1) := dk_44 (dk_at dksL_law_15 19 rfl rfl)
theorem dL_law_434 : decode cL_law 434 = .ok (.invokevirtual 87, 3) := dk_182 0 87 (dk_at dksL_law_15 20 rfl rfl)
theorem dL_law_437 : decode cL_law 437 = .ok (.iload 5, 2) := dk_21 5 (dk_at dksL_law_16 0 rfl rfl)
theorem dL_law_439 : decode cL_law 439 = .ok (.if_icmp .eq 5, 3) := dk_159 0 5 (dk_at dksL_law_16 2 rfl rfl)
theorem dL_law_442 : decode cL_law 442 = .ok (.iconst 0, 1) := dk_3 (dk_at dksL_law_16 5 rfl rfl)
theorem dL_law_443 : decode cL_law 443 = .ok (.ireturn, 1) := dk_172 (dk_at dksL_law_16 6 rfl rfl)
theorem dL_law_444 : decode cL_law 444 = .ok (.iload 5, 2) := dk_21 5 (dk_at dksL_law_16 7 rfl rfl)
theorem dL_law_446 : decode cL_law 446 = .ok (.ifCond .ne 15, 3) := dk_154 0 15 (dk_at dksL_law_16 9 rfl rfl)
theorem dL_law_449 : decode cL_law 449 = .ok (.aload_n 3, 1) := dk_45 (dk_at dksL_law_16 12 rfl rfl)
theorem dL_law_450 : decode cL_law 450 = .ok (.iconst 0, 1) := dk_3 (dk_at dksL_law_16 13 rfl rfl)
theorem dL_law_451 : decode cL_law 451 = .ok (.laload, 1) := dk_47 (dk_at dksL_law_16 14 rfl rfl)
theorem dL_law_452 : decode cL_law 452 = .ok (.iload 6, 2) := dk_21 6 (dk_at dksL_law_16 15 rfl rfl)
theorem dL_law_454 : decode cL_law 454 = .ok (.i2l, 1) := dk_133 (dk_at dksL_law_16 17 rfl rfl)
theorem dL_law_455 : decode cL_law 455 = .ok (.lcmp, 1) := dk_148 (dk_at dksL_law_16 18 rfl rfl)
theorem dL_law_456 : decode cL_law 456 = .ok (.ifCond .eq 5, 3) := dk_153 0 5 (dk_at dksL_law_16 19 rfl rfl)
theorem dL_law_459 : decode cL_law 459 = .ok (.iconst 0, 1) := dk_3 (dk_at dksL_law_16 22 rfl rfl)
theorem dL_law_460 : decode cL_law 460 = .ok (.ireturn, 1) := dk_172 (dk_at dksL_law_16 23 rfl rfl)
theorem dL_law_461 : decode cL_law 461 = .ok (.goto 980, 3) := dk_167 3 212 (dk_at dksL_law_17 0 rfl rfl)
theorem dL_law_464 : decode cL_law 464 = .ok (.aload_n 1, 1) := dk_43 (dk_at dksL_law_17 3 rfl rfl)
theorem dL_law_465 : decode cL_law 465 = .ok (.aload_n 0, 1) := dk_42 (dk_at dksL_law_17 4 rfl rfl)
theorem dL_law_466 : decode cL_law 466 = .ok (.iload 4, 2) := dk_21 4 (dk_at dksL_law_17 5 rfl rfl)
theorem dL_law_468 : decode cL_law 468 = .ok (.iconst 1, 1) := dk_4 (dk_at dksL_law_17 7 rfl rfl)
theorem dL_law_469 : decode cL_law 469 = .ok (.iadd, 1) := dk_96 (dk_at dksL_law_17 8 rfl rfl)
theorem dL_law_470 : decode cL_law 470 = .ok (.iaload, 1) := dk_46 (dk_at dksL_law_17 9 rfl rfl)
theorem dL_law_471 : decode cL_law 471 = .ok (.aload_n 3, 1) := dk_45 (dk_at dksL_law_17 10 rfl rfl)
theorem dL_law_472 : decode cL_law 472 = .ok (.invokestatic 105, 3) := dk_184 0 105 (dk_at dksL_law_17 11 rfl rfl)
theorem dL_law_475 : decode cL_law 475 = .ok (.istore 5, 2) := dk_54 5 (dk_at dksL_law_17 14 rfl rfl)
theorem dL_law_477 : decode cL_law 477 = .ok (.aload_n 2, 1) := dk_44 (dk_at dksL_law_17 16 rfl rfl)
theorem dL_law_478 : decode cL_law 478 = .ok (.aload_n 0, 1) := dk_42 (dk_at dksL_law_17 17 rfl rfl)
theorem dL_law_479 : decode cL_law 479 = .ok (.iload 4, 2) := dk_21 4 (dk_at dksL_law_17 18 rfl rfl)
theorem dL_law_481 : decode cL_law 481 = .ok (.iconst 1, 1) := dk_4 (dk_at dksL_law_17 20 rfl rfl)
theorem dL_law_482 : decode cL_law 482 = .ok (.iadd, 1) := dk_96 (dk_at dksL_law_17 21 rfl rfl)
theorem dL_law_483 : decode cL_law 483 = .ok (.iaload, 1) := dk_46 (dk_at dksL_law_17 22 rfl rfl)
theorem dL_law_484 : decode cL_law 484 = .ok (.invokevirtual 107, 3) := dk_182 0 107 (dk_at dksL_law_18 0 rfl rfl)
theorem dL_law_487 : decode cL_law 487 = .ok (.istore 6, 2) := dk_54 6 (dk_at dksL_law_18 3 rfl rfl)
theorem dL_law_489 : decode cL_law 489 = .ok (.aload_n 2, 1) := dk_44 (dk_at dksL_law_18 5 rfl rfl)
theorem dL_law_490 : decode cL_law 490 = .ok (.invokevirtual 87, 3) := dk_182 0 87 (dk_at dksL_law_18 6 rfl rfl)
theorem dL_law_493 : decode cL_law 493 = .ok (.iload 5, 2) := dk_21 5 (dk_at dksL_law_18 9 rfl rfl)
theorem dL_law_495 : decode cL_law 495 = .ok (.if_icmp .eq 5, 3) := dk_159 0 5 (dk_at dksL_law_18 11 rfl rfl)
theorem dL_law_498 : decode cL_law 498 = .ok (.iconst 0, 1) := dk_3 (dk_at dksL_law_18 14 rfl rfl)
theorem dL_law_499 : decode cL_law 499 = .ok (.ireturn, 1) := dk_172 (dk_at dksL_law_18 15 rfl rfl)
theorem dL_law_500 : decode cL_law 500 = .ok (.iload 5, 2) := dk_21 5 (dk_at dksL_law_18 16 rfl rfl)
theorem dL_law_502 : decode cL_law 502 = .ok (.ifCond .ne 15, 3) := dk_154 0 15 (dk_at dksL_law_18 18 rfl rfl)
theorem dL_law_505 : decode cL_law 505 = .ok (.aload_n 3, 1) := dk_45 (dk_at dksL_law_18 21 rfl rfl)
theorem dL_law_506 : decode cL_law 506 = .ok (.iconst 0, 1) := dk_3 (dk_at dksL_law_18 22 rfl rfl)
theorem dL_law_507 : decode cL_law 507 = .ok (.laload, 1) := dk_47 (dk_at dksL_law_18 23 rfl rfl)
theorem dL_law_508 : decode cL_law 508 = .ok (.iload 6, 2) := dk_21 6 (dk_at dksL_law_19 0 rfl rfl)
theorem dL_law_510 : decode cL_law 510 = .ok (.i2l, 1) := dk_133 (dk_at dksL_law_19 2 rfl rfl)
theorem dL_law_511 : decode cL_law 511 = .ok (.lcmp, 1) := dk_148 (dk_at dksL_law_19 3 rfl rfl)
theorem dL_law_512 : decode cL_law 512 = .ok (.ifCond .eq 5, 3) := dk_153 0 5 (dk_at dksL_law_19 4 rfl rfl)
theorem dL_law_515 : decode cL_law 515 = .ok (.iconst 0, 1) := dk_3 (dk_at dksL_law_19 7 rfl rfl)
theorem dL_law_516 : decode cL_law 516 = .ok (.ireturn, 1) := dk_172 (dk_at dksL_law_19 8 rfl rfl)
theorem dL_law_517 : decode cL_law 517 = .ok (.goto 924, 3) := dk_167 3 156 (dk_at dksL_law_19 9 rfl rfl)
theorem dL_law_520 : decode cL_law 520 = .ok (.aload_n 1, 1) := dk_43 (dk_at dksL_law_19 12 rfl rfl)
theorem dL_law_521 : decode cL_law 521 = .ok (.aload_n 0, 1) := dk_42 (dk_at dksL_law_19 13 rfl rfl)
theorem dL_law_522 : decode cL_law 522 = .ok (.iload 4, 2) := dk_21 4 (dk_at dksL_law_19 14 rfl rfl)
theorem dL_law_524 : decode cL_law 524 = .ok (.iconst 1, 1) := dk_4 (dk_at dksL_law_19 16 rfl rfl)
theorem dL_law_525 : decode cL_law 525 = .ok (.iadd, 1) := dk_96 (dk_at dksL_law_19 17 rfl rfl)
theorem dL_law_526 : decode cL_law 526 = .ok (.iaload, 1) := dk_46 (dk_at dksL_law_19 18 rfl rfl)
theorem dL_law_527 : decode cL_law 527 = .ok (.aload_n 0, 1) := dk_42 (dk_at dksL_law_19 19 rfl rfl)
theorem dL_law_528 : decode cL_law 528 = .ok (.iload 4, 2) := dk_21 4 (dk_at dksL_law_19 20 rfl rfl)
theorem dL_law_530 : decode cL_law 530 = .ok (.iconst 2, 1) := dk_5 (dk_at dksL_law_19 22 rfl rfl)
theorem dL_law_531 : decode cL_law 531 = .ok (.iadd, 1) := dk_96 (dk_at dksL_law_19 23 rfl rfl)
theorem dL_law_532 : decode cL_law 532 = .ok (.iaload, 1) := dk_46 (dk_at dksL_law_20 0 rfl rfl)
theorem dL_law_533 : decode cL_law 533 = .ok (.aload_n 3, 1) := dk_45 (dk_at dksL_law_20 1 rfl rfl)
theorem dL_law_534 : decode cL_law 534 = .ok (.invokestatic 108, 3) := dk_184 0 108 (dk_at dksL_law_20 2 rfl rfl)
theorem dL_law_537 : decode cL_law 537 = .ok (.istore 5, 2) := dk_54 5 (dk_at dksL_law_20 5 rfl rfl)
theorem dL_law_539 : decode cL_law 539 = .ok (.aload_n 2, 1) := dk_44 (dk_at dksL_law_20 7 rfl rfl)
theorem dL_law_540 : decode cL_law 540 = .ok (.aload_n 0, 1) := dk_42 (dk_at dksL_law_20 8 rfl rfl)
theorem dL_law_541 : decode cL_law 541 = .ok (.iload 4, 2) := dk_21 4 (dk_at dksL_law_20 9 rfl rfl)
theorem dL_law_543 : decode cL_law 543 = .ok (.iconst 1, 1) := dk_4 (dk_at dksL_law_20 11 rfl rfl)
theorem dL_law_544 : decode cL_law 544 = .ok (.iadd, 1) := dk_96 (dk_at dksL_law_20 12 rfl rfl)
theorem dL_law_545 : decode cL_law 545 = .ok (.iaload, 1) := dk_46 (dk_at dksL_law_20 13 rfl rfl)
theorem dL_law_546 : decode cL_law 546 = .ok (.aload_n 0, 1) := dk_42 (dk_at dksL_law_20 14 rfl rfl)
theorem dL_law_547 : decode cL_law 547 = .ok (.iload 4, 2) := dk_21 4 (dk_at dksL_law_20 15 rfl rfl)
theorem dL_law_549 : decode cL_law 549 = .ok (.iconst 2, 1) := dk_5 (dk_at dksL_law_20 17 rfl rfl)
theorem dL_law_550 : decode cL_law 550 = .ok (.iadd, 1) := dk_96 (dk_at dksL_law_20 18 rfl rfl)
theorem dL_law_551 : decode cL_law 551 = .ok (.iaload, 1) := dk_46 (dk_at dksL_law_20 19 rfl rfl)
theorem dL_law_552 : decode cL_law 552 = .ok (.invokevirtual 110, 3) := dk_182 0 110 (dk_at dksL_law_20 20 rfl rfl)
theorem dL_law_555 : decode cL_law 555 = .ok (.istore 6, 2) := dk_54 6 (dk_at dksL_law_21 0 rfl rfl)
theorem dL_law_557 : decode cL_law 557 = .ok (.aload_n 2, 1) := dk_44 (dk_at dksL_law_21 2 rfl rfl)
theorem dL_law_558 : decode cL_law 558 = .ok (.invokevirtual 87, 3) := dk_182 0 87 (dk_at dksL_law_21 3 rfl rfl)
theorem dL_law_561 : decode cL_law 561 = .ok (.iload 5, 2) := dk_21 5 (dk_at dksL_law_21 6 rfl rfl)
theorem dL_law_563 : decode cL_law 563 = .ok (.if_icmp .eq 5, 3) := dk_159 0 5 (dk_at dksL_law_21 8 rfl rfl)
theorem dL_law_566 : decode cL_law 566 = .ok (.iconst 0, 1) := dk_3 (dk_at dksL_law_21 11 rfl rfl)
theorem dL_law_567 : decode cL_law 567 = .ok (.ireturn, 1) := dk_172 (dk_at dksL_law_21 12 rfl rfl)
theorem dL_law_568 : decode cL_law 568 = .ok (.iload 5, 2) := dk_21 5 (dk_at dksL_law_21 13 rfl rfl)
theorem dL_law_570 : decode cL_law 570 = .ok (.ifCond .ne 15, 3) := dk_154 0 15 (dk_at dksL_law_21 15 rfl rfl)
theorem dL_law_573 : decode cL_law 573 = .ok (.aload_n 3, 1) := dk_45 (dk_at dksL_law_21 18 rfl rfl)
theorem dL_law_574 : decode cL_law 574 = .ok (.iconst 0, 1) := dk_3 (dk_at dksL_law_21 19 rfl rfl)
theorem dL_law_575 : decode cL_law 575 = .ok (.laload, 1) := dk_47 (dk_at dksL_law_21 20 rfl rfl)
theorem dL_law_576 : decode cL_law 576 = .ok (.iload 6, 2) := dk_21 6 (dk_at dksL_law_21 21 rfl rfl)
theorem dL_law_578 : decode cL_law 578 = .ok (.i2l, 1) := dk_133 (dk_at dksL_law_21 23 rfl rfl)
theorem dL_law_579 : decode cL_law 579 = .ok (.lcmp, 1) := dk_148 (dk_at dksL_law_22 0 rfl rfl)
theorem dL_law_580 : decode cL_law 580 = .ok (.ifCond .eq 5, 3) := dk_153 0 5 (dk_at dksL_law_22 1 rfl rfl)
theorem dL_law_583 : decode cL_law 583 = .ok (.iconst 0, 1) := dk_3 (dk_at dksL_law_22 4 rfl rfl)
theorem dL_law_584 : decode cL_law 584 = .ok (.ireturn, 1) := dk_172 (dk_at dksL_law_22 5 rfl rfl)
theorem dL_law_585 : decode cL_law 585 = .ok (.goto 856, 3) := dk_167 3 88 (dk_at dksL_law_22 6 rfl rfl)
theorem dL_law_588 : decode cL_law 588 = .ok (.aload_n 1, 1) := dk_43 (dk_at dksL_law_22 9 rfl rfl)
theorem dL_law_589 : decode cL_law 589 = .ok (.aload_n 0, 1) := dk_42 (dk_at dksL_law_22 10 rfl rfl)
theorem dL_law_590 : decode cL_law 590 = .ok (.iload 4, 2) := dk_21 4 (dk_at dksL_law_22 11 rfl rfl)
theorem dL_law_592 : decode cL_law 592 = .ok (.iconst 1, 1) := dk_4 (dk_at dksL_law_22 13 rfl rfl)
theorem dL_law_593 : decode cL_law 593 = .ok (.iadd, 1) := dk_96 (dk_at dksL_law_22 14 rfl rfl)
theorem dL_law_594 : decode cL_law 594 = .ok (.iaload, 1) := dk_46 (dk_at dksL_law_22 15 rfl rfl)
theorem dL_law_595 : decode cL_law 595 = .ok (.aload_n 3, 1) := dk_45 (dk_at dksL_law_22 16 rfl rfl)
theorem dL_law_596 : decode cL_law 596 = .ok (.invokestatic 111, 3) := dk_184 0 111 (dk_at dksL_law_22 17 rfl rfl)
theorem dL_law_599 : decode cL_law 599 = .ok (.istore 5, 2) := dk_54 5 (dk_at dksL_law_22 20 rfl rfl)
theorem dL_law_601 : decode cL_law 601 = .ok (.aload_n 2, 1) := dk_44 (dk_at dksL_law_22 22 rfl rfl)
theorem dL_law_602 : decode cL_law 602 = .ok (.aload_n 0, 1) := dk_42 (dk_at dksL_law_22 23 rfl rfl)
theorem dL_law_603 : decode cL_law 603 = .ok (.iload 4, 2) := dk_21 4 (dk_at dksL_law_23 0 rfl rfl)
theorem dL_law_605 : decode cL_law 605 = .ok (.iconst 1, 1) := dk_4 (dk_at dksL_law_23 2 rfl rfl)
theorem dL_law_606 : decode cL_law 606 = .ok (.iadd, 1) := dk_96 (dk_at dksL_law_23 3 rfl rfl)
theorem dL_law_607 : decode cL_law 607 = .ok (.iaload, 1) := dk_46 (dk_at dksL_law_23 4 rfl rfl)
theorem dL_law_608 : decode cL_law 608 = .ok (.invokevirtual 113, 3) := dk_182 0 113 (dk_at dksL_law_23 5 rfl rfl)
theorem dL_law_611 : decode cL_law 611 = .ok (.istore 6, 2) := dk_54 6 (dk_at dksL_law_23 8 rfl rfl)
theorem dL_law_613 : decode cL_law 613 = .ok (.aload_n 2, 1) := dk_44 (dk_at dksL_law_23 10 rfl rfl)
theorem dL_law_614 : decode cL_law 614 = .ok (.invokevirtual 87, 3) := dk_182 0 87 (dk_at dksL_law_23 11 rfl rfl)
theorem dL_law_617 : decode cL_law 617 = .ok (.iload 5, 2) := dk_21 5 (dk_at dksL_law_23 14 rfl rfl)
theorem dL_law_619 : decode cL_law 619 = .ok (.if_icmp .eq 5, 3) := dk_159 0 5 (dk_at dksL_law_23 16 rfl rfl)
theorem dL_law_622 : decode cL_law 622 = .ok (.iconst 0, 1) := dk_3 (dk_at dksL_law_23 19 rfl rfl)
theorem dL_law_623 : decode cL_law 623 = .ok (.ireturn, 1) := dk_172 (dk_at dksL_law_23 20 rfl rfl)
theorem dL_law_624 : decode cL_law 624 = .ok (.iload 5, 2) := dk_21 5 (dk_at dksL_law_23 21 rfl rfl)
theorem dL_law_626 : decode cL_law 626 = .ok (.ifCond .ne 15, 3) := dk_154 0 15 (dk_at dksL_law_24 0 rfl rfl)
theorem dL_law_629 : decode cL_law 629 = .ok (.aload_n 3, 1) := dk_45 (dk_at dksL_law_24 3 rfl rfl)
theorem dL_law_630 : decode cL_law 630 = .ok (.iconst 0, 1) := dk_3 (dk_at dksL_law_24 4 rfl rfl)
theorem dL_law_631 : decode cL_law 631 = .ok (.laload, 1) := dk_47 (dk_at dksL_law_24 5 rfl rfl)
theorem dL_law_632 : decode cL_law 632 = .ok (.iload 6, 2) := dk_21 6 (dk_at dksL_law_24 6 rfl rfl)
theorem dL_law_634 : decode cL_law 634 = .ok (.i2l, 1) := dk_133 (dk_at dksL_law_24 8 rfl rfl)
theorem dL_law_635 : decode cL_law 635 = .ok (.lcmp, 1) := dk_148 (dk_at dksL_law_24 9 rfl rfl)
theorem dL_law_636 : decode cL_law 636 = .ok (.ifCond .eq 5, 3) := dk_153 0 5 (dk_at dksL_law_24 10 rfl rfl)
theorem dL_law_639 : decode cL_law 639 = .ok (.iconst 0, 1) := dk_3 (dk_at dksL_law_24 13 rfl rfl)
theorem dL_law_640 : decode cL_law 640 = .ok (.ireturn, 1) := dk_172 (dk_at dksL_law_24 14 rfl rfl)
theorem dL_law_641 : decode cL_law 641 = .ok (.goto 800, 3) := dk_167 3 32 (dk_at dksL_law_24 15 rfl rfl)
theorem dL_law_644 : decode cL_law 644 = .ok (.aload_n 1, 1) := dk_43 (dk_at dksL_law_24 18 rfl rfl)
theorem dL_law_645 : decode cL_law 645 = .ok (.aload_n 0, 1) := dk_42 (dk_at dksL_law_24 19 rfl rfl)
theorem dL_law_646 : decode cL_law 646 = .ok (.iload 4, 2) := dk_21 4 (dk_at dksL_law_24 20 rfl rfl)
theorem dL_law_648 : decode cL_law 648 = .ok (.iconst 1, 1) := dk_4 (dk_at dksL_law_24 22 rfl rfl)
theorem dL_law_649 : decode cL_law 649 = .ok (.iadd, 1) := dk_96 (dk_at dksL_law_24 23 rfl rfl)
theorem dL_law_650 : decode cL_law 650 = .ok (.iaload, 1) := dk_46 (dk_at dksL_law_25 0 rfl rfl)
theorem dL_law_651 : decode cL_law 651 = .ok (.aload_n 0, 1) := dk_42 (dk_at dksL_law_25 1 rfl rfl)
theorem dL_law_652 : decode cL_law 652 = .ok (.iload 4, 2) := dk_21 4 (dk_at dksL_law_25 2 rfl rfl)
theorem dL_law_654 : decode cL_law 654 = .ok (.iconst 2, 1) := dk_5 (dk_at dksL_law_25 4 rfl rfl)
theorem dL_law_655 : decode cL_law 655 = .ok (.iadd, 1) := dk_96 (dk_at dksL_law_25 5 rfl rfl)
theorem dL_law_656 : decode cL_law 656 = .ok (.iaload, 1) := dk_46 (dk_at dksL_law_25 6 rfl rfl)
theorem dL_law_657 : decode cL_law 657 = .ok (.aload_n 0, 1) := dk_42 (dk_at dksL_law_25 7 rfl rfl)
theorem dL_law_658 : decode cL_law 658 = .ok (.iload 4, 2) := dk_21 4 (dk_at dksL_law_25 8 rfl rfl)
theorem dL_law_660 : decode cL_law 660 = .ok (.iconst 3, 1) := dk_6 (dk_at dksL_law_25 10 rfl rfl)
theorem dL_law_661 : decode cL_law 661 = .ok (.iadd, 1) := dk_96 (dk_at dksL_law_25 11 rfl rfl)
theorem dL_law_662 : decode cL_law 662 = .ok (.iaload, 1) := dk_46 (dk_at dksL_law_25 12 rfl rfl)
theorem dL_law_663 : decode cL_law 663 = .ok (.aload_n 0, 1) := dk_42 (dk_at dksL_law_25 13 rfl rfl)
theorem dL_law_664 : decode cL_law 664 = .ok (.iload 4, 2) := dk_21 4 (dk_at dksL_law_25 14 rfl rfl)
theorem dL_law_666 : decode cL_law 666 = .ok (.iconst 4, 1) := dk_7 (dk_at dksL_law_25 16 rfl rfl)
theorem dL_law_667 : decode cL_law 667 = .ok (.iadd, 1) := dk_96 (dk_at dksL_law_25 17 rfl rfl)
theorem dL_law_668 : decode cL_law 668 = .ok (.iaload, 1) := dk_46 (dk_at dksL_law_25 18 rfl rfl)
theorem dL_law_669 : decode cL_law 669 = .ok (.ifCond .eq 7, 3) := dk_153 0 7 (dk_at dksL_law_25 19 rfl rfl)
theorem dL_law_672 : decode cL_law 672 = .ok (.iconst 1, 1) := dk_4 (dk_at dksL_law_25 22 rfl rfl)
theorem dL_law_673 : decode cL_law 673 = .ok (.goto 4, 3) := dk_167 0 4 (dk_at dksL_law_26 0 rfl rfl)
theorem dL_law_676 : decode cL_law 676 = .ok (.iconst 0, 1) := dk_3 (dk_at dksL_law_26 3 rfl rfl)
theorem dL_law_677 : decode cL_law 677 = .ok (.aload_n 3, 1) := dk_45 (dk_at dksL_law_26 4 rfl rfl)
theorem dL_law_678 : decode cL_law 678 = .ok (.invokestatic 114, 3) := dk_184 0 114 (dk_at dksL_law_26 5 rfl rfl)
theorem dL_law_681 : decode cL_law 681 = .ok (.istore 5, 2) := dk_54 5 (dk_at dksL_law_26 8 rfl rfl)
theorem dL_law_683 : decode cL_law 683 = .ok (.aload_n 2, 1) := dk_44 (dk_at dksL_law_26 10 rfl rfl)
theorem dL_law_684 : decode cL_law 684 = .ok (.aload_n 0, 1) := dk_42 (dk_at dksL_law_26 11 rfl rfl)
theorem dL_law_685 : decode cL_law 685 = .ok (.iload 4, 2) := dk_21 4 (dk_at dksL_law_26 12 rfl rfl)
theorem dL_law_687 : decode cL_law 687 = .ok (.iconst 1, 1) := dk_4 (dk_at dksL_law_26 14 rfl rfl)
theorem dL_law_688 : decode cL_law 688 = .ok (.iadd, 1) := dk_96 (dk_at dksL_law_26 15 rfl rfl)
theorem dL_law_689 : decode cL_law 689 = .ok (.iaload, 1) := dk_46 (dk_at dksL_law_26 16 rfl rfl)
theorem dL_law_690 : decode cL_law 690 = .ok (.aload_n 0, 1) := dk_42 (dk_at dksL_law_26 17 rfl rfl)
theorem dL_law_691 : decode cL_law 691 = .ok (.iload 4, 2) := dk_21 4 (dk_at dksL_law_26 18 rfl rfl)
theorem dL_law_693 : decode cL_law 693 = .ok (.iconst 2, 1) := dk_5 (dk_at dksL_law_26 20 rfl rfl)
theorem dL_law_694 : decode cL_law 694 = .ok (.iadd, 1) := dk_96 (dk_at dksL_law_26 21 rfl rfl)
theorem dL_law_695 : decode cL_law 695 = .ok (.iaload, 1) := dk_46 (dk_at dksL_law_26 22 rfl rfl)
theorem dL_law_696 : decode cL_law 696 = .ok (.aload_n 0, 1) := dk_42 (dk_at dksL_law_26 23 rfl rfl)
theorem dL_law_697 : decode cL_law 697 = .ok (.iload 4, 2) := dk_21 4 (dk_at dksL_law_27 0 rfl rfl)
theorem dL_law_699 : decode cL_law 699 = .ok (.iconst 3, 1) := dk_6 (dk_at dksL_law_27 2 rfl rfl)
theorem dL_law_700 : decode cL_law 700 = .ok (.iadd, 1) := dk_96 (dk_at dksL_law_27 3 rfl rfl)
theorem dL_law_701 : decode cL_law 701 = .ok (.iaload, 1) := dk_46 (dk_at dksL_law_27 4 rfl rfl)
theorem dL_law_702 : decode cL_law 702 = .ok (.aload_n 0, 1) := dk_42 (dk_at dksL_law_27 5 rfl rfl)
theorem dL_law_703 : decode cL_law 703 = .ok (.iload 4, 2) := dk_21 4 (dk_at dksL_law_27 6 rfl rfl)
theorem dL_law_705 : decode cL_law 705 = .ok (.iconst 4, 1) := dk_7 (dk_at dksL_law_27 8 rfl rfl)
theorem dL_law_706 : decode cL_law 706 = .ok (.iadd, 1) := dk_96 (dk_at dksL_law_27 9 rfl rfl)
theorem dL_law_707 : decode cL_law 707 = .ok (.iaload, 1) := dk_46 (dk_at dksL_law_27 10 rfl rfl)
theorem dL_law_708 : decode cL_law 708 = .ok (.ifCond .eq 7, 3) := dk_153 0 7 (dk_at dksL_law_27 11 rfl rfl)
theorem dL_law_711 : decode cL_law 711 = .ok (.iconst 1, 1) := dk_4 (dk_at dksL_law_27 14 rfl rfl)
theorem dL_law_712 : decode cL_law 712 = .ok (.goto 4, 3) := dk_167 0 4 (dk_at dksL_law_27 15 rfl rfl)
theorem dL_law_715 : decode cL_law 715 = .ok (.iconst 0, 1) := dk_3 (dk_at dksL_law_27 18 rfl rfl)
theorem dL_law_716 : decode cL_law 716 = .ok (.invokevirtual 117, 3) := dk_182 0 117 (dk_at dksL_law_27 19 rfl rfl)
theorem dL_law_719 : decode cL_law 719 = .ok (.istore 6, 2) := dk_54 6 (dk_at dksL_law_27 22 rfl rfl)
theorem dL_law_721 : decode cL_law 721 = .ok (.aload_n 2, 1) := dk_44 (dk_at dksL_law_28 0 rfl rfl)
theorem dL_law_722 : decode cL_law 722 = .ok (.invokevirtual 87, 3) := dk_182 0 87 (dk_at dksL_law_28 1 rfl rfl)
theorem dL_law_725 : decode cL_law 725 = .ok (.iload 5, 2) := dk_21 5 (dk_at dksL_law_28 4 rfl rfl)
theorem dL_law_727 : decode cL_law 727 = .ok (.if_icmp .eq 5, 3) := dk_159 0 5 (dk_at dksL_law_28 6 rfl rfl)
theorem dL_law_730 : decode cL_law 730 = .ok (.iconst 0, 1) := dk_3 (dk_at dksL_law_28 9 rfl rfl)
theorem dL_law_731 : decode cL_law 731 = .ok (.ireturn, 1) := dk_172 (dk_at dksL_law_28 10 rfl rfl)
theorem dL_law_732 : decode cL_law 732 = .ok (.iload 5, 2) := dk_21 5 (dk_at dksL_law_28 11 rfl rfl)
theorem dL_law_734 : decode cL_law 734 = .ok (.ifCond .ne 15, 3) := dk_154 0 15 (dk_at dksL_law_28 13 rfl rfl)
theorem dL_law_737 : decode cL_law 737 = .ok (.aload_n 3, 1) := dk_45 (dk_at dksL_law_28 16 rfl rfl)
theorem dL_law_738 : decode cL_law 738 = .ok (.iconst 0, 1) := dk_3 (dk_at dksL_law_28 17 rfl rfl)
theorem dL_law_739 : decode cL_law 739 = .ok (.laload, 1) := dk_47 (dk_at dksL_law_28 18 rfl rfl)
theorem dL_law_740 : decode cL_law 740 = .ok (.iload 6, 2) := dk_21 6 (dk_at dksL_law_28 19 rfl rfl)
theorem dL_law_742 : decode cL_law 742 = .ok (.i2l, 1) := dk_133 (dk_at dksL_law_28 21 rfl rfl)
theorem dL_law_743 : decode cL_law 743 = .ok (.lcmp, 1) := dk_148 (dk_at dksL_law_28 22 rfl rfl)
theorem dL_law_744 : decode cL_law 744 = .ok (.ifCond .eq 5, 3) := dk_153 0 5 (dk_at dksL_law_29 0 rfl rfl)
theorem dL_law_747 : decode cL_law 747 = .ok (.iconst 0, 1) := dk_3 (dk_at dksL_law_29 3 rfl rfl)
theorem dL_law_748 : decode cL_law 748 = .ok (.ireturn, 1) := dk_172 (dk_at dksL_law_29 4 rfl rfl)
theorem dL_law_749 : decode cL_law 749 = .ok (.goto 692, 3) := dk_167 2 180 (dk_at dksL_law_29 5 rfl rfl)
theorem dL_law_752 : decode cL_law 752 = .ok (.aload_n 1, 1) := dk_43 (dk_at dksL_law_29 8 rfl rfl)
theorem dL_law_753 : decode cL_law 753 = .ok (.aload_n 0, 1) := dk_42 (dk_at dksL_law_29 9 rfl rfl)
theorem dL_law_754 : decode cL_law 754 = .ok (.iload 4, 2) := dk_21 4 (dk_at dksL_law_29 10 rfl rfl)
theorem dL_law_756 : decode cL_law 756 = .ok (.iconst 1, 1) := dk_4 (dk_at dksL_law_29 12 rfl rfl)
theorem dL_law_757 : decode cL_law 757 = .ok (.iadd, 1) := dk_96 (dk_at dksL_law_29 13 rfl rfl)
theorem dL_law_758 : decode cL_law 758 = .ok (.iaload, 1) := dk_46 (dk_at dksL_law_29 14 rfl rfl)
theorem dL_law_759 : decode cL_law 759 = .ok (.aload_n 0, 1) := dk_42 (dk_at dksL_law_29 15 rfl rfl)
theorem dL_law_760 : decode cL_law 760 = .ok (.iload 4, 2) := dk_21 4 (dk_at dksL_law_29 16 rfl rfl)
theorem dL_law_762 : decode cL_law 762 = .ok (.iconst 2, 1) := dk_5 (dk_at dksL_law_29 18 rfl rfl)
theorem dL_law_763 : decode cL_law 763 = .ok (.iadd, 1) := dk_96 (dk_at dksL_law_29 19 rfl rfl)
theorem dL_law_764 : decode cL_law 764 = .ok (.iaload, 1) := dk_46 (dk_at dksL_law_29 20 rfl rfl)
theorem dL_law_765 : decode cL_law 765 = .ok (.aload_n 0, 1) := dk_42 (dk_at dksL_law_29 21 rfl rfl)
theorem dL_law_766 : decode cL_law 766 = .ok (.iload 4, 2) := dk_21 4 (dk_at dksL_law_29 22 rfl rfl)
theorem dL_law_768 : decode cL_law 768 = .ok (.iconst 3, 1) := dk_6 (dk_at dksL_law_30 0 rfl rfl)
theorem dL_law_769 : decode cL_law 769 = .ok (.iadd, 1) := dk_96 (dk_at dksL_law_30 1 rfl rfl)
theorem dL_law_770 : decode cL_law 770 = .ok (.iaload, 1) := dk_46 (dk_at dksL_law_30 2 rfl rfl)
theorem dL_law_771 : decode cL_law 771 = .ok (.aload_n 3, 1) := dk_45 (dk_at dksL_law_30 3 rfl rfl)
theorem dL_law_772 : decode cL_law 772 = .ok (.invokestatic 118, 3) := dk_184 0 118 (dk_at dksL_law_30 4 rfl rfl)
theorem dL_law_775 : decode cL_law 775 = .ok (.istore 5, 2) := dk_54 5 (dk_at dksL_law_30 7 rfl rfl)
theorem dL_law_777 : decode cL_law 777 = .ok (.aload_n 2, 1) := dk_44 (dk_at dksL_law_30 9 rfl rfl)
theorem dL_law_778 : decode cL_law 778 = .ok (.aload_n 0, 1) := dk_42 (dk_at dksL_law_30 10 rfl rfl)
theorem dL_law_779 : decode cL_law 779 = .ok (.iload 4, 2) := dk_21 4 (dk_at dksL_law_30 11 rfl rfl)
theorem dL_law_781 : decode cL_law 781 = .ok (.iconst 1, 1) := dk_4 (dk_at dksL_law_30 13 rfl rfl)
theorem dL_law_782 : decode cL_law 782 = .ok (.iadd, 1) := dk_96 (dk_at dksL_law_30 14 rfl rfl)
theorem dL_law_783 : decode cL_law 783 = .ok (.iaload, 1) := dk_46 (dk_at dksL_law_30 15 rfl rfl)
theorem dL_law_784 : decode cL_law 784 = .ok (.aload_n 0, 1) := dk_42 (dk_at dksL_law_30 16 rfl rfl)
theorem dL_law_785 : decode cL_law 785 = .ok (.iload 4, 2) := dk_21 4 (dk_at dksL_law_30 17 rfl rfl)
theorem dL_law_787 : decode cL_law 787 = .ok (.iconst 2, 1) := dk_5 (dk_at dksL_law_30 19 rfl rfl)
theorem dL_law_788 : decode cL_law 788 = .ok (.iadd, 1) := dk_96 (dk_at dksL_law_30 20 rfl rfl)
theorem dL_law_789 : decode cL_law 789 = .ok (.iaload, 1) := dk_46 (dk_at dksL_law_30 21 rfl rfl)
theorem dL_law_790 : decode cL_law 790 = .ok (.aload_n 0, 1) := dk_42 (dk_at dksL_law_30 22 rfl rfl)
theorem dL_law_791 : decode cL_law 791 = .ok (.iload 4, 2) := dk_21 4 (dk_at dksL_law_31 0 rfl rfl)
theorem dL_law_793 : decode cL_law 793 = .ok (.iconst 3, 1) := dk_6 (dk_at dksL_law_31 2 rfl rfl)
theorem dL_law_794 : decode cL_law 794 = .ok (.iadd, 1) := dk_96 (dk_at dksL_law_31 3 rfl rfl)
theorem dL_law_795 : decode cL_law 795 = .ok (.iaload, 1) := dk_46 (dk_at dksL_law_31 4 rfl rfl)
theorem dL_law_796 : decode cL_law 796 = .ok (.invokevirtual 120, 3) := dk_182 0 120 (dk_at dksL_law_31 5 rfl rfl)
theorem dL_law_799 : decode cL_law 799 = .ok (.istore 6, 2) := dk_54 6 (dk_at dksL_law_31 8 rfl rfl)
theorem dL_law_801 : decode cL_law 801 = .ok (.aload_n 2, 1) := dk_44 (dk_at dksL_law_31 10 rfl rfl)
theorem dL_law_802 : decode cL_law 802 = .ok (.invokevirtual 87, 3) := dk_182 0 87 (dk_at dksL_law_31 11 rfl rfl)
theorem dL_law_805 : decode cL_law 805 = .ok (.iload 5, 2) := dk_21 5 (dk_at dksL_law_31 14 rfl rfl)
theorem dL_law_807 : decode cL_law 807 = .ok (.if_icmp .eq 5, 3) := dk_159 0 5 (dk_at dksL_law_31 16 rfl rfl)
theorem dL_law_810 : decode cL_law 810 = .ok (.iconst 0, 1) := dk_3 (dk_at dksL_law_31 19 rfl rfl)
theorem dL_law_811 : decode cL_law 811 = .ok (.ireturn, 1) := dk_172 (dk_at dksL_law_31 20 rfl rfl)
theorem dL_law_812 : decode cL_law 812 = .ok (.iload 5, 2) := dk_21 5 (dk_at dksL_law_31 21 rfl rfl)
theorem dL_law_814 : decode cL_law 814 = .ok (.ifCond .ne 15, 3) := dk_154 0 15 (dk_at dksL_law_32 0 rfl rfl)
theorem dL_law_817 : decode cL_law 817 = .ok (.aload_n 3, 1) := dk_45 (dk_at dksL_law_32 3 rfl rfl)
theorem dL_law_818 : decode cL_law 818 = .ok (.iconst 0, 1) := dk_3 (dk_at dksL_law_32 4 rfl rfl)
theorem dL_law_819 : decode cL_law 819 = .ok (.laload, 1) := dk_47 (dk_at dksL_law_32 5 rfl rfl)
theorem dL_law_820 : decode cL_law 820 = .ok (.iload 6, 2) := dk_21 6 (dk_at dksL_law_32 6 rfl rfl)
theorem dL_law_822 : decode cL_law 822 = .ok (.i2l, 1) := dk_133 (dk_at dksL_law_32 8 rfl rfl)
theorem dL_law_823 : decode cL_law 823 = .ok (.lcmp, 1) := dk_148 (dk_at dksL_law_32 9 rfl rfl)
theorem dL_law_824 : decode cL_law 824 = .ok (.ifCond .eq 5, 3) := dk_153 0 5 (dk_at dksL_law_32 10 rfl rfl)
theorem dL_law_827 : decode cL_law 827 = .ok (.iconst 0, 1) := dk_3 (dk_at dksL_law_32 13 rfl rfl)
theorem dL_law_828 : decode cL_law 828 = .ok (.ireturn, 1) := dk_172 (dk_at dksL_law_32 14 rfl rfl)
theorem dL_law_829 : decode cL_law 829 = .ok (.goto 612, 3) := dk_167 2 100 (dk_at dksL_law_32 15 rfl rfl)
theorem dL_law_832 : decode cL_law 832 = .ok (.aload_n 1, 1) := dk_43 (dk_at dksL_law_32 18 rfl rfl)
theorem dL_law_833 : decode cL_law 833 = .ok (.aload_n 0, 1) := dk_42 (dk_at dksL_law_32 19 rfl rfl)
theorem dL_law_834 : decode cL_law 834 = .ok (.iload 4, 2) := dk_21 4 (dk_at dksL_law_32 20 rfl rfl)
theorem dL_law_836 : decode cL_law 836 = .ok (.iconst 1, 1) := dk_4 (dk_at dksL_law_32 22 rfl rfl)
theorem dL_law_837 : decode cL_law 837 = .ok (.iadd, 1) := dk_96 (dk_at dksL_law_32 23 rfl rfl)
theorem dL_law_838 : decode cL_law 838 = .ok (.iaload, 1) := dk_46 (dk_at dksL_law_33 0 rfl rfl)
theorem dL_law_839 : decode cL_law 839 = .ok (.aload_n 0, 1) := dk_42 (dk_at dksL_law_33 1 rfl rfl)
theorem dL_law_840 : decode cL_law 840 = .ok (.iload 4, 2) := dk_21 4 (dk_at dksL_law_33 2 rfl rfl)
theorem dL_law_842 : decode cL_law 842 = .ok (.iconst 2, 1) := dk_5 (dk_at dksL_law_33 4 rfl rfl)
theorem dL_law_843 : decode cL_law 843 = .ok (.iadd, 1) := dk_96 (dk_at dksL_law_33 5 rfl rfl)
theorem dL_law_844 : decode cL_law 844 = .ok (.iaload, 1) := dk_46 (dk_at dksL_law_33 6 rfl rfl)
theorem dL_law_845 : decode cL_law 845 = .ok (.aload_n 3, 1) := dk_45 (dk_at dksL_law_33 7 rfl rfl)
theorem dL_law_846 : decode cL_law 846 = .ok (.invokestatic 121, 3) := dk_184 0 121 (dk_at dksL_law_33 8 rfl rfl)
theorem dL_law_849 : decode cL_law 849 = .ok (.istore 5, 2) := dk_54 5 (dk_at dksL_law_33 11 rfl rfl)
theorem dL_law_851 : decode cL_law 851 = .ok (.aload_n 2, 1) := dk_44 (dk_at dksL_law_33 13 rfl rfl)
theorem dL_law_852 : decode cL_law 852 = .ok (.aload_n 0, 1) := dk_42 (dk_at dksL_law_33 14 rfl rfl)
theorem dL_law_853 : decode cL_law 853 = .ok (.iload 4, 2) := dk_21 4 (dk_at dksL_law_33 15 rfl rfl)
theorem dL_law_855 : decode cL_law 855 = .ok (.iconst 1, 1) := dk_4 (dk_at dksL_law_33 17 rfl rfl)
theorem dL_law_856 : decode cL_law 856 = .ok (.iadd, 1) := dk_96 (dk_at dksL_law_33 18 rfl rfl)
theorem dL_law_857 : decode cL_law 857 = .ok (.iaload, 1) := dk_46 (dk_at dksL_law_33 19 rfl rfl)
theorem dL_law_858 : decode cL_law 858 = .ok (.aload_n 0, 1) := dk_42 (dk_at dksL_law_33 20 rfl rfl)
theorem dL_law_859 : decode cL_law 859 = .ok (.iload 4, 2) := dk_21 4 (dk_at dksL_law_33 21 rfl rfl)
theorem dL_law_861 : decode cL_law 861 = .ok (.iconst 2, 1) := dk_5 (dk_at dksL_law_33 23 rfl rfl)
theorem dL_law_862 : decode cL_law 862 = .ok (.iadd, 1) := dk_96 (dk_at dksL_law_34 0 rfl rfl)
theorem dL_law_863 : decode cL_law 863 = .ok (.iaload, 1) := dk_46 (dk_at dksL_law_34 1 rfl rfl)
theorem dL_law_864 : decode cL_law 864 = .ok (.invokevirtual 123, 3) := dk_182 0 123 (dk_at dksL_law_34 2 rfl rfl)
theorem dL_law_867 : decode cL_law 867 = .ok (.istore 6, 2) := dk_54 6 (dk_at dksL_law_34 5 rfl rfl)
theorem dL_law_869 : decode cL_law 869 = .ok (.aload_n 2, 1) := dk_44 (dk_at dksL_law_34 7 rfl rfl)
theorem dL_law_870 : decode cL_law 870 = .ok (.invokevirtual 87, 3) := dk_182 0 87 (dk_at dksL_law_34 8 rfl rfl)
theorem dL_law_873 : decode cL_law 873 = .ok (.iload 5, 2) := dk_21 5 (dk_at dksL_law_34 11 rfl rfl)
theorem dL_law_875 : decode cL_law 875 = .ok (.if_icmp .eq 5, 3) := dk_159 0 5 (dk_at dksL_law_34 13 rfl rfl)
theorem dL_law_878 : decode cL_law 878 = .ok (.iconst 0, 1) := dk_3 (dk_at dksL_law_34 16 rfl rfl)
theorem dL_law_879 : decode cL_law 879 = .ok (.ireturn, 1) := dk_172 (dk_at dksL_law_34 17 rfl rfl)
theorem dL_law_880 : decode cL_law 880 = .ok (.iload 5, 2) := dk_21 5 (dk_at dksL_law_34 18 rfl rfl)
theorem dL_law_882 : decode cL_law 882 = .ok (.ifCond .ne 15, 3) := dk_154 0 15 (dk_at dksL_law_34 20 rfl rfl)
theorem dL_law_885 : decode cL_law 885 = .ok (.aload_n 3, 1) := dk_45 (dk_at dksL_law_34 23 rfl rfl)
theorem dL_law_886 : decode cL_law 886 = .ok (.iconst 0, 1) := dk_3 (dk_at dksL_law_35 0 rfl rfl)
theorem dL_law_887 : decode cL_law 887 = .ok (.laload, 1) := dk_47 (dk_at dksL_law_35 1 rfl rfl)
theorem dL_law_888 : decode cL_law 888 = .ok (.iload 6, 2) := dk_21 6 (dk_at dksL_law_35 2 rfl rfl)
theorem dL_law_890 : decode cL_law 890 = .ok (.i2l, 1) := dk_133 (dk_at dksL_law_35 4 rfl rfl)
theorem dL_law_891 : decode cL_law 891 = .ok (.lcmp, 1) := dk_148 (dk_at dksL_law_35 5 rfl rfl)
theorem dL_law_892 : decode cL_law 892 = .ok (.ifCond .eq 5, 3) := dk_153 0 5 (dk_at dksL_law_35 6 rfl rfl)
theorem dL_law_895 : decode cL_law 895 = .ok (.iconst 0, 1) := dk_3 (dk_at dksL_law_35 9 rfl rfl)
theorem dL_law_896 : decode cL_law 896 = .ok (.ireturn, 1) := dk_172 (dk_at dksL_law_35 10 rfl rfl)
theorem dL_law_897 : decode cL_law 897 = .ok (.goto 544, 3) := dk_167 2 32 (dk_at dksL_law_35 11 rfl rfl)
theorem dL_law_900 : decode cL_law 900 = .ok (.aload_n 1, 1) := dk_43 (dk_at dksL_law_35 14 rfl rfl)
theorem dL_law_901 : decode cL_law 901 = .ok (.aload_n 0, 1) := dk_42 (dk_at dksL_law_35 15 rfl rfl)
theorem dL_law_902 : decode cL_law 902 = .ok (.iload 4, 2) := dk_21 4 (dk_at dksL_law_35 16 rfl rfl)
theorem dL_law_904 : decode cL_law 904 = .ok (.iconst 1, 1) := dk_4 (dk_at dksL_law_35 18 rfl rfl)
theorem dL_law_905 : decode cL_law 905 = .ok (.iadd, 1) := dk_96 (dk_at dksL_law_35 19 rfl rfl)
theorem dL_law_906 : decode cL_law 906 = .ok (.iaload, 1) := dk_46 (dk_at dksL_law_35 20 rfl rfl)
theorem dL_law_907 : decode cL_law 907 = .ok (.aload_n 0, 1) := dk_42 (dk_at dksL_law_35 21 rfl rfl)
theorem dL_law_908 : decode cL_law 908 = .ok (.iload 4, 2) := dk_21 4 (dk_at dksL_law_35 22 rfl rfl)
theorem dL_law_910 : decode cL_law 910 = .ok (.iconst 2, 1) := dk_5 (dk_at dksL_law_36 0 rfl rfl)
theorem dL_law_911 : decode cL_law 911 = .ok (.iadd, 1) := dk_96 (dk_at dksL_law_36 1 rfl rfl)
theorem dL_law_912 : decode cL_law 912 = .ok (.iaload, 1) := dk_46 (dk_at dksL_law_36 2 rfl rfl)
theorem dL_law_913 : decode cL_law 913 = .ok (.aload_n 0, 1) := dk_42 (dk_at dksL_law_36 3 rfl rfl)
theorem dL_law_914 : decode cL_law 914 = .ok (.iload 4, 2) := dk_21 4 (dk_at dksL_law_36 4 rfl rfl)
theorem dL_law_916 : decode cL_law 916 = .ok (.iconst 3, 1) := dk_6 (dk_at dksL_law_36 6 rfl rfl)
theorem dL_law_917 : decode cL_law 917 = .ok (.iadd, 1) := dk_96 (dk_at dksL_law_36 7 rfl rfl)
theorem dL_law_918 : decode cL_law 918 = .ok (.iaload, 1) := dk_46 (dk_at dksL_law_36 8 rfl rfl)
theorem dL_law_919 : decode cL_law 919 = .ok (.aload_n 3, 1) := dk_45 (dk_at dksL_law_36 9 rfl rfl)
theorem dL_law_920 : decode cL_law 920 = .ok (.invokestatic 124, 3) := dk_184 0 124 (dk_at dksL_law_36 10 rfl rfl)
theorem dL_law_923 : decode cL_law 923 = .ok (.istore 5, 2) := dk_54 5 (dk_at dksL_law_36 13 rfl rfl)
theorem dL_law_925 : decode cL_law 925 = .ok (.aload_n 2, 1) := dk_44 (dk_at dksL_law_36 15 rfl rfl)
theorem dL_law_926 : decode cL_law 926 = .ok (.aload_n 0, 1) := dk_42 (dk_at dksL_law_36 16 rfl rfl)
theorem dL_law_927 : decode cL_law 927 = .ok (.iload 4, 2) := dk_21 4 (dk_at dksL_law_36 17 rfl rfl)
theorem dL_law_929 : decode cL_law 929 = .ok (.iconst 1, 1) := dk_4 (dk_at dksL_law_36 19 rfl rfl)
theorem dL_law_930 : decode cL_law 930 = .ok (.iadd, 1) := dk_96 (dk_at dksL_law_36 20 rfl rfl)
theorem dL_law_931 : decode cL_law 931 = .ok (.iaload, 1) := dk_46 (dk_at dksL_law_36 21 rfl rfl)
theorem dL_law_932 : decode cL_law 932 = .ok (.aload_n 0, 1) := dk_42 (dk_at dksL_law_36 22 rfl rfl)
theorem dL_law_933 : decode cL_law 933 = .ok (.iload 4, 2) := dk_21 4 (dk_at dksL_law_37 0 rfl rfl)
theorem dL_law_935 : decode cL_law 935 = .ok (.iconst 2, 1) := dk_5 (dk_at dksL_law_37 2 rfl rfl)
theorem dL_law_936 : decode cL_law 936 = .ok (.iadd, 1) := dk_96 (dk_at dksL_law_37 3 rfl rfl)
theorem dL_law_937 : decode cL_law 937 = .ok (.iaload, 1) := dk_46 (dk_at dksL_law_37 4 rfl rfl)
theorem dL_law_938 : decode cL_law 938 = .ok (.aload_n 0, 1) := dk_42 (dk_at dksL_law_37 5 rfl rfl)
theorem dL_law_939 : decode cL_law 939 = .ok (.iload 4, 2) := dk_21 4 (dk_at dksL_law_37 6 rfl rfl)
theorem dL_law_941 : decode cL_law 941 = .ok (.iconst 3, 1) := dk_6 (dk_at dksL_law_37 8 rfl rfl)
theorem dL_law_942 : decode cL_law 942 = .ok (.iadd, 1) := dk_96 (dk_at dksL_law_37 9 rfl rfl)
theorem dL_law_943 : decode cL_law 943 = .ok (.iaload, 1) := dk_46 (dk_at dksL_law_37 10 rfl rfl)
theorem dL_law_944 : decode cL_law 944 = .ok (.invokevirtual 126, 3) := dk_182 0 126 (dk_at dksL_law_37 11 rfl rfl)
theorem dL_law_947 : decode cL_law 947 = .ok (.istore 6, 2) := dk_54 6 (dk_at dksL_law_37 14 rfl rfl)
theorem dL_law_949 : decode cL_law 949 = .ok (.aload_n 2, 1) := dk_44 (dk_at dksL_law_37 16 rfl rfl)
theorem dL_law_950 : decode cL_law 950 = .ok (.invokevirtual 87, 3) := dk_182 0 87 (dk_at dksL_law_37 17 rfl rfl)
theorem dL_law_953 : decode cL_law 953 = .ok (.iload 5, 2) := dk_21 5 (dk_at dksL_law_37 20 rfl rfl)
theorem dL_law_955 : decode cL_law 955 = .ok (.if_icmp .eq 5, 3) := dk_159 0 5 (dk_at dksL_law_38 0 rfl rfl)
theorem dL_law_958 : decode cL_law 958 = .ok (.iconst 0, 1) := dk_3 (dk_at dksL_law_38 3 rfl rfl)
theorem dL_law_959 : decode cL_law 959 = .ok (.ireturn, 1) := dk_172 (dk_at dksL_law_38 4 rfl rfl)
theorem dL_law_960 : decode cL_law 960 = .ok (.iload 5, 2) := dk_21 5 (dk_at dksL_law_38 5 rfl rfl)
theorem dL_law_962 : decode cL_law 962 = .ok (.ifCond .ne 15, 3) := dk_154 0 15 (dk_at dksL_law_38 7 rfl rfl)
theorem dL_law_965 : decode cL_law 965 = .ok (.aload_n 3, 1) := dk_45 (dk_at dksL_law_38 10 rfl rfl)
theorem dL_law_966 : decode cL_law 966 = .ok (.iconst 0, 1) := dk_3 (dk_at dksL_law_38 11 rfl rfl)
theorem dL_law_967 : decode cL_law 967 = .ok (.laload, 1) := dk_47 (dk_at dksL_law_38 12 rfl rfl)
theorem dL_law_968 : decode cL_law 968 = .ok (.iload 6, 2) := dk_21 6 (dk_at dksL_law_38 13 rfl rfl)
theorem dL_law_970 : decode cL_law 970 = .ok (.i2l, 1) := dk_133 (dk_at dksL_law_38 15 rfl rfl)
theorem dL_law_971 : decode cL_law 971 = .ok (.lcmp, 1) := dk_148 (dk_at dksL_law_38 16 rfl rfl)
theorem dL_law_972 : decode cL_law 972 = .ok (.ifCond .eq 5, 3) := dk_153 0 5 (dk_at dksL_law_38 17 rfl rfl)
theorem dL_law_975 : decode cL_law 975 = .ok (.iconst 0, 1) := dk_3 (dk_at dksL_law_38 20 rfl rfl)
theorem dL_law_976 : decode cL_law 976 = .ok (.ireturn, 1) := dk_172 (dk_at dksL_law_38 21 rfl rfl)
theorem dL_law_977 : decode cL_law 977 = .ok (.goto 464, 3) := dk_167 1 208 (dk_at dksL_law_39 0 rfl rfl)
theorem dL_law_980 : decode cL_law 980 = .ok (.aload_n 1, 1) := dk_43 (dk_at dksL_law_39 3 rfl rfl)
theorem dL_law_981 : decode cL_law 981 = .ok (.aload_n 0, 1) := dk_42 (dk_at dksL_law_39 4 rfl rfl)
theorem dL_law_982 : decode cL_law 982 = .ok (.iload 4, 2) := dk_21 4 (dk_at dksL_law_39 5 rfl rfl)
theorem dL_law_984 : decode cL_law 984 = .ok (.iconst 1, 1) := dk_4 (dk_at dksL_law_39 7 rfl rfl)
theorem dL_law_985 : decode cL_law 985 = .ok (.iadd, 1) := dk_96 (dk_at dksL_law_39 8 rfl rfl)
theorem dL_law_986 : decode cL_law 986 = .ok (.iaload, 1) := dk_46 (dk_at dksL_law_39 9 rfl rfl)
theorem dL_law_987 : decode cL_law 987 = .ok (.aload_n 0, 1) := dk_42 (dk_at dksL_law_39 10 rfl rfl)
theorem dL_law_988 : decode cL_law 988 = .ok (.iload 4, 2) := dk_21 4 (dk_at dksL_law_39 11 rfl rfl)
theorem dL_law_990 : decode cL_law 990 = .ok (.iconst 2, 1) := dk_5 (dk_at dksL_law_39 13 rfl rfl)
theorem dL_law_991 : decode cL_law 991 = .ok (.iadd, 1) := dk_96 (dk_at dksL_law_39 14 rfl rfl)
theorem dL_law_992 : decode cL_law 992 = .ok (.iaload, 1) := dk_46 (dk_at dksL_law_39 15 rfl rfl)
theorem dL_law_993 : decode cL_law 993 = .ok (.aload_n 3, 1) := dk_45 (dk_at dksL_law_39 16 rfl rfl)
theorem dL_law_994 : decode cL_law 994 = .ok (.invokestatic 127, 3) := dk_184 0 127 (dk_at dksL_law_39 17 rfl rfl)
theorem dL_law_997 : decode cL_law 997 = .ok (.istore 5, 2) := dk_54 5 (dk_at dksL_law_39 20 rfl rfl)
theorem dL_law_999 : decode cL_law 999 = .ok (.aload_n 2, 1) := dk_44 (dk_at dksL_law_39 22 rfl rfl)
theorem dL_law_1000 : decode cL_law 1000 = .ok (.aload_n 0, 1) := dk_42 (dk_at dksL_law_39 23 rfl rfl)
theorem dL_law_1001 : decode cL_law 1001 = .ok (.iload 4, 2) := dk_21 4 (dk_at dksL_law_40 0 rfl rfl)
theorem dL_law_1003 : decode cL_law 1003 = .ok (.iconst 1, 1) := dk_4 (dk_at dksL_law_40 2 rfl rfl)
theorem dL_law_1004 : decode cL_law 1004 = .ok (.iadd, 1) := dk_96 (dk_at dksL_law_40 3 rfl rfl)
theorem dL_law_1005 : decode cL_law 1005 = .ok (.iaload, 1) := dk_46 (dk_at dksL_law_40 4 rfl rfl)
theorem dL_law_1006 : decode cL_law 1006 = .ok (.aload_n 0, 1) := dk_42 (dk_at dksL_law_40 5 rfl rfl)
theorem dL_law_1007 : decode cL_law 1007 = .ok (.iload 4, 2) := dk_21 4 (dk_at dksL_law_40 6 rfl rfl)
theorem dL_law_1009 : decode cL_law 1009 = .ok (.iconst 2, 1) := dk_5 (dk_at dksL_law_40 8 rfl rfl)
theorem dL_law_1010 : decode cL_law 1010 = .ok (.iadd, 1) := dk_96 (dk_at dksL_law_40 9 rfl rfl)
theorem dL_law_1011 : decode cL_law 1011 = .ok (.iaload, 1) := dk_46 (dk_at dksL_law_40 10 rfl rfl)
theorem dL_law_1012 : decode cL_law 1012 = .ok (.invokevirtual 129, 3) := dk_182 0 129 (dk_at dksL_law_40 11 rfl rfl)
theorem dL_law_1015 : decode cL_law 1015 = .ok (.istore 6, 2) := dk_54 6 (dk_at dksL_law_40 14 rfl rfl)
theorem dL_law_1017 : decode cL_law 1017 = .ok (.aload_n 2, 1) := dk_44 (dk_at dksL_law_40 16 rfl rfl)
theorem dL_law_1018 : decode cL_law 1018 = .ok (.invokevirtual 87, 3) := dk_182 0 87 (dk_at dksL_law_40 17 rfl rfl)
theorem dL_law_1021 : decode cL_law 1021 = .ok (.iload 5, 2) := dk_21 5 (dk_at dksL_law_40 20 rfl rfl)
theorem dL_law_1023 : decode cL_law 1023 = .ok (.if_icmp .eq 5, 3) := dk_159 0 5 (dk_at dksL_law_41 0 rfl rfl)
theorem dL_law_1026 : decode cL_law 1026 = .ok (.iconst 0, 1) := dk_3 (dk_at dksL_law_41 3 rfl rfl)
theorem dL_law_1027 : decode cL_law 1027 = .ok (.ireturn, 1) := dk_172 (dk_at dksL_law_41 4 rfl rfl)
theorem dL_law_1028 : decode cL_law 1028 = .ok (.iload 5, 2) := dk_21 5 (dk_at dksL_law_41 5 rfl rfl)
theorem dL_law_1030 : decode cL_law 1030 = .ok (.ifCond .ne 15, 3) := dk_154 0 15 (dk_at dksL_law_41 7 rfl rfl)
theorem dL_law_1033 : decode cL_law 1033 = .ok (.aload_n 3, 1) := dk_45 (dk_at dksL_law_41 10 rfl rfl)
theorem dL_law_1034 : decode cL_law 1034 = .ok (.iconst 0, 1) := dk_3 (dk_at dksL_law_41 11 rfl rfl)
theorem dL_law_1035 : decode cL_law 1035 = .ok (.laload, 1) := dk_47 (dk_at dksL_law_41 12 rfl rfl)
theorem dL_law_1036 : decode cL_law 1036 = .ok (.iload 6, 2) := dk_21 6 (dk_at dksL_law_41 13 rfl rfl)
theorem dL_law_1038 : decode cL_law 1038 = .ok (.i2l, 1) := dk_133 (dk_at dksL_law_41 15 rfl rfl)
theorem dL_law_1039 : decode cL_law 1039 = .ok (.lcmp, 1) := dk_148 (dk_at dksL_law_41 16 rfl rfl)
theorem dL_law_1040 : decode cL_law 1040 = .ok (.ifCond .eq 5, 3) := dk_153 0 5 (dk_at dksL_law_41 17 rfl rfl)
theorem dL_law_1043 : decode cL_law 1043 = .ok (.iconst 0, 1) := dk_3 (dk_at dksL_law_41 20 rfl rfl)
theorem dL_law_1044 : decode cL_law 1044 = .ok (.ireturn, 1) := dk_172 (dk_at dksL_law_41 21 rfl rfl)
theorem dL_law_1045 : decode cL_law 1045 = .ok (.goto 396, 3) := dk_167 1 140 (dk_at dksL_law_42 0 rfl rfl)
theorem dL_law_1048 : decode cL_law 1048 = .ok (.aload_n 1, 1) := dk_43 (dk_at dksL_law_42 3 rfl rfl)
theorem dL_law_1049 : decode cL_law 1049 = .ok (.aload_n 0, 1) := dk_42 (dk_at dksL_law_42 4 rfl rfl)
theorem dL_law_1050 : decode cL_law 1050 = .ok (.iload 4, 2) := dk_21 4 (dk_at dksL_law_42 5 rfl rfl)
theorem dL_law_1052 : decode cL_law 1052 = .ok (.iconst 1, 1) := dk_4 (dk_at dksL_law_42 7 rfl rfl)
theorem dL_law_1053 : decode cL_law 1053 = .ok (.iadd, 1) := dk_96 (dk_at dksL_law_42 8 rfl rfl)
theorem dL_law_1054 : decode cL_law 1054 = .ok (.iaload, 1) := dk_46 (dk_at dksL_law_42 9 rfl rfl)
theorem dL_law_1055 : decode cL_law 1055 = .ok (.aload_n 0, 1) := dk_42 (dk_at dksL_law_42 10 rfl rfl)
theorem dL_law_1056 : decode cL_law 1056 = .ok (.iload 4, 2) := dk_21 4 (dk_at dksL_law_42 11 rfl rfl)
theorem dL_law_1058 : decode cL_law 1058 = .ok (.iconst 2, 1) := dk_5 (dk_at dksL_law_42 13 rfl rfl)
theorem dL_law_1059 : decode cL_law 1059 = .ok (.iadd, 1) := dk_96 (dk_at dksL_law_42 14 rfl rfl)
theorem dL_law_1060 : decode cL_law 1060 = .ok (.iaload, 1) := dk_46 (dk_at dksL_law_42 15 rfl rfl)
theorem dL_law_1061 : decode cL_law 1061 = .ok (.aload_n 3, 1) := dk_45 (dk_at dksL_law_42 16 rfl rfl)
theorem dL_law_1062 : decode cL_law 1062 = .ok (.invokestatic 130, 3) := dk_184 0 130 (dk_at dksL_law_42 17 rfl rfl)
theorem dL_law_1065 : decode cL_law 1065 = .ok (.istore 5, 2) := dk_54 5 (dk_at dksL_law_42 20 rfl rfl)
theorem dL_law_1067 : decode cL_law 1067 = .ok (.aload_n 2, 1) := dk_44 (dk_at dksL_law_42 22 rfl rfl)
theorem dL_law_1068 : decode cL_law 1068 = .ok (.aload_n 0, 1) := dk_42 (dk_at dksL_law_42 23 rfl rfl)
theorem dL_law_1069 : decode cL_law 1069 = .ok (.iload 4, 2) := dk_21 4 (dk_at dksL_law_43 0 rfl rfl)
theorem dL_law_1071 : decode cL_law 1071 = .ok (.iconst 1, 1) := dk_4 (dk_at dksL_law_43 2 rfl rfl)
theorem dL_law_1072 : decode cL_law 1072 = .ok (.iadd, 1) := dk_96 (dk_at dksL_law_43 3 rfl rfl)
theorem dL_law_1073 : decode cL_law 1073 = .ok (.iaload, 1) := dk_46 (dk_at dksL_law_43 4 rfl rfl)
theorem dL_law_1074 : decode cL_law 1074 = .ok (.aload_n 0, 1) := dk_42 (dk_at dksL_law_43 5 rfl rfl)
theorem dL_law_1075 : decode cL_law 1075 = .ok (.iload 4, 2) := dk_21 4 (dk_at dksL_law_43 6 rfl rfl)
theorem dL_law_1077 : decode cL_law 1077 = .ok (.iconst 2, 1) := dk_5 (dk_at dksL_law_43 8 rfl rfl)
theorem dL_law_1078 : decode cL_law 1078 = .ok (.iadd, 1) := dk_96 (dk_at dksL_law_43 9 rfl rfl)
theorem dL_law_1079 : decode cL_law 1079 = .ok (.iaload, 1) := dk_46 (dk_at dksL_law_43 10 rfl rfl)
theorem dL_law_1080 : decode cL_law 1080 = .ok (.invokevirtual 132, 3) := dk_182 0 132 (dk_at dksL_law_43 11 rfl rfl)
theorem dL_law_1083 : decode cL_law 1083 = .ok (.istore 6, 2) := dk_54 6 (dk_at dksL_law_43 14 rfl rfl)
theorem dL_law_1085 : decode cL_law 1085 = .ok (.aload_n 2, 1) := dk_44 (dk_at dksL_law_43 16 rfl rfl)
theorem dL_law_1086 : decode cL_law 1086 = .ok (.invokevirtual 87, 3) := dk_182 0 87 (dk_at dksL_law_43 17 rfl rfl)
theorem dL_law_1089 : decode cL_law 1089 = .ok (.iload 5, 2) := dk_21 5 (dk_at dksL_law_43 20 rfl rfl)
theorem dL_law_1091 : decode cL_law 1091 = .ok (.if_icmp .eq 5, 3) := dk_159 0 5 (dk_at dksL_law_44 0 rfl rfl)
theorem dL_law_1094 : decode cL_law 1094 = .ok (.iconst 0, 1) := dk_3 (dk_at dksL_law_44 3 rfl rfl)
theorem dL_law_1095 : decode cL_law 1095 = .ok (.ireturn, 1) := dk_172 (dk_at dksL_law_44 4 rfl rfl)
theorem dL_law_1096 : decode cL_law 1096 = .ok (.iload 5, 2) := dk_21 5 (dk_at dksL_law_44 5 rfl rfl)
theorem dL_law_1098 : decode cL_law 1098 = .ok (.ifCond .ne 15, 3) := dk_154 0 15 (dk_at dksL_law_44 7 rfl rfl)
theorem dL_law_1101 : decode cL_law 1101 = .ok (.aload_n 3, 1) := dk_45 (dk_at dksL_law_44 10 rfl rfl)
theorem dL_law_1102 : decode cL_law 1102 = .ok (.iconst 0, 1) := dk_3 (dk_at dksL_law_44 11 rfl rfl)
theorem dL_law_1103 : decode cL_law 1103 = .ok (.laload, 1) := dk_47 (dk_at dksL_law_44 12 rfl rfl)
theorem dL_law_1104 : decode cL_law 1104 = .ok (.iload 6, 2) := dk_21 6 (dk_at dksL_law_44 13 rfl rfl)
theorem dL_law_1106 : decode cL_law 1106 = .ok (.i2l, 1) := dk_133 (dk_at dksL_law_44 15 rfl rfl)
theorem dL_law_1107 : decode cL_law 1107 = .ok (.lcmp, 1) := dk_148 (dk_at dksL_law_44 16 rfl rfl)
theorem dL_law_1108 : decode cL_law 1108 = .ok (.ifCond .eq 5, 3) := dk_153 0 5 (dk_at dksL_law_44 17 rfl rfl)
theorem dL_law_1111 : decode cL_law 1111 = .ok (.iconst 0, 1) := dk_3 (dk_at dksL_law_44 20 rfl rfl)
theorem dL_law_1112 : decode cL_law 1112 = .ok (.ireturn, 1) := dk_172 (dk_at dksL_law_44 21 rfl rfl)
theorem dL_law_1113 : decode cL_law 1113 = .ok (.goto 328, 3) := dk_167 1 72 (dk_at dksL_law_45 0 rfl rfl)
theorem dL_law_1116 : decode cL_law 1116 = .ok (.aload_n 1, 1) := dk_43 (dk_at dksL_law_45 3 rfl rfl)
theorem dL_law_1117 : decode cL_law 1117 = .ok (.aload_n 0, 1) := dk_42 (dk_at dksL_law_45 4 rfl rfl)
theorem dL_law_1118 : decode cL_law 1118 = .ok (.iload 4, 2) := dk_21 4 (dk_at dksL_law_45 5 rfl rfl)
theorem dL_law_1120 : decode cL_law 1120 = .ok (.iconst 1, 1) := dk_4 (dk_at dksL_law_45 7 rfl rfl)
theorem dL_law_1121 : decode cL_law 1121 = .ok (.iadd, 1) := dk_96 (dk_at dksL_law_45 8 rfl rfl)
theorem dL_law_1122 : decode cL_law 1122 = .ok (.iaload, 1) := dk_46 (dk_at dksL_law_45 9 rfl rfl)
theorem dL_law_1123 : decode cL_law 1123 = .ok (.aload_n 3, 1) := dk_45 (dk_at dksL_law_45 10 rfl rfl)
theorem dL_law_1124 : decode cL_law 1124 = .ok (.invokestatic 133, 3) := dk_184 0 133 (dk_at dksL_law_45 11 rfl rfl)
theorem dL_law_1127 : decode cL_law 1127 = .ok (.istore 5, 2) := dk_54 5 (dk_at dksL_law_45 14 rfl rfl)
theorem dL_law_1129 : decode cL_law 1129 = .ok (.aload_n 2, 1) := dk_44 (dk_at dksL_law_45 16 rfl rfl)
theorem dL_law_1130 : decode cL_law 1130 = .ok (.aload_n 0, 1) := dk_42 (dk_at dksL_law_45 17 rfl rfl)
theorem dL_law_1131 : decode cL_law 1131 = .ok (.iload 4, 2) := dk_21 4 (dk_at dksL_law_45 18 rfl rfl)
theorem dL_law_1133 : decode cL_law 1133 = .ok (.iconst 1, 1) := dk_4 (dk_at dksL_law_45 20 rfl rfl)
theorem dL_law_1134 : decode cL_law 1134 = .ok (.iadd, 1) := dk_96 (dk_at dksL_law_45 21 rfl rfl)
theorem dL_law_1135 : decode cL_law 1135 = .ok (.iaload, 1) := dk_46 (dk_at dksL_law_45 22 rfl rfl)
theorem dL_law_1136 : decode cL_law 1136 = .ok (.invokevirtual 135, 3) := dk_182 0 135 (dk_at dksL_law_46 0 rfl rfl)
theorem dL_law_1139 : decode cL_law 1139 = .ok (.istore 6, 2) := dk_54 6 (dk_at dksL_law_46 3 rfl rfl)
theorem dL_law_1141 : decode cL_law 1141 = .ok (.aload_n 2, 1) := dk_44 (dk_at dksL_law_46 5 rfl rfl)
theorem dL_law_1142 : decode cL_law 1142 = .ok (.invokevirtual 87, 3) := dk_182 0 87 (dk_at dksL_law_46 6 rfl rfl)
theorem dL_law_1145 : decode cL_law 1145 = .ok (.iload 5, 2) := dk_21 5 (dk_at dksL_law_46 9 rfl rfl)
theorem dL_law_1147 : decode cL_law 1147 = .ok (.if_icmp .eq 5, 3) := dk_159 0 5 (dk_at dksL_law_46 11 rfl rfl)
theorem dL_law_1150 : decode cL_law 1150 = .ok (.iconst 0, 1) := dk_3 (dk_at dksL_law_46 14 rfl rfl)
theorem dL_law_1151 : decode cL_law 1151 = .ok (.ireturn, 1) := dk_172 (dk_at dksL_law_46 15 rfl rfl)
theorem dL_law_1152 : decode cL_law 1152 = .ok (.iload 5, 2) := dk_21 5 (dk_at dksL_law_46 16 rfl rfl)
theorem dL_law_1154 : decode cL_law 1154 = .ok (.ifCond .ne 15, 3) := dk_154 0 15 (dk_at dksL_law_46 18 rfl rfl)
theorem dL_law_1157 : decode cL_law 1157 = .ok (.aload_n 3, 1) := dk_45 (dk_at dksL_law_46 21 rfl rfl)
theorem dL_law_1158 : decode cL_law 1158 = .ok (.iconst 0, 1) := dk_3 (dk_at dksL_law_46 22 rfl rfl)
theorem dL_law_1159 : decode cL_law 1159 = .ok (.laload, 1) := dk_47 (dk_at dksL_law_46 23 rfl rfl)
theorem dL_law_1160 : decode cL_law 1160 = .ok (.iload 6, 2) := dk_21 6 (dk_at dksL_law_47 0 rfl rfl)
theorem dL_law_1162 : decode cL_law 1162 = .ok (.i2l, 1) := dk_133 (dk_at dksL_law_47 2 rfl rfl)
theorem dL_law_1163 : decode cL_law 1163 = .ok (.lcmp, 1) := dk_148 (dk_at dksL_law_47 3 rfl rfl)
theorem dL_law_1164 : decode cL_law 1164 = .ok (.ifCond .eq 5, 3) := dk_153 0 5 (dk_at dksL_law_47 4 rfl rfl)
theorem dL_law_1167 : decode cL_law 1167 = .ok (.iconst 0, 1) := dk_3 (dk_at dksL_law_47 7 rfl rfl)
theorem dL_law_1168 : decode cL_law 1168 = .ok (.ireturn, 1) := dk_172 (dk_at dksL_law_47 8 rfl rfl)
theorem dL_law_1169 : decode cL_law 1169 = .ok (.goto 272, 3) := dk_167 1 16 (dk_at dksL_law_47 9 rfl rfl)
theorem dL_law_1172 : decode cL_law 1172 = .ok (.aload_n 1, 1) := dk_43 (dk_at dksL_law_47 12 rfl rfl)
theorem dL_law_1173 : decode cL_law 1173 = .ok (.aload_n 0, 1) := dk_42 (dk_at dksL_law_47 13 rfl rfl)
theorem dL_law_1174 : decode cL_law 1174 = .ok (.iload 4, 2) := dk_21 4 (dk_at dksL_law_47 14 rfl rfl)
theorem dL_law_1176 : decode cL_law 1176 = .ok (.iconst 1, 1) := dk_4 (dk_at dksL_law_47 16 rfl rfl)
theorem dL_law_1177 : decode cL_law 1177 = .ok (.iadd, 1) := dk_96 (dk_at dksL_law_47 17 rfl rfl)
theorem dL_law_1178 : decode cL_law 1178 = .ok (.iaload, 1) := dk_46 (dk_at dksL_law_47 18 rfl rfl)
theorem dL_law_1179 : decode cL_law 1179 = .ok (.aload_n 3, 1) := dk_45 (dk_at dksL_law_47 19 rfl rfl)
theorem dL_law_1180 : decode cL_law 1180 = .ok (.invokestatic 136, 3) := dk_184 0 136 (dk_at dksL_law_47 20 rfl rfl)
theorem dL_law_1183 : decode cL_law 1183 = .ok (.istore 5, 2) := dk_54 5 (dk_at dksL_law_48 0 rfl rfl)
theorem dL_law_1185 : decode cL_law 1185 = .ok (.aload_n 2, 1) := dk_44 (dk_at dksL_law_48 2 rfl rfl)
theorem dL_law_1186 : decode cL_law 1186 = .ok (.aload_n 0, 1) := dk_42 (dk_at dksL_law_48 3 rfl rfl)
theorem dL_law_1187 : decode cL_law 1187 = .ok (.iload 4, 2) := dk_21 4 (dk_at dksL_law_48 4 rfl rfl)
theorem dL_law_1189 : decode cL_law 1189 = .ok (.iconst 1, 1) := dk_4 (dk_at dksL_law_48 6 rfl rfl)
theorem dL_law_1190 : decode cL_law 1190 = .ok (.iadd, 1) := dk_96 (dk_at dksL_law_48 7 rfl rfl)
theorem dL_law_1191 : decode cL_law 1191 = .ok (.iaload, 1) := dk_46 (dk_at dksL_law_48 8 rfl rfl)
theorem dL_law_1192 : decode cL_law 1192 = .ok (.invokevirtual 138, 3) := dk_182 0 138 (dk_at dksL_law_48 9 rfl rfl)
theorem dL_law_1195 : decode cL_law 1195 = .ok (.istore 6, 2) := dk_54 6 (dk_at dksL_law_48 12 rfl rfl)
theorem dL_law_1197 : decode cL_law 1197 = .ok (.aload_n 2, 1) := dk_44 (dk_at dksL_law_48 14 rfl rfl)
theorem dL_law_1198 : decode cL_law 1198 = .ok (.invokevirtual 87, 3) := dk_182 0 87 (dk_at dksL_law_48 15 rfl rfl)
theorem dL_law_1201 : decode cL_law 1201 = .ok (.iload 5, 2) := dk_21 5 (dk_at dksL_law_48 18 rfl rfl)
theorem dL_law_1203 : decode cL_law 1203 = .ok (.if_icmp .eq 5, 3) := dk_159 0 5 (dk_at dksL_law_48 20 rfl rfl)
theorem dL_law_1206 : decode cL_law 1206 = .ok (.iconst 0, 1) := dk_3 (dk_at dksL_law_48 23 rfl rfl)
theorem dL_law_1207 : decode cL_law 1207 = .ok (.ireturn, 1) := dk_172 (dk_at dksL_law_49 0 rfl rfl)
theorem dL_law_1208 : decode cL_law 1208 = .ok (.iload 5, 2) := dk_21 5 (dk_at dksL_law_49 1 rfl rfl)
theorem dL_law_1210 : decode cL_law 1210 = .ok (.ifCond .ne 15, 3) := dk_154 0 15 (dk_at dksL_law_49 3 rfl rfl)
theorem dL_law_1213 : decode cL_law 1213 = .ok (.aload_n 3, 1) := dk_45 (dk_at dksL_law_49 6 rfl rfl)
theorem dL_law_1214 : decode cL_law 1214 = .ok (.iconst 0, 1) := dk_3 (dk_at dksL_law_49 7 rfl rfl)
theorem dL_law_1215 : decode cL_law 1215 = .ok (.laload, 1) := dk_47 (dk_at dksL_law_49 8 rfl rfl)
theorem dL_law_1216 : decode cL_law 1216 = .ok (.iload 6, 2) := dk_21 6 (dk_at dksL_law_49 9 rfl rfl)
theorem dL_law_1218 : decode cL_law 1218 = .ok (.i2l, 1) := dk_133 (dk_at dksL_law_49 11 rfl rfl)
theorem dL_law_1219 : decode cL_law 1219 = .ok (.lcmp, 1) := dk_148 (dk_at dksL_law_49 12 rfl rfl)
theorem dL_law_1220 : decode cL_law 1220 = .ok (.ifCond .eq 5, 3) := dk_153 0 5 (dk_at dksL_law_49 13 rfl rfl)
theorem dL_law_1223 : decode cL_law 1223 = .ok (.iconst 0, 1) := dk_3 (dk_at dksL_law_49 16 rfl rfl)
theorem dL_law_1224 : decode cL_law 1224 = .ok (.ireturn, 1) := dk_172 (dk_at dksL_law_49 17 rfl rfl)
theorem dL_law_1225 : decode cL_law 1225 = .ok (.goto 216, 3) := dk_167 0 216 (dk_at dksL_law_49 18 rfl rfl)
theorem dL_law_1228 : decode cL_law 1228 = .ok (.aload_n 1, 1) := dk_43 (dk_at dksL_law_49 21 rfl rfl)
theorem dL_law_1229 : decode cL_law 1229 = .ok (.aload_n 0, 1) := dk_42 (dk_at dksL_law_49 22 rfl rfl)
theorem dL_law_1230 : decode cL_law 1230 = .ok (.iload 4, 2) := dk_21 4 (dk_at dksL_law_50 0 rfl rfl)
theorem dL_law_1232 : decode cL_law 1232 = .ok (.iconst 1, 1) := dk_4 (dk_at dksL_law_50 2 rfl rfl)
theorem dL_law_1233 : decode cL_law 1233 = .ok (.iadd, 1) := dk_96 (dk_at dksL_law_50 3 rfl rfl)
theorem dL_law_1234 : decode cL_law 1234 = .ok (.iaload, 1) := dk_46 (dk_at dksL_law_50 4 rfl rfl)
theorem dL_law_1235 : decode cL_law 1235 = .ok (.aload_n 0, 1) := dk_42 (dk_at dksL_law_50 5 rfl rfl)
theorem dL_law_1236 : decode cL_law 1236 = .ok (.iload 4, 2) := dk_21 4 (dk_at dksL_law_50 6 rfl rfl)
theorem dL_law_1238 : decode cL_law 1238 = .ok (.iconst 2, 1) := dk_5 (dk_at dksL_law_50 8 rfl rfl)
theorem dL_law_1239 : decode cL_law 1239 = .ok (.iadd, 1) := dk_96 (dk_at dksL_law_50 9 rfl rfl)
theorem dL_law_1240 : decode cL_law 1240 = .ok (.iaload, 1) := dk_46 (dk_at dksL_law_50 10 rfl rfl)
theorem dL_law_1241 : decode cL_law 1241 = .ok (.aload_n 3, 1) := dk_45 (dk_at dksL_law_50 11 rfl rfl)
theorem dL_law_1242 : decode cL_law 1242 = .ok (.invokestatic 139, 3) := dk_184 0 139 (dk_at dksL_law_50 12 rfl rfl)
theorem dL_law_1245 : decode cL_law 1245 = .ok (.istore 5, 2) := dk_54 5 (dk_at dksL_law_50 15 rfl rfl)
theorem dL_law_1247 : decode cL_law 1247 = .ok (.aload_n 2, 1) := dk_44 (dk_at dksL_law_50 17 rfl rfl)
theorem dL_law_1248 : decode cL_law 1248 = .ok (.aload_n 0, 1) := dk_42 (dk_at dksL_law_50 18 rfl rfl)
theorem dL_law_1249 : decode cL_law 1249 = .ok (.iload 4, 2) := dk_21 4 (dk_at dksL_law_50 19 rfl rfl)
theorem dL_law_1251 : decode cL_law 1251 = .ok (.iconst 1, 1) := dk_4 (dk_at dksL_law_50 21 rfl rfl)
theorem dL_law_1252 : decode cL_law 1252 = .ok (.iadd, 1) := dk_96 (dk_at dksL_law_50 22 rfl rfl)
theorem dL_law_1253 : decode cL_law 1253 = .ok (.iaload, 1) := dk_46 (dk_at dksL_law_50 23 rfl rfl)
theorem dL_law_1254 : decode cL_law 1254 = .ok (.aload_n 0, 1) := dk_42 (dk_at dksL_law_51 0 rfl rfl)
theorem dL_law_1255 : decode cL_law 1255 = .ok (.iload 4, 2) := dk_21 4 (dk_at dksL_law_51 1 rfl rfl)
theorem dL_law_1257 : decode cL_law 1257 = .ok (.iconst 2, 1) := dk_5 (dk_at dksL_law_51 3 rfl rfl)
theorem dL_law_1258 : decode cL_law 1258 = .ok (.iadd, 1) := dk_96 (dk_at dksL_law_51 4 rfl rfl)
theorem dL_law_1259 : decode cL_law 1259 = .ok (.iaload, 1) := dk_46 (dk_at dksL_law_51 5 rfl rfl)
theorem dL_law_1260 : decode cL_law 1260 = .ok (.invokevirtual 141, 3) := dk_182 0 141 (dk_at dksL_law_51 6 rfl rfl)
theorem dL_law_1263 : decode cL_law 1263 = .ok (.istore 6, 2) := dk_54 6 (dk_at dksL_law_51 9 rfl rfl)
theorem dL_law_1265 : decode cL_law 1265 = .ok (.aload_n 2, 1) := dk_44 (dk_at dksL_law_51 11 rfl rfl)
theorem dL_law_1266 : decode cL_law 1266 = .ok (.invokevirtual 87, 3) := dk_182 0 87 (dk_at dksL_law_51 12 rfl rfl)
theorem dL_law_1269 : decode cL_law 1269 = .ok (.iload 5, 2) := dk_21 5 (dk_at dksL_law_51 15 rfl rfl)
theorem dL_law_1271 : decode cL_law 1271 = .ok (.if_icmp .eq 5, 3) := dk_159 0 5 (dk_at dksL_law_51 17 rfl rfl)
theorem dL_law_1274 : decode cL_law 1274 = .ok (.iconst 0, 1) := dk_3 (dk_at dksL_law_51 20 rfl rfl)
theorem dL_law_1275 : decode cL_law 1275 = .ok (.ireturn, 1) := dk_172 (dk_at dksL_law_51 21 rfl rfl)
theorem dL_law_1276 : decode cL_law 1276 = .ok (.iload 5, 2) := dk_21 5 (dk_at dksL_law_51 22 rfl rfl)
theorem dL_law_1278 : decode cL_law 1278 = .ok (.ifCond .ne 15, 3) := dk_154 0 15 (dk_at dksL_law_52 0 rfl rfl)
theorem dL_law_1281 : decode cL_law 1281 = .ok (.aload_n 3, 1) := dk_45 (dk_at dksL_law_52 3 rfl rfl)
theorem dL_law_1282 : decode cL_law 1282 = .ok (.iconst 0, 1) := dk_3 (dk_at dksL_law_52 4 rfl rfl)
theorem dL_law_1283 : decode cL_law 1283 = .ok (.laload, 1) := dk_47 (dk_at dksL_law_52 5 rfl rfl)
theorem dL_law_1284 : decode cL_law 1284 = .ok (.iload 6, 2) := dk_21 6 (dk_at dksL_law_52 6 rfl rfl)
theorem dL_law_1286 : decode cL_law 1286 = .ok (.i2l, 1) := dk_133 (dk_at dksL_law_52 8 rfl rfl)
theorem dL_law_1287 : decode cL_law 1287 = .ok (.lcmp, 1) := dk_148 (dk_at dksL_law_52 9 rfl rfl)
theorem dL_law_1288 : decode cL_law 1288 = .ok (.ifCond .eq 5, 3) := dk_153 0 5 (dk_at dksL_law_52 10 rfl rfl)
theorem dL_law_1291 : decode cL_law 1291 = .ok (.iconst 0, 1) := dk_3 (dk_at dksL_law_52 13 rfl rfl)
theorem dL_law_1292 : decode cL_law 1292 = .ok (.ireturn, 1) := dk_172 (dk_at dksL_law_52 14 rfl rfl)
theorem dL_law_1293 : decode cL_law 1293 = .ok (.goto 148, 3) := dk_167 0 148 (dk_at dksL_law_52 15 rfl rfl)
theorem dL_law_1296 : decode cL_law 1296 = .ok (.aload_n 1, 1) := dk_43 (dk_at dksL_law_52 18 rfl rfl)
theorem dL_law_1297 : decode cL_law 1297 = .ok (.aload_n 0, 1) := dk_42 (dk_at dksL_law_52 19 rfl rfl)
theorem dL_law_1298 : decode cL_law 1298 = .ok (.iload 4, 2) := dk_21 4 (dk_at dksL_law_52 20 rfl rfl)
theorem dL_law_1300 : decode cL_law 1300 = .ok (.iconst 1, 1) := dk_4 (dk_at dksL_law_52 22 rfl rfl)
theorem dL_law_1301 : decode cL_law 1301 = .ok (.iadd, 1) := dk_96 (dk_at dksL_law_52 23 rfl rfl)
theorem dL_law_1302 : decode cL_law 1302 = .ok (.iaload, 1) := dk_46 (dk_at dksL_law_53 0 rfl rfl)
theorem dL_law_1303 : decode cL_law 1303 = .ok (.aload_n 3, 1) := dk_45 (dk_at dksL_law_53 1 rfl rfl)
theorem dL_law_1304 : decode cL_law 1304 = .ok (.invokestatic 142, 3) := dk_184 0 142 (dk_at dksL_law_53 2 rfl rfl)
theorem dL_law_1307 : decode cL_law 1307 = .ok (.istore 5, 2) := dk_54 5 (dk_at dksL_law_53 5 rfl rfl)
theorem dL_law_1309 : decode cL_law 1309 = .ok (.aload_n 2, 1) := dk_44 (dk_at dksL_law_53 7 rfl rfl)
theorem dL_law_1310 : decode cL_law 1310 = .ok (.aload_n 0, 1) := dk_42 (dk_at dksL_law_53 8 rfl rfl)
theorem dL_law_1311 : decode cL_law 1311 = .ok (.iload 4, 2) := dk_21 4 (dk_at dksL_law_53 9 rfl rfl)
theorem dL_law_1313 : decode cL_law 1313 = .ok (.iconst 1, 1) := dk_4 (dk_at dksL_law_53 11 rfl rfl)
theorem dL_law_1314 : decode cL_law 1314 = .ok (.iadd, 1) := dk_96 (dk_at dksL_law_53 12 rfl rfl)
theorem dL_law_1315 : decode cL_law 1315 = .ok (.iaload, 1) := dk_46 (dk_at dksL_law_53 13 rfl rfl)
theorem dL_law_1316 : decode cL_law 1316 = .ok (.invokevirtual 144, 3) := dk_182 0 144 (dk_at dksL_law_53 14 rfl rfl)
theorem dL_law_1319 : decode cL_law 1319 = .ok (.istore 6, 2) := dk_54 6 (dk_at dksL_law_53 17 rfl rfl)
theorem dL_law_1321 : decode cL_law 1321 = .ok (.aload_n 2, 1) := dk_44 (dk_at dksL_law_53 19 rfl rfl)
theorem dL_law_1322 : decode cL_law 1322 = .ok (.invokevirtual 87, 3) := dk_182 0 87 (dk_at dksL_law_53 20 rfl rfl)
theorem dL_law_1325 : decode cL_law 1325 = .ok (.iload 5, 2) := dk_21 5 (dk_at dksL_law_54 0 rfl rfl)
theorem dL_law_1327 : decode cL_law 1327 = .ok (.if_icmp .eq 5, 3) := dk_159 0 5 (dk_at dksL_law_54 2 rfl rfl)
theorem dL_law_1330 : decode cL_law 1330 = .ok (.iconst 0, 1) := dk_3 (dk_at dksL_law_54 5 rfl rfl)
theorem dL_law_1331 : decode cL_law 1331 = .ok (.ireturn, 1) := dk_172 (dk_at dksL_law_54 6 rfl rfl)
theorem dL_law_1332 : decode cL_law 1332 = .ok (.iload 5, 2) := dk_21 5 (dk_at dksL_law_54 7 rfl rfl)
theorem dL_law_1334 : decode cL_law 1334 = .ok (.ifCond .ne 15, 3) := dk_154 0 15 (dk_at dksL_law_54 9 rfl rfl)
theorem dL_law_1337 : decode cL_law 1337 = .ok (.aload_n 3, 1) := dk_45 (dk_at dksL_law_54 12 rfl rfl)
theorem dL_law_1338 : decode cL_law 1338 = .ok (.iconst 0, 1) := dk_3 (dk_at dksL_law_54 13 rfl rfl)
theorem dL_law_1339 : decode cL_law 1339 = .ok (.laload, 1) := dk_47 (dk_at dksL_law_54 14 rfl rfl)
theorem dL_law_1340 : decode cL_law 1340 = .ok (.iload 6, 2) := dk_21 6 (dk_at dksL_law_54 15 rfl rfl)
theorem dL_law_1342 : decode cL_law 1342 = .ok (.i2l, 1) := dk_133 (dk_at dksL_law_54 17 rfl rfl)
theorem dL_law_1343 : decode cL_law 1343 = .ok (.lcmp, 1) := dk_148 (dk_at dksL_law_54 18 rfl rfl)
theorem dL_law_1344 : decode cL_law 1344 = .ok (.ifCond .eq 5, 3) := dk_153 0 5 (dk_at dksL_law_54 19 rfl rfl)
theorem dL_law_1347 : decode cL_law 1347 = .ok (.iconst 0, 1) := dk_3 (dk_at dksL_law_54 22 rfl rfl)
theorem dL_law_1348 : decode cL_law 1348 = .ok (.ireturn, 1) := dk_172 (dk_at dksL_law_54 23 rfl rfl)
theorem dL_law_1349 : decode cL_law 1349 = .ok (.goto 92, 3) := dk_167 0 92 (dk_at dksL_law_55 0 rfl rfl)
theorem dL_law_1352 : decode cL_law 1352 = .ok (.aload_n 1, 1) := dk_43 (dk_at dksL_law_55 3 rfl rfl)
theorem dL_law_1353 : decode cL_law 1353 = .ok (.aload_n 0, 1) := dk_42 (dk_at dksL_law_55 4 rfl rfl)
theorem dL_law_1354 : decode cL_law 1354 = .ok (.iload 4, 2) := dk_21 4 (dk_at dksL_law_55 5 rfl rfl)
theorem dL_law_1356 : decode cL_law 1356 = .ok (.iconst 1, 1) := dk_4 (dk_at dksL_law_55 7 rfl rfl)
theorem dL_law_1357 : decode cL_law 1357 = .ok (.iadd, 1) := dk_96 (dk_at dksL_law_55 8 rfl rfl)
theorem dL_law_1358 : decode cL_law 1358 = .ok (.iaload, 1) := dk_46 (dk_at dksL_law_55 9 rfl rfl)
theorem dL_law_1359 : decode cL_law 1359 = .ok (.aload_n 3, 1) := dk_45 (dk_at dksL_law_55 10 rfl rfl)
theorem dL_law_1360 : decode cL_law 1360 = .ok (.invokestatic 145, 3) := dk_184 0 145 (dk_at dksL_law_55 11 rfl rfl)
theorem dL_law_1363 : decode cL_law 1363 = .ok (.istore 5, 2) := dk_54 5 (dk_at dksL_law_55 14 rfl rfl)
theorem dL_law_1365 : decode cL_law 1365 = .ok (.aload_n 2, 1) := dk_44 (dk_at dksL_law_55 16 rfl rfl)
theorem dL_law_1366 : decode cL_law 1366 = .ok (.aload_n 0, 1) := dk_42 (dk_at dksL_law_55 17 rfl rfl)
theorem dL_law_1367 : decode cL_law 1367 = .ok (.iload 4, 2) := dk_21 4 (dk_at dksL_law_55 18 rfl rfl)
theorem dL_law_1369 : decode cL_law 1369 = .ok (.iconst 1, 1) := dk_4 (dk_at dksL_law_55 20 rfl rfl)
theorem dL_law_1370 : decode cL_law 1370 = .ok (.iadd, 1) := dk_96 (dk_at dksL_law_55 21 rfl rfl)
theorem dL_law_1371 : decode cL_law 1371 = .ok (.iaload, 1) := dk_46 (dk_at dksL_law_55 22 rfl rfl)
theorem dL_law_1372 : decode cL_law 1372 = .ok (.invokevirtual 147, 3) := dk_182 0 147 (dk_at dksL_law_56 0 rfl rfl)
theorem dL_law_1375 : decode cL_law 1375 = .ok (.istore 6, 2) := dk_54 6 (dk_at dksL_law_56 3 rfl rfl)
theorem dL_law_1377 : decode cL_law 1377 = .ok (.aload_n 2, 1) := dk_44 (dk_at dksL_law_56 5 rfl rfl)
theorem dL_law_1378 : decode cL_law 1378 = .ok (.invokevirtual 87, 3) := dk_182 0 87 (dk_at dksL_law_56 6 rfl rfl)
theorem dL_law_1381 : decode cL_law 1381 = .ok (.iload 5, 2) := dk_21 5 (dk_at dksL_law_56 9 rfl rfl)
theorem dL_law_1383 : decode cL_law 1383 = .ok (.if_icmp .eq 5, 3) := dk_159 0 5 (dk_at dksL_law_56 11 rfl rfl)
theorem dL_law_1386 : decode cL_law 1386 = .ok (.iconst 0, 1) := dk_3 (dk_at dksL_law_56 14 rfl rfl)
theorem dL_law_1387 : decode cL_law 1387 = .ok (.ireturn, 1) := dk_172 (dk_at dksL_law_56 15 rfl rfl)
theorem dL_law_1388 : decode cL_law 1388 = .ok (.iload 5, 2) := dk_21 5 (dk_at dksL_law_56 16 rfl rfl)
theorem dL_law_1390 : decode cL_law 1390 = .ok (.ifCond .ne 22, 3) := dk_154 0 22 (dk_at dksL_law_56 18 rfl rfl)
theorem dL_law_1393 : decode cL_law 1393 = .ok (.aload_n 3, 1) := dk_45 (dk_at dksL_law_56 21 rfl rfl)
theorem dL_law_1394 : decode cL_law 1394 = .ok (.iconst 0, 1) := dk_3 (dk_at dksL_law_56 22 rfl rfl)
theorem dL_law_1395 : decode cL_law 1395 = .ok (.laload, 1) := dk_47 (dk_at dksL_law_56 23 rfl rfl)
theorem dL_law_1396 : decode cL_law 1396 = .ok (.iload 6, 2) := dk_21 6 (dk_at dksL_law_57 0 rfl rfl)
theorem dL_law_1398 : decode cL_law 1398 = .ok (.ifCond .eq 7, 3) := dk_153 0 7 (dk_at dksL_law_57 2 rfl rfl)
theorem dL_law_1401 : decode cL_law 1401 = .ok (.lconst 1, 1) := dk_10 (dk_at dksL_law_57 5 rfl rfl)
theorem dL_law_1402 : decode cL_law 1402 = .ok (.goto 4, 3) := dk_167 0 4 (dk_at dksL_law_57 6 rfl rfl)
theorem dL_law_1405 : decode cL_law 1405 = .ok (.lconst 0, 1) := dk_9 (dk_at dksL_law_57 9 rfl rfl)
theorem dL_law_1406 : decode cL_law 1406 = .ok (.lcmp, 1) := dk_148 (dk_at dksL_law_57 10 rfl rfl)
theorem dL_law_1407 : decode cL_law 1407 = .ok (.ifCond .eq 5, 3) := dk_153 0 5 (dk_at dksL_law_57 11 rfl rfl)
theorem dL_law_1410 : decode cL_law 1410 = .ok (.iconst 0, 1) := dk_3 (dk_at dksL_law_57 14 rfl rfl)
theorem dL_law_1411 : decode cL_law 1411 = .ok (.ireturn, 1) := dk_172 (dk_at dksL_law_57 15 rfl rfl)
theorem dL_law_1412 : decode cL_law 1412 = .ok (.goto 29, 3) := dk_167 0 29 (dk_at dksL_law_57 16 rfl rfl)
theorem dL_law_1415 : decode cL_law 1415 = .ok (.aload_n 1, 1) := dk_43 (dk_at dksL_law_57 19 rfl rfl)
theorem dL_law_1416 : decode cL_law 1416 = .ok (.invokevirtual 148, 3) := dk_182 0 148 (dk_at dksL_law_57 20 rfl rfl)
theorem dL_law_1419 : decode cL_law 1419 = .ok (.aload_n 2, 1) := dk_44 (dk_at dksL_law_57 23 rfl rfl)
theorem dL_law_1420 : decode cL_law 1420 = .ok (.invokevirtual 151, 3) := dk_182 0 151 (dk_at dksL_law_58 0 rfl rfl)
theorem dL_law_1423 : decode cL_law 1423 = .ok (.if_icmp .eq 18, 3) := dk_159 0 18 (dk_at dksL_law_58 3 rfl rfl)
theorem dL_law_1426 : decode cL_law 1426 = .ok (.iconst 0, 1) := dk_3 (dk_at dksL_law_58 6 rfl rfl)
theorem dL_law_1427 : decode cL_law 1427 = .ok (.ireturn, 1) := dk_172 (dk_at dksL_law_58 7 rfl rfl)
theorem dL_law_1428 : decode cL_law 1428 = .ok (.aload_n 1, 1) := dk_43 (dk_at dksL_law_58 8 rfl rfl)
theorem dL_law_1429 : decode cL_law 1429 = .ok (.invokevirtual 152, 3) := dk_182 0 152 (dk_at dksL_law_58 9 rfl rfl)
theorem dL_law_1432 : decode cL_law 1432 = .ok (.aload_n 2, 1) := dk_44 (dk_at dksL_law_58 12 rfl rfl)
theorem dL_law_1433 : decode cL_law 1433 = .ok (.invokevirtual 155, 3) := dk_182 0 155 (dk_at dksL_law_58 13 rfl rfl)
theorem dL_law_1436 : decode cL_law 1436 = .ok (.if_icmp .eq 5, 3) := dk_159 0 5 (dk_at dksL_law_58 16 rfl rfl)
theorem dL_law_1439 : decode cL_law 1439 = .ok (.iconst 0, 1) := dk_3 (dk_at dksL_law_58 19 rfl rfl)
theorem dL_law_1440 : decode cL_law 1440 = .ok (.ireturn, 1) := dk_172 (dk_at dksL_law_58 20 rfl rfl)
theorem dL_law_1441 : decode cL_law 1441 = .ok (.iinc 4 5, 3) := dk_132 4 5 (dk_at dksL_law_58 21 rfl rfl)
theorem dL_law_1444 : decode cL_law 1444 = .ok (.goto (-1421), 3) := dk_167 250 115 (dk_at dksL_law_59 0 rfl rfl)
theorem dL_law_1447 : decode cL_law 1447 = .ok (.iconst 1, 1) := dk_4 (dk_at dksL_law_59 3 rfl rfl)
theorem dL_law_1448 : decode cL_law 1448 = .ok (.ireturn, 1) := dk_172 (dk_at dksL_law_59 4 rfl rfl)
