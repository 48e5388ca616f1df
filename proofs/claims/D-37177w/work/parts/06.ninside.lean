/-! KeylockBody$Inside -/
set_option maxRecDepth 100000
def RX2 : String := "KeylockBody$Inside"
def TX2 : u_T := fun k => match k with
  | 0 => ("KeylockBody$Inside", "cells", "Ljava/util/List;", true)
  | 1 => ("KeylockBody$Inside", "invaders", "Ljava/util/List;", true)
  | 2 => ("KeylockBody$Inside", "harms", "[I", true)
  | 3 => ("KeylockBody$Inside", "born", "I", false)
  | 4 => ("KeylockBody$Inside", "dead", "I", false)
  | 5 => ("KeylockBody$Inside", "hour", "I", false)
  | _ => ("KeylockBody$Inside", "this$0", "LKeylockBody;", true)
def tyX2 : Nat → FieldType := fun k => match k with
  | 0 => .object "java/util/List"
  | 1 => .object "java/util/List"
  | 2 => .array .int
  | 3 => .int
  | 4 => .int
  | 5 => .int
  | _ => .object "KeylockBody"
abbrev wsX20 : List Cond := u_ws RX2 TX2 7
theorem nmX2 : ∀ a, a < 7 → ∀ b, b < 7 → a ≠ b → (TX2 a).2.1 ≠ (TX2 b).2.1 := by decide +kernel
theorem tyX2_ok : ∀ k, k < 7 → parseFieldDescriptor (TX2 k).2.2.1 = some (tyX2 k) := by decide +kernel
abbrev cX2_init : ByteArray := prog_3_method_1_code
def yX2_init : MethodName := ⟨RX2, "<init>", "(LKeylockBody;)V"⟩
def dkwX2_init_1 : List UInt8 := [89, 183, 0, 17, 181, 0, 22, 42, 16, 8, 188, 10, 181, 0, 25, 177]
abbrev dktX2_init_1 : List UInt8 := dkwX2_init_1 ++ []
def dkwX2_init_0 : List UInt8 := [42, 43, 181, 0, 3, 42, 183, 0, 9, 42, 187, 0, 15, 89, 183, 0, 17, 181, 0, 18, 42, 187, 0, 15]
abbrev dktX2_init_0 : List UInt8 := dkwX2_init_0 ++ dktX2_init_1
theorem dksX2_init_0 : cX2_init.data.toList.drop 0 = dktX2_init_0 := by decide +kernel
theorem dksX2_init_1 : cX2_init.data.toList.drop 24 = dktX2_init_1 := dk_seg dksX2_init_0 24 rfl rfl
theorem dX2_init_0 : decode cX2_init 0 = .ok (.aload_n 0, 1) := dk_42 (dk_at dksX2_init_0 0 rfl rfl)
theorem dX2_init_1 : decode cX2_init 1 = .ok (.aload_n 1, 1) := dk_43 (dk_at dksX2_init_0 1 rfl rfl)
theorem dX2_init_2 : decode cX2_init 2 = .ok (.putfield 3, 3) := dk_181 0 3 (dk_at dksX2_init_0 2 rfl rfl)
theorem dX2_init_5 : decode cX2_init 5 = .ok (.aload_n 0, 1) := dk_42 (dk_at dksX2_init_0 5 rfl rfl)
theorem dX2_init_6 : decode cX2_init 6 = .ok (.invokespecial 9, 3) := dk_183 0 9 (dk_at dksX2_init_0 6 rfl rfl)
theorem dX2_init_9 : decode cX2_init 9 = .ok (.aload_n 0, 1) := dk_42 (dk_at dksX2_init_0 9 rfl rfl)
theorem dX2_init_10 : decode cX2_init 10 = .ok (.new 15, 3) := dk_187 0 15 (dk_at dksX2_init_0 10 rfl rfl)
theorem dX2_init_13 : decode cX2_init 13 = .ok (.dup, 1) := dk_89 (dk_at dksX2_init_0 13 rfl rfl)
theorem dX2_init_14 : decode cX2_init 14 = .ok (.invokespecial 17, 3) := dk_183 0 17 (dk_at dksX2_init_0 14 rfl rfl)
theorem dX2_init_17 : decode cX2_init 17 = .ok (.putfield 18, 3) := dk_181 0 18 (dk_at dksX2_init_0 17 rfl rfl)
theorem dX2_init_20 : decode cX2_init 20 = .ok (.aload_n 0, 1) := dk_42 (dk_at dksX2_init_0 20 rfl rfl)
theorem dX2_init_21 : decode cX2_init 21 = .ok (.new 15, 3) := dk_187 0 15 (dk_at dksX2_init_0 21 rfl rfl)
theorem dX2_init_24 : decode cX2_init 24 = .ok (.dup, 1) := dk_89 (dk_at dksX2_init_1 0 rfl rfl)
theorem dX2_init_25 : decode cX2_init 25 = .ok (.invokespecial 17, 3) := dk_183 0 17 (dk_at dksX2_init_1 1 rfl rfl)
theorem dX2_init_28 : decode cX2_init 28 = .ok (.putfield 22, 3) := dk_181 0 22 (dk_at dksX2_init_1 4 rfl rfl)
theorem dX2_init_31 : decode cX2_init 31 = .ok (.aload_n 0, 1) := dk_42 (dk_at dksX2_init_1 7 rfl rfl)
theorem dX2_init_32 : decode cX2_init 32 = .ok (.bipush 8, 2) := dk_16 8 (dk_at dksX2_init_1 8 rfl rfl)
theorem dX2_init_34 : decode cX2_init 34 = .ok (.newarray .int, 2) := dk_188_10 (dk_at dksX2_init_1 10 rfl rfl)
theorem dX2_init_36 : decode cX2_init 36 = .ok (.putfield 25, 3) := dk_181 0 25 (dk_at dksX2_init_1 12 rfl rfl)
theorem dX2_init_39 : decode cX2_init 39 = .ok (.return_, 1) := dk_177 (dk_at dksX2_init_1 15 rfl rfl)
abbrev cX2_add : ByteArray := prog_3_method_3_code
def yX2_add : MethodName := ⟨RX2, "add", "(LKeylockBody$Cell;)V"⟩
def dkwX2_add_1 : List UInt8 := [180, 0, 61, 43, 180, 0, 67, 154, 0, 7, 4, 167, 0, 4, 3, 96, 181, 0, 61, 177]
abbrev dktX2_add_1 : List UInt8 := dkwX2_add_1 ++ []
def dkwX2_add_0 : List UInt8 := [42, 180, 0, 18, 43, 185, 0, 48, 2, 0, 87, 42, 89, 180, 0, 57, 4, 96, 181, 0, 57, 42, 89]
abbrev dktX2_add_0 : List UInt8 := dkwX2_add_0 ++ dktX2_add_1
theorem dksX2_add_0 : cX2_add.data.toList.drop 0 = dktX2_add_0 := by decide +kernel
theorem dksX2_add_1 : cX2_add.data.toList.drop 23 = dktX2_add_1 := dk_seg dksX2_add_0 23 rfl rfl
theorem dX2_add_0 : decode cX2_add 0 = .ok (.aload_n 0, 1) := dk_42 (dk_at dksX2_add_0 0 rfl rfl)
theorem dX2_add_1 : decode cX2_add 1 = .ok (.getfield 18, 3) := dk_180 0 18 (dk_at dksX2_add_0 1 rfl rfl)
theorem dX2_add_4 : decode cX2_add 4 = .ok (.aload_n 1, 1) := dk_43 (dk_at dksX2_add_0 4 rfl rfl)
theorem dX2_add_5 : decode cX2_add 5 = .ok (.invokeinterface 48 2, 5) := by decide +kernel
theorem dX2_add_10 : decode cX2_add 10 = .ok (.pop, 1) := dk_87 (dk_at dksX2_add_0 10 rfl rfl)
theorem dX2_add_11 : decode cX2_add 11 = .ok (.aload_n 0, 1) := dk_42 (dk_at dksX2_add_0 11 rfl rfl)
theorem dX2_add_12 : decode cX2_add 12 = .ok (.dup, 1) := dk_89 (dk_at dksX2_add_0 12 rfl rfl)
theorem dX2_add_13 : decode cX2_add 13 = .ok (.getfield 57, 3) := dk_180 0 57 (dk_at dksX2_add_0 13 rfl rfl)
theorem dX2_add_16 : decode cX2_add 16 = .ok (.iconst 1, 1) := dk_4 (dk_at dksX2_add_0 16 rfl rfl)
theorem dX2_add_17 : decode cX2_add 17 = .ok (.iadd, 1) := dk_96 (dk_at dksX2_add_0 17 rfl rfl)
theorem dX2_add_18 : decode cX2_add 18 = .ok (.putfield 57, 3) := dk_181 0 57 (dk_at dksX2_add_0 18 rfl rfl)
theorem dX2_add_21 : decode cX2_add 21 = .ok (.aload_n 0, 1) := dk_42 (dk_at dksX2_add_0 21 rfl rfl)
theorem dX2_add_22 : decode cX2_add 22 = .ok (.dup, 1) := dk_89 (dk_at dksX2_add_0 22 rfl rfl)
theorem dX2_add_23 : decode cX2_add 23 = .ok (.getfield 61, 3) := dk_180 0 61 (dk_at dksX2_add_1 0 rfl rfl)
theorem dX2_add_26 : decode cX2_add 26 = .ok (.aload_n 1, 1) := dk_43 (dk_at dksX2_add_1 3 rfl rfl)
theorem dX2_add_27 : decode cX2_add 27 = .ok (.getfield 67, 3) := dk_180 0 67 (dk_at dksX2_add_1 4 rfl rfl)
theorem dX2_add_30 : decode cX2_add 30 = .ok (.ifCond .ne 7, 3) := dk_154 0 7 (dk_at dksX2_add_1 7 rfl rfl)
theorem dX2_add_33 : decode cX2_add 33 = .ok (.iconst 1, 1) := dk_4 (dk_at dksX2_add_1 10 rfl rfl)
theorem dX2_add_34 : decode cX2_add 34 = .ok (.goto 4, 3) := dk_167 0 4 (dk_at dksX2_add_1 11 rfl rfl)
theorem dX2_add_37 : decode cX2_add 37 = .ok (.iconst 0, 1) := dk_3 (dk_at dksX2_add_1 14 rfl rfl)
theorem dX2_add_38 : decode cX2_add 38 = .ok (.iadd, 1) := dk_96 (dk_at dksX2_add_1 15 rfl rfl)
theorem dX2_add_39 : decode cX2_add 39 = .ok (.putfield 61, 3) := dk_181 0 61 (dk_at dksX2_add_1 16 rfl rfl)
theorem dX2_add_42 : decode cX2_add 42 = .ok (.return_, 1) := dk_177 (dk_at dksX2_add_1 19 rfl rfl)
abbrev cX2_passHour : ByteArray := prog_3_method_18_code
def yX2_passHour : MethodName := ⟨RX2, "passHour", "()V"⟩
def dkwX2_passHour_7 : List UInt8 := [167, 255, 211, 42, 89, 180, 0, 64, 4, 96, 181, 0, 64, 177]
abbrev dktX2_passHour_7 : List UInt8 := dkwX2_passHour_7 ++ []
def dkwX2_passHour_6 : List UInt8 := [192, 0, 52, 77, 44, 44, 180, 0, 69, 44, 180, 0, 168, 184, 0, 88, 181, 0, 168, 132, 1, 1]
abbrev dktX2_passHour_6 : List UInt8 := dkwX2_passHour_6 ++ dktX2_passHour_7
def dkwX2_passHour_5 : List UInt8 := [27, 42, 180, 0, 22, 185, 0, 32, 1, 0, 162, 0, 38, 42, 180, 0, 22, 27, 185, 0, 38, 2, 0]
abbrev dktX2_passHour_5 : List UInt8 := dkwX2_passHour_5 ++ dktX2_passHour_6
def dkwX2_passHour_4 : List UInt8 := [160, 0, 16, 42, 44, 182, 0, 109, 154, 0, 8, 42, 44, 182, 0, 122, 132, 1, 1, 167, 255, 205, 3, 60]
abbrev dktX2_passHour_4 : List UInt8 := dkwX2_passHour_4 ++ dktX2_passHour_5
def dkwX2_passHour_3 : List UInt8 := [162, 0, 44, 42, 180, 0, 18, 27, 185, 0, 38, 2, 0, 192, 0, 42, 77, 44, 180, 0, 97, 7]
abbrev dktX2_passHour_3 : List UInt8 := dkwX2_passHour_3 ++ dktX2_passHour_4
def dkwX2_passHour_2 : List UInt8 := [182, 0, 159, 42, 182, 0, 162, 42, 182, 0, 165, 3, 60, 27, 42, 180, 0, 18, 185, 0, 32, 1, 0]
abbrev dktX2_passHour_2 : List UInt8 := dkwX2_passHour_2 ++ dktX2_passHour_3
def dkwX2_passHour_1 : List UInt8 := [185, 0, 38, 2, 0, 192, 0, 52, 182, 0, 153, 132, 1, 1, 167, 255, 224, 42, 182, 0, 156, 42]
abbrev dktX2_passHour_1 : List UInt8 := dkwX2_passHour_1 ++ dktX2_passHour_2
def dkwX2_passHour_0 : List UInt8 := [3, 60, 27, 42, 180, 0, 22, 185, 0, 32, 1, 0, 162, 0, 25, 42, 180, 0, 22, 27]
abbrev dktX2_passHour_0 : List UInt8 := dkwX2_passHour_0 ++ dktX2_passHour_1
theorem dksX2_passHour_0 : cX2_passHour.data.toList.drop 0 = dktX2_passHour_0 := by decide +kernel
theorem dksX2_passHour_1 : cX2_passHour.data.toList.drop 20 = dktX2_passHour_1 := dk_seg dksX2_passHour_0 20 rfl rfl
theorem dksX2_passHour_2 : cX2_passHour.data.toList.drop 42 = dktX2_passHour_2 := dk_seg dksX2_passHour_1 22 rfl rfl
theorem dksX2_passHour_3 : cX2_passHour.data.toList.drop 65 = dktX2_passHour_3 := dk_seg dksX2_passHour_2 23 rfl rfl
theorem dksX2_passHour_4 : cX2_passHour.data.toList.drop 87 = dktX2_passHour_4 := dk_seg dksX2_passHour_3 22 rfl rfl
theorem dksX2_passHour_5 : cX2_passHour.data.toList.drop 111 = dktX2_passHour_5 := dk_seg dksX2_passHour_4 24 rfl rfl
theorem dksX2_passHour_6 : cX2_passHour.data.toList.drop 134 = dktX2_passHour_6 := dk_seg dksX2_passHour_5 23 rfl rfl
theorem dksX2_passHour_7 : cX2_passHour.data.toList.drop 156 = dktX2_passHour_7 := dk_seg dksX2_passHour_6 22 rfl rfl
theorem dX2_passHour_0 : decode cX2_passHour 0 = .ok (.iconst 0, 1) := dk_3 (dk_at dksX2_passHour_0 0 rfl rfl)
theorem dX2_passHour_1 : decode cX2_passHour 1 = .ok (.istore_n 1, 1) := dk_60 (dk_at dksX2_passHour_0 1 rfl rfl)
theorem dX2_passHour_2 : decode cX2_passHour 2 = .ok (.iload_n 1, 1) := dk_27 (dk_at dksX2_passHour_0 2 rfl rfl)
theorem dX2_passHour_3 : decode cX2_passHour 3 = .ok (.aload_n 0, 1) := dk_42 (dk_at dksX2_passHour_0 3 rfl rfl)
theorem dX2_passHour_4 : decode cX2_passHour 4 = .ok (.getfield 22, 3) := dk_180 0 22 (dk_at dksX2_passHour_0 4 rfl rfl)
theorem dX2_passHour_7 : decode cX2_passHour 7 = .ok (.invokeinterface 32 1, 5) := by decide +kernel
theorem dX2_passHour_12 : decode cX2_passHour 12 = .ok (.if_icmp .ge 25, 3) := dk_162 0 25 (dk_at dksX2_passHour_0 12 rfl rfl)
theorem dX2_passHour_15 : decode cX2_passHour 15 = .ok (.aload_n 0, 1) := dk_42 (dk_at dksX2_passHour_0 15 rfl rfl)
theorem dX2_passHour_16 : decode cX2_passHour 16 = .ok (.getfield 22, 3) := dk_180 0 22 (dk_at dksX2_passHour_0 16 rfl rfl)
theorem dX2_passHour_19 : decode cX2_passHour 19 = .ok (.iload_n 1, 1) := dk_27 (dk_at dksX2_passHour_0 19 rfl rfl)
theorem dX2_passHour_20 : decode cX2_passHour 20 = .ok (.invokeinterface 38 2, 5) := by decide +kernel
theorem dX2_passHour_25 : decode cX2_passHour 25 = .ok (.checkcast 52, 3) := dk_192 0 52 (dk_at dksX2_passHour_1 5 rfl rfl)
theorem dX2_passHour_28 : decode cX2_passHour 28 = .ok (.invokevirtual 153, 3) := dk_182 0 153 (dk_at dksX2_passHour_1 8 rfl rfl)
theorem dX2_passHour_31 : decode cX2_passHour 31 = .ok (.iinc 1 1, 3) := dk_132 1 1 (dk_at dksX2_passHour_1 11 rfl rfl)
theorem dX2_passHour_34 : decode cX2_passHour 34 = .ok (.goto (-32), 3) := dk_167 255 224 (dk_at dksX2_passHour_1 14 rfl rfl)
theorem dX2_passHour_37 : decode cX2_passHour 37 = .ok (.aload_n 0, 1) := dk_42 (dk_at dksX2_passHour_1 17 rfl rfl)
theorem dX2_passHour_38 : decode cX2_passHour 38 = .ok (.invokevirtual 156, 3) := dk_182 0 156 (dk_at dksX2_passHour_1 18 rfl rfl)
theorem dX2_passHour_41 : decode cX2_passHour 41 = .ok (.aload_n 0, 1) := dk_42 (dk_at dksX2_passHour_1 21 rfl rfl)
theorem dX2_passHour_42 : decode cX2_passHour 42 = .ok (.invokevirtual 159, 3) := dk_182 0 159 (dk_at dksX2_passHour_2 0 rfl rfl)
theorem dX2_passHour_45 : decode cX2_passHour 45 = .ok (.aload_n 0, 1) := dk_42 (dk_at dksX2_passHour_2 3 rfl rfl)
theorem dX2_passHour_46 : decode cX2_passHour 46 = .ok (.invokevirtual 162, 3) := dk_182 0 162 (dk_at dksX2_passHour_2 4 rfl rfl)
theorem dX2_passHour_49 : decode cX2_passHour 49 = .ok (.aload_n 0, 1) := dk_42 (dk_at dksX2_passHour_2 7 rfl rfl)
theorem dX2_passHour_50 : decode cX2_passHour 50 = .ok (.invokevirtual 165, 3) := dk_182 0 165 (dk_at dksX2_passHour_2 8 rfl rfl)
theorem dX2_passHour_53 : decode cX2_passHour 53 = .ok (.iconst 0, 1) := dk_3 (dk_at dksX2_passHour_2 11 rfl rfl)
theorem dX2_passHour_54 : decode cX2_passHour 54 = .ok (.istore_n 1, 1) := dk_60 (dk_at dksX2_passHour_2 12 rfl rfl)
theorem dX2_passHour_55 : decode cX2_passHour 55 = .ok (.iload_n 1, 1) := dk_27 (dk_at dksX2_passHour_2 13 rfl rfl)
theorem dX2_passHour_56 : decode cX2_passHour 56 = .ok (.aload_n 0, 1) := dk_42 (dk_at dksX2_passHour_2 14 rfl rfl)
theorem dX2_passHour_57 : decode cX2_passHour 57 = .ok (.getfield 18, 3) := dk_180 0 18 (dk_at dksX2_passHour_2 15 rfl rfl)
theorem dX2_passHour_60 : decode cX2_passHour 60 = .ok (.invokeinterface 32 1, 5) := by decide +kernel
theorem dX2_passHour_65 : decode cX2_passHour 65 = .ok (.if_icmp .ge 44, 3) := dk_162 0 44 (dk_at dksX2_passHour_3 0 rfl rfl)
theorem dX2_passHour_68 : decode cX2_passHour 68 = .ok (.aload_n 0, 1) := dk_42 (dk_at dksX2_passHour_3 3 rfl rfl)
theorem dX2_passHour_69 : decode cX2_passHour 69 = .ok (.getfield 18, 3) := dk_180 0 18 (dk_at dksX2_passHour_3 4 rfl rfl)
theorem dX2_passHour_72 : decode cX2_passHour 72 = .ok (.iload_n 1, 1) := dk_27 (dk_at dksX2_passHour_3 7 rfl rfl)
theorem dX2_passHour_73 : decode cX2_passHour 73 = .ok (.invokeinterface 38 2, 5) := by decide +kernel
theorem dX2_passHour_78 : decode cX2_passHour 78 = .ok (.checkcast 42, 3) := dk_192 0 42 (dk_at dksX2_passHour_3 13 rfl rfl)
theorem dX2_passHour_81 : decode cX2_passHour 81 = .ok (.astore_n 2, 1) := dk_77 (dk_at dksX2_passHour_3 16 rfl rfl)
theorem dX2_passHour_82 : decode cX2_passHour 82 = .ok (.aload_n 2, 1) := dk_44 (dk_at dksX2_passHour_3 17 rfl rfl)
theorem dX2_passHour_83 : decode cX2_passHour 83 = .ok (.getfield 97, 3) := dk_180 0 97 (dk_at dksX2_passHour_3 18 rfl rfl)
theorem dX2_passHour_86 : decode cX2_passHour 86 = .ok (.iconst 4, 1) := dk_7 (dk_at dksX2_passHour_3 21 rfl rfl)
theorem dX2_passHour_87 : decode cX2_passHour 87 = .ok (.if_icmp .ne 16, 3) := dk_160 0 16 (dk_at dksX2_passHour_4 0 rfl rfl)
theorem dX2_passHour_90 : decode cX2_passHour 90 = .ok (.aload_n 0, 1) := dk_42 (dk_at dksX2_passHour_4 3 rfl rfl)
theorem dX2_passHour_91 : decode cX2_passHour 91 = .ok (.aload_n 2, 1) := dk_44 (dk_at dksX2_passHour_4 4 rfl rfl)
theorem dX2_passHour_92 : decode cX2_passHour 92 = .ok (.invokevirtual 109, 3) := dk_182 0 109 (dk_at dksX2_passHour_4 5 rfl rfl)
theorem dX2_passHour_95 : decode cX2_passHour 95 = .ok (.ifCond .ne 8, 3) := dk_154 0 8 (dk_at dksX2_passHour_4 8 rfl rfl)
theorem dX2_passHour_98 : decode cX2_passHour 98 = .ok (.aload_n 0, 1) := dk_42 (dk_at dksX2_passHour_4 11 rfl rfl)
theorem dX2_passHour_99 : decode cX2_passHour 99 = .ok (.aload_n 2, 1) := dk_44 (dk_at dksX2_passHour_4 12 rfl rfl)
theorem dX2_passHour_100 : decode cX2_passHour 100 = .ok (.invokevirtual 122, 3) := dk_182 0 122 (dk_at dksX2_passHour_4 13 rfl rfl)
theorem dX2_passHour_103 : decode cX2_passHour 103 = .ok (.iinc 1 1, 3) := dk_132 1 1 (dk_at dksX2_passHour_4 16 rfl rfl)
theorem dX2_passHour_106 : decode cX2_passHour 106 = .ok (.goto (-51), 3) := dk_167 255 205 (dk_at dksX2_passHour_4 19 rfl rfl)
theorem dX2_passHour_109 : decode cX2_passHour 109 = .ok (.iconst 0, 1) := dk_3 (dk_at dksX2_passHour_4 22 rfl rfl)
theorem dX2_passHour_110 : decode cX2_passHour 110 = .ok (.istore_n 1, 1) := dk_60 (dk_at dksX2_passHour_4 23 rfl rfl)
theorem dX2_passHour_111 : decode cX2_passHour 111 = .ok (.iload_n 1, 1) := dk_27 (dk_at dksX2_passHour_5 0 rfl rfl)
theorem dX2_passHour_112 : decode cX2_passHour 112 = .ok (.aload_n 0, 1) := dk_42 (dk_at dksX2_passHour_5 1 rfl rfl)
theorem dX2_passHour_113 : decode cX2_passHour 113 = .ok (.getfield 22, 3) := dk_180 0 22 (dk_at dksX2_passHour_5 2 rfl rfl)
theorem dX2_passHour_116 : decode cX2_passHour 116 = .ok (.invokeinterface 32 1, 5) := by decide +kernel
theorem dX2_passHour_121 : decode cX2_passHour 121 = .ok (.if_icmp .ge 38, 3) := dk_162 0 38 (dk_at dksX2_passHour_5 10 rfl rfl)
theorem dX2_passHour_124 : decode cX2_passHour 124 = .ok (.aload_n 0, 1) := dk_42 (dk_at dksX2_passHour_5 13 rfl rfl)
theorem dX2_passHour_125 : decode cX2_passHour 125 = .ok (.getfield 22, 3) := dk_180 0 22 (dk_at dksX2_passHour_5 14 rfl rfl)
theorem dX2_passHour_128 : decode cX2_passHour 128 = .ok (.iload_n 1, 1) := dk_27 (dk_at dksX2_passHour_5 17 rfl rfl)
theorem dX2_passHour_129 : decode cX2_passHour 129 = .ok (.invokeinterface 38 2, 5) := by decide +kernel
theorem dX2_passHour_134 : decode cX2_passHour 134 = .ok (.checkcast 52, 3) := dk_192 0 52 (dk_at dksX2_passHour_6 0 rfl rfl)
theorem dX2_passHour_137 : decode cX2_passHour 137 = .ok (.astore_n 2, 1) := dk_77 (dk_at dksX2_passHour_6 3 rfl rfl)
theorem dX2_passHour_138 : decode cX2_passHour 138 = .ok (.aload_n 2, 1) := dk_44 (dk_at dksX2_passHour_6 4 rfl rfl)
theorem dX2_passHour_139 : decode cX2_passHour 139 = .ok (.aload_n 2, 1) := dk_44 (dk_at dksX2_passHour_6 5 rfl rfl)
theorem dX2_passHour_140 : decode cX2_passHour 140 = .ok (.getfield 69, 3) := dk_180 0 69 (dk_at dksX2_passHour_6 6 rfl rfl)
theorem dX2_passHour_143 : decode cX2_passHour 143 = .ok (.aload_n 2, 1) := dk_44 (dk_at dksX2_passHour_6 9 rfl rfl)
theorem dX2_passHour_144 : decode cX2_passHour 144 = .ok (.getfield 168, 3) := dk_180 0 168 (dk_at dksX2_passHour_6 10 rfl rfl)
theorem dX2_passHour_147 : decode cX2_passHour 147 = .ok (.invokestatic 88, 3) := dk_184 0 88 (dk_at dksX2_passHour_6 13 rfl rfl)
theorem dX2_passHour_150 : decode cX2_passHour 150 = .ok (.putfield 168, 3) := dk_181 0 168 (dk_at dksX2_passHour_6 16 rfl rfl)
theorem dX2_passHour_153 : decode cX2_passHour 153 = .ok (.iinc 1 1, 3) := dk_132 1 1 (dk_at dksX2_passHour_6 19 rfl rfl)
theorem dX2_passHour_156 : decode cX2_passHour 156 = .ok (.goto (-45), 3) := dk_167 255 211 (dk_at dksX2_passHour_7 0 rfl rfl)
theorem dX2_passHour_159 : decode cX2_passHour 159 = .ok (.aload_n 0, 1) := dk_42 (dk_at dksX2_passHour_7 3 rfl rfl)
theorem dX2_passHour_160 : decode cX2_passHour 160 = .ok (.dup, 1) := dk_89 (dk_at dksX2_passHour_7 4 rfl rfl)
theorem dX2_passHour_161 : decode cX2_passHour 161 = .ok (.getfield 64, 3) := dk_180 0 64 (dk_at dksX2_passHour_7 5 rfl rfl)
theorem dX2_passHour_164 : decode cX2_passHour 164 = .ok (.iconst 1, 1) := dk_4 (dk_at dksX2_passHour_7 8 rfl rfl)
theorem dX2_passHour_165 : decode cX2_passHour 165 = .ok (.iadd, 1) := dk_96 (dk_at dksX2_passHour_7 9 rfl rfl)
theorem dX2_passHour_166 : decode cX2_passHour 166 = .ok (.putfield 64, 3) := dk_181 0 64 (dk_at dksX2_passHour_7 10 rfl rfl)
theorem dX2_passHour_169 : decode cX2_passHour 169 = .ok (.return_, 1) := dk_177 (dk_at dksX2_passHour_7 13 rfl rfl)
abbrev cX2_activate : ByteArray := prog_3_method_9_code
def yX2_activate : MethodName := ⟨RX2, "activate", "()V"⟩
def dkwX2_activate_4 : List UInt8 := [182, 0, 109, 153, 0, 13, 45, 6, 181, 0, 97, 45, 3, 181, 0, 113, 132, 2, 1, 167, 255, 168, 177]
abbrev dktX2_activate_4 : List UInt8 := dkwX2_activate_4 ++ []
def dkwX2_activate_3 : List UInt8 := [5, 159, 0, 11, 27, 153, 0, 7, 4, 167, 0, 4, 3, 54, 4, 21, 4, 153, 0, 21, 42, 45]
abbrev dktX2_activate_3 : List UInt8 := dkwX2_activate_3 ++ dktX2_activate_4
def dkwX2_activate_2 : List UInt8 := [192, 0, 42, 78, 45, 180, 0, 97, 8, 159, 0, 23, 45, 180, 0, 97, 5, 160, 0, 19, 45, 180, 0, 106]
abbrev dktX2_activate_2 : List UInt8 := dkwX2_activate_2 ++ dktX2_activate_3
def dkwX2_activate_1 : List UInt8 := [28, 42, 180, 0, 18, 185, 0, 32, 1, 0, 162, 0, 81, 42, 180, 0, 18, 28, 185, 0, 38, 2, 0]
abbrev dktX2_activate_1 : List UInt8 := dkwX2_activate_1 ++ dktX2_activate_2
def dkwX2_activate_0 : List UInt8 := [42, 182, 0, 100, 42, 180, 0, 3, 180, 0, 103, 6, 46, 161, 0, 7, 4, 167, 0, 4, 3, 60, 3, 61]
abbrev dktX2_activate_0 : List UInt8 := dkwX2_activate_0 ++ dktX2_activate_1
theorem dksX2_activate_0 : cX2_activate.data.toList.drop 0 = dktX2_activate_0 := by decide +kernel
theorem dksX2_activate_1 : cX2_activate.data.toList.drop 24 = dktX2_activate_1 := dk_seg dksX2_activate_0 24 rfl rfl
theorem dksX2_activate_2 : cX2_activate.data.toList.drop 47 = dktX2_activate_2 := dk_seg dksX2_activate_1 23 rfl rfl
theorem dksX2_activate_3 : cX2_activate.data.toList.drop 71 = dktX2_activate_3 := dk_seg dksX2_activate_2 24 rfl rfl
theorem dksX2_activate_4 : cX2_activate.data.toList.drop 93 = dktX2_activate_4 := dk_seg dksX2_activate_3 22 rfl rfl
theorem dX2_activate_0 : decode cX2_activate 0 = .ok (.aload_n 0, 1) := dk_42 (dk_at dksX2_activate_0 0 rfl rfl)
theorem dX2_activate_1 : decode cX2_activate 1 = .ok (.invokevirtual 100, 3) := dk_182 0 100 (dk_at dksX2_activate_0 1 rfl rfl)
theorem dX2_activate_4 : decode cX2_activate 4 = .ok (.aload_n 0, 1) := dk_42 (dk_at dksX2_activate_0 4 rfl rfl)
theorem dX2_activate_5 : decode cX2_activate 5 = .ok (.getfield 3, 3) := dk_180 0 3 (dk_at dksX2_activate_0 5 rfl rfl)
theorem dX2_activate_8 : decode cX2_activate 8 = .ok (.getfield 103, 3) := dk_180 0 103 (dk_at dksX2_activate_0 8 rfl rfl)
theorem dX2_activate_11 : decode cX2_activate 11 = .ok (.iconst 3, 1) := dk_6 (dk_at dksX2_activate_0 11 rfl rfl)
theorem dX2_activate_12 : decode cX2_activate 12 = .ok (.iaload, 1) := dk_46 (dk_at dksX2_activate_0 12 rfl rfl)
theorem dX2_activate_13 : decode cX2_activate 13 = .ok (.if_icmp .lt 7, 3) := dk_161 0 7 (dk_at dksX2_activate_0 13 rfl rfl)
theorem dX2_activate_16 : decode cX2_activate 16 = .ok (.iconst 1, 1) := dk_4 (dk_at dksX2_activate_0 16 rfl rfl)
theorem dX2_activate_17 : decode cX2_activate 17 = .ok (.goto 4, 3) := dk_167 0 4 (dk_at dksX2_activate_0 17 rfl rfl)
theorem dX2_activate_20 : decode cX2_activate 20 = .ok (.iconst 0, 1) := dk_3 (dk_at dksX2_activate_0 20 rfl rfl)
theorem dX2_activate_21 : decode cX2_activate 21 = .ok (.istore_n 1, 1) := dk_60 (dk_at dksX2_activate_0 21 rfl rfl)
theorem dX2_activate_22 : decode cX2_activate 22 = .ok (.iconst 0, 1) := dk_3 (dk_at dksX2_activate_0 22 rfl rfl)
theorem dX2_activate_23 : decode cX2_activate 23 = .ok (.istore_n 2, 1) := dk_61 (dk_at dksX2_activate_0 23 rfl rfl)
theorem dX2_activate_24 : decode cX2_activate 24 = .ok (.iload_n 2, 1) := dk_28 (dk_at dksX2_activate_1 0 rfl rfl)
theorem dX2_activate_25 : decode cX2_activate 25 = .ok (.aload_n 0, 1) := dk_42 (dk_at dksX2_activate_1 1 rfl rfl)
theorem dX2_activate_26 : decode cX2_activate 26 = .ok (.getfield 18, 3) := dk_180 0 18 (dk_at dksX2_activate_1 2 rfl rfl)
theorem dX2_activate_29 : decode cX2_activate 29 = .ok (.invokeinterface 32 1, 5) := by decide +kernel
theorem dX2_activate_34 : decode cX2_activate 34 = .ok (.if_icmp .ge 81, 3) := dk_162 0 81 (dk_at dksX2_activate_1 10 rfl rfl)
theorem dX2_activate_37 : decode cX2_activate 37 = .ok (.aload_n 0, 1) := dk_42 (dk_at dksX2_activate_1 13 rfl rfl)
theorem dX2_activate_38 : decode cX2_activate 38 = .ok (.getfield 18, 3) := dk_180 0 18 (dk_at dksX2_activate_1 14 rfl rfl)
theorem dX2_activate_41 : decode cX2_activate 41 = .ok (.iload_n 2, 1) := dk_28 (dk_at dksX2_activate_1 17 rfl rfl)
theorem dX2_activate_42 : decode cX2_activate 42 = .ok (.invokeinterface 38 2, 5) := by decide +kernel
theorem dX2_activate_47 : decode cX2_activate 47 = .ok (.checkcast 42, 3) := dk_192 0 42 (dk_at dksX2_activate_2 0 rfl rfl)
theorem dX2_activate_50 : decode cX2_activate 50 = .ok (.astore_n 3, 1) := dk_78 (dk_at dksX2_activate_2 3 rfl rfl)
theorem dX2_activate_51 : decode cX2_activate 51 = .ok (.aload_n 3, 1) := dk_45 (dk_at dksX2_activate_2 4 rfl rfl)
theorem dX2_activate_52 : decode cX2_activate 52 = .ok (.getfield 97, 3) := dk_180 0 97 (dk_at dksX2_activate_2 5 rfl rfl)
theorem dX2_activate_55 : decode cX2_activate 55 = .ok (.iconst 5, 1) := dk_8 (dk_at dksX2_activate_2 8 rfl rfl)
theorem dX2_activate_56 : decode cX2_activate 56 = .ok (.if_icmp .eq 23, 3) := dk_159 0 23 (dk_at dksX2_activate_2 9 rfl rfl)
theorem dX2_activate_59 : decode cX2_activate 59 = .ok (.aload_n 3, 1) := dk_45 (dk_at dksX2_activate_2 12 rfl rfl)
theorem dX2_activate_60 : decode cX2_activate 60 = .ok (.getfield 97, 3) := dk_180 0 97 (dk_at dksX2_activate_2 13 rfl rfl)
theorem dX2_activate_63 : decode cX2_activate 63 = .ok (.iconst 2, 1) := dk_5 (dk_at dksX2_activate_2 16 rfl rfl)
theorem dX2_activate_64 : decode cX2_activate 64 = .ok (.if_icmp .ne 19, 3) := dk_160 0 19 (dk_at dksX2_activate_2 17 rfl rfl)
theorem dX2_activate_67 : decode cX2_activate 67 = .ok (.aload_n 3, 1) := dk_45 (dk_at dksX2_activate_2 20 rfl rfl)
theorem dX2_activate_68 : decode cX2_activate 68 = .ok (.getfield 106, 3) := dk_180 0 106 (dk_at dksX2_activate_2 21 rfl rfl)
theorem dX2_activate_71 : decode cX2_activate 71 = .ok (.iconst 2, 1) := dk_5 (dk_at dksX2_activate_3 0 rfl rfl)
theorem dX2_activate_72 : decode cX2_activate 72 = .ok (.if_icmp .eq 11, 3) := dk_159 0 11 (dk_at dksX2_activate_3 1 rfl rfl)
theorem dX2_activate_75 : decode cX2_activate 75 = .ok (.iload_n 1, 1) := dk_27 (dk_at dksX2_activate_3 4 rfl rfl)
theorem dX2_activate_76 : decode cX2_activate 76 = .ok (.ifCond .eq 7, 3) := dk_153 0 7 (dk_at dksX2_activate_3 5 rfl rfl)
theorem dX2_activate_79 : decode cX2_activate 79 = .ok (.iconst 1, 1) := dk_4 (dk_at dksX2_activate_3 8 rfl rfl)
theorem dX2_activate_80 : decode cX2_activate 80 = .ok (.goto 4, 3) := dk_167 0 4 (dk_at dksX2_activate_3 9 rfl rfl)
theorem dX2_activate_83 : decode cX2_activate 83 = .ok (.iconst 0, 1) := dk_3 (dk_at dksX2_activate_3 12 rfl rfl)
theorem dX2_activate_84 : decode cX2_activate 84 = .ok (.istore 4, 2) := dk_54 4 (dk_at dksX2_activate_3 13 rfl rfl)
theorem dX2_activate_86 : decode cX2_activate 86 = .ok (.iload 4, 2) := dk_21 4 (dk_at dksX2_activate_3 15 rfl rfl)
theorem dX2_activate_88 : decode cX2_activate 88 = .ok (.ifCond .eq 21, 3) := dk_153 0 21 (dk_at dksX2_activate_3 17 rfl rfl)
theorem dX2_activate_91 : decode cX2_activate 91 = .ok (.aload_n 0, 1) := dk_42 (dk_at dksX2_activate_3 20 rfl rfl)
theorem dX2_activate_92 : decode cX2_activate 92 = .ok (.aload_n 3, 1) := dk_45 (dk_at dksX2_activate_3 21 rfl rfl)
theorem dX2_activate_93 : decode cX2_activate 93 = .ok (.invokevirtual 109, 3) := dk_182 0 109 (dk_at dksX2_activate_4 0 rfl rfl)
theorem dX2_activate_96 : decode cX2_activate 96 = .ok (.ifCond .eq 13, 3) := dk_153 0 13 (dk_at dksX2_activate_4 3 rfl rfl)
theorem dX2_activate_99 : decode cX2_activate 99 = .ok (.aload_n 3, 1) := dk_45 (dk_at dksX2_activate_4 6 rfl rfl)
theorem dX2_activate_100 : decode cX2_activate 100 = .ok (.iconst 3, 1) := dk_6 (dk_at dksX2_activate_4 7 rfl rfl)
theorem dX2_activate_101 : decode cX2_activate 101 = .ok (.putfield 97, 3) := dk_181 0 97 (dk_at dksX2_activate_4 8 rfl rfl)
theorem dX2_activate_104 : decode cX2_activate 104 = .ok (.aload_n 3, 1) := dk_45 (dk_at dksX2_activate_4 11 rfl rfl)
theorem dX2_activate_105 : decode cX2_activate 105 = .ok (.iconst 0, 1) := dk_3 (dk_at dksX2_activate_4 12 rfl rfl)
theorem dX2_activate_106 : decode cX2_activate 106 = .ok (.putfield 113, 3) := dk_181 0 113 (dk_at dksX2_activate_4 13 rfl rfl)
theorem dX2_activate_109 : decode cX2_activate 109 = .ok (.iinc 2 1, 3) := dk_132 2 1 (dk_at dksX2_activate_4 16 rfl rfl)
theorem dX2_activate_112 : decode cX2_activate 112 = .ok (.goto (-88), 3) := dk_167 255 168 (dk_at dksX2_activate_4 19 rfl rfl)
theorem dX2_activate_115 : decode cX2_activate 115 = .ok (.return_, 1) := dk_177 (dk_at dksX2_activate_4 22 rfl rfl)
abbrev cX2_invaderSizes : ByteArray := prog_3_method_6_code
def yX2_invaderSizes : MethodName := ⟨RX2, "invaderSizes", "()I"⟩
def dkwX2_invaderSizes_1 : List UInt8 := [185, 0, 38, 2, 0, 192, 0, 52, 180, 0, 69, 96, 60, 132, 2, 1, 167, 255, 221, 27, 172]
abbrev dktX2_invaderSizes_1 : List UInt8 := dkwX2_invaderSizes_1 ++ []
def dkwX2_invaderSizes_0 : List UInt8 := [3, 60, 3, 61, 28, 42, 180, 0, 22, 185, 0, 32, 1, 0, 162, 0, 28, 27, 42, 180, 0, 22, 28]
abbrev dktX2_invaderSizes_0 : List UInt8 := dkwX2_invaderSizes_0 ++ dktX2_invaderSizes_1
theorem dksX2_invaderSizes_0 : cX2_invaderSizes.data.toList.drop 0 = dktX2_invaderSizes_0 := by decide +kernel
theorem dksX2_invaderSizes_1 : cX2_invaderSizes.data.toList.drop 23 = dktX2_invaderSizes_1 := dk_seg dksX2_invaderSizes_0 23 rfl rfl
theorem dX2_invaderSizes_0 : decode cX2_invaderSizes 0 = .ok (.iconst 0, 1) := dk_3 (dk_at dksX2_invaderSizes_0 0 rfl rfl)
theorem dX2_invaderSizes_1 : decode cX2_invaderSizes 1 = .ok (.istore_n 1, 1) := dk_60 (dk_at dksX2_invaderSizes_0 1 rfl rfl)
theorem dX2_invaderSizes_2 : decode cX2_invaderSizes 2 = .ok (.iconst 0, 1) := dk_3 (dk_at dksX2_invaderSizes_0 2 rfl rfl)
theorem dX2_invaderSizes_3 : decode cX2_invaderSizes 3 = .ok (.istore_n 2, 1) := dk_61 (dk_at dksX2_invaderSizes_0 3 rfl rfl)
theorem dX2_invaderSizes_4 : decode cX2_invaderSizes 4 = .ok (.iload_n 2, 1) := dk_28 (dk_at dksX2_invaderSizes_0 4 rfl rfl)
theorem dX2_invaderSizes_5 : decode cX2_invaderSizes 5 = .ok (.aload_n 0, 1) := dk_42 (dk_at dksX2_invaderSizes_0 5 rfl rfl)
theorem dX2_invaderSizes_6 : decode cX2_invaderSizes 6 = .ok (.getfield 22, 3) := dk_180 0 22 (dk_at dksX2_invaderSizes_0 6 rfl rfl)
theorem dX2_invaderSizes_9 : decode cX2_invaderSizes 9 = .ok (.invokeinterface 32 1, 5) := by decide +kernel
theorem dX2_invaderSizes_14 : decode cX2_invaderSizes 14 = .ok (.if_icmp .ge 28, 3) := dk_162 0 28 (dk_at dksX2_invaderSizes_0 14 rfl rfl)
theorem dX2_invaderSizes_17 : decode cX2_invaderSizes 17 = .ok (.iload_n 1, 1) := dk_27 (dk_at dksX2_invaderSizes_0 17 rfl rfl)
theorem dX2_invaderSizes_18 : decode cX2_invaderSizes 18 = .ok (.aload_n 0, 1) := dk_42 (dk_at dksX2_invaderSizes_0 18 rfl rfl)
theorem dX2_invaderSizes_19 : decode cX2_invaderSizes 19 = .ok (.getfield 22, 3) := dk_180 0 22 (dk_at dksX2_invaderSizes_0 19 rfl rfl)
theorem dX2_invaderSizes_22 : decode cX2_invaderSizes 22 = .ok (.iload_n 2, 1) := dk_28 (dk_at dksX2_invaderSizes_0 22 rfl rfl)
theorem dX2_invaderSizes_23 : decode cX2_invaderSizes 23 = .ok (.invokeinterface 38 2, 5) := by decide +kernel
theorem dX2_invaderSizes_28 : decode cX2_invaderSizes 28 = .ok (.checkcast 52, 3) := dk_192 0 52 (dk_at dksX2_invaderSizes_1 5 rfl rfl)
theorem dX2_invaderSizes_31 : decode cX2_invaderSizes 31 = .ok (.getfield 69, 3) := dk_180 0 69 (dk_at dksX2_invaderSizes_1 8 rfl rfl)
theorem dX2_invaderSizes_34 : decode cX2_invaderSizes 34 = .ok (.iadd, 1) := dk_96 (dk_at dksX2_invaderSizes_1 11 rfl rfl)
theorem dX2_invaderSizes_35 : decode cX2_invaderSizes 35 = .ok (.istore_n 1, 1) := dk_60 (dk_at dksX2_invaderSizes_1 12 rfl rfl)
theorem dX2_invaderSizes_36 : decode cX2_invaderSizes 36 = .ok (.iinc 2 1, 3) := dk_132 2 1 (dk_at dksX2_invaderSizes_1 13 rfl rfl)
theorem dX2_invaderSizes_39 : decode cX2_invaderSizes 39 = .ok (.goto (-35), 3) := dk_167 255 221 (dk_at dksX2_invaderSizes_1 16 rfl rfl)
theorem dX2_invaderSizes_42 : decode cX2_invaderSizes 42 = .ok (.iload_n 1, 1) := dk_27 (dk_at dksX2_invaderSizes_1 19 rfl rfl)
theorem dX2_invaderSizes_43 : decode cX2_invaderSizes 43 = .ok (.ireturn, 1) := dk_172 (dk_at dksX2_invaderSizes_1 20 rfl rfl)
abbrev cX2_meets : ByteArray := prog_3_method_5_code
def yX2_meets : MethodName := ⟨RX2, "meets", "(LKeylockBody$Cell;)Z"⟩
def dkwX2_meets_0 : List UInt8 := [42, 43, 182, 0, 84, 2, 159, 0, 7, 4, 167, 0, 4, 3, 172]
abbrev dktX2_meets_0 : List UInt8 := dkwX2_meets_0 ++ []
theorem dksX2_meets_0 : cX2_meets.data.toList.drop 0 = dktX2_meets_0 := by decide +kernel
theorem dX2_meets_0 : decode cX2_meets 0 = .ok (.aload_n 0, 1) := dk_42 (dk_at dksX2_meets_0 0 rfl rfl)
theorem dX2_meets_1 : decode cX2_meets 1 = .ok (.aload_n 1, 1) := dk_43 (dk_at dksX2_meets_0 1 rfl rfl)
theorem dX2_meets_2 : decode cX2_meets 2 = .ok (.invokevirtual 84, 3) := dk_182 0 84 (dk_at dksX2_meets_0 2 rfl rfl)
theorem dX2_meets_5 : decode cX2_meets 5 = .ok (.iconst (-1), 1) := dk_2 (dk_at dksX2_meets_0 5 rfl rfl)
theorem dX2_meets_6 : decode cX2_meets 6 = .ok (.if_icmp .eq 7, 3) := dk_159 0 7 (dk_at dksX2_meets_0 6 rfl rfl)
theorem dX2_meets_9 : decode cX2_meets 9 = .ok (.iconst 1, 1) := dk_4 (dk_at dksX2_meets_0 9 rfl rfl)
theorem dX2_meets_10 : decode cX2_meets 10 = .ok (.goto 4, 3) := dk_167 0 4 (dk_at dksX2_meets_0 10 rfl rfl)
theorem dX2_meets_13 : decode cX2_meets 13 = .ok (.iconst 0, 1) := dk_3 (dk_at dksX2_meets_0 13 rfl rfl)
theorem dX2_meets_14 : decode cX2_meets 14 = .ok (.ireturn, 1) := dk_172 (dk_at dksX2_meets_0 14 rfl rfl)
abbrev cX2_metBy : ByteArray := prog_3_method_4_code
def yX2_metBy : MethodName := ⟨RX2, "metBy", "(LKeylockBody$Cell;)I"⟩
def dkwX2_metBy_6 : List UInt8 := [28, 61, 132, 3, 1, 167, 255, 117, 28, 172]
abbrev dktX2_metBy_6 : List UInt8 := dkwX2_metBy_6 ++ []
def dkwX2_metBy_5 : List UInt8 := [164, 0, 7, 4, 167, 0, 4, 3, 54, 6, 21, 5, 153, 0, 12, 21, 6, 153, 0, 7, 29, 167, 0, 4]
abbrev dktX2_metBy_5 : List UInt8 := dkwX2_metBy_5 ++ dktX2_metBy_6
def dkwX2_metBy_4 : List UInt8 := [180, 0, 70, 42, 180, 0, 22, 28, 185, 0, 38, 2, 0, 192, 0, 52, 180, 0, 73, 182, 0, 80]
abbrev dktX2_metBy_4 : List UInt8 := dkwX2_metBy_4 ++ dktX2_metBy_5
def dkwX2_metBy_3 : List UInt8 := [159, 0, 49, 42, 180, 0, 3, 43, 180, 0, 70, 25, 4, 180, 0, 73, 182, 0, 80, 42, 180, 0, 3, 43]
abbrev dktX2_metBy_3 : List UInt8 := dkwX2_metBy_3 ++ dktX2_metBy_4
def dkwX2_metBy_2 : List UInt8 := [180, 0, 70, 25, 4, 180, 0, 73, 182, 0, 76, 153, 0, 7, 4, 167, 0, 4, 3, 54, 5, 28, 2]
abbrev dktX2_metBy_2 : List UInt8 := dkwX2_metBy_2 ++ dktX2_metBy_3
def dkwX2_metBy_1 : List UInt8 := [185, 0, 38, 2, 0, 192, 0, 52, 58, 4, 25, 4, 180, 0, 69, 158, 0, 26, 42, 180, 0, 3, 43]
abbrev dktX2_metBy_1 : List UInt8 := dkwX2_metBy_1 ++ dktX2_metBy_2
def dkwX2_metBy_0 : List UInt8 := [2, 61, 3, 62, 29, 42, 180, 0, 22, 185, 0, 32, 1, 0, 162, 0, 132, 42, 180, 0, 22, 29]
abbrev dktX2_metBy_0 : List UInt8 := dkwX2_metBy_0 ++ dktX2_metBy_1
theorem dksX2_metBy_0 : cX2_metBy.data.toList.drop 0 = dktX2_metBy_0 := by decide +kernel
theorem dksX2_metBy_1 : cX2_metBy.data.toList.drop 22 = dktX2_metBy_1 := dk_seg dksX2_metBy_0 22 rfl rfl
theorem dksX2_metBy_2 : cX2_metBy.data.toList.drop 45 = dktX2_metBy_2 := dk_seg dksX2_metBy_1 23 rfl rfl
theorem dksX2_metBy_3 : cX2_metBy.data.toList.drop 68 = dktX2_metBy_3 := dk_seg dksX2_metBy_2 23 rfl rfl
theorem dksX2_metBy_4 : cX2_metBy.data.toList.drop 92 = dktX2_metBy_4 := dk_seg dksX2_metBy_3 24 rfl rfl
theorem dksX2_metBy_5 : cX2_metBy.data.toList.drop 114 = dktX2_metBy_5 := dk_seg dksX2_metBy_4 22 rfl rfl
theorem dksX2_metBy_6 : cX2_metBy.data.toList.drop 138 = dktX2_metBy_6 := dk_seg dksX2_metBy_5 24 rfl rfl
theorem dX2_metBy_0 : decode cX2_metBy 0 = .ok (.iconst (-1), 1) := dk_2 (dk_at dksX2_metBy_0 0 rfl rfl)
theorem dX2_metBy_1 : decode cX2_metBy 1 = .ok (.istore_n 2, 1) := dk_61 (dk_at dksX2_metBy_0 1 rfl rfl)
theorem dX2_metBy_2 : decode cX2_metBy 2 = .ok (.iconst 0, 1) := dk_3 (dk_at dksX2_metBy_0 2 rfl rfl)
theorem dX2_metBy_3 : decode cX2_metBy 3 = .ok (.istore_n 3, 1) := dk_62 (dk_at dksX2_metBy_0 3 rfl rfl)
theorem dX2_metBy_4 : decode cX2_metBy 4 = .ok (.iload_n 3, 1) := dk_29 (dk_at dksX2_metBy_0 4 rfl rfl)
theorem dX2_metBy_5 : decode cX2_metBy 5 = .ok (.aload_n 0, 1) := dk_42 (dk_at dksX2_metBy_0 5 rfl rfl)
theorem dX2_metBy_6 : decode cX2_metBy 6 = .ok (.getfield 22, 3) := dk_180 0 22 (dk_at dksX2_metBy_0 6 rfl rfl)
theorem dX2_metBy_9 : decode cX2_metBy 9 = .ok (.invokeinterface 32 1, 5) := by decide +kernel
theorem dX2_metBy_14 : decode cX2_metBy 14 = .ok (.if_icmp .ge 132, 3) := dk_162 0 132 (dk_at dksX2_metBy_0 14 rfl rfl)
theorem dX2_metBy_17 : decode cX2_metBy 17 = .ok (.aload_n 0, 1) := dk_42 (dk_at dksX2_metBy_0 17 rfl rfl)
theorem dX2_metBy_18 : decode cX2_metBy 18 = .ok (.getfield 22, 3) := dk_180 0 22 (dk_at dksX2_metBy_0 18 rfl rfl)
theorem dX2_metBy_21 : decode cX2_metBy 21 = .ok (.iload_n 3, 1) := dk_29 (dk_at dksX2_metBy_0 21 rfl rfl)
theorem dX2_metBy_22 : decode cX2_metBy 22 = .ok (.invokeinterface 38 2, 5) := by decide +kernel
theorem dX2_metBy_27 : decode cX2_metBy 27 = .ok (.checkcast 52, 3) := dk_192 0 52 (dk_at dksX2_metBy_1 5 rfl rfl)
theorem dX2_metBy_30 : decode cX2_metBy 30 = .ok (.astore 4, 2) := dk_58 4 (dk_at dksX2_metBy_1 8 rfl rfl)
theorem dX2_metBy_32 : decode cX2_metBy 32 = .ok (.aload 4, 2) := dk_25 4 (dk_at dksX2_metBy_1 10 rfl rfl)
theorem dX2_metBy_34 : decode cX2_metBy 34 = .ok (.getfield 69, 3) := dk_180 0 69 (dk_at dksX2_metBy_1 12 rfl rfl)
theorem dX2_metBy_37 : decode cX2_metBy 37 = .ok (.ifCond .le 26, 3) := dk_158 0 26 (dk_at dksX2_metBy_1 15 rfl rfl)
theorem dX2_metBy_40 : decode cX2_metBy 40 = .ok (.aload_n 0, 1) := dk_42 (dk_at dksX2_metBy_1 18 rfl rfl)
theorem dX2_metBy_41 : decode cX2_metBy 41 = .ok (.getfield 3, 3) := dk_180 0 3 (dk_at dksX2_metBy_1 19 rfl rfl)
theorem dX2_metBy_44 : decode cX2_metBy 44 = .ok (.aload_n 1, 1) := dk_43 (dk_at dksX2_metBy_1 22 rfl rfl)
theorem dX2_metBy_45 : decode cX2_metBy 45 = .ok (.getfield 70, 3) := dk_180 0 70 (dk_at dksX2_metBy_2 0 rfl rfl)
theorem dX2_metBy_48 : decode cX2_metBy 48 = .ok (.aload 4, 2) := dk_25 4 (dk_at dksX2_metBy_2 3 rfl rfl)
theorem dX2_metBy_50 : decode cX2_metBy 50 = .ok (.getfield 73, 3) := dk_180 0 73 (dk_at dksX2_metBy_2 5 rfl rfl)
theorem dX2_metBy_53 : decode cX2_metBy 53 = .ok (.invokevirtual 76, 3) := dk_182 0 76 (dk_at dksX2_metBy_2 8 rfl rfl)
theorem dX2_metBy_56 : decode cX2_metBy 56 = .ok (.ifCond .eq 7, 3) := dk_153 0 7 (dk_at dksX2_metBy_2 11 rfl rfl)
theorem dX2_metBy_59 : decode cX2_metBy 59 = .ok (.iconst 1, 1) := dk_4 (dk_at dksX2_metBy_2 14 rfl rfl)
theorem dX2_metBy_60 : decode cX2_metBy 60 = .ok (.goto 4, 3) := dk_167 0 4 (dk_at dksX2_metBy_2 15 rfl rfl)
theorem dX2_metBy_63 : decode cX2_metBy 63 = .ok (.iconst 0, 1) := dk_3 (dk_at dksX2_metBy_2 18 rfl rfl)
theorem dX2_metBy_64 : decode cX2_metBy 64 = .ok (.istore 5, 2) := dk_54 5 (dk_at dksX2_metBy_2 19 rfl rfl)
theorem dX2_metBy_66 : decode cX2_metBy 66 = .ok (.iload_n 2, 1) := dk_28 (dk_at dksX2_metBy_2 21 rfl rfl)
theorem dX2_metBy_67 : decode cX2_metBy 67 = .ok (.iconst (-1), 1) := dk_2 (dk_at dksX2_metBy_2 22 rfl rfl)
theorem dX2_metBy_68 : decode cX2_metBy 68 = .ok (.if_icmp .eq 49, 3) := dk_159 0 49 (dk_at dksX2_metBy_3 0 rfl rfl)
theorem dX2_metBy_71 : decode cX2_metBy 71 = .ok (.aload_n 0, 1) := dk_42 (dk_at dksX2_metBy_3 3 rfl rfl)
theorem dX2_metBy_72 : decode cX2_metBy 72 = .ok (.getfield 3, 3) := dk_180 0 3 (dk_at dksX2_metBy_3 4 rfl rfl)
theorem dX2_metBy_75 : decode cX2_metBy 75 = .ok (.aload_n 1, 1) := dk_43 (dk_at dksX2_metBy_3 7 rfl rfl)
theorem dX2_metBy_76 : decode cX2_metBy 76 = .ok (.getfield 70, 3) := dk_180 0 70 (dk_at dksX2_metBy_3 8 rfl rfl)
theorem dX2_metBy_79 : decode cX2_metBy 79 = .ok (.aload 4, 2) := dk_25 4 (dk_at dksX2_metBy_3 11 rfl rfl)
theorem dX2_metBy_81 : decode cX2_metBy 81 = .ok (.getfield 73, 3) := dk_180 0 73 (dk_at dksX2_metBy_3 13 rfl rfl)
theorem dX2_metBy_84 : decode cX2_metBy 84 = .ok (.invokevirtual 80, 3) := dk_182 0 80 (dk_at dksX2_metBy_3 16 rfl rfl)
theorem dX2_metBy_87 : decode cX2_metBy 87 = .ok (.aload_n 0, 1) := dk_42 (dk_at dksX2_metBy_3 19 rfl rfl)
theorem dX2_metBy_88 : decode cX2_metBy 88 = .ok (.getfield 3, 3) := dk_180 0 3 (dk_at dksX2_metBy_3 20 rfl rfl)
theorem dX2_metBy_91 : decode cX2_metBy 91 = .ok (.aload_n 1, 1) := dk_43 (dk_at dksX2_metBy_3 23 rfl rfl)
theorem dX2_metBy_92 : decode cX2_metBy 92 = .ok (.getfield 70, 3) := dk_180 0 70 (dk_at dksX2_metBy_4 0 rfl rfl)
theorem dX2_metBy_95 : decode cX2_metBy 95 = .ok (.aload_n 0, 1) := dk_42 (dk_at dksX2_metBy_4 3 rfl rfl)
theorem dX2_metBy_96 : decode cX2_metBy 96 = .ok (.getfield 22, 3) := dk_180 0 22 (dk_at dksX2_metBy_4 4 rfl rfl)
theorem dX2_metBy_99 : decode cX2_metBy 99 = .ok (.iload_n 2, 1) := dk_28 (dk_at dksX2_metBy_4 7 rfl rfl)
theorem dX2_metBy_100 : decode cX2_metBy 100 = .ok (.invokeinterface 38 2, 5) := by decide +kernel
theorem dX2_metBy_105 : decode cX2_metBy 105 = .ok (.checkcast 52, 3) := dk_192 0 52 (dk_at dksX2_metBy_4 13 rfl rfl)
theorem dX2_metBy_108 : decode cX2_metBy 108 = .ok (.getfield 73, 3) := dk_180 0 73 (dk_at dksX2_metBy_4 16 rfl rfl)
theorem dX2_metBy_111 : decode cX2_metBy 111 = .ok (.invokevirtual 80, 3) := dk_182 0 80 (dk_at dksX2_metBy_4 19 rfl rfl)
theorem dX2_metBy_114 : decode cX2_metBy 114 = .ok (.if_icmp .le 7, 3) := dk_164 0 7 (dk_at dksX2_metBy_5 0 rfl rfl)
theorem dX2_metBy_117 : decode cX2_metBy 117 = .ok (.iconst 1, 1) := dk_4 (dk_at dksX2_metBy_5 3 rfl rfl)
theorem dX2_metBy_118 : decode cX2_metBy 118 = .ok (.goto 4, 3) := dk_167 0 4 (dk_at dksX2_metBy_5 4 rfl rfl)
theorem dX2_metBy_121 : decode cX2_metBy 121 = .ok (.iconst 0, 1) := dk_3 (dk_at dksX2_metBy_5 7 rfl rfl)
theorem dX2_metBy_122 : decode cX2_metBy 122 = .ok (.istore 6, 2) := dk_54 6 (dk_at dksX2_metBy_5 8 rfl rfl)
theorem dX2_metBy_124 : decode cX2_metBy 124 = .ok (.iload 5, 2) := dk_21 5 (dk_at dksX2_metBy_5 10 rfl rfl)
theorem dX2_metBy_126 : decode cX2_metBy 126 = .ok (.ifCond .eq 12, 3) := dk_153 0 12 (dk_at dksX2_metBy_5 12 rfl rfl)
theorem dX2_metBy_129 : decode cX2_metBy 129 = .ok (.iload 6, 2) := dk_21 6 (dk_at dksX2_metBy_5 15 rfl rfl)
theorem dX2_metBy_131 : decode cX2_metBy 131 = .ok (.ifCond .eq 7, 3) := dk_153 0 7 (dk_at dksX2_metBy_5 17 rfl rfl)
theorem dX2_metBy_134 : decode cX2_metBy 134 = .ok (.iload_n 3, 1) := dk_29 (dk_at dksX2_metBy_5 20 rfl rfl)
theorem dX2_metBy_135 : decode cX2_metBy 135 = .ok (.goto 4, 3) := dk_167 0 4 (dk_at dksX2_metBy_5 21 rfl rfl)
theorem dX2_metBy_138 : decode cX2_metBy 138 = .ok (.iload_n 2, 1) := dk_28 (dk_at dksX2_metBy_6 0 rfl rfl)
theorem dX2_metBy_139 : decode cX2_metBy 139 = .ok (.istore_n 2, 1) := dk_61 (dk_at dksX2_metBy_6 1 rfl rfl)
theorem dX2_metBy_140 : decode cX2_metBy 140 = .ok (.iinc 3 1, 3) := dk_132 3 1 (dk_at dksX2_metBy_6 2 rfl rfl)
theorem dX2_metBy_143 : decode cX2_metBy 143 = .ok (.goto (-139), 3) := dk_167 255 117 (dk_at dksX2_metBy_6 5 rfl rfl)
theorem dX2_metBy_146 : decode cX2_metBy 146 = .ok (.iload_n 2, 1) := dk_28 (dk_at dksX2_metBy_6 8 rfl rfl)
theorem dX2_metBy_147 : decode cX2_metBy 147 = .ok (.ireturn, 1) := dk_172 (dk_at dksX2_metBy_6 9 rfl rfl)
abbrev cX2_workAll : ByteArray := prog_3_method_13_code
def yX2_workAll : MethodName := ⟨RX2, "workAll", "()V"⟩
def dkwX2_workAll_3 : List UInt8 := [182, 0, 131, 132, 2, 1, 167, 255, 188, 177]
abbrev dktX2_workAll_3 : List UInt8 := dkwX2_workAll_3 ++ []
def dkwX2_workAll_2 : List UInt8 := [153, 0, 12, 42, 45, 27, 182, 0, 129, 167, 0, 16, 45, 180, 0, 97, 6, 160, 0, 8, 42, 45]
abbrev dktX2_workAll_2 : List UInt8 := dkwX2_workAll_2 ++ dktX2_workAll_3
def dkwX2_workAll_1 : List UInt8 := [28, 185, 0, 38, 2, 0, 192, 0, 42, 78, 45, 180, 0, 97, 6, 160, 0, 20, 42, 45, 182, 0, 109]
abbrev dktX2_workAll_1 : List UInt8 := dkwX2_workAll_1 ++ dktX2_workAll_2
def dkwX2_workAll_0 : List UInt8 := [42, 182, 0, 126, 60, 3, 61, 28, 42, 180, 0, 18, 185, 0, 32, 1, 0, 162, 0, 61, 42, 180, 0, 18]
abbrev dktX2_workAll_0 : List UInt8 := dkwX2_workAll_0 ++ dktX2_workAll_1
theorem dksX2_workAll_0 : cX2_workAll.data.toList.drop 0 = dktX2_workAll_0 := by decide +kernel
theorem dksX2_workAll_1 : cX2_workAll.data.toList.drop 24 = dktX2_workAll_1 := dk_seg dksX2_workAll_0 24 rfl rfl
theorem dksX2_workAll_2 : cX2_workAll.data.toList.drop 47 = dktX2_workAll_2 := dk_seg dksX2_workAll_1 23 rfl rfl
theorem dksX2_workAll_3 : cX2_workAll.data.toList.drop 69 = dktX2_workAll_3 := dk_seg dksX2_workAll_2 22 rfl rfl
theorem dX2_workAll_0 : decode cX2_workAll 0 = .ok (.aload_n 0, 1) := dk_42 (dk_at dksX2_workAll_0 0 rfl rfl)
theorem dX2_workAll_1 : decode cX2_workAll 1 = .ok (.invokevirtual 126, 3) := dk_182 0 126 (dk_at dksX2_workAll_0 1 rfl rfl)
theorem dX2_workAll_4 : decode cX2_workAll 4 = .ok (.istore_n 1, 1) := dk_60 (dk_at dksX2_workAll_0 4 rfl rfl)
theorem dX2_workAll_5 : decode cX2_workAll 5 = .ok (.iconst 0, 1) := dk_3 (dk_at dksX2_workAll_0 5 rfl rfl)
theorem dX2_workAll_6 : decode cX2_workAll 6 = .ok (.istore_n 2, 1) := dk_61 (dk_at dksX2_workAll_0 6 rfl rfl)
theorem dX2_workAll_7 : decode cX2_workAll 7 = .ok (.iload_n 2, 1) := dk_28 (dk_at dksX2_workAll_0 7 rfl rfl)
theorem dX2_workAll_8 : decode cX2_workAll 8 = .ok (.aload_n 0, 1) := dk_42 (dk_at dksX2_workAll_0 8 rfl rfl)
theorem dX2_workAll_9 : decode cX2_workAll 9 = .ok (.getfield 18, 3) := dk_180 0 18 (dk_at dksX2_workAll_0 9 rfl rfl)
theorem dX2_workAll_12 : decode cX2_workAll 12 = .ok (.invokeinterface 32 1, 5) := by decide +kernel
theorem dX2_workAll_17 : decode cX2_workAll 17 = .ok (.if_icmp .ge 61, 3) := dk_162 0 61 (dk_at dksX2_workAll_0 17 rfl rfl)
theorem dX2_workAll_20 : decode cX2_workAll 20 = .ok (.aload_n 0, 1) := dk_42 (dk_at dksX2_workAll_0 20 rfl rfl)
theorem dX2_workAll_21 : decode cX2_workAll 21 = .ok (.getfield 18, 3) := dk_180 0 18 (dk_at dksX2_workAll_0 21 rfl rfl)
theorem dX2_workAll_24 : decode cX2_workAll 24 = .ok (.iload_n 2, 1) := dk_28 (dk_at dksX2_workAll_1 0 rfl rfl)
theorem dX2_workAll_25 : decode cX2_workAll 25 = .ok (.invokeinterface 38 2, 5) := by decide +kernel
theorem dX2_workAll_30 : decode cX2_workAll 30 = .ok (.checkcast 42, 3) := dk_192 0 42 (dk_at dksX2_workAll_1 6 rfl rfl)
theorem dX2_workAll_33 : decode cX2_workAll 33 = .ok (.astore_n 3, 1) := dk_78 (dk_at dksX2_workAll_1 9 rfl rfl)
theorem dX2_workAll_34 : decode cX2_workAll 34 = .ok (.aload_n 3, 1) := dk_45 (dk_at dksX2_workAll_1 10 rfl rfl)
theorem dX2_workAll_35 : decode cX2_workAll 35 = .ok (.getfield 97, 3) := dk_180 0 97 (dk_at dksX2_workAll_1 11 rfl rfl)
theorem dX2_workAll_38 : decode cX2_workAll 38 = .ok (.iconst 3, 1) := dk_6 (dk_at dksX2_workAll_1 14 rfl rfl)
theorem dX2_workAll_39 : decode cX2_workAll 39 = .ok (.if_icmp .ne 20, 3) := dk_160 0 20 (dk_at dksX2_workAll_1 15 rfl rfl)
theorem dX2_workAll_42 : decode cX2_workAll 42 = .ok (.aload_n 0, 1) := dk_42 (dk_at dksX2_workAll_1 18 rfl rfl)
theorem dX2_workAll_43 : decode cX2_workAll 43 = .ok (.aload_n 3, 1) := dk_45 (dk_at dksX2_workAll_1 19 rfl rfl)
theorem dX2_workAll_44 : decode cX2_workAll 44 = .ok (.invokevirtual 109, 3) := dk_182 0 109 (dk_at dksX2_workAll_1 20 rfl rfl)
theorem dX2_workAll_47 : decode cX2_workAll 47 = .ok (.ifCond .eq 12, 3) := dk_153 0 12 (dk_at dksX2_workAll_2 0 rfl rfl)
theorem dX2_workAll_50 : decode cX2_workAll 50 = .ok (.aload_n 0, 1) := dk_42 (dk_at dksX2_workAll_2 3 rfl rfl)
theorem dX2_workAll_51 : decode cX2_workAll 51 = .ok (.aload_n 3, 1) := dk_45 (dk_at dksX2_workAll_2 4 rfl rfl)
theorem dX2_workAll_52 : decode cX2_workAll 52 = .ok (.iload_n 1, 1) := dk_27 (dk_at dksX2_workAll_2 5 rfl rfl)
theorem dX2_workAll_53 : decode cX2_workAll 53 = .ok (.invokevirtual 129, 3) := dk_182 0 129 (dk_at dksX2_workAll_2 6 rfl rfl)
theorem dX2_workAll_56 : decode cX2_workAll 56 = .ok (.goto 16, 3) := dk_167 0 16 (dk_at dksX2_workAll_2 9 rfl rfl)
theorem dX2_workAll_59 : decode cX2_workAll 59 = .ok (.aload_n 3, 1) := dk_45 (dk_at dksX2_workAll_2 12 rfl rfl)
theorem dX2_workAll_60 : decode cX2_workAll 60 = .ok (.getfield 97, 3) := dk_180 0 97 (dk_at dksX2_workAll_2 13 rfl rfl)
theorem dX2_workAll_63 : decode cX2_workAll 63 = .ok (.iconst 3, 1) := dk_6 (dk_at dksX2_workAll_2 16 rfl rfl)
theorem dX2_workAll_64 : decode cX2_workAll 64 = .ok (.if_icmp .ne 8, 3) := dk_160 0 8 (dk_at dksX2_workAll_2 17 rfl rfl)
theorem dX2_workAll_67 : decode cX2_workAll 67 = .ok (.aload_n 0, 1) := dk_42 (dk_at dksX2_workAll_2 20 rfl rfl)
theorem dX2_workAll_68 : decode cX2_workAll 68 = .ok (.aload_n 3, 1) := dk_45 (dk_at dksX2_workAll_2 21 rfl rfl)
theorem dX2_workAll_69 : decode cX2_workAll 69 = .ok (.invokevirtual 131, 3) := dk_182 0 131 (dk_at dksX2_workAll_3 0 rfl rfl)
theorem dX2_workAll_72 : decode cX2_workAll 72 = .ok (.iinc 2 1, 3) := dk_132 2 1 (dk_at dksX2_workAll_3 3 rfl rfl)
theorem dX2_workAll_75 : decode cX2_workAll 75 = .ok (.goto (-68), 3) := dk_167 255 188 (dk_at dksX2_workAll_3 6 rfl rfl)
theorem dX2_workAll_78 : decode cX2_workAll 78 = .ok (.return_, 1) := dk_177 (dk_at dksX2_workAll_3 9 rfl rfl)
abbrev cX2_helpers : ByteArray := prog_3_method_10_code
def yX2_helpers : MethodName := ⟨RX2, "helpers", "()I"⟩
def dkwX2_helpers_2 : List UInt8 := [153, 0, 7, 4, 167, 0, 4, 3, 96, 60, 132, 2, 1, 167, 255, 201, 27, 172]
abbrev dktX2_helpers_2 : List UInt8 := dkwX2_helpers_2 ++ []
def dkwX2_helpers_1 : List UInt8 := [185, 0, 38, 2, 0, 192, 0, 42, 78, 27, 45, 4, 6, 182, 0, 116, 153, 0, 15, 42, 45, 182, 0, 109]
abbrev dktX2_helpers_1 : List UInt8 := dkwX2_helpers_1 ++ dktX2_helpers_2
def dkwX2_helpers_0 : List UInt8 := [3, 60, 3, 61, 28, 42, 180, 0, 18, 185, 0, 32, 1, 0, 162, 0, 48, 42, 180, 0, 18, 28]
abbrev dktX2_helpers_0 : List UInt8 := dkwX2_helpers_0 ++ dktX2_helpers_1
theorem dksX2_helpers_0 : cX2_helpers.data.toList.drop 0 = dktX2_helpers_0 := by decide +kernel
theorem dksX2_helpers_1 : cX2_helpers.data.toList.drop 22 = dktX2_helpers_1 := dk_seg dksX2_helpers_0 22 rfl rfl
theorem dksX2_helpers_2 : cX2_helpers.data.toList.drop 46 = dktX2_helpers_2 := dk_seg dksX2_helpers_1 24 rfl rfl
theorem dX2_helpers_0 : decode cX2_helpers 0 = .ok (.iconst 0, 1) := dk_3 (dk_at dksX2_helpers_0 0 rfl rfl)
theorem dX2_helpers_1 : decode cX2_helpers 1 = .ok (.istore_n 1, 1) := dk_60 (dk_at dksX2_helpers_0 1 rfl rfl)
theorem dX2_helpers_2 : decode cX2_helpers 2 = .ok (.iconst 0, 1) := dk_3 (dk_at dksX2_helpers_0 2 rfl rfl)
theorem dX2_helpers_3 : decode cX2_helpers 3 = .ok (.istore_n 2, 1) := dk_61 (dk_at dksX2_helpers_0 3 rfl rfl)
theorem dX2_helpers_4 : decode cX2_helpers 4 = .ok (.iload_n 2, 1) := dk_28 (dk_at dksX2_helpers_0 4 rfl rfl)
theorem dX2_helpers_5 : decode cX2_helpers 5 = .ok (.aload_n 0, 1) := dk_42 (dk_at dksX2_helpers_0 5 rfl rfl)
theorem dX2_helpers_6 : decode cX2_helpers 6 = .ok (.getfield 18, 3) := dk_180 0 18 (dk_at dksX2_helpers_0 6 rfl rfl)
theorem dX2_helpers_9 : decode cX2_helpers 9 = .ok (.invokeinterface 32 1, 5) := by decide +kernel
theorem dX2_helpers_14 : decode cX2_helpers 14 = .ok (.if_icmp .ge 48, 3) := dk_162 0 48 (dk_at dksX2_helpers_0 14 rfl rfl)
theorem dX2_helpers_17 : decode cX2_helpers 17 = .ok (.aload_n 0, 1) := dk_42 (dk_at dksX2_helpers_0 17 rfl rfl)
theorem dX2_helpers_18 : decode cX2_helpers 18 = .ok (.getfield 18, 3) := dk_180 0 18 (dk_at dksX2_helpers_0 18 rfl rfl)
theorem dX2_helpers_21 : decode cX2_helpers 21 = .ok (.iload_n 2, 1) := dk_28 (dk_at dksX2_helpers_0 21 rfl rfl)
theorem dX2_helpers_22 : decode cX2_helpers 22 = .ok (.invokeinterface 38 2, 5) := by decide +kernel
theorem dX2_helpers_27 : decode cX2_helpers 27 = .ok (.checkcast 42, 3) := dk_192 0 42 (dk_at dksX2_helpers_1 5 rfl rfl)
theorem dX2_helpers_30 : decode cX2_helpers 30 = .ok (.astore_n 3, 1) := dk_78 (dk_at dksX2_helpers_1 8 rfl rfl)
theorem dX2_helpers_31 : decode cX2_helpers 31 = .ok (.iload_n 1, 1) := dk_27 (dk_at dksX2_helpers_1 9 rfl rfl)
theorem dX2_helpers_32 : decode cX2_helpers 32 = .ok (.aload_n 3, 1) := dk_45 (dk_at dksX2_helpers_1 10 rfl rfl)
theorem dX2_helpers_33 : decode cX2_helpers 33 = .ok (.iconst 1, 1) := dk_4 (dk_at dksX2_helpers_1 11 rfl rfl)
theorem dX2_helpers_34 : decode cX2_helpers 34 = .ok (.iconst 3, 1) := dk_6 (dk_at dksX2_helpers_1 12 rfl rfl)
theorem dX2_helpers_35 : decode cX2_helpers 35 = .ok (.invokevirtual 116, 3) := dk_182 0 116 (dk_at dksX2_helpers_1 13 rfl rfl)
theorem dX2_helpers_38 : decode cX2_helpers 38 = .ok (.ifCond .eq 15, 3) := dk_153 0 15 (dk_at dksX2_helpers_1 16 rfl rfl)
theorem dX2_helpers_41 : decode cX2_helpers 41 = .ok (.aload_n 0, 1) := dk_42 (dk_at dksX2_helpers_1 19 rfl rfl)
theorem dX2_helpers_42 : decode cX2_helpers 42 = .ok (.aload_n 3, 1) := dk_45 (dk_at dksX2_helpers_1 20 rfl rfl)
theorem dX2_helpers_43 : decode cX2_helpers 43 = .ok (.invokevirtual 109, 3) := dk_182 0 109 (dk_at dksX2_helpers_1 21 rfl rfl)
theorem dX2_helpers_46 : decode cX2_helpers 46 = .ok (.ifCond .eq 7, 3) := dk_153 0 7 (dk_at dksX2_helpers_2 0 rfl rfl)
theorem dX2_helpers_49 : decode cX2_helpers 49 = .ok (.iconst 1, 1) := dk_4 (dk_at dksX2_helpers_2 3 rfl rfl)
theorem dX2_helpers_50 : decode cX2_helpers 50 = .ok (.goto 4, 3) := dk_167 0 4 (dk_at dksX2_helpers_2 4 rfl rfl)
theorem dX2_helpers_53 : decode cX2_helpers 53 = .ok (.iconst 0, 1) := dk_3 (dk_at dksX2_helpers_2 7 rfl rfl)
theorem dX2_helpers_54 : decode cX2_helpers 54 = .ok (.iadd, 1) := dk_96 (dk_at dksX2_helpers_2 8 rfl rfl)
theorem dX2_helpers_55 : decode cX2_helpers 55 = .ok (.istore_n 1, 1) := dk_60 (dk_at dksX2_helpers_2 9 rfl rfl)
theorem dX2_helpers_56 : decode cX2_helpers 56 = .ok (.iinc 2 1, 3) := dk_132 2 1 (dk_at dksX2_helpers_2 10 rfl rfl)
theorem dX2_helpers_59 : decode cX2_helpers 59 = .ok (.goto (-55), 3) := dk_167 255 201 (dk_at dksX2_helpers_2 13 rfl rfl)
theorem dX2_helpers_62 : decode cX2_helpers 62 = .ok (.iload_n 1, 1) := dk_27 (dk_at dksX2_helpers_2 16 rfl rfl)
theorem dX2_helpers_63 : decode cX2_helpers 63 = .ok (.ireturn, 1) := dk_172 (dk_at dksX2_helpers_2 17 rfl rfl)
abbrev cX2_work : ByteArray := prog_3_method_11_code
def yX2_work : MethodName := ⟨RX2, "work", "(LKeylockBody$Cell;I)V"⟩
def dkwX2_work_3 : List UInt8 := [182, 0, 93, 177]
abbrev dktX2_work_3 : List UInt8 := dkwX2_work_3 ++ []
def dkwX2_work_2 : List UInt8 := [62, 42, 43, 43, 180, 0, 67, 29, 158, 0, 7, 6, 167, 0, 4, 5, 104, 17, 3, 231, 184, 0, 119]
abbrev dktX2_work_2 : List UInt8 := dkwX2_work_2 ++ dktX2_work_3
def dkwX2_work_1 : List UInt8 := [164, 0, 9, 43, 7, 181, 0, 97, 177, 43, 180, 0, 106, 4, 160, 0, 9, 28, 4, 100, 167, 0, 4, 28]
abbrev dktX2_work_1 : List UInt8 := dkwX2_work_1 ++ dktX2_work_2
def dkwX2_work_0 : List UInt8 := [43, 89, 180, 0, 113, 4, 96, 181, 0, 113, 43, 180, 0, 113, 42, 180, 0, 3, 180, 0, 103, 7, 46]
abbrev dktX2_work_0 : List UInt8 := dkwX2_work_0 ++ dktX2_work_1
theorem dksX2_work_0 : cX2_work.data.toList.drop 0 = dktX2_work_0 := by decide +kernel
theorem dksX2_work_1 : cX2_work.data.toList.drop 23 = dktX2_work_1 := dk_seg dksX2_work_0 23 rfl rfl
theorem dksX2_work_2 : cX2_work.data.toList.drop 47 = dktX2_work_2 := dk_seg dksX2_work_1 24 rfl rfl
theorem dksX2_work_3 : cX2_work.data.toList.drop 70 = dktX2_work_3 := dk_seg dksX2_work_2 23 rfl rfl
theorem dX2_work_0 : decode cX2_work 0 = .ok (.aload_n 1, 1) := dk_43 (dk_at dksX2_work_0 0 rfl rfl)
theorem dX2_work_1 : decode cX2_work 1 = .ok (.dup, 1) := dk_89 (dk_at dksX2_work_0 1 rfl rfl)
theorem dX2_work_2 : decode cX2_work 2 = .ok (.getfield 113, 3) := dk_180 0 113 (dk_at dksX2_work_0 2 rfl rfl)
theorem dX2_work_5 : decode cX2_work 5 = .ok (.iconst 1, 1) := dk_4 (dk_at dksX2_work_0 5 rfl rfl)
theorem dX2_work_6 : decode cX2_work 6 = .ok (.iadd, 1) := dk_96 (dk_at dksX2_work_0 6 rfl rfl)
theorem dX2_work_7 : decode cX2_work 7 = .ok (.putfield 113, 3) := dk_181 0 113 (dk_at dksX2_work_0 7 rfl rfl)
theorem dX2_work_10 : decode cX2_work 10 = .ok (.aload_n 1, 1) := dk_43 (dk_at dksX2_work_0 10 rfl rfl)
theorem dX2_work_11 : decode cX2_work 11 = .ok (.getfield 113, 3) := dk_180 0 113 (dk_at dksX2_work_0 11 rfl rfl)
theorem dX2_work_14 : decode cX2_work 14 = .ok (.aload_n 0, 1) := dk_42 (dk_at dksX2_work_0 14 rfl rfl)
theorem dX2_work_15 : decode cX2_work 15 = .ok (.getfield 3, 3) := dk_180 0 3 (dk_at dksX2_work_0 15 rfl rfl)
theorem dX2_work_18 : decode cX2_work 18 = .ok (.getfield 103, 3) := dk_180 0 103 (dk_at dksX2_work_0 18 rfl rfl)
theorem dX2_work_21 : decode cX2_work 21 = .ok (.iconst 4, 1) := dk_7 (dk_at dksX2_work_0 21 rfl rfl)
theorem dX2_work_22 : decode cX2_work 22 = .ok (.iaload, 1) := dk_46 (dk_at dksX2_work_0 22 rfl rfl)
theorem dX2_work_23 : decode cX2_work 23 = .ok (.if_icmp .le 9, 3) := dk_164 0 9 (dk_at dksX2_work_1 0 rfl rfl)
theorem dX2_work_26 : decode cX2_work 26 = .ok (.aload_n 1, 1) := dk_43 (dk_at dksX2_work_1 3 rfl rfl)
theorem dX2_work_27 : decode cX2_work 27 = .ok (.iconst 4, 1) := dk_7 (dk_at dksX2_work_1 4 rfl rfl)
theorem dX2_work_28 : decode cX2_work 28 = .ok (.putfield 97, 3) := dk_181 0 97 (dk_at dksX2_work_1 5 rfl rfl)
theorem dX2_work_31 : decode cX2_work 31 = .ok (.return_, 1) := dk_177 (dk_at dksX2_work_1 8 rfl rfl)
theorem dX2_work_32 : decode cX2_work 32 = .ok (.aload_n 1, 1) := dk_43 (dk_at dksX2_work_1 9 rfl rfl)
theorem dX2_work_33 : decode cX2_work 33 = .ok (.getfield 106, 3) := dk_180 0 106 (dk_at dksX2_work_1 10 rfl rfl)
theorem dX2_work_36 : decode cX2_work 36 = .ok (.iconst 1, 1) := dk_4 (dk_at dksX2_work_1 13 rfl rfl)
theorem dX2_work_37 : decode cX2_work 37 = .ok (.if_icmp .ne 9, 3) := dk_160 0 9 (dk_at dksX2_work_1 14 rfl rfl)
theorem dX2_work_40 : decode cX2_work 40 = .ok (.iload_n 2, 1) := dk_28 (dk_at dksX2_work_1 17 rfl rfl)
theorem dX2_work_41 : decode cX2_work 41 = .ok (.iconst 1, 1) := dk_4 (dk_at dksX2_work_1 18 rfl rfl)
theorem dX2_work_42 : decode cX2_work 42 = .ok (.isub, 1) := dk_100 (dk_at dksX2_work_1 19 rfl rfl)
theorem dX2_work_43 : decode cX2_work 43 = .ok (.goto 4, 3) := dk_167 0 4 (dk_at dksX2_work_1 20 rfl rfl)
theorem dX2_work_46 : decode cX2_work 46 = .ok (.iload_n 2, 1) := dk_28 (dk_at dksX2_work_1 23 rfl rfl)
theorem dX2_work_47 : decode cX2_work 47 = .ok (.istore_n 3, 1) := dk_62 (dk_at dksX2_work_2 0 rfl rfl)
theorem dX2_work_48 : decode cX2_work 48 = .ok (.aload_n 0, 1) := dk_42 (dk_at dksX2_work_2 1 rfl rfl)
theorem dX2_work_49 : decode cX2_work 49 = .ok (.aload_n 1, 1) := dk_43 (dk_at dksX2_work_2 2 rfl rfl)
theorem dX2_work_50 : decode cX2_work 50 = .ok (.aload_n 1, 1) := dk_43 (dk_at dksX2_work_2 3 rfl rfl)
theorem dX2_work_51 : decode cX2_work 51 = .ok (.getfield 67, 3) := dk_180 0 67 (dk_at dksX2_work_2 4 rfl rfl)
theorem dX2_work_54 : decode cX2_work 54 = .ok (.iload_n 3, 1) := dk_29 (dk_at dksX2_work_2 7 rfl rfl)
theorem dX2_work_55 : decode cX2_work 55 = .ok (.ifCond .le 7, 3) := dk_158 0 7 (dk_at dksX2_work_2 8 rfl rfl)
theorem dX2_work_58 : decode cX2_work 58 = .ok (.iconst 3, 1) := dk_6 (dk_at dksX2_work_2 11 rfl rfl)
theorem dX2_work_59 : decode cX2_work 59 = .ok (.goto 4, 3) := dk_167 0 4 (dk_at dksX2_work_2 12 rfl rfl)
theorem dX2_work_62 : decode cX2_work 62 = .ok (.iconst 2, 1) := dk_5 (dk_at dksX2_work_2 15 rfl rfl)
theorem dX2_work_63 : decode cX2_work 63 = .ok (.imul, 1) := dk_104 (dk_at dksX2_work_2 16 rfl rfl)
theorem dX2_work_64 : decode cX2_work 64 = .ok (.sipush 999, 3) := dk_17 3 231 (dk_at dksX2_work_2 17 rfl rfl)
theorem dX2_work_67 : decode cX2_work 67 = .ok (.invokestatic 119, 3) := dk_184 0 119 (dk_at dksX2_work_2 20 rfl rfl)
theorem dX2_work_70 : decode cX2_work 70 = .ok (.invokevirtual 93, 3) := dk_182 0 93 (dk_at dksX2_work_3 0 rfl rfl)
theorem dX2_work_73 : decode cX2_work 73 = .ok (.return_, 1) := dk_177 (dk_at dksX2_work_3 3 rfl rfl)
abbrev cX2_resize : ByteArray := prog_3_method_7_code
def yX2_resize : MethodName := ⟨RX2, "resize", "(LKeylockBody$Cell;I)V"⟩
def dkwX2_resize_1 : List UInt8 := [43, 180, 0, 67, 28, 100, 3, 184, 0, 88, 96, 181, 0, 61, 43, 28, 181, 0, 67, 177]
abbrev dktX2_resize_1 : List UInt8 := dkwX2_resize_1 ++ []
def dkwX2_resize_0 : List UInt8 := [42, 89, 180, 0, 57, 28, 43, 180, 0, 67, 100, 3, 184, 0, 88, 96, 181, 0, 57, 42, 89, 180, 0, 61]
abbrev dktX2_resize_0 : List UInt8 := dkwX2_resize_0 ++ dktX2_resize_1
theorem dksX2_resize_0 : cX2_resize.data.toList.drop 0 = dktX2_resize_0 := by decide +kernel
theorem dksX2_resize_1 : cX2_resize.data.toList.drop 24 = dktX2_resize_1 := dk_seg dksX2_resize_0 24 rfl rfl
theorem dX2_resize_0 : decode cX2_resize 0 = .ok (.aload_n 0, 1) := dk_42 (dk_at dksX2_resize_0 0 rfl rfl)
theorem dX2_resize_1 : decode cX2_resize 1 = .ok (.dup, 1) := dk_89 (dk_at dksX2_resize_0 1 rfl rfl)
theorem dX2_resize_2 : decode cX2_resize 2 = .ok (.getfield 57, 3) := dk_180 0 57 (dk_at dksX2_resize_0 2 rfl rfl)
theorem dX2_resize_5 : decode cX2_resize 5 = .ok (.iload_n 2, 1) := dk_28 (dk_at dksX2_resize_0 5 rfl rfl)
theorem dX2_resize_6 : decode cX2_resize 6 = .ok (.aload_n 1, 1) := dk_43 (dk_at dksX2_resize_0 6 rfl rfl)
theorem dX2_resize_7 : decode cX2_resize 7 = .ok (.getfield 67, 3) := dk_180 0 67 (dk_at dksX2_resize_0 7 rfl rfl)
theorem dX2_resize_10 : decode cX2_resize 10 = .ok (.isub, 1) := dk_100 (dk_at dksX2_resize_0 10 rfl rfl)
theorem dX2_resize_11 : decode cX2_resize 11 = .ok (.iconst 0, 1) := dk_3 (dk_at dksX2_resize_0 11 rfl rfl)
theorem dX2_resize_12 : decode cX2_resize 12 = .ok (.invokestatic 88, 3) := dk_184 0 88 (dk_at dksX2_resize_0 12 rfl rfl)
theorem dX2_resize_15 : decode cX2_resize 15 = .ok (.iadd, 1) := dk_96 (dk_at dksX2_resize_0 15 rfl rfl)
theorem dX2_resize_16 : decode cX2_resize 16 = .ok (.putfield 57, 3) := dk_181 0 57 (dk_at dksX2_resize_0 16 rfl rfl)
theorem dX2_resize_19 : decode cX2_resize 19 = .ok (.aload_n 0, 1) := dk_42 (dk_at dksX2_resize_0 19 rfl rfl)
theorem dX2_resize_20 : decode cX2_resize 20 = .ok (.dup, 1) := dk_89 (dk_at dksX2_resize_0 20 rfl rfl)
theorem dX2_resize_21 : decode cX2_resize 21 = .ok (.getfield 61, 3) := dk_180 0 61 (dk_at dksX2_resize_0 21 rfl rfl)
theorem dX2_resize_24 : decode cX2_resize 24 = .ok (.aload_n 1, 1) := dk_43 (dk_at dksX2_resize_1 0 rfl rfl)
theorem dX2_resize_25 : decode cX2_resize 25 = .ok (.getfield 67, 3) := dk_180 0 67 (dk_at dksX2_resize_1 1 rfl rfl)
theorem dX2_resize_28 : decode cX2_resize 28 = .ok (.iload_n 2, 1) := dk_28 (dk_at dksX2_resize_1 4 rfl rfl)
theorem dX2_resize_29 : decode cX2_resize 29 = .ok (.isub, 1) := dk_100 (dk_at dksX2_resize_1 5 rfl rfl)
theorem dX2_resize_30 : decode cX2_resize 30 = .ok (.iconst 0, 1) := dk_3 (dk_at dksX2_resize_1 6 rfl rfl)
theorem dX2_resize_31 : decode cX2_resize 31 = .ok (.invokestatic 88, 3) := dk_184 0 88 (dk_at dksX2_resize_1 7 rfl rfl)
theorem dX2_resize_34 : decode cX2_resize 34 = .ok (.iadd, 1) := dk_96 (dk_at dksX2_resize_1 10 rfl rfl)
theorem dX2_resize_35 : decode cX2_resize 35 = .ok (.putfield 61, 3) := dk_181 0 61 (dk_at dksX2_resize_1 11 rfl rfl)
theorem dX2_resize_38 : decode cX2_resize 38 = .ok (.aload_n 1, 1) := dk_43 (dk_at dksX2_resize_1 14 rfl rfl)
theorem dX2_resize_39 : decode cX2_resize 39 = .ok (.iload_n 2, 1) := dk_28 (dk_at dksX2_resize_1 15 rfl rfl)
theorem dX2_resize_40 : decode cX2_resize 40 = .ok (.putfield 67, 3) := dk_181 0 67 (dk_at dksX2_resize_1 16 rfl rfl)
theorem dX2_resize_43 : decode cX2_resize 43 = .ok (.return_, 1) := dk_177 (dk_at dksX2_resize_1 19 rfl rfl)
abbrev cX2_rest : ByteArray := prog_3_method_12_code
def yX2_rest : MethodName := ⟨RX2, "rest", "(LKeylockBody$Cell;)V"⟩
def dkwX2_rest_1 : List UInt8 := [5, 108, 182, 0, 93, 177]
abbrev dktX2_rest_1 : List UInt8 := dkwX2_rest_1 ++ []
def dkwX2_rest_0 : List UInt8 := [43, 180, 0, 67, 5, 108, 5, 162, 0, 11, 42, 43, 182, 0, 122, 167, 0, 14, 42, 43, 43, 180, 0, 67]
abbrev dktX2_rest_0 : List UInt8 := dkwX2_rest_0 ++ dktX2_rest_1
theorem dksX2_rest_0 : cX2_rest.data.toList.drop 0 = dktX2_rest_0 := by decide +kernel
theorem dksX2_rest_1 : cX2_rest.data.toList.drop 24 = dktX2_rest_1 := dk_seg dksX2_rest_0 24 rfl rfl
theorem dX2_rest_0 : decode cX2_rest 0 = .ok (.aload_n 1, 1) := dk_43 (dk_at dksX2_rest_0 0 rfl rfl)
theorem dX2_rest_1 : decode cX2_rest 1 = .ok (.getfield 67, 3) := dk_180 0 67 (dk_at dksX2_rest_0 1 rfl rfl)
theorem dX2_rest_4 : decode cX2_rest 4 = .ok (.iconst 2, 1) := dk_5 (dk_at dksX2_rest_0 4 rfl rfl)
theorem dX2_rest_5 : decode cX2_rest 5 = .ok (.idiv, 1) := dk_108 (dk_at dksX2_rest_0 5 rfl rfl)
theorem dX2_rest_6 : decode cX2_rest 6 = .ok (.iconst 2, 1) := dk_5 (dk_at dksX2_rest_0 6 rfl rfl)
theorem dX2_rest_7 : decode cX2_rest 7 = .ok (.if_icmp .ge 11, 3) := dk_162 0 11 (dk_at dksX2_rest_0 7 rfl rfl)
theorem dX2_rest_10 : decode cX2_rest 10 = .ok (.aload_n 0, 1) := dk_42 (dk_at dksX2_rest_0 10 rfl rfl)
theorem dX2_rest_11 : decode cX2_rest 11 = .ok (.aload_n 1, 1) := dk_43 (dk_at dksX2_rest_0 11 rfl rfl)
theorem dX2_rest_12 : decode cX2_rest 12 = .ok (.invokevirtual 122, 3) := dk_182 0 122 (dk_at dksX2_rest_0 12 rfl rfl)
theorem dX2_rest_15 : decode cX2_rest 15 = .ok (.goto 14, 3) := dk_167 0 14 (dk_at dksX2_rest_0 15 rfl rfl)
theorem dX2_rest_18 : decode cX2_rest 18 = .ok (.aload_n 0, 1) := dk_42 (dk_at dksX2_rest_0 18 rfl rfl)
theorem dX2_rest_19 : decode cX2_rest 19 = .ok (.aload_n 1, 1) := dk_43 (dk_at dksX2_rest_0 19 rfl rfl)
theorem dX2_rest_20 : decode cX2_rest 20 = .ok (.aload_n 1, 1) := dk_43 (dk_at dksX2_rest_0 20 rfl rfl)
theorem dX2_rest_21 : decode cX2_rest 21 = .ok (.getfield 67, 3) := dk_180 0 67 (dk_at dksX2_rest_0 21 rfl rfl)
theorem dX2_rest_24 : decode cX2_rest 24 = .ok (.iconst 2, 1) := dk_5 (dk_at dksX2_rest_1 0 rfl rfl)
theorem dX2_rest_25 : decode cX2_rest 25 = .ok (.idiv, 1) := dk_108 (dk_at dksX2_rest_1 1 rfl rfl)
theorem dX2_rest_26 : decode cX2_rest 26 = .ok (.invokevirtual 93, 3) := dk_182 0 93 (dk_at dksX2_rest_1 2 rfl rfl)
theorem dX2_rest_29 : decode cX2_rest 29 = .ok (.return_, 1) := dk_177 (dk_at dksX2_rest_1 5 rfl rfl)
abbrev cX2_remember : ByteArray := prog_3_method_8_code
def yX2_remember : MethodName := ⟨RX2, "remember", "(LKeylockBody$Cell;)V"⟩
def dkwX2_remember_0 : List UInt8 := [42, 43, 4, 182, 0, 93, 43, 8, 181, 0, 97, 177]
abbrev dktX2_remember_0 : List UInt8 := dkwX2_remember_0 ++ []
theorem dksX2_remember_0 : cX2_remember.data.toList.drop 0 = dktX2_remember_0 := by decide +kernel
theorem dX2_remember_0 : decode cX2_remember 0 = .ok (.aload_n 0, 1) := dk_42 (dk_at dksX2_remember_0 0 rfl rfl)
theorem dX2_remember_1 : decode cX2_remember 1 = .ok (.aload_n 1, 1) := dk_43 (dk_at dksX2_remember_0 1 rfl rfl)
theorem dX2_remember_2 : decode cX2_remember 2 = .ok (.iconst 1, 1) := dk_4 (dk_at dksX2_remember_0 2 rfl rfl)
theorem dX2_remember_3 : decode cX2_remember 3 = .ok (.invokevirtual 93, 3) := dk_182 0 93 (dk_at dksX2_remember_0 3 rfl rfl)
theorem dX2_remember_6 : decode cX2_remember 6 = .ok (.aload_n 1, 1) := dk_43 (dk_at dksX2_remember_0 6 rfl rfl)
theorem dX2_remember_7 : decode cX2_remember 7 = .ok (.iconst 5, 1) := dk_8 (dk_at dksX2_remember_0 7 rfl rfl)
theorem dX2_remember_8 : decode cX2_remember 8 = .ok (.putfield 97, 3) := dk_181 0 97 (dk_at dksX2_remember_0 8 rfl rfl)
theorem dX2_remember_11 : decode cX2_remember 11 = .ok (.return_, 1) := dk_177 (dk_at dksX2_remember_0 11 rfl rfl)
abbrev cX2_strikeAll : ByteArray := prog_3_method_14_code
def yX2_strikeAll : MethodName := ⟨RX2, "strikeAll", "()V"⟩
def dkwX2_strikeAll_4 : List UInt8 := [25, 4, 180, 0, 69, 154, 0, 7, 27, 167, 0, 4, 2, 181, 0, 134, 132, 1, 1, 167, 255, 150, 177]
abbrev dktX2_strikeAll_4 : List UInt8 := dkwX2_strikeAll_4 ++ []
def dkwX2_strikeAll_3 : List UInt8 := [58, 4, 25, 4, 25, 4, 180, 0, 69, 44, 180, 0, 67, 100, 3, 184, 0, 88, 181, 0, 69, 25, 4]
abbrev dktX2_strikeAll_3 : List UInt8 := dkwX2_strikeAll_3 ++ dktX2_strikeAll_4
def dkwX2_strikeAll_2 : List UInt8 := [167, 0, 4, 2, 62, 29, 2, 159, 0, 55, 42, 180, 0, 22, 29, 185, 0, 38, 2, 0, 192, 0, 52]
abbrev dktX2_strikeAll_2 : List UInt8 := dkwX2_strikeAll_2 ++ dktX2_strikeAll_3
def dkwX2_strikeAll_1 : List UInt8 := [185, 0, 38, 2, 0, 192, 0, 42, 77, 44, 3, 6, 182, 0, 116, 153, 0, 11, 42, 44, 182, 0, 84]
abbrev dktX2_strikeAll_1 : List UInt8 := dkwX2_strikeAll_1 ++ dktX2_strikeAll_2
def dkwX2_strikeAll_0 : List UInt8 := [3, 60, 27, 42, 180, 0, 18, 185, 0, 32, 1, 0, 162, 0, 99, 42, 180, 0, 18, 27]
abbrev dktX2_strikeAll_0 : List UInt8 := dkwX2_strikeAll_0 ++ dktX2_strikeAll_1
theorem dksX2_strikeAll_0 : cX2_strikeAll.data.toList.drop 0 = dktX2_strikeAll_0 := by decide +kernel
theorem dksX2_strikeAll_1 : cX2_strikeAll.data.toList.drop 20 = dktX2_strikeAll_1 := dk_seg dksX2_strikeAll_0 20 rfl rfl
theorem dksX2_strikeAll_2 : cX2_strikeAll.data.toList.drop 43 = dktX2_strikeAll_2 := dk_seg dksX2_strikeAll_1 23 rfl rfl
theorem dksX2_strikeAll_3 : cX2_strikeAll.data.toList.drop 66 = dktX2_strikeAll_3 := dk_seg dksX2_strikeAll_2 23 rfl rfl
theorem dksX2_strikeAll_4 : cX2_strikeAll.data.toList.drop 89 = dktX2_strikeAll_4 := dk_seg dksX2_strikeAll_3 23 rfl rfl
theorem dX2_strikeAll_0 : decode cX2_strikeAll 0 = .ok (.iconst 0, 1) := dk_3 (dk_at dksX2_strikeAll_0 0 rfl rfl)
theorem dX2_strikeAll_1 : decode cX2_strikeAll 1 = .ok (.istore_n 1, 1) := dk_60 (dk_at dksX2_strikeAll_0 1 rfl rfl)
theorem dX2_strikeAll_2 : decode cX2_strikeAll 2 = .ok (.iload_n 1, 1) := dk_27 (dk_at dksX2_strikeAll_0 2 rfl rfl)
theorem dX2_strikeAll_3 : decode cX2_strikeAll 3 = .ok (.aload_n 0, 1) := dk_42 (dk_at dksX2_strikeAll_0 3 rfl rfl)
theorem dX2_strikeAll_4 : decode cX2_strikeAll 4 = .ok (.getfield 18, 3) := dk_180 0 18 (dk_at dksX2_strikeAll_0 4 rfl rfl)
theorem dX2_strikeAll_7 : decode cX2_strikeAll 7 = .ok (.invokeinterface 32 1, 5) := by decide +kernel
theorem dX2_strikeAll_12 : decode cX2_strikeAll 12 = .ok (.if_icmp .ge 99, 3) := dk_162 0 99 (dk_at dksX2_strikeAll_0 12 rfl rfl)
theorem dX2_strikeAll_15 : decode cX2_strikeAll 15 = .ok (.aload_n 0, 1) := dk_42 (dk_at dksX2_strikeAll_0 15 rfl rfl)
theorem dX2_strikeAll_16 : decode cX2_strikeAll 16 = .ok (.getfield 18, 3) := dk_180 0 18 (dk_at dksX2_strikeAll_0 16 rfl rfl)
theorem dX2_strikeAll_19 : decode cX2_strikeAll 19 = .ok (.iload_n 1, 1) := dk_27 (dk_at dksX2_strikeAll_0 19 rfl rfl)
theorem dX2_strikeAll_20 : decode cX2_strikeAll 20 = .ok (.invokeinterface 38 2, 5) := by decide +kernel
theorem dX2_strikeAll_25 : decode cX2_strikeAll 25 = .ok (.checkcast 42, 3) := dk_192 0 42 (dk_at dksX2_strikeAll_1 5 rfl rfl)
theorem dX2_strikeAll_28 : decode cX2_strikeAll 28 = .ok (.astore_n 2, 1) := dk_77 (dk_at dksX2_strikeAll_1 8 rfl rfl)
theorem dX2_strikeAll_29 : decode cX2_strikeAll 29 = .ok (.aload_n 2, 1) := dk_44 (dk_at dksX2_strikeAll_1 9 rfl rfl)
theorem dX2_strikeAll_30 : decode cX2_strikeAll 30 = .ok (.iconst 0, 1) := dk_3 (dk_at dksX2_strikeAll_1 10 rfl rfl)
theorem dX2_strikeAll_31 : decode cX2_strikeAll 31 = .ok (.iconst 3, 1) := dk_6 (dk_at dksX2_strikeAll_1 11 rfl rfl)
theorem dX2_strikeAll_32 : decode cX2_strikeAll 32 = .ok (.invokevirtual 116, 3) := dk_182 0 116 (dk_at dksX2_strikeAll_1 12 rfl rfl)
theorem dX2_strikeAll_35 : decode cX2_strikeAll 35 = .ok (.ifCond .eq 11, 3) := dk_153 0 11 (dk_at dksX2_strikeAll_1 15 rfl rfl)
theorem dX2_strikeAll_38 : decode cX2_strikeAll 38 = .ok (.aload_n 0, 1) := dk_42 (dk_at dksX2_strikeAll_1 18 rfl rfl)
theorem dX2_strikeAll_39 : decode cX2_strikeAll 39 = .ok (.aload_n 2, 1) := dk_44 (dk_at dksX2_strikeAll_1 19 rfl rfl)
theorem dX2_strikeAll_40 : decode cX2_strikeAll 40 = .ok (.invokevirtual 84, 3) := dk_182 0 84 (dk_at dksX2_strikeAll_1 20 rfl rfl)
theorem dX2_strikeAll_43 : decode cX2_strikeAll 43 = .ok (.goto 4, 3) := dk_167 0 4 (dk_at dksX2_strikeAll_2 0 rfl rfl)
theorem dX2_strikeAll_46 : decode cX2_strikeAll 46 = .ok (.iconst (-1), 1) := dk_2 (dk_at dksX2_strikeAll_2 3 rfl rfl)
theorem dX2_strikeAll_47 : decode cX2_strikeAll 47 = .ok (.istore_n 3, 1) := dk_62 (dk_at dksX2_strikeAll_2 4 rfl rfl)
theorem dX2_strikeAll_48 : decode cX2_strikeAll 48 = .ok (.iload_n 3, 1) := dk_29 (dk_at dksX2_strikeAll_2 5 rfl rfl)
theorem dX2_strikeAll_49 : decode cX2_strikeAll 49 = .ok (.iconst (-1), 1) := dk_2 (dk_at dksX2_strikeAll_2 6 rfl rfl)
theorem dX2_strikeAll_50 : decode cX2_strikeAll 50 = .ok (.if_icmp .eq 55, 3) := dk_159 0 55 (dk_at dksX2_strikeAll_2 7 rfl rfl)
theorem dX2_strikeAll_53 : decode cX2_strikeAll 53 = .ok (.aload_n 0, 1) := dk_42 (dk_at dksX2_strikeAll_2 10 rfl rfl)
theorem dX2_strikeAll_54 : decode cX2_strikeAll 54 = .ok (.getfield 22, 3) := dk_180 0 22 (dk_at dksX2_strikeAll_2 11 rfl rfl)
theorem dX2_strikeAll_57 : decode cX2_strikeAll 57 = .ok (.iload_n 3, 1) := dk_29 (dk_at dksX2_strikeAll_2 14 rfl rfl)
theorem dX2_strikeAll_58 : decode cX2_strikeAll 58 = .ok (.invokeinterface 38 2, 5) := by decide +kernel
theorem dX2_strikeAll_63 : decode cX2_strikeAll 63 = .ok (.checkcast 52, 3) := dk_192 0 52 (dk_at dksX2_strikeAll_2 20 rfl rfl)
theorem dX2_strikeAll_66 : decode cX2_strikeAll 66 = .ok (.astore 4, 2) := dk_58 4 (dk_at dksX2_strikeAll_3 0 rfl rfl)
theorem dX2_strikeAll_68 : decode cX2_strikeAll 68 = .ok (.aload 4, 2) := dk_25 4 (dk_at dksX2_strikeAll_3 2 rfl rfl)
theorem dX2_strikeAll_70 : decode cX2_strikeAll 70 = .ok (.aload 4, 2) := dk_25 4 (dk_at dksX2_strikeAll_3 4 rfl rfl)
theorem dX2_strikeAll_72 : decode cX2_strikeAll 72 = .ok (.getfield 69, 3) := dk_180 0 69 (dk_at dksX2_strikeAll_3 6 rfl rfl)
theorem dX2_strikeAll_75 : decode cX2_strikeAll 75 = .ok (.aload_n 2, 1) := dk_44 (dk_at dksX2_strikeAll_3 9 rfl rfl)
theorem dX2_strikeAll_76 : decode cX2_strikeAll 76 = .ok (.getfield 67, 3) := dk_180 0 67 (dk_at dksX2_strikeAll_3 10 rfl rfl)
theorem dX2_strikeAll_79 : decode cX2_strikeAll 79 = .ok (.isub, 1) := dk_100 (dk_at dksX2_strikeAll_3 13 rfl rfl)
theorem dX2_strikeAll_80 : decode cX2_strikeAll 80 = .ok (.iconst 0, 1) := dk_3 (dk_at dksX2_strikeAll_3 14 rfl rfl)
theorem dX2_strikeAll_81 : decode cX2_strikeAll 81 = .ok (.invokestatic 88, 3) := dk_184 0 88 (dk_at dksX2_strikeAll_3 15 rfl rfl)
theorem dX2_strikeAll_84 : decode cX2_strikeAll 84 = .ok (.putfield 69, 3) := dk_181 0 69 (dk_at dksX2_strikeAll_3 18 rfl rfl)
theorem dX2_strikeAll_87 : decode cX2_strikeAll 87 = .ok (.aload 4, 2) := dk_25 4 (dk_at dksX2_strikeAll_3 21 rfl rfl)
theorem dX2_strikeAll_89 : decode cX2_strikeAll 89 = .ok (.aload 4, 2) := dk_25 4 (dk_at dksX2_strikeAll_4 0 rfl rfl)
theorem dX2_strikeAll_91 : decode cX2_strikeAll 91 = .ok (.getfield 69, 3) := dk_180 0 69 (dk_at dksX2_strikeAll_4 2 rfl rfl)
theorem dX2_strikeAll_94 : decode cX2_strikeAll 94 = .ok (.ifCond .ne 7, 3) := dk_154 0 7 (dk_at dksX2_strikeAll_4 5 rfl rfl)
theorem dX2_strikeAll_97 : decode cX2_strikeAll 97 = .ok (.iload_n 1, 1) := dk_27 (dk_at dksX2_strikeAll_4 8 rfl rfl)
theorem dX2_strikeAll_98 : decode cX2_strikeAll 98 = .ok (.goto 4, 3) := dk_167 0 4 (dk_at dksX2_strikeAll_4 9 rfl rfl)
theorem dX2_strikeAll_101 : decode cX2_strikeAll 101 = .ok (.iconst (-1), 1) := dk_2 (dk_at dksX2_strikeAll_4 12 rfl rfl)
theorem dX2_strikeAll_102 : decode cX2_strikeAll 102 = .ok (.putfield 134, 3) := dk_181 0 134 (dk_at dksX2_strikeAll_4 13 rfl rfl)
theorem dX2_strikeAll_105 : decode cX2_strikeAll 105 = .ok (.iinc 1 1, 3) := dk_132 1 1 (dk_at dksX2_strikeAll_4 16 rfl rfl)
theorem dX2_strikeAll_108 : decode cX2_strikeAll 108 = .ok (.goto (-106), 3) := dk_167 255 150 (dk_at dksX2_strikeAll_4 19 rfl rfl)
theorem dX2_strikeAll_111 : decode cX2_strikeAll 111 = .ok (.return_, 1) := dk_177 (dk_at dksX2_strikeAll_4 22 rfl rfl)
abbrev cX2_harmAll : ByteArray := prog_3_method_17_code
def yX2_harmAll : MethodName := ⟨RX2, "harmAll", "()V"⟩
def dkwX2_harmAll_3 : List UInt8 := [180, 0, 25, 29, 92, 46, 44, 180, 0, 67, 96, 79, 132, 1, 1, 167, 255, 178, 177]
abbrev dktX2_harmAll_3 : List UInt8 := dkwX2_harmAll_3 ++ []
def dkwX2_harmAll_2 : List UInt8 := [182, 0, 145, 167, 0, 4, 2, 62, 29, 2, 159, 0, 24, 42, 29, 182, 0, 149, 154, 0, 16, 42]
abbrev dktX2_harmAll_2 : List UInt8 := dkwX2_harmAll_2 ++ dktX2_harmAll_3
def dkwX2_harmAll_1 : List UInt8 := [185, 0, 38, 2, 0, 192, 0, 42, 77, 44, 3, 6, 182, 0, 116, 153, 0, 14, 42, 44, 180, 0, 70]
abbrev dktX2_harmAll_1 : List UInt8 := dkwX2_harmAll_1 ++ dktX2_harmAll_2
def dkwX2_harmAll_0 : List UInt8 := [3, 60, 27, 42, 180, 0, 18, 185, 0, 32, 1, 0, 162, 0, 71, 42, 180, 0, 18, 27]
abbrev dktX2_harmAll_0 : List UInt8 := dkwX2_harmAll_0 ++ dktX2_harmAll_1
theorem dksX2_harmAll_0 : cX2_harmAll.data.toList.drop 0 = dktX2_harmAll_0 := by decide +kernel
theorem dksX2_harmAll_1 : cX2_harmAll.data.toList.drop 20 = dktX2_harmAll_1 := dk_seg dksX2_harmAll_0 20 rfl rfl
theorem dksX2_harmAll_2 : cX2_harmAll.data.toList.drop 43 = dktX2_harmAll_2 := dk_seg dksX2_harmAll_1 23 rfl rfl
theorem dksX2_harmAll_3 : cX2_harmAll.data.toList.drop 65 = dktX2_harmAll_3 := dk_seg dksX2_harmAll_2 22 rfl rfl
theorem dX2_harmAll_0 : decode cX2_harmAll 0 = .ok (.iconst 0, 1) := dk_3 (dk_at dksX2_harmAll_0 0 rfl rfl)
theorem dX2_harmAll_1 : decode cX2_harmAll 1 = .ok (.istore_n 1, 1) := dk_60 (dk_at dksX2_harmAll_0 1 rfl rfl)
theorem dX2_harmAll_2 : decode cX2_harmAll 2 = .ok (.iload_n 1, 1) := dk_27 (dk_at dksX2_harmAll_0 2 rfl rfl)
theorem dX2_harmAll_3 : decode cX2_harmAll 3 = .ok (.aload_n 0, 1) := dk_42 (dk_at dksX2_harmAll_0 3 rfl rfl)
theorem dX2_harmAll_4 : decode cX2_harmAll 4 = .ok (.getfield 18, 3) := dk_180 0 18 (dk_at dksX2_harmAll_0 4 rfl rfl)
theorem dX2_harmAll_7 : decode cX2_harmAll 7 = .ok (.invokeinterface 32 1, 5) := by decide +kernel
theorem dX2_harmAll_12 : decode cX2_harmAll 12 = .ok (.if_icmp .ge 71, 3) := dk_162 0 71 (dk_at dksX2_harmAll_0 12 rfl rfl)
theorem dX2_harmAll_15 : decode cX2_harmAll 15 = .ok (.aload_n 0, 1) := dk_42 (dk_at dksX2_harmAll_0 15 rfl rfl)
theorem dX2_harmAll_16 : decode cX2_harmAll 16 = .ok (.getfield 18, 3) := dk_180 0 18 (dk_at dksX2_harmAll_0 16 rfl rfl)
theorem dX2_harmAll_19 : decode cX2_harmAll 19 = .ok (.iload_n 1, 1) := dk_27 (dk_at dksX2_harmAll_0 19 rfl rfl)
theorem dX2_harmAll_20 : decode cX2_harmAll 20 = .ok (.invokeinterface 38 2, 5) := by decide +kernel
theorem dX2_harmAll_25 : decode cX2_harmAll 25 = .ok (.checkcast 42, 3) := dk_192 0 42 (dk_at dksX2_harmAll_1 5 rfl rfl)
theorem dX2_harmAll_28 : decode cX2_harmAll 28 = .ok (.astore_n 2, 1) := dk_77 (dk_at dksX2_harmAll_1 8 rfl rfl)
theorem dX2_harmAll_29 : decode cX2_harmAll 29 = .ok (.aload_n 2, 1) := dk_44 (dk_at dksX2_harmAll_1 9 rfl rfl)
theorem dX2_harmAll_30 : decode cX2_harmAll 30 = .ok (.iconst 0, 1) := dk_3 (dk_at dksX2_harmAll_1 10 rfl rfl)
theorem dX2_harmAll_31 : decode cX2_harmAll 31 = .ok (.iconst 3, 1) := dk_6 (dk_at dksX2_harmAll_1 11 rfl rfl)
theorem dX2_harmAll_32 : decode cX2_harmAll 32 = .ok (.invokevirtual 116, 3) := dk_182 0 116 (dk_at dksX2_harmAll_1 12 rfl rfl)
theorem dX2_harmAll_35 : decode cX2_harmAll 35 = .ok (.ifCond .eq 14, 3) := dk_153 0 14 (dk_at dksX2_harmAll_1 15 rfl rfl)
theorem dX2_harmAll_38 : decode cX2_harmAll 38 = .ok (.aload_n 0, 1) := dk_42 (dk_at dksX2_harmAll_1 18 rfl rfl)
theorem dX2_harmAll_39 : decode cX2_harmAll 39 = .ok (.aload_n 2, 1) := dk_44 (dk_at dksX2_harmAll_1 19 rfl rfl)
theorem dX2_harmAll_40 : decode cX2_harmAll 40 = .ok (.getfield 70, 3) := dk_180 0 70 (dk_at dksX2_harmAll_1 20 rfl rfl)
theorem dX2_harmAll_43 : decode cX2_harmAll 43 = .ok (.invokevirtual 145, 3) := dk_182 0 145 (dk_at dksX2_harmAll_2 0 rfl rfl)
theorem dX2_harmAll_46 : decode cX2_harmAll 46 = .ok (.goto 4, 3) := dk_167 0 4 (dk_at dksX2_harmAll_2 3 rfl rfl)
theorem dX2_harmAll_49 : decode cX2_harmAll 49 = .ok (.iconst (-1), 1) := dk_2 (dk_at dksX2_harmAll_2 6 rfl rfl)
theorem dX2_harmAll_50 : decode cX2_harmAll 50 = .ok (.istore_n 3, 1) := dk_62 (dk_at dksX2_harmAll_2 7 rfl rfl)
theorem dX2_harmAll_51 : decode cX2_harmAll 51 = .ok (.iload_n 3, 1) := dk_29 (dk_at dksX2_harmAll_2 8 rfl rfl)
theorem dX2_harmAll_52 : decode cX2_harmAll 52 = .ok (.iconst (-1), 1) := dk_2 (dk_at dksX2_harmAll_2 9 rfl rfl)
theorem dX2_harmAll_53 : decode cX2_harmAll 53 = .ok (.if_icmp .eq 24, 3) := dk_159 0 24 (dk_at dksX2_harmAll_2 10 rfl rfl)
theorem dX2_harmAll_56 : decode cX2_harmAll 56 = .ok (.aload_n 0, 1) := dk_42 (dk_at dksX2_harmAll_2 13 rfl rfl)
theorem dX2_harmAll_57 : decode cX2_harmAll 57 = .ok (.iload_n 3, 1) := dk_29 (dk_at dksX2_harmAll_2 14 rfl rfl)
theorem dX2_harmAll_58 : decode cX2_harmAll 58 = .ok (.invokevirtual 149, 3) := dk_182 0 149 (dk_at dksX2_harmAll_2 15 rfl rfl)
theorem dX2_harmAll_61 : decode cX2_harmAll 61 = .ok (.ifCond .ne 16, 3) := dk_154 0 16 (dk_at dksX2_harmAll_2 18 rfl rfl)
theorem dX2_harmAll_64 : decode cX2_harmAll 64 = .ok (.aload_n 0, 1) := dk_42 (dk_at dksX2_harmAll_2 21 rfl rfl)
theorem dX2_harmAll_65 : decode cX2_harmAll 65 = .ok (.getfield 25, 3) := dk_180 0 25 (dk_at dksX2_harmAll_3 0 rfl rfl)
theorem dX2_harmAll_68 : decode cX2_harmAll 68 = .ok (.iload_n 3, 1) := dk_29 (dk_at dksX2_harmAll_3 3 rfl rfl)
theorem dX2_harmAll_69 : decode cX2_harmAll 69 = .ok (.dup2, 1) := dk_92 (dk_at dksX2_harmAll_3 4 rfl rfl)
theorem dX2_harmAll_70 : decode cX2_harmAll 70 = .ok (.iaload, 1) := dk_46 (dk_at dksX2_harmAll_3 5 rfl rfl)
theorem dX2_harmAll_71 : decode cX2_harmAll 71 = .ok (.aload_n 2, 1) := dk_44 (dk_at dksX2_harmAll_3 6 rfl rfl)
theorem dX2_harmAll_72 : decode cX2_harmAll 72 = .ok (.getfield 67, 3) := dk_180 0 67 (dk_at dksX2_harmAll_3 7 rfl rfl)
theorem dX2_harmAll_75 : decode cX2_harmAll 75 = .ok (.iadd, 1) := dk_96 (dk_at dksX2_harmAll_3 10 rfl rfl)
theorem dX2_harmAll_76 : decode cX2_harmAll 76 = .ok (.iastore, 1) := dk_79 (dk_at dksX2_harmAll_3 11 rfl rfl)
theorem dX2_harmAll_77 : decode cX2_harmAll 77 = .ok (.iinc 1 1, 3) := dk_132 1 1 (dk_at dksX2_harmAll_3 12 rfl rfl)
theorem dX2_harmAll_80 : decode cX2_harmAll 80 = .ok (.goto (-78), 3) := dk_167 255 178 (dk_at dksX2_harmAll_3 15 rfl rfl)
theorem dX2_harmAll_83 : decode cX2_harmAll 83 = .ok (.return_, 1) := dk_177 (dk_at dksX2_harmAll_3 18 rfl rfl)
abbrev cX2_ownTouched : ByteArray := prog_3_method_16_code
def yX2_ownTouched : MethodName := ⟨RX2, "ownTouched", "(I)I"⟩
def dkwX2_ownTouched_5 : List UInt8 := [153, 0, 12, 21, 4, 153, 0, 7, 29, 167, 0, 4, 28, 61, 132, 3, 1, 167, 255, 127, 28, 172]
abbrev dktX2_ownTouched_5 : List UInt8 := dkwX2_ownTouched_5 ++ []
def dkwX2_ownTouched_4 : List UInt8 := [42, 180, 0, 3, 180, 0, 137, 29, 185, 0, 38, 2, 0, 192, 0, 140, 182, 0, 142, 182, 0, 76]
abbrev dktX2_ownTouched_4 : List UInt8 := dkwX2_ownTouched_4 ++ dktX2_ownTouched_5
def dkwX2_ownTouched_3 : List UInt8 := [192, 0, 140, 182, 0, 142, 182, 0, 80, 164, 0, 7, 4, 167, 0, 4, 3, 54, 4, 42, 180, 0, 3, 27]
abbrev dktX2_ownTouched_3 : List UInt8 := dkwX2_ownTouched_3 ++ dktX2_ownTouched_4
def dkwX2_ownTouched_2 : List UInt8 := [182, 0, 142, 182, 0, 80, 42, 180, 0, 3, 27, 42, 180, 0, 3, 180, 0, 137, 28, 185, 0, 38, 2, 0]
abbrev dktX2_ownTouched_2 : List UInt8 := dkwX2_ownTouched_2 ++ dktX2_ownTouched_3
def dkwX2_ownTouched_1 : List UInt8 := [159, 0, 60, 42, 180, 0, 3, 27, 42, 180, 0, 3, 180, 0, 137, 29, 185, 0, 38, 2, 0, 192, 0, 140]
abbrev dktX2_ownTouched_1 : List UInt8 := dkwX2_ownTouched_1 ++ dktX2_ownTouched_2
def dkwX2_ownTouched_0 : List UInt8 := [2, 61, 3, 62, 29, 42, 180, 0, 3, 180, 0, 137, 185, 0, 32, 1, 0, 162, 0, 119, 28, 2]
abbrev dktX2_ownTouched_0 : List UInt8 := dkwX2_ownTouched_0 ++ dktX2_ownTouched_1
theorem dksX2_ownTouched_0 : cX2_ownTouched.data.toList.drop 0 = dktX2_ownTouched_0 := by decide +kernel
theorem dksX2_ownTouched_1 : cX2_ownTouched.data.toList.drop 22 = dktX2_ownTouched_1 := dk_seg dksX2_ownTouched_0 22 rfl rfl
theorem dksX2_ownTouched_2 : cX2_ownTouched.data.toList.drop 46 = dktX2_ownTouched_2 := dk_seg dksX2_ownTouched_1 24 rfl rfl
theorem dksX2_ownTouched_3 : cX2_ownTouched.data.toList.drop 70 = dktX2_ownTouched_3 := dk_seg dksX2_ownTouched_2 24 rfl rfl
theorem dksX2_ownTouched_4 : cX2_ownTouched.data.toList.drop 94 = dktX2_ownTouched_4 := dk_seg dksX2_ownTouched_3 24 rfl rfl
theorem dksX2_ownTouched_5 : cX2_ownTouched.data.toList.drop 116 = dktX2_ownTouched_5 := dk_seg dksX2_ownTouched_4 22 rfl rfl
theorem dX2_ownTouched_0 : decode cX2_ownTouched 0 = .ok (.iconst (-1), 1) := dk_2 (dk_at dksX2_ownTouched_0 0 rfl rfl)
theorem dX2_ownTouched_1 : decode cX2_ownTouched 1 = .ok (.istore_n 2, 1) := dk_61 (dk_at dksX2_ownTouched_0 1 rfl rfl)
theorem dX2_ownTouched_2 : decode cX2_ownTouched 2 = .ok (.iconst 0, 1) := dk_3 (dk_at dksX2_ownTouched_0 2 rfl rfl)
theorem dX2_ownTouched_3 : decode cX2_ownTouched 3 = .ok (.istore_n 3, 1) := dk_62 (dk_at dksX2_ownTouched_0 3 rfl rfl)
theorem dX2_ownTouched_4 : decode cX2_ownTouched 4 = .ok (.iload_n 3, 1) := dk_29 (dk_at dksX2_ownTouched_0 4 rfl rfl)
theorem dX2_ownTouched_5 : decode cX2_ownTouched 5 = .ok (.aload_n 0, 1) := dk_42 (dk_at dksX2_ownTouched_0 5 rfl rfl)
theorem dX2_ownTouched_6 : decode cX2_ownTouched 6 = .ok (.getfield 3, 3) := dk_180 0 3 (dk_at dksX2_ownTouched_0 6 rfl rfl)
theorem dX2_ownTouched_9 : decode cX2_ownTouched 9 = .ok (.getfield 137, 3) := dk_180 0 137 (dk_at dksX2_ownTouched_0 9 rfl rfl)
theorem dX2_ownTouched_12 : decode cX2_ownTouched 12 = .ok (.invokeinterface 32 1, 5) := by decide +kernel
theorem dX2_ownTouched_17 : decode cX2_ownTouched 17 = .ok (.if_icmp .ge 119, 3) := dk_162 0 119 (dk_at dksX2_ownTouched_0 17 rfl rfl)
theorem dX2_ownTouched_20 : decode cX2_ownTouched 20 = .ok (.iload_n 2, 1) := dk_28 (dk_at dksX2_ownTouched_0 20 rfl rfl)
theorem dX2_ownTouched_21 : decode cX2_ownTouched 21 = .ok (.iconst (-1), 1) := dk_2 (dk_at dksX2_ownTouched_0 21 rfl rfl)
theorem dX2_ownTouched_22 : decode cX2_ownTouched 22 = .ok (.if_icmp .eq 60, 3) := dk_159 0 60 (dk_at dksX2_ownTouched_1 0 rfl rfl)
theorem dX2_ownTouched_25 : decode cX2_ownTouched 25 = .ok (.aload_n 0, 1) := dk_42 (dk_at dksX2_ownTouched_1 3 rfl rfl)
theorem dX2_ownTouched_26 : decode cX2_ownTouched 26 = .ok (.getfield 3, 3) := dk_180 0 3 (dk_at dksX2_ownTouched_1 4 rfl rfl)
theorem dX2_ownTouched_29 : decode cX2_ownTouched 29 = .ok (.iload_n 1, 1) := dk_27 (dk_at dksX2_ownTouched_1 7 rfl rfl)
theorem dX2_ownTouched_30 : decode cX2_ownTouched 30 = .ok (.aload_n 0, 1) := dk_42 (dk_at dksX2_ownTouched_1 8 rfl rfl)
theorem dX2_ownTouched_31 : decode cX2_ownTouched 31 = .ok (.getfield 3, 3) := dk_180 0 3 (dk_at dksX2_ownTouched_1 9 rfl rfl)
theorem dX2_ownTouched_34 : decode cX2_ownTouched 34 = .ok (.getfield 137, 3) := dk_180 0 137 (dk_at dksX2_ownTouched_1 12 rfl rfl)
theorem dX2_ownTouched_37 : decode cX2_ownTouched 37 = .ok (.iload_n 3, 1) := dk_29 (dk_at dksX2_ownTouched_1 15 rfl rfl)
theorem dX2_ownTouched_38 : decode cX2_ownTouched 38 = .ok (.invokeinterface 38 2, 5) := by decide +kernel
theorem dX2_ownTouched_43 : decode cX2_ownTouched 43 = .ok (.checkcast 140, 3) := dk_192 0 140 (dk_at dksX2_ownTouched_1 21 rfl rfl)
theorem dX2_ownTouched_46 : decode cX2_ownTouched 46 = .ok (.invokevirtual 142, 3) := dk_182 0 142 (dk_at dksX2_ownTouched_2 0 rfl rfl)
theorem dX2_ownTouched_49 : decode cX2_ownTouched 49 = .ok (.invokevirtual 80, 3) := dk_182 0 80 (dk_at dksX2_ownTouched_2 3 rfl rfl)
theorem dX2_ownTouched_52 : decode cX2_ownTouched 52 = .ok (.aload_n 0, 1) := dk_42 (dk_at dksX2_ownTouched_2 6 rfl rfl)
theorem dX2_ownTouched_53 : decode cX2_ownTouched 53 = .ok (.getfield 3, 3) := dk_180 0 3 (dk_at dksX2_ownTouched_2 7 rfl rfl)
theorem dX2_ownTouched_56 : decode cX2_ownTouched 56 = .ok (.iload_n 1, 1) := dk_27 (dk_at dksX2_ownTouched_2 10 rfl rfl)
theorem dX2_ownTouched_57 : decode cX2_ownTouched 57 = .ok (.aload_n 0, 1) := dk_42 (dk_at dksX2_ownTouched_2 11 rfl rfl)
theorem dX2_ownTouched_58 : decode cX2_ownTouched 58 = .ok (.getfield 3, 3) := dk_180 0 3 (dk_at dksX2_ownTouched_2 12 rfl rfl)
theorem dX2_ownTouched_61 : decode cX2_ownTouched 61 = .ok (.getfield 137, 3) := dk_180 0 137 (dk_at dksX2_ownTouched_2 15 rfl rfl)
theorem dX2_ownTouched_64 : decode cX2_ownTouched 64 = .ok (.iload_n 2, 1) := dk_28 (dk_at dksX2_ownTouched_2 18 rfl rfl)
theorem dX2_ownTouched_65 : decode cX2_ownTouched 65 = .ok (.invokeinterface 38 2, 5) := by decide +kernel
theorem dX2_ownTouched_70 : decode cX2_ownTouched 70 = .ok (.checkcast 140, 3) := dk_192 0 140 (dk_at dksX2_ownTouched_3 0 rfl rfl)
theorem dX2_ownTouched_73 : decode cX2_ownTouched 73 = .ok (.invokevirtual 142, 3) := dk_182 0 142 (dk_at dksX2_ownTouched_3 3 rfl rfl)
theorem dX2_ownTouched_76 : decode cX2_ownTouched 76 = .ok (.invokevirtual 80, 3) := dk_182 0 80 (dk_at dksX2_ownTouched_3 6 rfl rfl)
theorem dX2_ownTouched_79 : decode cX2_ownTouched 79 = .ok (.if_icmp .le 7, 3) := dk_164 0 7 (dk_at dksX2_ownTouched_3 9 rfl rfl)
theorem dX2_ownTouched_82 : decode cX2_ownTouched 82 = .ok (.iconst 1, 1) := dk_4 (dk_at dksX2_ownTouched_3 12 rfl rfl)
theorem dX2_ownTouched_83 : decode cX2_ownTouched 83 = .ok (.goto 4, 3) := dk_167 0 4 (dk_at dksX2_ownTouched_3 13 rfl rfl)
theorem dX2_ownTouched_86 : decode cX2_ownTouched 86 = .ok (.iconst 0, 1) := dk_3 (dk_at dksX2_ownTouched_3 16 rfl rfl)
theorem dX2_ownTouched_87 : decode cX2_ownTouched 87 = .ok (.istore 4, 2) := dk_54 4 (dk_at dksX2_ownTouched_3 17 rfl rfl)
theorem dX2_ownTouched_89 : decode cX2_ownTouched 89 = .ok (.aload_n 0, 1) := dk_42 (dk_at dksX2_ownTouched_3 19 rfl rfl)
theorem dX2_ownTouched_90 : decode cX2_ownTouched 90 = .ok (.getfield 3, 3) := dk_180 0 3 (dk_at dksX2_ownTouched_3 20 rfl rfl)
theorem dX2_ownTouched_93 : decode cX2_ownTouched 93 = .ok (.iload_n 1, 1) := dk_27 (dk_at dksX2_ownTouched_3 23 rfl rfl)
theorem dX2_ownTouched_94 : decode cX2_ownTouched 94 = .ok (.aload_n 0, 1) := dk_42 (dk_at dksX2_ownTouched_4 0 rfl rfl)
theorem dX2_ownTouched_95 : decode cX2_ownTouched 95 = .ok (.getfield 3, 3) := dk_180 0 3 (dk_at dksX2_ownTouched_4 1 rfl rfl)
theorem dX2_ownTouched_98 : decode cX2_ownTouched 98 = .ok (.getfield 137, 3) := dk_180 0 137 (dk_at dksX2_ownTouched_4 4 rfl rfl)
theorem dX2_ownTouched_101 : decode cX2_ownTouched 101 = .ok (.iload_n 3, 1) := dk_29 (dk_at dksX2_ownTouched_4 7 rfl rfl)
theorem dX2_ownTouched_102 : decode cX2_ownTouched 102 = .ok (.invokeinterface 38 2, 5) := by decide +kernel
theorem dX2_ownTouched_107 : decode cX2_ownTouched 107 = .ok (.checkcast 140, 3) := dk_192 0 140 (dk_at dksX2_ownTouched_4 13 rfl rfl)
theorem dX2_ownTouched_110 : decode cX2_ownTouched 110 = .ok (.invokevirtual 142, 3) := dk_182 0 142 (dk_at dksX2_ownTouched_4 16 rfl rfl)
theorem dX2_ownTouched_113 : decode cX2_ownTouched 113 = .ok (.invokevirtual 76, 3) := dk_182 0 76 (dk_at dksX2_ownTouched_4 19 rfl rfl)
theorem dX2_ownTouched_116 : decode cX2_ownTouched 116 = .ok (.ifCond .eq 12, 3) := dk_153 0 12 (dk_at dksX2_ownTouched_5 0 rfl rfl)
theorem dX2_ownTouched_119 : decode cX2_ownTouched 119 = .ok (.iload 4, 2) := dk_21 4 (dk_at dksX2_ownTouched_5 3 rfl rfl)
theorem dX2_ownTouched_121 : decode cX2_ownTouched 121 = .ok (.ifCond .eq 7, 3) := dk_153 0 7 (dk_at dksX2_ownTouched_5 5 rfl rfl)
theorem dX2_ownTouched_124 : decode cX2_ownTouched 124 = .ok (.iload_n 3, 1) := dk_29 (dk_at dksX2_ownTouched_5 8 rfl rfl)
theorem dX2_ownTouched_125 : decode cX2_ownTouched 125 = .ok (.goto 4, 3) := dk_167 0 4 (dk_at dksX2_ownTouched_5 9 rfl rfl)
theorem dX2_ownTouched_128 : decode cX2_ownTouched 128 = .ok (.iload_n 2, 1) := dk_28 (dk_at dksX2_ownTouched_5 12 rfl rfl)
theorem dX2_ownTouched_129 : decode cX2_ownTouched 129 = .ok (.istore_n 2, 1) := dk_61 (dk_at dksX2_ownTouched_5 13 rfl rfl)
theorem dX2_ownTouched_130 : decode cX2_ownTouched 130 = .ok (.iinc 3 1, 3) := dk_132 3 1 (dk_at dksX2_ownTouched_5 14 rfl rfl)
theorem dX2_ownTouched_133 : decode cX2_ownTouched 133 = .ok (.goto (-129), 3) := dk_167 255 127 (dk_at dksX2_ownTouched_5 17 rfl rfl)
theorem dX2_ownTouched_136 : decode cX2_ownTouched 136 = .ok (.iload_n 2, 1) := dk_28 (dk_at dksX2_ownTouched_5 20 rfl rfl)
theorem dX2_ownTouched_137 : decode cX2_ownTouched 137 = .ok (.ireturn, 1) := dk_172 (dk_at dksX2_ownTouched_5 21 rfl rfl)
abbrev cX2_isCalmed : ByteArray := prog_3_method_15_code
def yX2_isCalmed : MethodName := ⟨RX2, "isCalmed", "(I)Z"⟩
def dkwX2_isCalmed_4 : List UInt8 := [132, 3, 1, 167, 255, 166, 28, 172]
abbrev dktX2_isCalmed_4 : List UInt8 := dkwX2_isCalmed_4 ++ []
def dkwX2_isCalmed_3 : List UInt8 := [185, 0, 38, 2, 0, 192, 0, 140, 182, 0, 142, 182, 0, 76, 153, 0, 7, 4, 167, 0, 4, 3, 128, 61]
abbrev dktX2_isCalmed_3 : List UInt8 := dkwX2_isCalmed_3 ++ dktX2_isCalmed_4
def dkwX2_isCalmed_2 : List UInt8 := [29, 185, 0, 38, 2, 0, 192, 0, 42, 180, 0, 70, 42, 180, 0, 3, 180, 0, 137, 27]
abbrev dktX2_isCalmed_2 : List UInt8 := dkwX2_isCalmed_2 ++ dktX2_isCalmed_3
def dkwX2_isCalmed_1 : List UInt8 := [185, 0, 38, 2, 0, 192, 0, 42, 5, 5, 182, 0, 116, 153, 0, 52, 42, 180, 0, 3, 42, 180, 0, 18]
abbrev dktX2_isCalmed_1 : List UInt8 := dkwX2_isCalmed_1 ++ dktX2_isCalmed_2
def dkwX2_isCalmed_0 : List UInt8 := [3, 61, 3, 62, 29, 42, 180, 0, 18, 185, 0, 32, 1, 0, 162, 0, 83, 28, 42, 180, 0, 18, 29]
abbrev dktX2_isCalmed_0 : List UInt8 := dkwX2_isCalmed_0 ++ dktX2_isCalmed_1
theorem dksX2_isCalmed_0 : cX2_isCalmed.data.toList.drop 0 = dktX2_isCalmed_0 := by decide +kernel
theorem dksX2_isCalmed_1 : cX2_isCalmed.data.toList.drop 23 = dktX2_isCalmed_1 := dk_seg dksX2_isCalmed_0 23 rfl rfl
theorem dksX2_isCalmed_2 : cX2_isCalmed.data.toList.drop 47 = dktX2_isCalmed_2 := dk_seg dksX2_isCalmed_1 24 rfl rfl
theorem dksX2_isCalmed_3 : cX2_isCalmed.data.toList.drop 67 = dktX2_isCalmed_3 := dk_seg dksX2_isCalmed_2 20 rfl rfl
theorem dksX2_isCalmed_4 : cX2_isCalmed.data.toList.drop 91 = dktX2_isCalmed_4 := dk_seg dksX2_isCalmed_3 24 rfl rfl
theorem dX2_isCalmed_0 : decode cX2_isCalmed 0 = .ok (.iconst 0, 1) := dk_3 (dk_at dksX2_isCalmed_0 0 rfl rfl)
theorem dX2_isCalmed_1 : decode cX2_isCalmed 1 = .ok (.istore_n 2, 1) := dk_61 (dk_at dksX2_isCalmed_0 1 rfl rfl)
theorem dX2_isCalmed_2 : decode cX2_isCalmed 2 = .ok (.iconst 0, 1) := dk_3 (dk_at dksX2_isCalmed_0 2 rfl rfl)
theorem dX2_isCalmed_3 : decode cX2_isCalmed 3 = .ok (.istore_n 3, 1) := dk_62 (dk_at dksX2_isCalmed_0 3 rfl rfl)
theorem dX2_isCalmed_4 : decode cX2_isCalmed 4 = .ok (.iload_n 3, 1) := dk_29 (dk_at dksX2_isCalmed_0 4 rfl rfl)
theorem dX2_isCalmed_5 : decode cX2_isCalmed 5 = .ok (.aload_n 0, 1) := dk_42 (dk_at dksX2_isCalmed_0 5 rfl rfl)
theorem dX2_isCalmed_6 : decode cX2_isCalmed 6 = .ok (.getfield 18, 3) := dk_180 0 18 (dk_at dksX2_isCalmed_0 6 rfl rfl)
theorem dX2_isCalmed_9 : decode cX2_isCalmed 9 = .ok (.invokeinterface 32 1, 5) := by decide +kernel
theorem dX2_isCalmed_14 : decode cX2_isCalmed 14 = .ok (.if_icmp .ge 83, 3) := dk_162 0 83 (dk_at dksX2_isCalmed_0 14 rfl rfl)
theorem dX2_isCalmed_17 : decode cX2_isCalmed 17 = .ok (.iload_n 2, 1) := dk_28 (dk_at dksX2_isCalmed_0 17 rfl rfl)
theorem dX2_isCalmed_18 : decode cX2_isCalmed 18 = .ok (.aload_n 0, 1) := dk_42 (dk_at dksX2_isCalmed_0 18 rfl rfl)
theorem dX2_isCalmed_19 : decode cX2_isCalmed 19 = .ok (.getfield 18, 3) := dk_180 0 18 (dk_at dksX2_isCalmed_0 19 rfl rfl)
theorem dX2_isCalmed_22 : decode cX2_isCalmed 22 = .ok (.iload_n 3, 1) := dk_29 (dk_at dksX2_isCalmed_0 22 rfl rfl)
theorem dX2_isCalmed_23 : decode cX2_isCalmed 23 = .ok (.invokeinterface 38 2, 5) := by decide +kernel
theorem dX2_isCalmed_28 : decode cX2_isCalmed 28 = .ok (.checkcast 42, 3) := dk_192 0 42 (dk_at dksX2_isCalmed_1 5 rfl rfl)
theorem dX2_isCalmed_31 : decode cX2_isCalmed 31 = .ok (.iconst 2, 1) := dk_5 (dk_at dksX2_isCalmed_1 8 rfl rfl)
theorem dX2_isCalmed_32 : decode cX2_isCalmed 32 = .ok (.iconst 2, 1) := dk_5 (dk_at dksX2_isCalmed_1 9 rfl rfl)
theorem dX2_isCalmed_33 : decode cX2_isCalmed 33 = .ok (.invokevirtual 116, 3) := dk_182 0 116 (dk_at dksX2_isCalmed_1 10 rfl rfl)
theorem dX2_isCalmed_36 : decode cX2_isCalmed 36 = .ok (.ifCond .eq 52, 3) := dk_153 0 52 (dk_at dksX2_isCalmed_1 13 rfl rfl)
theorem dX2_isCalmed_39 : decode cX2_isCalmed 39 = .ok (.aload_n 0, 1) := dk_42 (dk_at dksX2_isCalmed_1 16 rfl rfl)
theorem dX2_isCalmed_40 : decode cX2_isCalmed 40 = .ok (.getfield 3, 3) := dk_180 0 3 (dk_at dksX2_isCalmed_1 17 rfl rfl)
theorem dX2_isCalmed_43 : decode cX2_isCalmed 43 = .ok (.aload_n 0, 1) := dk_42 (dk_at dksX2_isCalmed_1 20 rfl rfl)
theorem dX2_isCalmed_44 : decode cX2_isCalmed 44 = .ok (.getfield 18, 3) := dk_180 0 18 (dk_at dksX2_isCalmed_1 21 rfl rfl)
theorem dX2_isCalmed_47 : decode cX2_isCalmed 47 = .ok (.iload_n 3, 1) := dk_29 (dk_at dksX2_isCalmed_2 0 rfl rfl)
theorem dX2_isCalmed_48 : decode cX2_isCalmed 48 = .ok (.invokeinterface 38 2, 5) := by decide +kernel
theorem dX2_isCalmed_53 : decode cX2_isCalmed 53 = .ok (.checkcast 42, 3) := dk_192 0 42 (dk_at dksX2_isCalmed_2 6 rfl rfl)
theorem dX2_isCalmed_56 : decode cX2_isCalmed 56 = .ok (.getfield 70, 3) := dk_180 0 70 (dk_at dksX2_isCalmed_2 9 rfl rfl)
theorem dX2_isCalmed_59 : decode cX2_isCalmed 59 = .ok (.aload_n 0, 1) := dk_42 (dk_at dksX2_isCalmed_2 12 rfl rfl)
theorem dX2_isCalmed_60 : decode cX2_isCalmed 60 = .ok (.getfield 3, 3) := dk_180 0 3 (dk_at dksX2_isCalmed_2 13 rfl rfl)
theorem dX2_isCalmed_63 : decode cX2_isCalmed 63 = .ok (.getfield 137, 3) := dk_180 0 137 (dk_at dksX2_isCalmed_2 16 rfl rfl)
theorem dX2_isCalmed_66 : decode cX2_isCalmed 66 = .ok (.iload_n 1, 1) := dk_27 (dk_at dksX2_isCalmed_2 19 rfl rfl)
theorem dX2_isCalmed_67 : decode cX2_isCalmed 67 = .ok (.invokeinterface 38 2, 5) := by decide +kernel
theorem dX2_isCalmed_72 : decode cX2_isCalmed 72 = .ok (.checkcast 140, 3) := dk_192 0 140 (dk_at dksX2_isCalmed_3 5 rfl rfl)
theorem dX2_isCalmed_75 : decode cX2_isCalmed 75 = .ok (.invokevirtual 142, 3) := dk_182 0 142 (dk_at dksX2_isCalmed_3 8 rfl rfl)
theorem dX2_isCalmed_78 : decode cX2_isCalmed 78 = .ok (.invokevirtual 76, 3) := dk_182 0 76 (dk_at dksX2_isCalmed_3 11 rfl rfl)
theorem dX2_isCalmed_81 : decode cX2_isCalmed 81 = .ok (.ifCond .eq 7, 3) := dk_153 0 7 (dk_at dksX2_isCalmed_3 14 rfl rfl)
theorem dX2_isCalmed_84 : decode cX2_isCalmed 84 = .ok (.iconst 1, 1) := dk_4 (dk_at dksX2_isCalmed_3 17 rfl rfl)
theorem dX2_isCalmed_85 : decode cX2_isCalmed 85 = .ok (.goto 4, 3) := dk_167 0 4 (dk_at dksX2_isCalmed_3 18 rfl rfl)
theorem dX2_isCalmed_88 : decode cX2_isCalmed 88 = .ok (.iconst 0, 1) := dk_3 (dk_at dksX2_isCalmed_3 21 rfl rfl)
theorem dX2_isCalmed_89 : decode cX2_isCalmed 89 = .ok (.ior, 1) := dk_128 (dk_at dksX2_isCalmed_3 22 rfl rfl)
theorem dX2_isCalmed_90 : decode cX2_isCalmed 90 = .ok (.istore_n 2, 1) := dk_61 (dk_at dksX2_isCalmed_3 23 rfl rfl)
theorem dX2_isCalmed_91 : decode cX2_isCalmed 91 = .ok (.iinc 3 1, 3) := dk_132 3 1 (dk_at dksX2_isCalmed_4 0 rfl rfl)
theorem dX2_isCalmed_94 : decode cX2_isCalmed 94 = .ok (.goto (-90), 3) := dk_167 255 166 (dk_at dksX2_isCalmed_4 3 rfl rfl)
theorem dX2_isCalmed_97 : decode cX2_isCalmed 97 = .ok (.iload_n 2, 1) := dk_28 (dk_at dksX2_isCalmed_4 6 rfl rfl)
theorem dX2_isCalmed_98 : decode cX2_isCalmed 98 = .ok (.ireturn, 1) := dk_172 (dk_at dksX2_isCalmed_4 7 rfl rfl)
abbrev cX2_copy : ByteArray := prog_3_method_2_code
def yX2_copy : MethodName := ⟨RX2, "copy", "()LKeylockBody$Inside;"⟩
def dkwX2_copy_6 : List UInt8 := [180, 0, 61, 181, 0, 61, 43, 42, 180, 0, 64, 181, 0, 64, 43, 176]
abbrev dktX2_copy_6 : List UInt8 := dkwX2_copy_6 ++ []
def dkwX2_copy_5 : List UInt8 := [28, 42, 180, 0, 25, 28, 46, 79, 132, 2, 1, 167, 255, 235, 43, 42, 180, 0, 57, 181, 0, 57, 43, 42]
abbrev dktX2_copy_5 : List UInt8 := dkwX2_copy_5 ++ dktX2_copy_6
def dkwX2_copy_4 : List UInt8 := [185, 0, 48, 2, 0, 87, 132, 2, 1, 167, 255, 214, 3, 61, 28, 16, 8, 162, 0, 21, 43, 180, 0, 25]
abbrev dktX2_copy_4 : List UInt8 := dkwX2_copy_4 ++ dktX2_copy_5
def dkwX2_copy_3 : List UInt8 := [162, 0, 35, 43, 180, 0, 22, 42, 180, 0, 22, 28, 185, 0, 38, 2, 0, 192, 0, 52, 182, 0, 54]
abbrev dktX2_copy_3 : List UInt8 := dkwX2_copy_3 ++ dktX2_copy_4
def dkwX2_copy_2 : List UInt8 := [185, 0, 48, 2, 0, 87, 132, 2, 1, 167, 255, 214, 3, 61, 28, 42, 180, 0, 22, 185, 0, 32, 1, 0]
abbrev dktX2_copy_2 : List UInt8 := dkwX2_copy_2 ++ dktX2_copy_3
def dkwX2_copy_1 : List UInt8 := [162, 0, 35, 43, 180, 0, 18, 42, 180, 0, 18, 28, 185, 0, 38, 2, 0, 192, 0, 42, 182, 0, 44]
abbrev dktX2_copy_1 : List UInt8 := dkwX2_copy_1 ++ dktX2_copy_2
def dkwX2_copy_0 : List UInt8 := [187, 0, 4, 89, 42, 180, 0, 3, 183, 0, 29, 76, 3, 61, 28, 42, 180, 0, 18, 185, 0, 32, 1, 0]
abbrev dktX2_copy_0 : List UInt8 := dkwX2_copy_0 ++ dktX2_copy_1
theorem dksX2_copy_0 : cX2_copy.data.toList.drop 0 = dktX2_copy_0 := by decide +kernel
theorem dksX2_copy_1 : cX2_copy.data.toList.drop 24 = dktX2_copy_1 := dk_seg dksX2_copy_0 24 rfl rfl
theorem dksX2_copy_2 : cX2_copy.data.toList.drop 47 = dktX2_copy_2 := dk_seg dksX2_copy_1 23 rfl rfl
theorem dksX2_copy_3 : cX2_copy.data.toList.drop 71 = dktX2_copy_3 := dk_seg dksX2_copy_2 24 rfl rfl
theorem dksX2_copy_4 : cX2_copy.data.toList.drop 94 = dktX2_copy_4 := dk_seg dksX2_copy_3 23 rfl rfl
theorem dksX2_copy_5 : cX2_copy.data.toList.drop 118 = dktX2_copy_5 := dk_seg dksX2_copy_4 24 rfl rfl
theorem dksX2_copy_6 : cX2_copy.data.toList.drop 142 = dktX2_copy_6 := dk_seg dksX2_copy_5 24 rfl rfl
theorem dX2_copy_0 : decode cX2_copy 0 = .ok (.new 4, 3) := dk_187 0 4 (dk_at dksX2_copy_0 0 rfl rfl)
theorem dX2_copy_3 : decode cX2_copy 3 = .ok (.dup, 1) := dk_89 (dk_at dksX2_copy_0 3 rfl rfl)
theorem dX2_copy_4 : decode cX2_copy 4 = .ok (.aload_n 0, 1) := dk_42 (dk_at dksX2_copy_0 4 rfl rfl)
theorem dX2_copy_5 : decode cX2_copy 5 = .ok (.getfield 3, 3) := dk_180 0 3 (dk_at dksX2_copy_0 5 rfl rfl)
theorem dX2_copy_8 : decode cX2_copy 8 = .ok (.invokespecial 29, 3) := dk_183 0 29 (dk_at dksX2_copy_0 8 rfl rfl)
theorem dX2_copy_11 : decode cX2_copy 11 = .ok (.astore_n 1, 1) := dk_76 (dk_at dksX2_copy_0 11 rfl rfl)
theorem dX2_copy_12 : decode cX2_copy 12 = .ok (.iconst 0, 1) := dk_3 (dk_at dksX2_copy_0 12 rfl rfl)
theorem dX2_copy_13 : decode cX2_copy 13 = .ok (.istore_n 2, 1) := dk_61 (dk_at dksX2_copy_0 13 rfl rfl)
theorem dX2_copy_14 : decode cX2_copy 14 = .ok (.iload_n 2, 1) := dk_28 (dk_at dksX2_copy_0 14 rfl rfl)
theorem dX2_copy_15 : decode cX2_copy 15 = .ok (.aload_n 0, 1) := dk_42 (dk_at dksX2_copy_0 15 rfl rfl)
theorem dX2_copy_16 : decode cX2_copy 16 = .ok (.getfield 18, 3) := dk_180 0 18 (dk_at dksX2_copy_0 16 rfl rfl)
theorem dX2_copy_19 : decode cX2_copy 19 = .ok (.invokeinterface 32 1, 5) := by decide +kernel
theorem dX2_copy_24 : decode cX2_copy 24 = .ok (.if_icmp .ge 35, 3) := dk_162 0 35 (dk_at dksX2_copy_1 0 rfl rfl)
theorem dX2_copy_27 : decode cX2_copy 27 = .ok (.aload_n 1, 1) := dk_43 (dk_at dksX2_copy_1 3 rfl rfl)
theorem dX2_copy_28 : decode cX2_copy 28 = .ok (.getfield 18, 3) := dk_180 0 18 (dk_at dksX2_copy_1 4 rfl rfl)
theorem dX2_copy_31 : decode cX2_copy 31 = .ok (.aload_n 0, 1) := dk_42 (dk_at dksX2_copy_1 7 rfl rfl)
theorem dX2_copy_32 : decode cX2_copy 32 = .ok (.getfield 18, 3) := dk_180 0 18 (dk_at dksX2_copy_1 8 rfl rfl)
theorem dX2_copy_35 : decode cX2_copy 35 = .ok (.iload_n 2, 1) := dk_28 (dk_at dksX2_copy_1 11 rfl rfl)
theorem dX2_copy_36 : decode cX2_copy 36 = .ok (.invokeinterface 38 2, 5) := by decide +kernel
theorem dX2_copy_41 : decode cX2_copy 41 = .ok (.checkcast 42, 3) := dk_192 0 42 (dk_at dksX2_copy_1 17 rfl rfl)
theorem dX2_copy_44 : decode cX2_copy 44 = .ok (.invokevirtual 44, 3) := dk_182 0 44 (dk_at dksX2_copy_1 20 rfl rfl)
theorem dX2_copy_47 : decode cX2_copy 47 = .ok (.invokeinterface 48 2, 5) := by decide +kernel
theorem dX2_copy_52 : decode cX2_copy 52 = .ok (.pop, 1) := dk_87 (dk_at dksX2_copy_2 5 rfl rfl)
theorem dX2_copy_53 : decode cX2_copy 53 = .ok (.iinc 2 1, 3) := dk_132 2 1 (dk_at dksX2_copy_2 6 rfl rfl)
theorem dX2_copy_56 : decode cX2_copy 56 = .ok (.goto (-42), 3) := dk_167 255 214 (dk_at dksX2_copy_2 9 rfl rfl)
theorem dX2_copy_59 : decode cX2_copy 59 = .ok (.iconst 0, 1) := dk_3 (dk_at dksX2_copy_2 12 rfl rfl)
theorem dX2_copy_60 : decode cX2_copy 60 = .ok (.istore_n 2, 1) := dk_61 (dk_at dksX2_copy_2 13 rfl rfl)
theorem dX2_copy_61 : decode cX2_copy 61 = .ok (.iload_n 2, 1) := dk_28 (dk_at dksX2_copy_2 14 rfl rfl)
theorem dX2_copy_62 : decode cX2_copy 62 = .ok (.aload_n 0, 1) := dk_42 (dk_at dksX2_copy_2 15 rfl rfl)
theorem dX2_copy_63 : decode cX2_copy 63 = .ok (.getfield 22, 3) := dk_180 0 22 (dk_at dksX2_copy_2 16 rfl rfl)
theorem dX2_copy_66 : decode cX2_copy 66 = .ok (.invokeinterface 32 1, 5) := by decide +kernel
theorem dX2_copy_71 : decode cX2_copy 71 = .ok (.if_icmp .ge 35, 3) := dk_162 0 35 (dk_at dksX2_copy_3 0 rfl rfl)
theorem dX2_copy_74 : decode cX2_copy 74 = .ok (.aload_n 1, 1) := dk_43 (dk_at dksX2_copy_3 3 rfl rfl)
theorem dX2_copy_75 : decode cX2_copy 75 = .ok (.getfield 22, 3) := dk_180 0 22 (dk_at dksX2_copy_3 4 rfl rfl)
theorem dX2_copy_78 : decode cX2_copy 78 = .ok (.aload_n 0, 1) := dk_42 (dk_at dksX2_copy_3 7 rfl rfl)
theorem dX2_copy_79 : decode cX2_copy 79 = .ok (.getfield 22, 3) := dk_180 0 22 (dk_at dksX2_copy_3 8 rfl rfl)
theorem dX2_copy_82 : decode cX2_copy 82 = .ok (.iload_n 2, 1) := dk_28 (dk_at dksX2_copy_3 11 rfl rfl)
theorem dX2_copy_83 : decode cX2_copy 83 = .ok (.invokeinterface 38 2, 5) := by decide +kernel
theorem dX2_copy_88 : decode cX2_copy 88 = .ok (.checkcast 52, 3) := dk_192 0 52 (dk_at dksX2_copy_3 17 rfl rfl)
theorem dX2_copy_91 : decode cX2_copy 91 = .ok (.invokevirtual 54, 3) := dk_182 0 54 (dk_at dksX2_copy_3 20 rfl rfl)
theorem dX2_copy_94 : decode cX2_copy 94 = .ok (.invokeinterface 48 2, 5) := by decide +kernel
theorem dX2_copy_99 : decode cX2_copy 99 = .ok (.pop, 1) := dk_87 (dk_at dksX2_copy_4 5 rfl rfl)
theorem dX2_copy_100 : decode cX2_copy 100 = .ok (.iinc 2 1, 3) := dk_132 2 1 (dk_at dksX2_copy_4 6 rfl rfl)
theorem dX2_copy_103 : decode cX2_copy 103 = .ok (.goto (-42), 3) := dk_167 255 214 (dk_at dksX2_copy_4 9 rfl rfl)
theorem dX2_copy_106 : decode cX2_copy 106 = .ok (.iconst 0, 1) := dk_3 (dk_at dksX2_copy_4 12 rfl rfl)
theorem dX2_copy_107 : decode cX2_copy 107 = .ok (.istore_n 2, 1) := dk_61 (dk_at dksX2_copy_4 13 rfl rfl)
theorem dX2_copy_108 : decode cX2_copy 108 = .ok (.iload_n 2, 1) := dk_28 (dk_at dksX2_copy_4 14 rfl rfl)
theorem dX2_copy_109 : decode cX2_copy 109 = .ok (.bipush 8, 2) := dk_16 8 (dk_at dksX2_copy_4 15 rfl rfl)
theorem dX2_copy_111 : decode cX2_copy 111 = .ok (.if_icmp .ge 21, 3) := dk_162 0 21 (dk_at dksX2_copy_4 17 rfl rfl)
theorem dX2_copy_114 : decode cX2_copy 114 = .ok (.aload_n 1, 1) := dk_43 (dk_at dksX2_copy_4 20 rfl rfl)
theorem dX2_copy_115 : decode cX2_copy 115 = .ok (.getfield 25, 3) := dk_180 0 25 (dk_at dksX2_copy_4 21 rfl rfl)
theorem dX2_copy_118 : decode cX2_copy 118 = .ok (.iload_n 2, 1) := dk_28 (dk_at dksX2_copy_5 0 rfl rfl)
theorem dX2_copy_119 : decode cX2_copy 119 = .ok (.aload_n 0, 1) := dk_42 (dk_at dksX2_copy_5 1 rfl rfl)
theorem dX2_copy_120 : decode cX2_copy 120 = .ok (.getfield 25, 3) := dk_180 0 25 (dk_at dksX2_copy_5 2 rfl rfl)
theorem dX2_copy_123 : decode cX2_copy 123 = .ok (.iload_n 2, 1) := dk_28 (dk_at dksX2_copy_5 5 rfl rfl)
theorem dX2_copy_124 : decode cX2_copy 124 = .ok (.iaload, 1) := dk_46 (dk_at dksX2_copy_5 6 rfl rfl)
theorem dX2_copy_125 : decode cX2_copy 125 = .ok (.iastore, 1) := dk_79 (dk_at dksX2_copy_5 7 rfl rfl)
theorem dX2_copy_126 : decode cX2_copy 126 = .ok (.iinc 2 1, 3) := dk_132 2 1 (dk_at dksX2_copy_5 8 rfl rfl)
theorem dX2_copy_129 : decode cX2_copy 129 = .ok (.goto (-21), 3) := dk_167 255 235 (dk_at dksX2_copy_5 11 rfl rfl)
theorem dX2_copy_132 : decode cX2_copy 132 = .ok (.aload_n 1, 1) := dk_43 (dk_at dksX2_copy_5 14 rfl rfl)
theorem dX2_copy_133 : decode cX2_copy 133 = .ok (.aload_n 0, 1) := dk_42 (dk_at dksX2_copy_5 15 rfl rfl)
theorem dX2_copy_134 : decode cX2_copy 134 = .ok (.getfield 57, 3) := dk_180 0 57 (dk_at dksX2_copy_5 16 rfl rfl)
theorem dX2_copy_137 : decode cX2_copy 137 = .ok (.putfield 57, 3) := dk_181 0 57 (dk_at dksX2_copy_5 19 rfl rfl)
theorem dX2_copy_140 : decode cX2_copy 140 = .ok (.aload_n 1, 1) := dk_43 (dk_at dksX2_copy_5 22 rfl rfl)
theorem dX2_copy_141 : decode cX2_copy 141 = .ok (.aload_n 0, 1) := dk_42 (dk_at dksX2_copy_5 23 rfl rfl)
theorem dX2_copy_142 : decode cX2_copy 142 = .ok (.getfield 61, 3) := dk_180 0 61 (dk_at dksX2_copy_6 0 rfl rfl)
theorem dX2_copy_145 : decode cX2_copy 145 = .ok (.putfield 61, 3) := dk_181 0 61 (dk_at dksX2_copy_6 3 rfl rfl)
theorem dX2_copy_148 : decode cX2_copy 148 = .ok (.aload_n 1, 1) := dk_43 (dk_at dksX2_copy_6 6 rfl rfl)
theorem dX2_copy_149 : decode cX2_copy 149 = .ok (.aload_n 0, 1) := dk_42 (dk_at dksX2_copy_6 7 rfl rfl)
theorem dX2_copy_150 : decode cX2_copy 150 = .ok (.getfield 64, 3) := dk_180 0 64 (dk_at dksX2_copy_6 8 rfl rfl)
theorem dX2_copy_153 : decode cX2_copy 153 = .ok (.putfield 64, 3) := dk_181 0 64 (dk_at dksX2_copy_6 11 rfl rfl)
theorem dX2_copy_156 : decode cX2_copy 156 = .ok (.aload_n 1, 1) := dk_43 (dk_at dksX2_copy_6 14 rfl rfl)
theorem dX2_copy_157 : decode cX2_copy 157 = .ok (.areturn, 1) := dk_176 (dk_at dksX2_copy_6 15 rfl rfl)
abbrev cX2_sum : ByteArray := prog_3_method_19_code
def yX2_sum : MethodName := ⟨RX2, "sum", "(I)I"⟩
def dkwX2_sum_6 : List UInt8 := [180, 0, 64, 167, 0, 4, 28, 172]
abbrev dktX2_sum_6 : List UInt8 := dkwX2_sum_6 ++ []
def dkwX2_sum_5 : List UInt8 := [42, 180, 0, 57, 167, 0, 25, 42, 180, 0, 61, 167, 0, 18, 42, 182, 0, 100, 167, 0, 11, 42]
abbrev dktX2_sum_5 : List UInt8 := dkwX2_sum_5 ++ dktX2_sum_6
def dkwX2_sum_4 : List UInt8 := [170, 0, 0, 0, 0, 0, 0, 68, 0, 0, 0, 0, 0, 0, 0, 5, 0, 0, 0, 40, 0, 0, 0, 47, 0, 0, 0, 68, 0, 0, 0, 54, 0, 0, 0, 68, 0, 0, 0, 61]
abbrev dktX2_sum_4 : List UInt8 := dkwX2_sum_4 ++ dktX2_sum_5
def dkwX2_sum_3 : List UInt8 := [167, 0, 4, 3, 96, 61, 132, 3, 1, 167, 255, 229, 27]
abbrev dktX2_sum_3 : List UInt8 := dkwX2_sum_3 ++ dktX2_sum_4
def dkwX2_sum_2 : List UInt8 := [167, 255, 212, 3, 62, 29, 16, 8, 162, 0, 27, 28, 27, 7, 160, 0, 12, 42, 180, 0, 25, 29, 46]
abbrev dktX2_sum_2 : List UInt8 := dkwX2_sum_2 ++ dktX2_sum_3
def dkwX2_sum_1 : List UInt8 := [180, 0, 18, 29, 185, 0, 38, 2, 0, 192, 0, 42, 180, 0, 67, 167, 0, 4, 3, 96, 61, 132, 3, 1]
abbrev dktX2_sum_1 : List UInt8 := dkwX2_sum_1 ++ dktX2_sum_2
def dkwX2_sum_0 : List UInt8 := [3, 61, 3, 62, 29, 42, 180, 0, 18, 185, 0, 32, 1, 0, 162, 0, 37, 28, 27, 5, 160, 0, 22, 42]
abbrev dktX2_sum_0 : List UInt8 := dkwX2_sum_0 ++ dktX2_sum_1
theorem dksX2_sum_0 : cX2_sum.data.toList.drop 0 = dktX2_sum_0 := by decide +kernel
theorem dksX2_sum_1 : cX2_sum.data.toList.drop 24 = dktX2_sum_1 := dk_seg dksX2_sum_0 24 rfl rfl
theorem dksX2_sum_2 : cX2_sum.data.toList.drop 48 = dktX2_sum_2 := dk_seg dksX2_sum_1 24 rfl rfl
theorem dksX2_sum_3 : cX2_sum.data.toList.drop 71 = dktX2_sum_3 := dk_seg dksX2_sum_2 23 rfl rfl
theorem dksX2_sum_4 : cX2_sum.data.toList.drop 84 = dktX2_sum_4 := dk_seg dksX2_sum_3 13 rfl rfl
theorem dksX2_sum_5 : cX2_sum.data.toList.drop 124 = dktX2_sum_5 := dk_seg dksX2_sum_4 40 rfl rfl
theorem dksX2_sum_6 : cX2_sum.data.toList.drop 146 = dktX2_sum_6 := dk_seg dksX2_sum_5 22 rfl rfl
theorem dX2_sum_0 : decode cX2_sum 0 = .ok (.iconst 0, 1) := dk_3 (dk_at dksX2_sum_0 0 rfl rfl)
theorem dX2_sum_1 : decode cX2_sum 1 = .ok (.istore_n 2, 1) := dk_61 (dk_at dksX2_sum_0 1 rfl rfl)
theorem dX2_sum_2 : decode cX2_sum 2 = .ok (.iconst 0, 1) := dk_3 (dk_at dksX2_sum_0 2 rfl rfl)
theorem dX2_sum_3 : decode cX2_sum 3 = .ok (.istore_n 3, 1) := dk_62 (dk_at dksX2_sum_0 3 rfl rfl)
theorem dX2_sum_4 : decode cX2_sum 4 = .ok (.iload_n 3, 1) := dk_29 (dk_at dksX2_sum_0 4 rfl rfl)
theorem dX2_sum_5 : decode cX2_sum 5 = .ok (.aload_n 0, 1) := dk_42 (dk_at dksX2_sum_0 5 rfl rfl)
theorem dX2_sum_6 : decode cX2_sum 6 = .ok (.getfield 18, 3) := dk_180 0 18 (dk_at dksX2_sum_0 6 rfl rfl)
theorem dX2_sum_9 : decode cX2_sum 9 = .ok (.invokeinterface 32 1, 5) := by decide +kernel
theorem dX2_sum_14 : decode cX2_sum 14 = .ok (.if_icmp .ge 37, 3) := dk_162 0 37 (dk_at dksX2_sum_0 14 rfl rfl)
theorem dX2_sum_17 : decode cX2_sum 17 = .ok (.iload_n 2, 1) := dk_28 (dk_at dksX2_sum_0 17 rfl rfl)
theorem dX2_sum_18 : decode cX2_sum 18 = .ok (.iload_n 1, 1) := dk_27 (dk_at dksX2_sum_0 18 rfl rfl)
theorem dX2_sum_19 : decode cX2_sum 19 = .ok (.iconst 2, 1) := dk_5 (dk_at dksX2_sum_0 19 rfl rfl)
theorem dX2_sum_20 : decode cX2_sum 20 = .ok (.if_icmp .ne 22, 3) := dk_160 0 22 (dk_at dksX2_sum_0 20 rfl rfl)
theorem dX2_sum_23 : decode cX2_sum 23 = .ok (.aload_n 0, 1) := dk_42 (dk_at dksX2_sum_0 23 rfl rfl)
theorem dX2_sum_24 : decode cX2_sum 24 = .ok (.getfield 18, 3) := dk_180 0 18 (dk_at dksX2_sum_1 0 rfl rfl)
theorem dX2_sum_27 : decode cX2_sum 27 = .ok (.iload_n 3, 1) := dk_29 (dk_at dksX2_sum_1 3 rfl rfl)
theorem dX2_sum_28 : decode cX2_sum 28 = .ok (.invokeinterface 38 2, 5) := by decide +kernel
theorem dX2_sum_33 : decode cX2_sum 33 = .ok (.checkcast 42, 3) := dk_192 0 42 (dk_at dksX2_sum_1 9 rfl rfl)
theorem dX2_sum_36 : decode cX2_sum 36 = .ok (.getfield 67, 3) := dk_180 0 67 (dk_at dksX2_sum_1 12 rfl rfl)
theorem dX2_sum_39 : decode cX2_sum 39 = .ok (.goto 4, 3) := dk_167 0 4 (dk_at dksX2_sum_1 15 rfl rfl)
theorem dX2_sum_42 : decode cX2_sum 42 = .ok (.iconst 0, 1) := dk_3 (dk_at dksX2_sum_1 18 rfl rfl)
theorem dX2_sum_43 : decode cX2_sum 43 = .ok (.iadd, 1) := dk_96 (dk_at dksX2_sum_1 19 rfl rfl)
theorem dX2_sum_44 : decode cX2_sum 44 = .ok (.istore_n 2, 1) := dk_61 (dk_at dksX2_sum_1 20 rfl rfl)
theorem dX2_sum_45 : decode cX2_sum 45 = .ok (.iinc 3 1, 3) := dk_132 3 1 (dk_at dksX2_sum_1 21 rfl rfl)
theorem dX2_sum_48 : decode cX2_sum 48 = .ok (.goto (-44), 3) := dk_167 255 212 (dk_at dksX2_sum_2 0 rfl rfl)
theorem dX2_sum_51 : decode cX2_sum 51 = .ok (.iconst 0, 1) := dk_3 (dk_at dksX2_sum_2 3 rfl rfl)
theorem dX2_sum_52 : decode cX2_sum 52 = .ok (.istore_n 3, 1) := dk_62 (dk_at dksX2_sum_2 4 rfl rfl)
theorem dX2_sum_53 : decode cX2_sum 53 = .ok (.iload_n 3, 1) := dk_29 (dk_at dksX2_sum_2 5 rfl rfl)
theorem dX2_sum_54 : decode cX2_sum 54 = .ok (.bipush 8, 2) := dk_16 8 (dk_at dksX2_sum_2 6 rfl rfl)
theorem dX2_sum_56 : decode cX2_sum 56 = .ok (.if_icmp .ge 27, 3) := dk_162 0 27 (dk_at dksX2_sum_2 8 rfl rfl)
theorem dX2_sum_59 : decode cX2_sum 59 = .ok (.iload_n 2, 1) := dk_28 (dk_at dksX2_sum_2 11 rfl rfl)
theorem dX2_sum_60 : decode cX2_sum 60 = .ok (.iload_n 1, 1) := dk_27 (dk_at dksX2_sum_2 12 rfl rfl)
theorem dX2_sum_61 : decode cX2_sum 61 = .ok (.iconst 4, 1) := dk_7 (dk_at dksX2_sum_2 13 rfl rfl)
theorem dX2_sum_62 : decode cX2_sum 62 = .ok (.if_icmp .ne 12, 3) := dk_160 0 12 (dk_at dksX2_sum_2 14 rfl rfl)
theorem dX2_sum_65 : decode cX2_sum 65 = .ok (.aload_n 0, 1) := dk_42 (dk_at dksX2_sum_2 17 rfl rfl)
theorem dX2_sum_66 : decode cX2_sum 66 = .ok (.getfield 25, 3) := dk_180 0 25 (dk_at dksX2_sum_2 18 rfl rfl)
theorem dX2_sum_69 : decode cX2_sum 69 = .ok (.iload_n 3, 1) := dk_29 (dk_at dksX2_sum_2 21 rfl rfl)
theorem dX2_sum_70 : decode cX2_sum 70 = .ok (.iaload, 1) := dk_46 (dk_at dksX2_sum_2 22 rfl rfl)
theorem dX2_sum_71 : decode cX2_sum 71 = .ok (.goto 4, 3) := dk_167 0 4 (dk_at dksX2_sum_3 0 rfl rfl)
theorem dX2_sum_74 : decode cX2_sum 74 = .ok (.iconst 0, 1) := dk_3 (dk_at dksX2_sum_3 3 rfl rfl)
theorem dX2_sum_75 : decode cX2_sum 75 = .ok (.iadd, 1) := dk_96 (dk_at dksX2_sum_3 4 rfl rfl)
theorem dX2_sum_76 : decode cX2_sum 76 = .ok (.istore_n 2, 1) := dk_61 (dk_at dksX2_sum_3 5 rfl rfl)
theorem dX2_sum_77 : decode cX2_sum 77 = .ok (.iinc 3 1, 3) := dk_132 3 1 (dk_at dksX2_sum_3 6 rfl rfl)
theorem dX2_sum_80 : decode cX2_sum 80 = .ok (.goto (-27), 3) := dk_167 255 229 (dk_at dksX2_sum_3 9 rfl rfl)
theorem dX2_sum_83 : decode cX2_sum 83 = .ok (.iload_n 1, 1) := dk_27 (dk_at dksX2_sum_3 12 rfl rfl)
theorem dX2_sum_84 : decode cX2_sum 84 = .ok (.tableswitch 68 0 5 #[40, 47, 68, 54, 68, 61], 40) := by decide +kernel
theorem dX2_sum_124 : decode cX2_sum 124 = .ok (.aload_n 0, 1) := dk_42 (dk_at dksX2_sum_5 0 rfl rfl)
theorem dX2_sum_125 : decode cX2_sum 125 = .ok (.getfield 57, 3) := dk_180 0 57 (dk_at dksX2_sum_5 1 rfl rfl)
theorem dX2_sum_128 : decode cX2_sum 128 = .ok (.goto 25, 3) := dk_167 0 25 (dk_at dksX2_sum_5 4 rfl rfl)
theorem dX2_sum_131 : decode cX2_sum 131 = .ok (.aload_n 0, 1) := dk_42 (dk_at dksX2_sum_5 7 rfl rfl)
theorem dX2_sum_132 : decode cX2_sum 132 = .ok (.getfield 61, 3) := dk_180 0 61 (dk_at dksX2_sum_5 8 rfl rfl)
theorem dX2_sum_135 : decode cX2_sum 135 = .ok (.goto 18, 3) := dk_167 0 18 (dk_at dksX2_sum_5 11 rfl rfl)
theorem dX2_sum_138 : decode cX2_sum 138 = .ok (.aload_n 0, 1) := dk_42 (dk_at dksX2_sum_5 14 rfl rfl)
theorem dX2_sum_139 : decode cX2_sum 139 = .ok (.invokevirtual 100, 3) := dk_182 0 100 (dk_at dksX2_sum_5 15 rfl rfl)
theorem dX2_sum_142 : decode cX2_sum 142 = .ok (.goto 11, 3) := dk_167 0 11 (dk_at dksX2_sum_5 18 rfl rfl)
theorem dX2_sum_145 : decode cX2_sum 145 = .ok (.aload_n 0, 1) := dk_42 (dk_at dksX2_sum_5 21 rfl rfl)
theorem dX2_sum_146 : decode cX2_sum 146 = .ok (.getfield 64, 3) := dk_180 0 64 (dk_at dksX2_sum_6 0 rfl rfl)
theorem dX2_sum_149 : decode cX2_sum 149 = .ok (.goto 4, 3) := dk_167 0 4 (dk_at dksX2_sum_6 3 rfl rfl)
theorem dX2_sum_152 : decode cX2_sum 152 = .ok (.iload_n 2, 1) := dk_28 (dk_at dksX2_sum_6 6 rfl rfl)
theorem dX2_sum_153 : decode cX2_sum 153 = .ok (.ireturn, 1) := dk_172 (dk_at dksX2_sum_6 7 rfl rfl)
theorem q41 : (Jvm.Cond.initialized "KeylockBody$Inside") ∈ lw_all := lw_g (lw_at lw_m1 5 rfl) rfl
theorem q102 : (Jvm.Cond.instantiable "KeylockBody$Inside" (7 : Nat)) ∈ lw_all := lw_g (lw_at lw_m1 66 rfl) rfl
theorem q104 : (Jvm.Cond.instanceMethod ({ cls := "KeylockBody$Inside", name := "<init>", desc := "(LKeylockBody;)V" } : Jvm.MethodName)) ∈ lw_all := lw_g (lw_at lw_m1 68 rfl) rfl
theorem q105 : (Jvm.Cond.code ({ cls := "KeylockBody$Inside", name := "<init>", desc := "(LKeylockBody;)V" } : Jvm.MethodName) prog_3_method_1_code (2 : Nat) (Option.none : Option Jvm.ClassFile.FieldType)) ∈ lw_all := lw_g (lw_at lw_m1 69 rfl) rfl
theorem q106 : (Jvm.Cond.methodLink "KeylockBody$Inside" (9 : Nat) ({ cls := "java/lang/Object", name := "<init>", desc := "()V" } : Jvm.MethodName)) ∈ lw_all := lw_g (lw_at lw_m1 70 rfl) rfl
theorem q107 : (Jvm.Cond.classLink "KeylockBody$Inside" (15 : Nat) "java/util/ArrayList") ∈ lw_all := lw_g (lw_at lw_m1 71 rfl) rfl
theorem q108 : (Jvm.Cond.methodLink "KeylockBody$Inside" (17 : Nat) ({ cls := "java/util/ArrayList", name := "<init>", desc := "()V" } : Jvm.MethodName)) ∈ lw_all := lw_g (lw_at lw_m1 72 rfl) rfl
theorem q109 : (Jvm.Cond.fieldLink "KeylockBody$Inside" (18 : Nat) "KeylockBody$Inside" "cells" "Ljava/util/List;") ∈ lw_all := lw_g (lw_at lw_m1 73 rfl) rfl
theorem q111 : (Jvm.Cond.fieldLink "KeylockBody$Inside" (22 : Nat) "KeylockBody$Inside" "invaders" "Ljava/util/List;") ∈ lw_all := lw_g (lw_at lw_m1 75 rfl) rfl
theorem q113 : (Jvm.Cond.fieldLink "KeylockBody$Inside" (25 : Nat) "KeylockBody$Inside" "harms" "[I") ∈ lw_all := lw_g (lw_at lw_m1 77 rfl) rfl
theorem q115 : (Jvm.Cond.fieldLink "KeylockBody$Inside" (57 : Nat) "KeylockBody$Inside" "born" "I") ∈ lw_all := lw_g (lw_at lw_m1 79 rfl) rfl
theorem q116 : (Jvm.Cond.fieldLink "KeylockBody$Inside" (61 : Nat) "KeylockBody$Inside" "dead" "I") ∈ lw_all := lw_g (lw_at lw_m1 80 rfl) rfl
theorem q117 : (Jvm.Cond.fieldLink "KeylockBody$Inside" (64 : Nat) "KeylockBody$Inside" "hour" "I") ∈ lw_all := lw_g (lw_at lw_m1 81 rfl) rfl
theorem q119 : (Jvm.Cond.fieldLink "KeylockBody$Inside" (3 : Nat) "KeylockBody$Inside" "this$0" "LKeylockBody;") ∈ lw_all := lw_g (lw_at lw_m1 83 rfl) rfl
theorem q120 : (Jvm.Cond.laysFinal "KeylockBody$Inside" "KeylockBody$Inside" "cells" "Ljava/util/List;") ∈ lw_all := lw_g (lw_at lw_m1 84 rfl) rfl
theorem q121 : (Jvm.Cond.soleField "KeylockBody$Inside" "cells") ∈ lw_all := lw_g (lw_at lw_m1 85 rfl) rfl
theorem q122 : (Jvm.Cond.laysFinal "KeylockBody$Inside" "KeylockBody$Inside" "invaders" "Ljava/util/List;") ∈ lw_all := lw_g (lw_at lw_m1 86 rfl) rfl
theorem q123 : (Jvm.Cond.soleField "KeylockBody$Inside" "invaders") ∈ lw_all := lw_g (lw_at lw_m1 87 rfl) rfl
theorem q124 : (Jvm.Cond.laysFinal "KeylockBody$Inside" "KeylockBody$Inside" "harms" "[I") ∈ lw_all := lw_g (lw_at lw_m1 88 rfl) rfl
theorem q125 : (Jvm.Cond.soleField "KeylockBody$Inside" "harms") ∈ lw_all := lw_g (lw_at lw_m1 89 rfl) rfl
theorem q126 : (Jvm.Cond.lays "KeylockBody$Inside" "KeylockBody$Inside" "born" "I") ∈ lw_all := lw_g (lw_at lw_m1 90 rfl) rfl
theorem q127 : (Jvm.Cond.soleField "KeylockBody$Inside" "born") ∈ lw_all := lw_g (lw_at lw_m1 91 rfl) rfl
theorem q128 : (Jvm.Cond.lays "KeylockBody$Inside" "KeylockBody$Inside" "dead" "I") ∈ lw_all := lw_g (lw_at lw_m1 92 rfl) rfl
theorem q129 : (Jvm.Cond.soleField "KeylockBody$Inside" "dead") ∈ lw_all := lw_g (lw_at lw_m1 93 rfl) rfl
theorem q130 : (Jvm.Cond.lays "KeylockBody$Inside" "KeylockBody$Inside" "hour" "I") ∈ lw_all := lw_g (lw_at lw_m1 94 rfl) rfl
theorem q131 : (Jvm.Cond.soleField "KeylockBody$Inside" "hour") ∈ lw_all := lw_g (lw_at lw_m1 95 rfl) rfl
theorem q132 : (Jvm.Cond.laysFinal "KeylockBody$Inside" "KeylockBody$Inside" "this$0" "LKeylockBody;") ∈ lw_all := lw_g (lw_at lw_m1 96 rfl) rfl
theorem q133 : (Jvm.Cond.soleField "KeylockBody$Inside" "this$0") ∈ lw_all := lw_g (lw_at lw_m1 97 rfl) rfl
theorem q134 : (Jvm.Cond.superclass "KeylockBody$Inside" "java/lang/Object") ∈ lw_all := lw_g (lw_at lw_m1 98 rfl) rfl
theorem q137 : (Jvm.Cond.fieldLinkNest "KeylockBody$Inside" (103 : Nat) "KeylockBody" "marks" "[I" "KeylockBody") ∈ lw_tbl := lw_at lw_m1 101 rfl
theorem q139 : (Jvm.Cond.fieldLinkNest "KeylockBody$Inside" (137 : Nat) "KeylockBody" "owns" "Ljava/util/List;" "KeylockBody") ∈ lw_tbl := lw_at lw_m1 103 rfl
theorem q415 : (Jvm.Cond.selects "KeylockBody$Inside" ({ cls := "java/lang/Object", name := "getClass", desc := "()Ljava/lang/Class;" } : Jvm.MethodName) ({ cls := "java/lang/Object", name := "getClass", desc := "()Ljava/lang/Class;" } : Jvm.MethodName)) ∈ lw_all := lw_g (lw_at lw_m2 139 rfl) rfl
theorem q533 : (Jvm.Cond.fieldLinkNest "KeylockBody$Inside" (70 : Nat) "KeylockBody$Cell" "lock" "I" "KeylockBody") ∈ lw_tbl := lw_at lw_m3 17 rfl
theorem q536 : (Jvm.Cond.fieldLinkNest "KeylockBody$Inside" (106 : Nat) "KeylockBody$Cell" "kind" "I" "KeylockBody") ∈ lw_tbl := lw_at lw_m3 20 rfl
theorem q541 : (Jvm.Cond.fieldLinkNest "KeylockBody$Inside" (97 : Nat) "KeylockBody$Cell" "state" "I" "KeylockBody") ∈ lw_tbl := lw_at lw_m3 25 rfl
theorem q544 : (Jvm.Cond.fieldLinkNest "KeylockBody$Inside" (67 : Nat) "KeylockBody$Cell" "size" "I" "KeylockBody") ∈ lw_tbl := lw_at lw_m3 28 rfl
theorem q547 : (Jvm.Cond.fieldLinkNest "KeylockBody$Inside" (113 : Nat) "KeylockBody$Cell" "work" "I" "KeylockBody") ∈ lw_tbl := lw_at lw_m3 31 rfl
theorem q565 : (Jvm.Cond.instanceMethod ({ cls := "KeylockBody$Inside", name := "add", desc := "(LKeylockBody$Cell;)V" } : Jvm.MethodName)) ∈ lw_all := lw_g (lw_at lw_m3 49 rfl) rfl
theorem q566 : (Jvm.Cond.selects "KeylockBody$Inside" ({ cls := "KeylockBody$Inside", name := "add", desc := "(LKeylockBody$Cell;)V" } : Jvm.MethodName) ({ cls := "KeylockBody$Inside", name := "add", desc := "(LKeylockBody$Cell;)V" } : Jvm.MethodName)) ∈ lw_all := lw_g (lw_at lw_m3 50 rfl) rfl
theorem q567 : (Jvm.Cond.code ({ cls := "KeylockBody$Inside", name := "add", desc := "(LKeylockBody$Cell;)V" } : Jvm.MethodName) prog_3_method_3_code (2 : Nat) (Option.none : Option Jvm.ClassFile.FieldType)) ∈ lw_all := lw_g (lw_at lw_m3 51 rfl) rfl
theorem q568 : (Jvm.Cond.interfaceEntry "KeylockBody$Inside" (48 : Nat)) ∈ lw_tbl := lw_at lw_m3 52 rfl
theorem q569 : (Jvm.Cond.methodLink "KeylockBody$Inside" (48 : Nat) ({ cls := "java/util/List", name := "add", desc := "(Ljava/lang/Object;)Z" } : Jvm.MethodName)) ∈ lw_all := lw_g (lw_at lw_m3 53 rfl) rfl
theorem q602 : (Jvm.Cond.fieldLinkNest "KeylockBody$Inside" (73 : Nat) "KeylockBody$Invader" "coat" "I" "KeylockBody") ∈ lw_tbl := lw_at lw_m3 86 rfl
theorem q605 : (Jvm.Cond.fieldLinkNest "KeylockBody$Inside" (69 : Nat) "KeylockBody$Invader" "size" "I" "KeylockBody") ∈ lw_tbl := lw_at lw_m3 89 rfl
theorem q610 : (Jvm.Cond.fieldLinkNest "KeylockBody$Inside" (134 : Nat) "KeylockBody$Invader" "clearedBy" "I" "KeylockBody") ∈ lw_tbl := lw_at lw_m3 94 rfl
theorem q613 : (Jvm.Cond.fieldLinkNest "KeylockBody$Inside" (168 : Nat) "KeylockBody$Invader" "greatest" "I" "KeylockBody") ∈ lw_tbl := lw_at lw_m3 97 rfl
theorem q667 : (Jvm.Cond.instanceMethod ({ cls := "KeylockBody$Inside", name := "passHour", desc := "()V" } : Jvm.MethodName)) ∈ lw_all := lw_g (lw_at lw_m3 151 rfl) rfl
theorem q668 : (Jvm.Cond.selects "KeylockBody$Inside" ({ cls := "KeylockBody$Inside", name := "passHour", desc := "()V" } : Jvm.MethodName) ({ cls := "KeylockBody$Inside", name := "passHour", desc := "()V" } : Jvm.MethodName)) ∈ lw_all := lw_g (lw_at lw_m3 152 rfl) rfl
theorem q669 : (Jvm.Cond.code ({ cls := "KeylockBody$Inside", name := "passHour", desc := "()V" } : Jvm.MethodName) prog_3_method_18_code (3 : Nat) (Option.none : Option Jvm.ClassFile.FieldType)) ∈ lw_all := lw_g (lw_at lw_m3 153 rfl) rfl
theorem q670 : (Jvm.Cond.interfaceEntry "KeylockBody$Inside" (32 : Nat)) ∈ lw_tbl := lw_at lw_m3 154 rfl
theorem q671 : (Jvm.Cond.methodLink "KeylockBody$Inside" (32 : Nat) ({ cls := "java/util/List", name := "size", desc := "()I" } : Jvm.MethodName)) ∈ lw_all := lw_g (lw_at lw_m3 155 rfl) rfl
theorem q672 : (Jvm.Cond.interfaceEntry "KeylockBody$Inside" (38 : Nat)) ∈ lw_tbl := lw_at lw_m3 156 rfl
theorem q673 : (Jvm.Cond.methodLink "KeylockBody$Inside" (38 : Nat) ({ cls := "java/util/List", name := "get", desc := "(I)Ljava/lang/Object;" } : Jvm.MethodName)) ∈ lw_all := lw_g (lw_at lw_m3 157 rfl) rfl
theorem q674 : (Jvm.Cond.classLink "KeylockBody$Inside" (52 : Nat) "KeylockBody$Invader") ∈ lw_all := lw_g (lw_at lw_m3 158 rfl) rfl
theorem q675 : (Jvm.Cond.methodLink "KeylockBody$Inside" (153 : Nat) ({ cls := "KeylockBody$Invader", name := "grow", desc := "()V" } : Jvm.MethodName)) ∈ lw_all := lw_g (lw_at lw_m3 159 rfl) rfl
theorem q680 : (Jvm.Cond.methodLink "KeylockBody$Inside" (156 : Nat) ({ cls := "KeylockBody$Inside", name := "activate", desc := "()V" } : Jvm.MethodName)) ∈ lw_all := lw_g (lw_at lw_m3 164 rfl) rfl
theorem q681 : (Jvm.Cond.instanceMethod ({ cls := "KeylockBody$Inside", name := "activate", desc := "()V" } : Jvm.MethodName)) ∈ lw_all := lw_g (lw_at lw_m3 165 rfl) rfl
theorem q682 : (Jvm.Cond.selects "KeylockBody$Inside" ({ cls := "KeylockBody$Inside", name := "activate", desc := "()V" } : Jvm.MethodName) ({ cls := "KeylockBody$Inside", name := "activate", desc := "()V" } : Jvm.MethodName)) ∈ lw_all := lw_g (lw_at lw_m3 166 rfl) rfl
theorem q683 : (Jvm.Cond.code ({ cls := "KeylockBody$Inside", name := "activate", desc := "()V" } : Jvm.MethodName) prog_3_method_9_code (5 : Nat) (Option.none : Option Jvm.ClassFile.FieldType)) ∈ lw_all := lw_g (lw_at lw_m3 167 rfl) rfl
theorem q684 : (Jvm.Cond.methodLink "KeylockBody$Inside" (100 : Nat) ({ cls := "KeylockBody$Inside", name := "invaderSizes", desc := "()I" } : Jvm.MethodName)) ∈ lw_all := lw_g (lw_at lw_m3 168 rfl) rfl
theorem q685 : (Jvm.Cond.instanceMethod ({ cls := "KeylockBody$Inside", name := "invaderSizes", desc := "()I" } : Jvm.MethodName)) ∈ lw_all := lw_g (lw_at lw_m3 169 rfl) rfl
theorem q686 : (Jvm.Cond.selects "KeylockBody$Inside" ({ cls := "KeylockBody$Inside", name := "invaderSizes", desc := "()I" } : Jvm.MethodName) ({ cls := "KeylockBody$Inside", name := "invaderSizes", desc := "()I" } : Jvm.MethodName)) ∈ lw_all := lw_g (lw_at lw_m3 170 rfl) rfl
theorem q687 : (Jvm.Cond.code ({ cls := "KeylockBody$Inside", name := "invaderSizes", desc := "()I" } : Jvm.MethodName) prog_3_method_6_code (3 : Nat) (Option.some Jvm.ClassFile.FieldType.int)) ∈ lw_all := lw_g (lw_at lw_m3 171 rfl) rfl
theorem q688 : (Jvm.Cond.classLink "KeylockBody$Inside" (42 : Nat) "KeylockBody$Cell") ∈ lw_all := lw_g (lw_at lw_m3 172 rfl) rfl
theorem q689 : (Jvm.Cond.methodLink "KeylockBody$Inside" (109 : Nat) ({ cls := "KeylockBody$Inside", name := "meets", desc := "(LKeylockBody$Cell;)Z" } : Jvm.MethodName)) ∈ lw_all := lw_g (lw_at lw_m3 173 rfl) rfl
theorem q690 : (Jvm.Cond.instanceMethod ({ cls := "KeylockBody$Inside", name := "meets", desc := "(LKeylockBody$Cell;)Z" } : Jvm.MethodName)) ∈ lw_all := lw_g (lw_at lw_m3 174 rfl) rfl
theorem q691 : (Jvm.Cond.selects "KeylockBody$Inside" ({ cls := "KeylockBody$Inside", name := "meets", desc := "(LKeylockBody$Cell;)Z" } : Jvm.MethodName) ({ cls := "KeylockBody$Inside", name := "meets", desc := "(LKeylockBody$Cell;)Z" } : Jvm.MethodName)) ∈ lw_all := lw_g (lw_at lw_m3 175 rfl) rfl
theorem q692 : (Jvm.Cond.code ({ cls := "KeylockBody$Inside", name := "meets", desc := "(LKeylockBody$Cell;)Z" } : Jvm.MethodName) prog_3_method_5_code (2 : Nat) (Option.some Jvm.ClassFile.FieldType.boolean)) ∈ lw_all := lw_g (lw_at lw_m3 176 rfl) rfl
theorem q693 : (Jvm.Cond.methodLink "KeylockBody$Inside" (84 : Nat) ({ cls := "KeylockBody$Inside", name := "metBy", desc := "(LKeylockBody$Cell;)I" } : Jvm.MethodName)) ∈ lw_all := lw_g (lw_at lw_m3 177 rfl) rfl
theorem q694 : (Jvm.Cond.instanceMethod ({ cls := "KeylockBody$Inside", name := "metBy", desc := "(LKeylockBody$Cell;)I" } : Jvm.MethodName)) ∈ lw_all := lw_g (lw_at lw_m3 178 rfl) rfl
theorem q695 : (Jvm.Cond.selects "KeylockBody$Inside" ({ cls := "KeylockBody$Inside", name := "metBy", desc := "(LKeylockBody$Cell;)I" } : Jvm.MethodName) ({ cls := "KeylockBody$Inside", name := "metBy", desc := "(LKeylockBody$Cell;)I" } : Jvm.MethodName)) ∈ lw_all := lw_g (lw_at lw_m3 179 rfl) rfl
theorem q696 : (Jvm.Cond.code ({ cls := "KeylockBody$Inside", name := "metBy", desc := "(LKeylockBody$Cell;)I" } : Jvm.MethodName) prog_3_method_4_code (7 : Nat) (Option.some Jvm.ClassFile.FieldType.int)) ∈ lw_all := lw_g (lw_at lw_m3 180 rfl) rfl
theorem q697 : (Jvm.Cond.methodLinkNest "KeylockBody$Inside" (76 : Nat) ({ cls := "KeylockBody", name := "touches", desc := "(II)Z" } : Jvm.MethodName) "KeylockBody") ∈ lw_tbl := lw_at lw_m3 181 rfl
theorem q698 : (Jvm.Cond.methodLinkNest "KeylockBody$Inside" (80 : Nat) ({ cls := "KeylockBody", name := "fitOf", desc := "(II)I" } : Jvm.MethodName) "KeylockBody") ∈ lw_tbl := lw_at lw_m3 182 rfl
theorem q699 : (Jvm.Cond.methodLink "KeylockBody$Inside" (159 : Nat) ({ cls := "KeylockBody$Inside", name := "workAll", desc := "()V" } : Jvm.MethodName)) ∈ lw_all := lw_g (lw_at lw_m3 183 rfl) rfl
theorem q700 : (Jvm.Cond.instanceMethod ({ cls := "KeylockBody$Inside", name := "workAll", desc := "()V" } : Jvm.MethodName)) ∈ lw_all := lw_g (lw_at lw_m3 184 rfl) rfl
theorem q701 : (Jvm.Cond.selects "KeylockBody$Inside" ({ cls := "KeylockBody$Inside", name := "workAll", desc := "()V" } : Jvm.MethodName) ({ cls := "KeylockBody$Inside", name := "workAll", desc := "()V" } : Jvm.MethodName)) ∈ lw_all := lw_g (lw_at lw_m3 185 rfl) rfl
theorem q702 : (Jvm.Cond.code ({ cls := "KeylockBody$Inside", name := "workAll", desc := "()V" } : Jvm.MethodName) prog_3_method_13_code (4 : Nat) (Option.none : Option Jvm.ClassFile.FieldType)) ∈ lw_all := lw_g (lw_at lw_m3 186 rfl) rfl
theorem q703 : (Jvm.Cond.methodLink "KeylockBody$Inside" (126 : Nat) ({ cls := "KeylockBody$Inside", name := "helpers", desc := "()I" } : Jvm.MethodName)) ∈ lw_all := lw_g (lw_at lw_m3 187 rfl) rfl
theorem q704 : (Jvm.Cond.instanceMethod ({ cls := "KeylockBody$Inside", name := "helpers", desc := "()I" } : Jvm.MethodName)) ∈ lw_all := lw_g (lw_at lw_m3 188 rfl) rfl
theorem q705 : (Jvm.Cond.selects "KeylockBody$Inside" ({ cls := "KeylockBody$Inside", name := "helpers", desc := "()I" } : Jvm.MethodName) ({ cls := "KeylockBody$Inside", name := "helpers", desc := "()I" } : Jvm.MethodName)) ∈ lw_all := lw_g (lw_at lw_m3 189 rfl) rfl
theorem q706 : (Jvm.Cond.code ({ cls := "KeylockBody$Inside", name := "helpers", desc := "()I" } : Jvm.MethodName) prog_3_method_10_code (4 : Nat) (Option.some Jvm.ClassFile.FieldType.int)) ∈ lw_all := lw_g (lw_at lw_m3 190 rfl) rfl
theorem q707 : (Jvm.Cond.methodLink "KeylockBody$Inside" (116 : Nat) ({ cls := "KeylockBody$Cell", name := "is", desc := "(II)Z" } : Jvm.MethodName)) ∈ lw_all := lw_g (lw_at lw_m3 191 rfl) rfl
theorem q708 : (Jvm.Cond.methodLink "KeylockBody$Inside" (129 : Nat) ({ cls := "KeylockBody$Inside", name := "work", desc := "(LKeylockBody$Cell;I)V" } : Jvm.MethodName)) ∈ lw_all := lw_g (lw_at lw_m3 192 rfl) rfl
theorem q709 : (Jvm.Cond.instanceMethod ({ cls := "KeylockBody$Inside", name := "work", desc := "(LKeylockBody$Cell;I)V" } : Jvm.MethodName)) ∈ lw_all := lw_g (lw_at lw_m3 193 rfl) rfl
theorem q710 : (Jvm.Cond.selects "KeylockBody$Inside" ({ cls := "KeylockBody$Inside", name := "work", desc := "(LKeylockBody$Cell;I)V" } : Jvm.MethodName) ({ cls := "KeylockBody$Inside", name := "work", desc := "(LKeylockBody$Cell;I)V" } : Jvm.MethodName)) ∈ lw_all := lw_g (lw_at lw_m3 194 rfl) rfl
theorem q711 : (Jvm.Cond.code ({ cls := "KeylockBody$Inside", name := "work", desc := "(LKeylockBody$Cell;I)V" } : Jvm.MethodName) prog_3_method_11_code (4 : Nat) (Option.none : Option Jvm.ClassFile.FieldType)) ∈ lw_all := lw_g (lw_at lw_m3 195 rfl) rfl
theorem q712 : (Jvm.Cond.methodLink "KeylockBody$Inside" (119 : Nat) ({ cls := "java/lang/Math", name := "min", desc := "(II)I" } : Jvm.MethodName)) ∈ lw_all := lw_g (lw_at lw_m3 196 rfl) rfl
theorem q713 : (Jvm.Cond.methodLink "KeylockBody$Inside" (93 : Nat) ({ cls := "KeylockBody$Inside", name := "resize", desc := "(LKeylockBody$Cell;I)V" } : Jvm.MethodName)) ∈ lw_all := lw_g (lw_at lw_m3 197 rfl) rfl
theorem q714 : (Jvm.Cond.instanceMethod ({ cls := "KeylockBody$Inside", name := "resize", desc := "(LKeylockBody$Cell;I)V" } : Jvm.MethodName)) ∈ lw_all := lw_g (lw_at lw_m3 198 rfl) rfl
theorem q715 : (Jvm.Cond.selects "KeylockBody$Inside" ({ cls := "KeylockBody$Inside", name := "resize", desc := "(LKeylockBody$Cell;I)V" } : Jvm.MethodName) ({ cls := "KeylockBody$Inside", name := "resize", desc := "(LKeylockBody$Cell;I)V" } : Jvm.MethodName)) ∈ lw_all := lw_g (lw_at lw_m3 199 rfl) rfl
theorem q716 : (Jvm.Cond.code ({ cls := "KeylockBody$Inside", name := "resize", desc := "(LKeylockBody$Cell;I)V" } : Jvm.MethodName) prog_3_method_7_code (3 : Nat) (Option.none : Option Jvm.ClassFile.FieldType)) ∈ lw_all := lw_g (lw_at lw_m3 200 rfl) rfl
theorem q717 : (Jvm.Cond.methodLink "KeylockBody$Inside" (88 : Nat) ({ cls := "java/lang/Math", name := "max", desc := "(II)I" } : Jvm.MethodName)) ∈ lw_all := lw_g (lw_at lw_m3 201 rfl) rfl
theorem q718 : (Jvm.Cond.methodLink "KeylockBody$Inside" (131 : Nat) ({ cls := "KeylockBody$Inside", name := "rest", desc := "(LKeylockBody$Cell;)V" } : Jvm.MethodName)) ∈ lw_all := lw_g (lw_at lw_m3 202 rfl) rfl
theorem q719 : (Jvm.Cond.instanceMethod ({ cls := "KeylockBody$Inside", name := "rest", desc := "(LKeylockBody$Cell;)V" } : Jvm.MethodName)) ∈ lw_all := lw_g (lw_at lw_m3 203 rfl) rfl
theorem q720 : (Jvm.Cond.selects "KeylockBody$Inside" ({ cls := "KeylockBody$Inside", name := "rest", desc := "(LKeylockBody$Cell;)V" } : Jvm.MethodName) ({ cls := "KeylockBody$Inside", name := "rest", desc := "(LKeylockBody$Cell;)V" } : Jvm.MethodName)) ∈ lw_all := lw_g (lw_at lw_m3 204 rfl) rfl
theorem q721 : (Jvm.Cond.code ({ cls := "KeylockBody$Inside", name := "rest", desc := "(LKeylockBody$Cell;)V" } : Jvm.MethodName) prog_3_method_12_code (2 : Nat) (Option.none : Option Jvm.ClassFile.FieldType)) ∈ lw_all := lw_g (lw_at lw_m3 205 rfl) rfl
theorem q722 : (Jvm.Cond.methodLink "KeylockBody$Inside" (122 : Nat) ({ cls := "KeylockBody$Inside", name := "remember", desc := "(LKeylockBody$Cell;)V" } : Jvm.MethodName)) ∈ lw_all := lw_g (lw_at lw_m3 206 rfl) rfl
theorem q723 : (Jvm.Cond.instanceMethod ({ cls := "KeylockBody$Inside", name := "remember", desc := "(LKeylockBody$Cell;)V" } : Jvm.MethodName)) ∈ lw_all := lw_g (lw_at lw_m3 207 rfl) rfl
theorem q724 : (Jvm.Cond.selects "KeylockBody$Inside" ({ cls := "KeylockBody$Inside", name := "remember", desc := "(LKeylockBody$Cell;)V" } : Jvm.MethodName) ({ cls := "KeylockBody$Inside", name := "remember", desc := "(LKeylockBody$Cell;)V" } : Jvm.MethodName)) ∈ lw_all := lw_g (lw_at lw_m3 208 rfl) rfl
theorem q725 : (Jvm.Cond.code ({ cls := "KeylockBody$Inside", name := "remember", desc := "(LKeylockBody$Cell;)V" } : Jvm.MethodName) prog_3_method_8_code (2 : Nat) (Option.none : Option Jvm.ClassFile.FieldType)) ∈ lw_all := lw_g (lw_at lw_m3 209 rfl) rfl
theorem q726 : (Jvm.Cond.methodLink "KeylockBody$Inside" (162 : Nat) ({ cls := "KeylockBody$Inside", name := "strikeAll", desc := "()V" } : Jvm.MethodName)) ∈ lw_all := lw_g (lw_at lw_m3 210 rfl) rfl
theorem q727 : (Jvm.Cond.instanceMethod ({ cls := "KeylockBody$Inside", name := "strikeAll", desc := "()V" } : Jvm.MethodName)) ∈ lw_all := lw_g (lw_at lw_m3 211 rfl) rfl
theorem q728 : (Jvm.Cond.selects "KeylockBody$Inside" ({ cls := "KeylockBody$Inside", name := "strikeAll", desc := "()V" } : Jvm.MethodName) ({ cls := "KeylockBody$Inside", name := "strikeAll", desc := "()V" } : Jvm.MethodName)) ∈ lw_all := lw_g (lw_at lw_m3 212 rfl) rfl
theorem q729 : (Jvm.Cond.code ({ cls := "KeylockBody$Inside", name := "strikeAll", desc := "()V" } : Jvm.MethodName) prog_3_method_14_code (5 : Nat) (Option.none : Option Jvm.ClassFile.FieldType)) ∈ lw_all := lw_g (lw_at lw_m3 213 rfl) rfl
theorem q730 : (Jvm.Cond.methodLink "KeylockBody$Inside" (165 : Nat) ({ cls := "KeylockBody$Inside", name := "harmAll", desc := "()V" } : Jvm.MethodName)) ∈ lw_all := lw_g (lw_at lw_m3 214 rfl) rfl
theorem q731 : (Jvm.Cond.instanceMethod ({ cls := "KeylockBody$Inside", name := "harmAll", desc := "()V" } : Jvm.MethodName)) ∈ lw_all := lw_g (lw_at lw_m3 215 rfl) rfl
theorem q732 : (Jvm.Cond.selects "KeylockBody$Inside" ({ cls := "KeylockBody$Inside", name := "harmAll", desc := "()V" } : Jvm.MethodName) ({ cls := "KeylockBody$Inside", name := "harmAll", desc := "()V" } : Jvm.MethodName)) ∈ lw_all := lw_g (lw_at lw_m3 216 rfl) rfl
theorem q733 : (Jvm.Cond.code ({ cls := "KeylockBody$Inside", name := "harmAll", desc := "()V" } : Jvm.MethodName) prog_3_method_17_code (4 : Nat) (Option.none : Option Jvm.ClassFile.FieldType)) ∈ lw_all := lw_g (lw_at lw_m3 217 rfl) rfl
theorem q734 : (Jvm.Cond.methodLink "KeylockBody$Inside" (145 : Nat) ({ cls := "KeylockBody$Inside", name := "ownTouched", desc := "(I)I" } : Jvm.MethodName)) ∈ lw_all := lw_g (lw_at lw_m3 218 rfl) rfl
theorem q735 : (Jvm.Cond.privateMethod ({ cls := "KeylockBody$Inside", name := "ownTouched", desc := "(I)I" } : Jvm.MethodName)) ∈ lw_tbl := lw_at lw_m3 219 rfl
theorem q736 : (Jvm.Cond.instanceMethod ({ cls := "KeylockBody$Inside", name := "ownTouched", desc := "(I)I" } : Jvm.MethodName)) ∈ lw_all := lw_g (lw_at lw_m3 220 rfl) rfl
theorem q737 : (Jvm.Cond.code ({ cls := "KeylockBody$Inside", name := "ownTouched", desc := "(I)I" } : Jvm.MethodName) prog_3_method_16_code (5 : Nat) (Option.some Jvm.ClassFile.FieldType.int)) ∈ lw_all := lw_g (lw_at lw_m3 221 rfl) rfl
theorem q738 : (Jvm.Cond.classLink "KeylockBody$Inside" (140 : Nat) "java/lang/Integer") ∈ lw_all := lw_g (lw_at lw_m3 222 rfl) rfl
theorem q739 : (Jvm.Cond.methodLink "KeylockBody$Inside" (142 : Nat) ({ cls := "java/lang/Integer", name := "intValue", desc := "()I" } : Jvm.MethodName)) ∈ lw_all := lw_g (lw_at lw_m3 223 rfl) rfl
theorem q740 : (Jvm.Cond.methodLink "KeylockBody$Inside" (149 : Nat) ({ cls := "KeylockBody$Inside", name := "isCalmed", desc := "(I)Z" } : Jvm.MethodName)) ∈ lw_all := lw_g (lw_at lw_m3 224 rfl) rfl
theorem q741 : (Jvm.Cond.privateMethod ({ cls := "KeylockBody$Inside", name := "isCalmed", desc := "(I)Z" } : Jvm.MethodName)) ∈ lw_tbl := lw_at lw_m3 225 rfl
theorem q742 : (Jvm.Cond.instanceMethod ({ cls := "KeylockBody$Inside", name := "isCalmed", desc := "(I)Z" } : Jvm.MethodName)) ∈ lw_all := lw_g (lw_at lw_m3 226 rfl) rfl
theorem q743 : (Jvm.Cond.code ({ cls := "KeylockBody$Inside", name := "isCalmed", desc := "(I)Z" } : Jvm.MethodName) prog_3_method_15_code (4 : Nat) (Option.some Jvm.ClassFile.FieldType.boolean)) ∈ lw_all := lw_g (lw_at lw_m3 227 rfl) rfl
theorem q752 : (Jvm.Cond.instanceMethod ({ cls := "KeylockBody$Inside", name := "copy", desc := "()LKeylockBody$Inside;" } : Jvm.MethodName)) ∈ lw_all := lw_g (lw_at lw_m3 236 rfl) rfl
theorem q753 : (Jvm.Cond.selects "KeylockBody$Inside" ({ cls := "KeylockBody$Inside", name := "copy", desc := "()LKeylockBody$Inside;" } : Jvm.MethodName) ({ cls := "KeylockBody$Inside", name := "copy", desc := "()LKeylockBody$Inside;" } : Jvm.MethodName)) ∈ lw_all := lw_g (lw_at lw_m3 237 rfl) rfl
theorem q754 : (Jvm.Cond.code ({ cls := "KeylockBody$Inside", name := "copy", desc := "()LKeylockBody$Inside;" } : Jvm.MethodName) prog_3_method_2_code (3 : Nat) (Option.some (Jvm.ClassFile.FieldType.object "KeylockBody$Inside"))) ∈ lw_all := lw_g (lw_at lw_m3 238 rfl) rfl
theorem q755 : (Jvm.Cond.classLink "KeylockBody$Inside" (4 : Nat) "KeylockBody$Inside") ∈ lw_all := lw_g (lw_at lw_m3 239 rfl) rfl
theorem q756 : (Jvm.Cond.methodLink "KeylockBody$Inside" (29 : Nat) ({ cls := "KeylockBody$Inside", name := "<init>", desc := "(LKeylockBody;)V" } : Jvm.MethodName)) ∈ lw_all := lw_g (lw_at lw_m4 0 rfl) rfl
theorem q757 : (Jvm.Cond.methodLink "KeylockBody$Inside" (44 : Nat) ({ cls := "KeylockBody$Cell", name := "copy", desc := "()LKeylockBody$Cell;" } : Jvm.MethodName)) ∈ lw_all := lw_g (lw_at lw_m4 1 rfl) rfl
theorem q763 : (Jvm.Cond.methodLink "KeylockBody$Inside" (54 : Nat) ({ cls := "KeylockBody$Invader", name := "copy", desc := "()LKeylockBody$Invader;" } : Jvm.MethodName)) ∈ lw_all := lw_g (lw_at lw_m4 7 rfl) rfl
theorem q770 : (Jvm.Cond.instanceMethod ({ cls := "KeylockBody$Inside", name := "sum", desc := "(I)I" } : Jvm.MethodName)) ∈ lw_all := lw_g (lw_at lw_m4 14 rfl) rfl
theorem q771 : (Jvm.Cond.selects "KeylockBody$Inside" ({ cls := "KeylockBody$Inside", name := "sum", desc := "(I)I" } : Jvm.MethodName) ({ cls := "KeylockBody$Inside", name := "sum", desc := "(I)I" } : Jvm.MethodName)) ∈ lw_all := lw_g (lw_at lw_m4 15 rfl) rfl
theorem q772 : (Jvm.Cond.code ({ cls := "KeylockBody$Inside", name := "sum", desc := "(I)I" } : Jvm.MethodName) prog_3_method_19_code (4 : Nat) (Option.some Jvm.ClassFile.FieldType.int)) ∈ lw_all := lw_g (lw_at lw_m4 16 rfl) rfl
theorem q1046 : (Jvm.Cond.castable "KeylockBody$Inside" "java/lang/Object") ∈ lw_tbl := lw_at lw_m5 50 rfl
theorem in_X2 : ∀ w ∈ wsX20, w ∈ lw_all := lw_in wsX20 [120, 122, 124, 126, 128, 130, 132] (by decide +kernel) (by decide +kernel)

/-! KeylockBody$Cell -/
set_option maxRecDepth 100000
def RX4 : String := "KeylockBody$Cell"
def TX4 : u_T := fun k => match k with
  | 0 => ("KeylockBody$Cell", "number", "I", true)
  | 1 => ("KeylockBody$Cell", "lock", "I", true)
  | 2 => ("KeylockBody$Cell", "kind", "I", true)
  | 3 => ("KeylockBody$Cell", "mother", "I", true)
  | 4 => ("KeylockBody$Cell", "state", "I", false)
  | 5 => ("KeylockBody$Cell", "size", "I", false)
  | _ => ("KeylockBody$Cell", "work", "I", false)
def tyX4 : Nat → FieldType := fun k => match k with
  | 0 => .int
  | 1 => .int
  | 2 => .int
  | 3 => .int
  | 4 => .int
  | 5 => .int
  | _ => .int
abbrev wsX40 : List Cond := u_ws RX4 TX4 7
theorem nmX4 : ∀ a, a < 7 → ∀ b, b < 7 → a ≠ b → (TX4 a).2.1 ≠ (TX4 b).2.1 := by decide +kernel
theorem tyX4_ok : ∀ k, k < 7 → parseFieldDescriptor (TX4 k).2.2.1 = some (tyX4 k) := by decide +kernel
abbrev cX4_init : ByteArray := prog_2_method_1_code
def yX4_init : MethodName := ⟨RX4, "<init>", "(IIIIIII)V"⟩
def dkwX4_init_1 : List UInt8 := [181, 0, 21, 42, 21, 5, 181, 0, 24, 42, 21, 6, 181, 0, 27, 42, 21, 7, 181, 0, 30, 177]
abbrev dktX4_init_1 : List UInt8 := dkwX4_init_1 ++ []
def dkwX4_init_0 : List UInt8 := [42, 183, 0, 3, 42, 27, 181, 0, 9, 42, 28, 181, 0, 15, 42, 29, 181, 0, 18, 42, 21, 4]
abbrev dktX4_init_0 : List UInt8 := dkwX4_init_0 ++ dktX4_init_1
theorem dksX4_init_0 : cX4_init.data.toList.drop 0 = dktX4_init_0 := by decide +kernel
theorem dksX4_init_1 : cX4_init.data.toList.drop 22 = dktX4_init_1 := dk_seg dksX4_init_0 22 rfl rfl
theorem dX4_init_0 : decode cX4_init 0 = .ok (.aload_n 0, 1) := dk_42 (dk_at dksX4_init_0 0 rfl rfl)
theorem dX4_init_1 : decode cX4_init 1 = .ok (.invokespecial 3, 3) := dk_183 0 3 (dk_at dksX4_init_0 1 rfl rfl)
theorem dX4_init_4 : decode cX4_init 4 = .ok (.aload_n 0, 1) := dk_42 (dk_at dksX4_init_0 4 rfl rfl)
theorem dX4_init_5 : decode cX4_init 5 = .ok (.iload_n 1, 1) := dk_27 (dk_at dksX4_init_0 5 rfl rfl)
theorem dX4_init_6 : decode cX4_init 6 = .ok (.putfield 9, 3) := dk_181 0 9 (dk_at dksX4_init_0 6 rfl rfl)
theorem dX4_init_9 : decode cX4_init 9 = .ok (.aload_n 0, 1) := dk_42 (dk_at dksX4_init_0 9 rfl rfl)
theorem dX4_init_10 : decode cX4_init 10 = .ok (.iload_n 2, 1) := dk_28 (dk_at dksX4_init_0 10 rfl rfl)
theorem dX4_init_11 : decode cX4_init 11 = .ok (.putfield 15, 3) := dk_181 0 15 (dk_at dksX4_init_0 11 rfl rfl)
theorem dX4_init_14 : decode cX4_init 14 = .ok (.aload_n 0, 1) := dk_42 (dk_at dksX4_init_0 14 rfl rfl)
theorem dX4_init_15 : decode cX4_init 15 = .ok (.iload_n 3, 1) := dk_29 (dk_at dksX4_init_0 15 rfl rfl)
theorem dX4_init_16 : decode cX4_init 16 = .ok (.putfield 18, 3) := dk_181 0 18 (dk_at dksX4_init_0 16 rfl rfl)
theorem dX4_init_19 : decode cX4_init 19 = .ok (.aload_n 0, 1) := dk_42 (dk_at dksX4_init_0 19 rfl rfl)
theorem dX4_init_20 : decode cX4_init 20 = .ok (.iload 4, 2) := dk_21 4 (dk_at dksX4_init_0 20 rfl rfl)
theorem dX4_init_22 : decode cX4_init 22 = .ok (.putfield 21, 3) := dk_181 0 21 (dk_at dksX4_init_1 0 rfl rfl)
theorem dX4_init_25 : decode cX4_init 25 = .ok (.aload_n 0, 1) := dk_42 (dk_at dksX4_init_1 3 rfl rfl)
theorem dX4_init_26 : decode cX4_init 26 = .ok (.iload 5, 2) := dk_21 5 (dk_at dksX4_init_1 4 rfl rfl)
theorem dX4_init_28 : decode cX4_init 28 = .ok (.putfield 24, 3) := dk_181 0 24 (dk_at dksX4_init_1 6 rfl rfl)
theorem dX4_init_31 : decode cX4_init 31 = .ok (.aload_n 0, 1) := dk_42 (dk_at dksX4_init_1 9 rfl rfl)
theorem dX4_init_32 : decode cX4_init 32 = .ok (.iload 6, 2) := dk_21 6 (dk_at dksX4_init_1 10 rfl rfl)
theorem dX4_init_34 : decode cX4_init 34 = .ok (.putfield 27, 3) := dk_181 0 27 (dk_at dksX4_init_1 12 rfl rfl)
theorem dX4_init_37 : decode cX4_init 37 = .ok (.aload_n 0, 1) := dk_42 (dk_at dksX4_init_1 15 rfl rfl)
theorem dX4_init_38 : decode cX4_init 38 = .ok (.iload 7, 2) := dk_21 7 (dk_at dksX4_init_1 16 rfl rfl)
theorem dX4_init_40 : decode cX4_init 40 = .ok (.putfield 30, 3) := dk_181 0 30 (dk_at dksX4_init_1 18 rfl rfl)
theorem dX4_init_43 : decode cX4_init 43 = .ok (.return_, 1) := dk_177 (dk_at dksX4_init_1 21 rfl rfl)
abbrev cX4_isLost : ByteArray := prog_2_method_3_code
def yX4_isLost : MethodName := ⟨RX4, "isLost", "()Z"⟩
def dkwX4_isLost_0 : List UInt8 := [42, 180, 0, 24, 153, 0, 11, 42, 180, 0, 24, 4, 160, 0, 7, 4, 167, 0, 4, 3, 172]
abbrev dktX4_isLost_0 : List UInt8 := dkwX4_isLost_0 ++ []
theorem dksX4_isLost_0 : cX4_isLost.data.toList.drop 0 = dktX4_isLost_0 := by decide +kernel
theorem dX4_isLost_0 : decode cX4_isLost 0 = .ok (.aload_n 0, 1) := dk_42 (dk_at dksX4_isLost_0 0 rfl rfl)
theorem dX4_isLost_1 : decode cX4_isLost 1 = .ok (.getfield 24, 3) := dk_180 0 24 (dk_at dksX4_isLost_0 1 rfl rfl)
theorem dX4_isLost_4 : decode cX4_isLost 4 = .ok (.ifCond .eq 11, 3) := dk_153 0 11 (dk_at dksX4_isLost_0 4 rfl rfl)
theorem dX4_isLost_7 : decode cX4_isLost 7 = .ok (.aload_n 0, 1) := dk_42 (dk_at dksX4_isLost_0 7 rfl rfl)
theorem dX4_isLost_8 : decode cX4_isLost 8 = .ok (.getfield 24, 3) := dk_180 0 24 (dk_at dksX4_isLost_0 8 rfl rfl)
theorem dX4_isLost_11 : decode cX4_isLost 11 = .ok (.iconst 1, 1) := dk_4 (dk_at dksX4_isLost_0 11 rfl rfl)
theorem dX4_isLost_12 : decode cX4_isLost 12 = .ok (.if_icmp .ne 7, 3) := dk_160 0 7 (dk_at dksX4_isLost_0 12 rfl rfl)
theorem dX4_isLost_15 : decode cX4_isLost 15 = .ok (.iconst 1, 1) := dk_4 (dk_at dksX4_isLost_0 15 rfl rfl)
theorem dX4_isLost_16 : decode cX4_isLost 16 = .ok (.goto 4, 3) := dk_167 0 4 (dk_at dksX4_isLost_0 16 rfl rfl)
theorem dX4_isLost_19 : decode cX4_isLost 19 = .ok (.iconst 0, 1) := dk_3 (dk_at dksX4_isLost_0 19 rfl rfl)
theorem dX4_isLost_20 : decode cX4_isLost 20 = .ok (.ireturn, 1) := dk_172 (dk_at dksX4_isLost_0 20 rfl rfl)
abbrev cX4_is : ByteArray := prog_2_method_4_code
def yX4_is : MethodName := ⟨RX4, "is", "(II)Z"⟩
def dkwX4_is_0 : List UInt8 := [42, 180, 0, 18, 27, 160, 0, 15, 42, 180, 0, 24, 28, 160, 0, 7, 4, 167, 0, 4, 3, 172]
abbrev dktX4_is_0 : List UInt8 := dkwX4_is_0 ++ []
theorem dksX4_is_0 : cX4_is.data.toList.drop 0 = dktX4_is_0 := by decide +kernel
theorem dX4_is_0 : decode cX4_is 0 = .ok (.aload_n 0, 1) := dk_42 (dk_at dksX4_is_0 0 rfl rfl)
theorem dX4_is_1 : decode cX4_is 1 = .ok (.getfield 18, 3) := dk_180 0 18 (dk_at dksX4_is_0 1 rfl rfl)
theorem dX4_is_4 : decode cX4_is 4 = .ok (.iload_n 1, 1) := dk_27 (dk_at dksX4_is_0 4 rfl rfl)
theorem dX4_is_5 : decode cX4_is 5 = .ok (.if_icmp .ne 15, 3) := dk_160 0 15 (dk_at dksX4_is_0 5 rfl rfl)
theorem dX4_is_8 : decode cX4_is 8 = .ok (.aload_n 0, 1) := dk_42 (dk_at dksX4_is_0 8 rfl rfl)
theorem dX4_is_9 : decode cX4_is 9 = .ok (.getfield 24, 3) := dk_180 0 24 (dk_at dksX4_is_0 9 rfl rfl)
theorem dX4_is_12 : decode cX4_is 12 = .ok (.iload_n 2, 1) := dk_28 (dk_at dksX4_is_0 12 rfl rfl)
theorem dX4_is_13 : decode cX4_is 13 = .ok (.if_icmp .ne 7, 3) := dk_160 0 7 (dk_at dksX4_is_0 13 rfl rfl)
theorem dX4_is_16 : decode cX4_is 16 = .ok (.iconst 1, 1) := dk_4 (dk_at dksX4_is_0 16 rfl rfl)
theorem dX4_is_17 : decode cX4_is 17 = .ok (.goto 4, 3) := dk_167 0 4 (dk_at dksX4_is_0 17 rfl rfl)
theorem dX4_is_20 : decode cX4_is 20 = .ok (.iconst 0, 1) := dk_3 (dk_at dksX4_is_0 20 rfl rfl)
theorem dX4_is_21 : decode cX4_is 21 = .ok (.ireturn, 1) := dk_172 (dk_at dksX4_is_0 21 rfl rfl)
abbrev cX4_copy : ByteArray := prog_2_method_2_code
def yX4_copy : MethodName := ⟨RX4, "copy", "()LKeylockBody$Cell;"⟩
def dkwX4_copy_1 : List UInt8 := [42, 180, 0, 27, 42, 180, 0, 30, 183, 0, 33, 176]
abbrev dktX4_copy_1 : List UInt8 := dkwX4_copy_1 ++ []
def dkwX4_copy_0 : List UInt8 := [187, 0, 10, 89, 42, 180, 0, 9, 42, 180, 0, 15, 42, 180, 0, 18, 42, 180, 0, 21, 42, 180, 0, 24]
abbrev dktX4_copy_0 : List UInt8 := dkwX4_copy_0 ++ dktX4_copy_1
theorem dksX4_copy_0 : cX4_copy.data.toList.drop 0 = dktX4_copy_0 := by decide +kernel
theorem dksX4_copy_1 : cX4_copy.data.toList.drop 24 = dktX4_copy_1 := dk_seg dksX4_copy_0 24 rfl rfl
theorem dX4_copy_0 : decode cX4_copy 0 = .ok (.new 10, 3) := dk_187 0 10 (dk_at dksX4_copy_0 0 rfl rfl)
theorem dX4_copy_3 : decode cX4_copy 3 = .ok (.dup, 1) := dk_89 (dk_at dksX4_copy_0 3 rfl rfl)
theorem dX4_copy_4 : decode cX4_copy 4 = .ok (.aload_n 0, 1) := dk_42 (dk_at dksX4_copy_0 4 rfl rfl)
theorem dX4_copy_5 : decode cX4_copy 5 = .ok (.getfield 9, 3) := dk_180 0 9 (dk_at dksX4_copy_0 5 rfl rfl)
theorem dX4_copy_8 : decode cX4_copy 8 = .ok (.aload_n 0, 1) := dk_42 (dk_at dksX4_copy_0 8 rfl rfl)
theorem dX4_copy_9 : decode cX4_copy 9 = .ok (.getfield 15, 3) := dk_180 0 15 (dk_at dksX4_copy_0 9 rfl rfl)
theorem dX4_copy_12 : decode cX4_copy 12 = .ok (.aload_n 0, 1) := dk_42 (dk_at dksX4_copy_0 12 rfl rfl)
theorem dX4_copy_13 : decode cX4_copy 13 = .ok (.getfield 18, 3) := dk_180 0 18 (dk_at dksX4_copy_0 13 rfl rfl)
theorem dX4_copy_16 : decode cX4_copy 16 = .ok (.aload_n 0, 1) := dk_42 (dk_at dksX4_copy_0 16 rfl rfl)
theorem dX4_copy_17 : decode cX4_copy 17 = .ok (.getfield 21, 3) := dk_180 0 21 (dk_at dksX4_copy_0 17 rfl rfl)
theorem dX4_copy_20 : decode cX4_copy 20 = .ok (.aload_n 0, 1) := dk_42 (dk_at dksX4_copy_0 20 rfl rfl)
theorem dX4_copy_21 : decode cX4_copy 21 = .ok (.getfield 24, 3) := dk_180 0 24 (dk_at dksX4_copy_0 21 rfl rfl)
theorem dX4_copy_24 : decode cX4_copy 24 = .ok (.aload_n 0, 1) := dk_42 (dk_at dksX4_copy_1 0 rfl rfl)
theorem dX4_copy_25 : decode cX4_copy 25 = .ok (.getfield 27, 3) := dk_180 0 27 (dk_at dksX4_copy_1 1 rfl rfl)
theorem dX4_copy_28 : decode cX4_copy 28 = .ok (.aload_n 0, 1) := dk_42 (dk_at dksX4_copy_1 4 rfl rfl)
theorem dX4_copy_29 : decode cX4_copy 29 = .ok (.getfield 30, 3) := dk_180 0 30 (dk_at dksX4_copy_1 5 rfl rfl)
theorem dX4_copy_32 : decode cX4_copy 32 = .ok (.invokespecial 33, 3) := dk_183 0 33 (dk_at dksX4_copy_1 8 rfl rfl)
theorem dX4_copy_35 : decode cX4_copy 35 = .ok (.areturn, 1) := dk_176 (dk_at dksX4_copy_1 11 rfl rfl)
theorem q60 : (Jvm.Cond.initialized "KeylockBody$Cell") ∈ lw_all := lw_g (lw_at lw_m1 24 rfl) rfl
theorem q414 : (Jvm.Cond.selects "KeylockBody$Cell" ({ cls := "java/lang/Object", name := "getClass", desc := "()Ljava/lang/Class;" } : Jvm.MethodName) ({ cls := "java/lang/Object", name := "getClass", desc := "()Ljava/lang/Class;" } : Jvm.MethodName)) ∈ lw_all := lw_g (lw_at lw_m2 138 rfl) rfl
theorem q526 : (Jvm.Cond.instantiable "KeylockBody$Cell" (7 : Nat)) ∈ lw_all := lw_g (lw_at lw_m3 10 rfl) rfl
theorem q528 : (Jvm.Cond.instanceMethod ({ cls := "KeylockBody$Cell", name := "<init>", desc := "(IIIIIII)V" } : Jvm.MethodName)) ∈ lw_all := lw_g (lw_at lw_m3 12 rfl) rfl
theorem q529 : (Jvm.Cond.code ({ cls := "KeylockBody$Cell", name := "<init>", desc := "(IIIIIII)V" } : Jvm.MethodName) prog_2_method_1_code (8 : Nat) (Option.none : Option Jvm.ClassFile.FieldType)) ∈ lw_all := lw_g (lw_at lw_m3 13 rfl) rfl
theorem q530 : (Jvm.Cond.methodLink "KeylockBody$Cell" (3 : Nat) ({ cls := "java/lang/Object", name := "<init>", desc := "()V" } : Jvm.MethodName)) ∈ lw_all := lw_g (lw_at lw_m3 14 rfl) rfl
theorem q531 : (Jvm.Cond.fieldLink "KeylockBody$Cell" (9 : Nat) "KeylockBody$Cell" "number" "I") ∈ lw_all := lw_g (lw_at lw_m3 15 rfl) rfl
theorem q532 : (Jvm.Cond.fieldLink "KeylockBody$Cell" (15 : Nat) "KeylockBody$Cell" "lock" "I") ∈ lw_all := lw_g (lw_at lw_m3 16 rfl) rfl
theorem q535 : (Jvm.Cond.fieldLink "KeylockBody$Cell" (18 : Nat) "KeylockBody$Cell" "kind" "I") ∈ lw_all := lw_g (lw_at lw_m3 19 rfl) rfl
theorem q538 : (Jvm.Cond.fieldLink "KeylockBody$Cell" (21 : Nat) "KeylockBody$Cell" "mother" "I") ∈ lw_all := lw_g (lw_at lw_m3 22 rfl) rfl
theorem q540 : (Jvm.Cond.fieldLink "KeylockBody$Cell" (24 : Nat) "KeylockBody$Cell" "state" "I") ∈ lw_all := lw_g (lw_at lw_m3 24 rfl) rfl
theorem q543 : (Jvm.Cond.fieldLink "KeylockBody$Cell" (27 : Nat) "KeylockBody$Cell" "size" "I") ∈ lw_all := lw_g (lw_at lw_m3 27 rfl) rfl
theorem q546 : (Jvm.Cond.fieldLink "KeylockBody$Cell" (30 : Nat) "KeylockBody$Cell" "work" "I") ∈ lw_all := lw_g (lw_at lw_m3 30 rfl) rfl
theorem q549 : (Jvm.Cond.laysFinal "KeylockBody$Cell" "KeylockBody$Cell" "number" "I") ∈ lw_all := lw_g (lw_at lw_m3 33 rfl) rfl
theorem q550 : (Jvm.Cond.soleField "KeylockBody$Cell" "number") ∈ lw_all := lw_g (lw_at lw_m3 34 rfl) rfl
theorem q551 : (Jvm.Cond.laysFinal "KeylockBody$Cell" "KeylockBody$Cell" "lock" "I") ∈ lw_all := lw_g (lw_at lw_m3 35 rfl) rfl
theorem q552 : (Jvm.Cond.soleField "KeylockBody$Cell" "lock") ∈ lw_all := lw_g (lw_at lw_m3 36 rfl) rfl
theorem q553 : (Jvm.Cond.laysFinal "KeylockBody$Cell" "KeylockBody$Cell" "kind" "I") ∈ lw_all := lw_g (lw_at lw_m3 37 rfl) rfl
theorem q554 : (Jvm.Cond.soleField "KeylockBody$Cell" "kind") ∈ lw_all := lw_g (lw_at lw_m3 38 rfl) rfl
theorem q555 : (Jvm.Cond.laysFinal "KeylockBody$Cell" "KeylockBody$Cell" "mother" "I") ∈ lw_all := lw_g (lw_at lw_m3 39 rfl) rfl
theorem q556 : (Jvm.Cond.soleField "KeylockBody$Cell" "mother") ∈ lw_all := lw_g (lw_at lw_m3 40 rfl) rfl
theorem q557 : (Jvm.Cond.lays "KeylockBody$Cell" "KeylockBody$Cell" "state" "I") ∈ lw_all := lw_g (lw_at lw_m3 41 rfl) rfl
theorem q558 : (Jvm.Cond.soleField "KeylockBody$Cell" "state") ∈ lw_all := lw_g (lw_at lw_m3 42 rfl) rfl
theorem q559 : (Jvm.Cond.lays "KeylockBody$Cell" "KeylockBody$Cell" "size" "I") ∈ lw_all := lw_g (lw_at lw_m3 43 rfl) rfl
theorem q560 : (Jvm.Cond.soleField "KeylockBody$Cell" "size") ∈ lw_all := lw_g (lw_at lw_m3 44 rfl) rfl
theorem q561 : (Jvm.Cond.lays "KeylockBody$Cell" "KeylockBody$Cell" "work" "I") ∈ lw_all := lw_g (lw_at lw_m3 45 rfl) rfl
theorem q562 : (Jvm.Cond.soleField "KeylockBody$Cell" "work") ∈ lw_all := lw_g (lw_at lw_m3 46 rfl) rfl
theorem q563 : (Jvm.Cond.superclass "KeylockBody$Cell" "java/lang/Object") ∈ lw_all := lw_g (lw_at lw_m3 47 rfl) rfl
theorem q652 : (Jvm.Cond.instanceMethod ({ cls := "KeylockBody$Cell", name := "isLost", desc := "()Z" } : Jvm.MethodName)) ∈ lw_all := lw_g (lw_at lw_m3 136 rfl) rfl
theorem q653 : (Jvm.Cond.selects "KeylockBody$Cell" ({ cls := "KeylockBody$Cell", name := "isLost", desc := "()Z" } : Jvm.MethodName) ({ cls := "KeylockBody$Cell", name := "isLost", desc := "()Z" } : Jvm.MethodName)) ∈ lw_all := lw_g (lw_at lw_m3 137 rfl) rfl
theorem q654 : (Jvm.Cond.code ({ cls := "KeylockBody$Cell", name := "isLost", desc := "()Z" } : Jvm.MethodName) prog_2_method_3_code (1 : Nat) (Option.some Jvm.ClassFile.FieldType.boolean)) ∈ lw_all := lw_g (lw_at lw_m3 138 rfl) rfl
theorem q656 : (Jvm.Cond.instanceMethod ({ cls := "KeylockBody$Cell", name := "is", desc := "(II)Z" } : Jvm.MethodName)) ∈ lw_all := lw_g (lw_at lw_m3 140 rfl) rfl
theorem q657 : (Jvm.Cond.selects "KeylockBody$Cell" ({ cls := "KeylockBody$Cell", name := "is", desc := "(II)Z" } : Jvm.MethodName) ({ cls := "KeylockBody$Cell", name := "is", desc := "(II)Z" } : Jvm.MethodName)) ∈ lw_all := lw_g (lw_at lw_m3 141 rfl) rfl
theorem q658 : (Jvm.Cond.code ({ cls := "KeylockBody$Cell", name := "is", desc := "(II)Z" } : Jvm.MethodName) prog_2_method_4_code (3 : Nat) (Option.some Jvm.ClassFile.FieldType.boolean)) ∈ lw_all := lw_g (lw_at lw_m3 142 rfl) rfl
theorem q758 : (Jvm.Cond.instanceMethod ({ cls := "KeylockBody$Cell", name := "copy", desc := "()LKeylockBody$Cell;" } : Jvm.MethodName)) ∈ lw_all := lw_g (lw_at lw_m4 2 rfl) rfl
theorem q759 : (Jvm.Cond.selects "KeylockBody$Cell" ({ cls := "KeylockBody$Cell", name := "copy", desc := "()LKeylockBody$Cell;" } : Jvm.MethodName) ({ cls := "KeylockBody$Cell", name := "copy", desc := "()LKeylockBody$Cell;" } : Jvm.MethodName)) ∈ lw_all := lw_g (lw_at lw_m4 3 rfl) rfl
theorem q760 : (Jvm.Cond.code ({ cls := "KeylockBody$Cell", name := "copy", desc := "()LKeylockBody$Cell;" } : Jvm.MethodName) prog_2_method_2_code (1 : Nat) (Option.some (Jvm.ClassFile.FieldType.object "KeylockBody$Cell"))) ∈ lw_all := lw_g (lw_at lw_m4 4 rfl) rfl
theorem q761 : (Jvm.Cond.classLink "KeylockBody$Cell" (10 : Nat) "KeylockBody$Cell") ∈ lw_all := lw_g (lw_at lw_m4 5 rfl) rfl
theorem q762 : (Jvm.Cond.methodLink "KeylockBody$Cell" (33 : Nat) ({ cls := "KeylockBody$Cell", name := "<init>", desc := "(IIIIIII)V" } : Jvm.MethodName)) ∈ lw_all := lw_g (lw_at lw_m4 6 rfl) rfl
theorem q1053 : (Jvm.Cond.castable "KeylockBody$Cell" "java/lang/Object") ∈ lw_tbl := lw_at lw_m5 57 rfl
theorem in_X4 : ∀ w ∈ wsX40, w ∈ lw_all := lw_in wsX40 [549, 551, 553, 555, 557, 559, 561] (by decide +kernel) (by decide +kernel)

/-! KeylockBody$Invader -/
set_option maxRecDepth 100000
def RX5 : String := "KeylockBody$Invader"
def TX5 : u_T := fun k => match k with
  | 0 => ("KeylockBody$Invader", "coat", "I", false)
  | 1 => ("KeylockBody$Invader", "size", "I", false)
  | 2 => ("KeylockBody$Invader", "growth", "I", true)
  | 3 => ("KeylockBody$Invader", "clearedBy", "I", false)
  | _ => ("KeylockBody$Invader", "greatest", "I", false)
def tyX5 : Nat → FieldType := fun k => match k with
  | 0 => .int
  | 1 => .int
  | 2 => .int
  | 3 => .int
  | _ => .int
abbrev wsX50 : List Cond := u_ws RX5 TX5 5
theorem nmX5 : ∀ a, a < 5 → ∀ b, b < 5 → a ≠ b → (TX5 a).2.1 ≠ (TX5 b).2.1 := by decide +kernel
theorem tyX5_ok : ∀ k, k < 5 → parseFieldDescriptor (TX5 k).2.2.1 = some (tyX5 k) := by decide +kernel
abbrev cX5_init : ByteArray := prog_4_method_1_code
def yX5_init : MethodName := ⟨RX5, "<init>", "(III)V"⟩
def dkwX5_init_1 : List UInt8 := [42, 28, 181, 0, 24, 177]
abbrev dktX5_init_1 : List UInt8 := dkwX5_init_1 ++ []
def dkwX5_init_0 : List UInt8 := [42, 183, 0, 3, 42, 2, 181, 0, 9, 42, 27, 181, 0, 15, 42, 28, 181, 0, 18, 42, 29, 181, 0, 21]
abbrev dktX5_init_0 : List UInt8 := dkwX5_init_0 ++ dktX5_init_1
theorem dksX5_init_0 : cX5_init.data.toList.drop 0 = dktX5_init_0 := by decide +kernel
theorem dksX5_init_1 : cX5_init.data.toList.drop 24 = dktX5_init_1 := dk_seg dksX5_init_0 24 rfl rfl
theorem dX5_init_0 : decode cX5_init 0 = .ok (.aload_n 0, 1) := dk_42 (dk_at dksX5_init_0 0 rfl rfl)
theorem dX5_init_1 : decode cX5_init 1 = .ok (.invokespecial 3, 3) := dk_183 0 3 (dk_at dksX5_init_0 1 rfl rfl)
theorem dX5_init_4 : decode cX5_init 4 = .ok (.aload_n 0, 1) := dk_42 (dk_at dksX5_init_0 4 rfl rfl)
theorem dX5_init_5 : decode cX5_init 5 = .ok (.iconst (-1), 1) := dk_2 (dk_at dksX5_init_0 5 rfl rfl)
theorem dX5_init_6 : decode cX5_init 6 = .ok (.putfield 9, 3) := dk_181 0 9 (dk_at dksX5_init_0 6 rfl rfl)
theorem dX5_init_9 : decode cX5_init 9 = .ok (.aload_n 0, 1) := dk_42 (dk_at dksX5_init_0 9 rfl rfl)
theorem dX5_init_10 : decode cX5_init 10 = .ok (.iload_n 1, 1) := dk_27 (dk_at dksX5_init_0 10 rfl rfl)
theorem dX5_init_11 : decode cX5_init 11 = .ok (.putfield 15, 3) := dk_181 0 15 (dk_at dksX5_init_0 11 rfl rfl)
theorem dX5_init_14 : decode cX5_init 14 = .ok (.aload_n 0, 1) := dk_42 (dk_at dksX5_init_0 14 rfl rfl)
theorem dX5_init_15 : decode cX5_init 15 = .ok (.iload_n 2, 1) := dk_28 (dk_at dksX5_init_0 15 rfl rfl)
theorem dX5_init_16 : decode cX5_init 16 = .ok (.putfield 18, 3) := dk_181 0 18 (dk_at dksX5_init_0 16 rfl rfl)
theorem dX5_init_19 : decode cX5_init 19 = .ok (.aload_n 0, 1) := dk_42 (dk_at dksX5_init_0 19 rfl rfl)
theorem dX5_init_20 : decode cX5_init 20 = .ok (.iload_n 3, 1) := dk_29 (dk_at dksX5_init_0 20 rfl rfl)
theorem dX5_init_21 : decode cX5_init 21 = .ok (.putfield 21, 3) := dk_181 0 21 (dk_at dksX5_init_0 21 rfl rfl)
theorem dX5_init_24 : decode cX5_init 24 = .ok (.aload_n 0, 1) := dk_42 (dk_at dksX5_init_1 0 rfl rfl)
theorem dX5_init_25 : decode cX5_init 25 = .ok (.iload_n 2, 1) := dk_28 (dk_at dksX5_init_1 1 rfl rfl)
theorem dX5_init_26 : decode cX5_init 26 = .ok (.putfield 24, 3) := dk_181 0 24 (dk_at dksX5_init_1 2 rfl rfl)
theorem dX5_init_29 : decode cX5_init 29 = .ok (.return_, 1) := dk_177 (dk_at dksX5_init_1 5 rfl rfl)
abbrev cX5_grow : ByteArray := prog_4_method_3_code
def yX5_grow : MethodName := ⟨RX5, "grow", "()V"⟩
def dkwX5_grow_2 : List UInt8 := [156, 0, 12, 42, 180, 0, 18, 5, 108, 167, 0, 7, 42, 180, 0, 18, 181, 0, 18, 177]
abbrev dktX5_grow_2 : List UInt8 := dkwX5_grow_2 ++ []
def dkwX5_grow_1 : List UInt8 := [180, 0, 21, 104, 16, 10, 108, 96, 4, 96, 17, 39, 15, 184, 0, 30, 181, 0, 18, 42, 42, 180, 0, 21]
abbrev dktX5_grow_1 : List UInt8 := dkwX5_grow_1 ++ dktX5_grow_2
def dkwX5_grow_0 : List UInt8 := [42, 180, 0, 18, 158, 0, 39, 42, 180, 0, 21, 158, 0, 32, 42, 42, 180, 0, 18, 42, 180, 0, 18, 42]
abbrev dktX5_grow_0 : List UInt8 := dkwX5_grow_0 ++ dktX5_grow_1
theorem dksX5_grow_0 : cX5_grow.data.toList.drop 0 = dktX5_grow_0 := by decide +kernel
theorem dksX5_grow_1 : cX5_grow.data.toList.drop 24 = dktX5_grow_1 := dk_seg dksX5_grow_0 24 rfl rfl
theorem dksX5_grow_2 : cX5_grow.data.toList.drop 48 = dktX5_grow_2 := dk_seg dksX5_grow_1 24 rfl rfl
theorem dX5_grow_0 : decode cX5_grow 0 = .ok (.aload_n 0, 1) := dk_42 (dk_at dksX5_grow_0 0 rfl rfl)
theorem dX5_grow_1 : decode cX5_grow 1 = .ok (.getfield 18, 3) := dk_180 0 18 (dk_at dksX5_grow_0 1 rfl rfl)
theorem dX5_grow_4 : decode cX5_grow 4 = .ok (.ifCond .le 39, 3) := dk_158 0 39 (dk_at dksX5_grow_0 4 rfl rfl)
theorem dX5_grow_7 : decode cX5_grow 7 = .ok (.aload_n 0, 1) := dk_42 (dk_at dksX5_grow_0 7 rfl rfl)
theorem dX5_grow_8 : decode cX5_grow 8 = .ok (.getfield 21, 3) := dk_180 0 21 (dk_at dksX5_grow_0 8 rfl rfl)
theorem dX5_grow_11 : decode cX5_grow 11 = .ok (.ifCond .le 32, 3) := dk_158 0 32 (dk_at dksX5_grow_0 11 rfl rfl)
theorem dX5_grow_14 : decode cX5_grow 14 = .ok (.aload_n 0, 1) := dk_42 (dk_at dksX5_grow_0 14 rfl rfl)
theorem dX5_grow_15 : decode cX5_grow 15 = .ok (.aload_n 0, 1) := dk_42 (dk_at dksX5_grow_0 15 rfl rfl)
theorem dX5_grow_16 : decode cX5_grow 16 = .ok (.getfield 18, 3) := dk_180 0 18 (dk_at dksX5_grow_0 16 rfl rfl)
theorem dX5_grow_19 : decode cX5_grow 19 = .ok (.aload_n 0, 1) := dk_42 (dk_at dksX5_grow_0 19 rfl rfl)
theorem dX5_grow_20 : decode cX5_grow 20 = .ok (.getfield 18, 3) := dk_180 0 18 (dk_at dksX5_grow_0 20 rfl rfl)
theorem dX5_grow_23 : decode cX5_grow 23 = .ok (.aload_n 0, 1) := dk_42 (dk_at dksX5_grow_0 23 rfl rfl)
theorem dX5_grow_24 : decode cX5_grow 24 = .ok (.getfield 21, 3) := dk_180 0 21 (dk_at dksX5_grow_1 0 rfl rfl)
theorem dX5_grow_27 : decode cX5_grow 27 = .ok (.imul, 1) := dk_104 (dk_at dksX5_grow_1 3 rfl rfl)
theorem dX5_grow_28 : decode cX5_grow 28 = .ok (.bipush 10, 2) := dk_16 10 (dk_at dksX5_grow_1 4 rfl rfl)
theorem dX5_grow_30 : decode cX5_grow 30 = .ok (.idiv, 1) := dk_108 (dk_at dksX5_grow_1 6 rfl rfl)
theorem dX5_grow_31 : decode cX5_grow 31 = .ok (.iadd, 1) := dk_96 (dk_at dksX5_grow_1 7 rfl rfl)
theorem dX5_grow_32 : decode cX5_grow 32 = .ok (.iconst 1, 1) := dk_4 (dk_at dksX5_grow_1 8 rfl rfl)
theorem dX5_grow_33 : decode cX5_grow 33 = .ok (.iadd, 1) := dk_96 (dk_at dksX5_grow_1 9 rfl rfl)
theorem dX5_grow_34 : decode cX5_grow 34 = .ok (.sipush 9999, 3) := dk_17 39 15 (dk_at dksX5_grow_1 10 rfl rfl)
theorem dX5_grow_37 : decode cX5_grow 37 = .ok (.invokestatic 30, 3) := dk_184 0 30 (dk_at dksX5_grow_1 13 rfl rfl)
theorem dX5_grow_40 : decode cX5_grow 40 = .ok (.putfield 18, 3) := dk_181 0 18 (dk_at dksX5_grow_1 16 rfl rfl)
theorem dX5_grow_43 : decode cX5_grow 43 = .ok (.aload_n 0, 1) := dk_42 (dk_at dksX5_grow_1 19 rfl rfl)
theorem dX5_grow_44 : decode cX5_grow 44 = .ok (.aload_n 0, 1) := dk_42 (dk_at dksX5_grow_1 20 rfl rfl)
theorem dX5_grow_45 : decode cX5_grow 45 = .ok (.getfield 21, 3) := dk_180 0 21 (dk_at dksX5_grow_1 21 rfl rfl)
theorem dX5_grow_48 : decode cX5_grow 48 = .ok (.ifCond .ge 12, 3) := dk_156 0 12 (dk_at dksX5_grow_2 0 rfl rfl)
theorem dX5_grow_51 : decode cX5_grow 51 = .ok (.aload_n 0, 1) := dk_42 (dk_at dksX5_grow_2 3 rfl rfl)
theorem dX5_grow_52 : decode cX5_grow 52 = .ok (.getfield 18, 3) := dk_180 0 18 (dk_at dksX5_grow_2 4 rfl rfl)
theorem dX5_grow_55 : decode cX5_grow 55 = .ok (.iconst 2, 1) := dk_5 (dk_at dksX5_grow_2 7 rfl rfl)
theorem dX5_grow_56 : decode cX5_grow 56 = .ok (.idiv, 1) := dk_108 (dk_at dksX5_grow_2 8 rfl rfl)
theorem dX5_grow_57 : decode cX5_grow 57 = .ok (.goto 7, 3) := dk_167 0 7 (dk_at dksX5_grow_2 9 rfl rfl)
theorem dX5_grow_60 : decode cX5_grow 60 = .ok (.aload_n 0, 1) := dk_42 (dk_at dksX5_grow_2 12 rfl rfl)
theorem dX5_grow_61 : decode cX5_grow 61 = .ok (.getfield 18, 3) := dk_180 0 18 (dk_at dksX5_grow_2 13 rfl rfl)
theorem dX5_grow_64 : decode cX5_grow 64 = .ok (.putfield 18, 3) := dk_181 0 18 (dk_at dksX5_grow_2 16 rfl rfl)
theorem dX5_grow_67 : decode cX5_grow 67 = .ok (.return_, 1) := dk_177 (dk_at dksX5_grow_2 19 rfl rfl)
abbrev cX5_copy : ByteArray := prog_4_method_2_code
def yX5_copy : MethodName := ⟨RX5, "copy", "()LKeylockBody$Invader;"⟩
def dkwX5_copy_1 : List UInt8 := [180, 0, 9, 181, 0, 9, 43, 42, 180, 0, 24, 181, 0, 24, 43, 176]
abbrev dktX5_copy_1 : List UInt8 := dkwX5_copy_1 ++ []
def dkwX5_copy_0 : List UInt8 := [187, 0, 10, 89, 42, 180, 0, 15, 42, 180, 0, 18, 42, 180, 0, 21, 183, 0, 27, 76, 43, 42]
abbrev dktX5_copy_0 : List UInt8 := dkwX5_copy_0 ++ dktX5_copy_1
theorem dksX5_copy_0 : cX5_copy.data.toList.drop 0 = dktX5_copy_0 := by decide +kernel
theorem dksX5_copy_1 : cX5_copy.data.toList.drop 22 = dktX5_copy_1 := dk_seg dksX5_copy_0 22 rfl rfl
theorem dX5_copy_0 : decode cX5_copy 0 = .ok (.new 10, 3) := dk_187 0 10 (dk_at dksX5_copy_0 0 rfl rfl)
theorem dX5_copy_3 : decode cX5_copy 3 = .ok (.dup, 1) := dk_89 (dk_at dksX5_copy_0 3 rfl rfl)
theorem dX5_copy_4 : decode cX5_copy 4 = .ok (.aload_n 0, 1) := dk_42 (dk_at dksX5_copy_0 4 rfl rfl)
theorem dX5_copy_5 : decode cX5_copy 5 = .ok (.getfield 15, 3) := dk_180 0 15 (dk_at dksX5_copy_0 5 rfl rfl)
theorem dX5_copy_8 : decode cX5_copy 8 = .ok (.aload_n 0, 1) := dk_42 (dk_at dksX5_copy_0 8 rfl rfl)
theorem dX5_copy_9 : decode cX5_copy 9 = .ok (.getfield 18, 3) := dk_180 0 18 (dk_at dksX5_copy_0 9 rfl rfl)
theorem dX5_copy_12 : decode cX5_copy 12 = .ok (.aload_n 0, 1) := dk_42 (dk_at dksX5_copy_0 12 rfl rfl)
theorem dX5_copy_13 : decode cX5_copy 13 = .ok (.getfield 21, 3) := dk_180 0 21 (dk_at dksX5_copy_0 13 rfl rfl)
theorem dX5_copy_16 : decode cX5_copy 16 = .ok (.invokespecial 27, 3) := dk_183 0 27 (dk_at dksX5_copy_0 16 rfl rfl)
theorem dX5_copy_19 : decode cX5_copy 19 = .ok (.astore_n 1, 1) := dk_76 (dk_at dksX5_copy_0 19 rfl rfl)
theorem dX5_copy_20 : decode cX5_copy 20 = .ok (.aload_n 1, 1) := dk_43 (dk_at dksX5_copy_0 20 rfl rfl)
theorem dX5_copy_21 : decode cX5_copy 21 = .ok (.aload_n 0, 1) := dk_42 (dk_at dksX5_copy_0 21 rfl rfl)
theorem dX5_copy_22 : decode cX5_copy 22 = .ok (.getfield 9, 3) := dk_180 0 9 (dk_at dksX5_copy_1 0 rfl rfl)
theorem dX5_copy_25 : decode cX5_copy 25 = .ok (.putfield 9, 3) := dk_181 0 9 (dk_at dksX5_copy_1 3 rfl rfl)
theorem dX5_copy_28 : decode cX5_copy 28 = .ok (.aload_n 1, 1) := dk_43 (dk_at dksX5_copy_1 6 rfl rfl)
theorem dX5_copy_29 : decode cX5_copy 29 = .ok (.aload_n 0, 1) := dk_42 (dk_at dksX5_copy_1 7 rfl rfl)
theorem dX5_copy_30 : decode cX5_copy 30 = .ok (.getfield 24, 3) := dk_180 0 24 (dk_at dksX5_copy_1 8 rfl rfl)
theorem dX5_copy_33 : decode cX5_copy 33 = .ok (.putfield 24, 3) := dk_181 0 24 (dk_at dksX5_copy_1 11 rfl rfl)
theorem dX5_copy_36 : decode cX5_copy 36 = .ok (.aload_n 1, 1) := dk_43 (dk_at dksX5_copy_1 14 rfl rfl)
theorem dX5_copy_37 : decode cX5_copy 37 = .ok (.areturn, 1) := dk_176 (dk_at dksX5_copy_1 15 rfl rfl)
theorem q61 : (Jvm.Cond.initialized "KeylockBody$Invader") ∈ lw_all := lw_g (lw_at lw_m1 25 rfl) rfl
theorem q416 : (Jvm.Cond.selects "KeylockBody$Invader" ({ cls := "java/lang/Object", name := "getClass", desc := "()Ljava/lang/Class;" } : Jvm.MethodName) ({ cls := "java/lang/Object", name := "getClass", desc := "()Ljava/lang/Class;" } : Jvm.MethodName)) ∈ lw_all := lw_g (lw_at lw_m2 140 rfl) rfl
theorem q596 : (Jvm.Cond.instantiable "KeylockBody$Invader" (5 : Nat)) ∈ lw_all := lw_g (lw_at lw_m3 80 rfl) rfl
theorem q598 : (Jvm.Cond.instanceMethod ({ cls := "KeylockBody$Invader", name := "<init>", desc := "(III)V" } : Jvm.MethodName)) ∈ lw_all := lw_g (lw_at lw_m3 82 rfl) rfl
theorem q599 : (Jvm.Cond.code ({ cls := "KeylockBody$Invader", name := "<init>", desc := "(III)V" } : Jvm.MethodName) prog_4_method_1_code (4 : Nat) (Option.none : Option Jvm.ClassFile.FieldType)) ∈ lw_all := lw_g (lw_at lw_m3 83 rfl) rfl
theorem q600 : (Jvm.Cond.methodLink "KeylockBody$Invader" (3 : Nat) ({ cls := "java/lang/Object", name := "<init>", desc := "()V" } : Jvm.MethodName)) ∈ lw_all := lw_g (lw_at lw_m3 84 rfl) rfl
theorem q601 : (Jvm.Cond.fieldLink "KeylockBody$Invader" (15 : Nat) "KeylockBody$Invader" "coat" "I") ∈ lw_all := lw_g (lw_at lw_m3 85 rfl) rfl
theorem q604 : (Jvm.Cond.fieldLink "KeylockBody$Invader" (18 : Nat) "KeylockBody$Invader" "size" "I") ∈ lw_all := lw_g (lw_at lw_m3 88 rfl) rfl
theorem q607 : (Jvm.Cond.fieldLink "KeylockBody$Invader" (21 : Nat) "KeylockBody$Invader" "growth" "I") ∈ lw_all := lw_g (lw_at lw_m3 91 rfl) rfl
theorem q609 : (Jvm.Cond.fieldLink "KeylockBody$Invader" (9 : Nat) "KeylockBody$Invader" "clearedBy" "I") ∈ lw_all := lw_g (lw_at lw_m3 93 rfl) rfl
theorem q612 : (Jvm.Cond.fieldLink "KeylockBody$Invader" (24 : Nat) "KeylockBody$Invader" "greatest" "I") ∈ lw_all := lw_g (lw_at lw_m3 96 rfl) rfl
theorem q615 : (Jvm.Cond.lays "KeylockBody$Invader" "KeylockBody$Invader" "coat" "I") ∈ lw_all := lw_g (lw_at lw_m3 99 rfl) rfl
theorem q616 : (Jvm.Cond.soleField "KeylockBody$Invader" "coat") ∈ lw_all := lw_g (lw_at lw_m3 100 rfl) rfl
theorem q617 : (Jvm.Cond.lays "KeylockBody$Invader" "KeylockBody$Invader" "size" "I") ∈ lw_all := lw_g (lw_at lw_m3 101 rfl) rfl
theorem q618 : (Jvm.Cond.soleField "KeylockBody$Invader" "size") ∈ lw_all := lw_g (lw_at lw_m3 102 rfl) rfl
theorem q619 : (Jvm.Cond.laysFinal "KeylockBody$Invader" "KeylockBody$Invader" "growth" "I") ∈ lw_all := lw_g (lw_at lw_m3 103 rfl) rfl
theorem q620 : (Jvm.Cond.soleField "KeylockBody$Invader" "growth") ∈ lw_all := lw_g (lw_at lw_m3 104 rfl) rfl
theorem q621 : (Jvm.Cond.lays "KeylockBody$Invader" "KeylockBody$Invader" "clearedBy" "I") ∈ lw_all := lw_g (lw_at lw_m3 105 rfl) rfl
theorem q622 : (Jvm.Cond.soleField "KeylockBody$Invader" "clearedBy") ∈ lw_all := lw_g (lw_at lw_m3 106 rfl) rfl
theorem q623 : (Jvm.Cond.lays "KeylockBody$Invader" "KeylockBody$Invader" "greatest" "I") ∈ lw_all := lw_g (lw_at lw_m3 107 rfl) rfl
theorem q624 : (Jvm.Cond.soleField "KeylockBody$Invader" "greatest") ∈ lw_all := lw_g (lw_at lw_m3 108 rfl) rfl
theorem q625 : (Jvm.Cond.superclass "KeylockBody$Invader" "java/lang/Object") ∈ lw_all := lw_g (lw_at lw_m3 109 rfl) rfl
theorem q676 : (Jvm.Cond.instanceMethod ({ cls := "KeylockBody$Invader", name := "grow", desc := "()V" } : Jvm.MethodName)) ∈ lw_all := lw_g (lw_at lw_m3 160 rfl) rfl
theorem q677 : (Jvm.Cond.selects "KeylockBody$Invader" ({ cls := "KeylockBody$Invader", name := "grow", desc := "()V" } : Jvm.MethodName) ({ cls := "KeylockBody$Invader", name := "grow", desc := "()V" } : Jvm.MethodName)) ∈ lw_all := lw_g (lw_at lw_m3 161 rfl) rfl
theorem q678 : (Jvm.Cond.code ({ cls := "KeylockBody$Invader", name := "grow", desc := "()V" } : Jvm.MethodName) prog_4_method_3_code (1 : Nat) (Option.none : Option Jvm.ClassFile.FieldType)) ∈ lw_all := lw_g (lw_at lw_m3 162 rfl) rfl
theorem q679 : (Jvm.Cond.methodLink "KeylockBody$Invader" (30 : Nat) ({ cls := "java/lang/Math", name := "min", desc := "(II)I" } : Jvm.MethodName)) ∈ lw_all := lw_g (lw_at lw_m3 163 rfl) rfl
theorem q764 : (Jvm.Cond.instanceMethod ({ cls := "KeylockBody$Invader", name := "copy", desc := "()LKeylockBody$Invader;" } : Jvm.MethodName)) ∈ lw_all := lw_g (lw_at lw_m4 8 rfl) rfl
theorem q765 : (Jvm.Cond.selects "KeylockBody$Invader" ({ cls := "KeylockBody$Invader", name := "copy", desc := "()LKeylockBody$Invader;" } : Jvm.MethodName) ({ cls := "KeylockBody$Invader", name := "copy", desc := "()LKeylockBody$Invader;" } : Jvm.MethodName)) ∈ lw_all := lw_g (lw_at lw_m4 9 rfl) rfl
theorem q766 : (Jvm.Cond.code ({ cls := "KeylockBody$Invader", name := "copy", desc := "()LKeylockBody$Invader;" } : Jvm.MethodName) prog_4_method_2_code (2 : Nat) (Option.some (Jvm.ClassFile.FieldType.object "KeylockBody$Invader"))) ∈ lw_all := lw_g (lw_at lw_m4 10 rfl) rfl
theorem q767 : (Jvm.Cond.classLink "KeylockBody$Invader" (10 : Nat) "KeylockBody$Invader") ∈ lw_all := lw_g (lw_at lw_m4 11 rfl) rfl
theorem q768 : (Jvm.Cond.methodLink "KeylockBody$Invader" (27 : Nat) ({ cls := "KeylockBody$Invader", name := "<init>", desc := "(III)V" } : Jvm.MethodName)) ∈ lw_all := lw_g (lw_at lw_m4 12 rfl) rfl
theorem q1054 : (Jvm.Cond.castable "KeylockBody$Invader" "java/lang/Object") ∈ lw_tbl := lw_at lw_m5 58 rfl
theorem in_X5 : ∀ w ∈ wsX50, w ∈ lw_all := lw_in wsX50 [615, 617, 619, 621, 623] (by decide +kernel) (by decide +kernel)
