/-! KeylockBody -/
set_option maxRecDepth 100000
def RX1 : String := "KeylockBody"
def TX1 : u_T := fun k => match k with
  | 0 => ("KeylockBody", "table", "[[I", true)
  | 1 => ("KeylockBody", "marks", "[I", true)
  | 2 => ("KeylockBody", "owns", "Ljava/util/List;", true)
  | 3 => ("KeylockBody", "segments", "Ljava/util/List;", true)
  | 4 => ("KeylockBody", "joints", "Ljava/util/List;", true)
  | _ => ("KeylockBody", "inside", "LKeylockBody$Inside;", false)
def tyX1 : Nat → FieldType := fun k => match k with
  | 0 => .array (.array .int)
  | 1 => .array .int
  | 2 => .object "java/util/List"
  | 3 => .object "java/util/List"
  | 4 => .object "java/util/List"
  | _ => .object "KeylockBody$Inside"
abbrev wsX10 : List Cond := u_ws RX1 TX1 6
theorem nmX1 : ∀ a, a < 6 → ∀ b, b < 6 → a ≠ b → (TX1 a).2.1 ≠ (TX1 b).2.1 := by decide +kernel
theorem tyX1_ok : ∀ k, k < 6 → parseFieldDescriptor (TX1 k).2.2.1 = some (tyX1 k) := by decide +kernel
abbrev cX1_init : ByteArray := prog_1_method_1_code
def yX1_init : MethodName := ⟨RX1, "<init>", "()V"⟩
def dkwX1_init_5 : List UInt8 := [177]
abbrev dktX1_init_5 : List UInt8 := dkwX1_init_5 ++ []
def dkwX1_init_4 : List UInt8 := [180, 0, 18, 190, 162, 0, 20, 42, 180, 0, 18, 27, 178, 0, 14, 27, 46, 79, 132, 1, 1, 167, 255, 233]
abbrev dktX1_init_4 : List UInt8 := dkwX1_init_4 ++ dktX1_init_5
def dkwX1_init_3 : List UInt8 := [27, 7, 162, 0, 18, 42, 180, 0, 11, 27, 50, 27, 6, 79, 132, 1, 1, 167, 255, 239, 3, 60, 27, 42]
abbrev dktX1_init_3 : List UInt8 := dkwX1_init_3 ++ dktX1_init_4
def dkwX1_init_2 : List UInt8 := [187, 0, 21, 89, 183, 0, 23, 181, 0, 31, 42, 187, 0, 34, 89, 42, 183, 0, 36, 181, 0, 39, 3, 60]
abbrev dktX1_init_2 : List UInt8 := dkwX1_init_2 ++ dktX1_init_3
def dkwX1_init_1 : List UInt8 := [42, 187, 0, 21, 89, 183, 0, 23, 181, 0, 24, 42, 187, 0, 21, 89, 183, 0, 23, 181, 0, 28, 42]
abbrev dktX1_init_1 : List UInt8 := dkwX1_init_1 ++ dktX1_init_2
def dkwX1_init_0 : List UInt8 := [42, 183, 0, 1, 42, 7, 7, 197, 0, 9, 2, 181, 0, 11, 42, 178, 0, 14, 190, 188, 10, 181, 0, 18]
abbrev dktX1_init_0 : List UInt8 := dkwX1_init_0 ++ dktX1_init_1
theorem dksX1_init_0 : cX1_init.data.toList.drop 0 = dktX1_init_0 := by decide +kernel
theorem dksX1_init_1 : cX1_init.data.toList.drop 24 = dktX1_init_1 := dk_seg dksX1_init_0 24 rfl rfl
theorem dksX1_init_2 : cX1_init.data.toList.drop 47 = dktX1_init_2 := dk_seg dksX1_init_1 23 rfl rfl
theorem dksX1_init_3 : cX1_init.data.toList.drop 71 = dktX1_init_3 := dk_seg dksX1_init_2 24 rfl rfl
theorem dksX1_init_4 : cX1_init.data.toList.drop 95 = dktX1_init_4 := dk_seg dksX1_init_3 24 rfl rfl
theorem dksX1_init_5 : cX1_init.data.toList.drop 119 = dktX1_init_5 := dk_seg dksX1_init_4 24 rfl rfl
theorem dX1_init_0 : decode cX1_init 0 = .ok (.aload_n 0, 1) := dk_42 (dk_at dksX1_init_0 0 rfl rfl)
theorem dX1_init_1 : decode cX1_init 1 = .ok (.invokespecial 1, 3) := dk_183 0 1 (dk_at dksX1_init_0 1 rfl rfl)
theorem dX1_init_4 : decode cX1_init 4 = .ok (.aload_n 0, 1) := dk_42 (dk_at dksX1_init_0 4 rfl rfl)
theorem dX1_init_5 : decode cX1_init 5 = .ok (.iconst 4, 1) := dk_7 (dk_at dksX1_init_0 5 rfl rfl)
theorem dX1_init_6 : decode cX1_init 6 = .ok (.iconst 4, 1) := dk_7 (dk_at dksX1_init_0 6 rfl rfl)
theorem dX1_init_7 : decode cX1_init 7 = .ok (.multianewarray 9 2, 4) := by decide +kernel
theorem dX1_init_11 : decode cX1_init 11 = .ok (.putfield 11, 3) := dk_181 0 11 (dk_at dksX1_init_0 11 rfl rfl)
theorem dX1_init_14 : decode cX1_init 14 = .ok (.aload_n 0, 1) := dk_42 (dk_at dksX1_init_0 14 rfl rfl)
theorem dX1_init_15 : decode cX1_init 15 = .ok (.getstatic 14, 3) := dk_178 0 14 (dk_at dksX1_init_0 15 rfl rfl)
theorem dX1_init_18 : decode cX1_init 18 = .ok (.arraylength, 1) := dk_190 (dk_at dksX1_init_0 18 rfl rfl)
theorem dX1_init_19 : decode cX1_init 19 = .ok (.newarray .int, 2) := dk_188_10 (dk_at dksX1_init_0 19 rfl rfl)
theorem dX1_init_21 : decode cX1_init 21 = .ok (.putfield 18, 3) := dk_181 0 18 (dk_at dksX1_init_0 21 rfl rfl)
theorem dX1_init_24 : decode cX1_init 24 = .ok (.aload_n 0, 1) := dk_42 (dk_at dksX1_init_1 0 rfl rfl)
theorem dX1_init_25 : decode cX1_init 25 = .ok (.new 21, 3) := dk_187 0 21 (dk_at dksX1_init_1 1 rfl rfl)
theorem dX1_init_28 : decode cX1_init 28 = .ok (.dup, 1) := dk_89 (dk_at dksX1_init_1 4 rfl rfl)
theorem dX1_init_29 : decode cX1_init 29 = .ok (.invokespecial 23, 3) := dk_183 0 23 (dk_at dksX1_init_1 5 rfl rfl)
theorem dX1_init_32 : decode cX1_init 32 = .ok (.putfield 24, 3) := dk_181 0 24 (dk_at dksX1_init_1 8 rfl rfl)
theorem dX1_init_35 : decode cX1_init 35 = .ok (.aload_n 0, 1) := dk_42 (dk_at dksX1_init_1 11 rfl rfl)
theorem dX1_init_36 : decode cX1_init 36 = .ok (.new 21, 3) := dk_187 0 21 (dk_at dksX1_init_1 12 rfl rfl)
theorem dX1_init_39 : decode cX1_init 39 = .ok (.dup, 1) := dk_89 (dk_at dksX1_init_1 15 rfl rfl)
theorem dX1_init_40 : decode cX1_init 40 = .ok (.invokespecial 23, 3) := dk_183 0 23 (dk_at dksX1_init_1 16 rfl rfl)
theorem dX1_init_43 : decode cX1_init 43 = .ok (.putfield 28, 3) := dk_181 0 28 (dk_at dksX1_init_1 19 rfl rfl)
theorem dX1_init_46 : decode cX1_init 46 = .ok (.aload_n 0, 1) := dk_42 (dk_at dksX1_init_1 22 rfl rfl)
theorem dX1_init_47 : decode cX1_init 47 = .ok (.new 21, 3) := dk_187 0 21 (dk_at dksX1_init_2 0 rfl rfl)
theorem dX1_init_50 : decode cX1_init 50 = .ok (.dup, 1) := dk_89 (dk_at dksX1_init_2 3 rfl rfl)
theorem dX1_init_51 : decode cX1_init 51 = .ok (.invokespecial 23, 3) := dk_183 0 23 (dk_at dksX1_init_2 4 rfl rfl)
theorem dX1_init_54 : decode cX1_init 54 = .ok (.putfield 31, 3) := dk_181 0 31 (dk_at dksX1_init_2 7 rfl rfl)
theorem dX1_init_57 : decode cX1_init 57 = .ok (.aload_n 0, 1) := dk_42 (dk_at dksX1_init_2 10 rfl rfl)
theorem dX1_init_58 : decode cX1_init 58 = .ok (.new 34, 3) := dk_187 0 34 (dk_at dksX1_init_2 11 rfl rfl)
theorem dX1_init_61 : decode cX1_init 61 = .ok (.dup, 1) := dk_89 (dk_at dksX1_init_2 14 rfl rfl)
theorem dX1_init_62 : decode cX1_init 62 = .ok (.aload_n 0, 1) := dk_42 (dk_at dksX1_init_2 15 rfl rfl)
theorem dX1_init_63 : decode cX1_init 63 = .ok (.invokespecial 36, 3) := dk_183 0 36 (dk_at dksX1_init_2 16 rfl rfl)
theorem dX1_init_66 : decode cX1_init 66 = .ok (.putfield 39, 3) := dk_181 0 39 (dk_at dksX1_init_2 19 rfl rfl)
theorem dX1_init_69 : decode cX1_init 69 = .ok (.iconst 0, 1) := dk_3 (dk_at dksX1_init_2 22 rfl rfl)
theorem dX1_init_70 : decode cX1_init 70 = .ok (.istore_n 1, 1) := dk_60 (dk_at dksX1_init_2 23 rfl rfl)
theorem dX1_init_71 : decode cX1_init 71 = .ok (.iload_n 1, 1) := dk_27 (dk_at dksX1_init_3 0 rfl rfl)
theorem dX1_init_72 : decode cX1_init 72 = .ok (.iconst 4, 1) := dk_7 (dk_at dksX1_init_3 1 rfl rfl)
theorem dX1_init_73 : decode cX1_init 73 = .ok (.if_icmp .ge 18, 3) := dk_162 0 18 (dk_at dksX1_init_3 2 rfl rfl)
theorem dX1_init_76 : decode cX1_init 76 = .ok (.aload_n 0, 1) := dk_42 (dk_at dksX1_init_3 5 rfl rfl)
theorem dX1_init_77 : decode cX1_init 77 = .ok (.getfield 11, 3) := dk_180 0 11 (dk_at dksX1_init_3 6 rfl rfl)
theorem dX1_init_80 : decode cX1_init 80 = .ok (.iload_n 1, 1) := dk_27 (dk_at dksX1_init_3 9 rfl rfl)
theorem dX1_init_81 : decode cX1_init 81 = .ok (.aaload, 1) := dk_50 (dk_at dksX1_init_3 10 rfl rfl)
theorem dX1_init_82 : decode cX1_init 82 = .ok (.iload_n 1, 1) := dk_27 (dk_at dksX1_init_3 11 rfl rfl)
theorem dX1_init_83 : decode cX1_init 83 = .ok (.iconst 3, 1) := dk_6 (dk_at dksX1_init_3 12 rfl rfl)
theorem dX1_init_84 : decode cX1_init 84 = .ok (.iastore, 1) := dk_79 (dk_at dksX1_init_3 13 rfl rfl)
theorem dX1_init_85 : decode cX1_init 85 = .ok (.iinc 1 1, 3) := dk_132 1 1 (dk_at dksX1_init_3 14 rfl rfl)
theorem dX1_init_88 : decode cX1_init 88 = .ok (.goto (-17), 3) := dk_167 255 239 (dk_at dksX1_init_3 17 rfl rfl)
theorem dX1_init_91 : decode cX1_init 91 = .ok (.iconst 0, 1) := dk_3 (dk_at dksX1_init_3 20 rfl rfl)
theorem dX1_init_92 : decode cX1_init 92 = .ok (.istore_n 1, 1) := dk_60 (dk_at dksX1_init_3 21 rfl rfl)
theorem dX1_init_93 : decode cX1_init 93 = .ok (.iload_n 1, 1) := dk_27 (dk_at dksX1_init_3 22 rfl rfl)
theorem dX1_init_94 : decode cX1_init 94 = .ok (.aload_n 0, 1) := dk_42 (dk_at dksX1_init_3 23 rfl rfl)
theorem dX1_init_95 : decode cX1_init 95 = .ok (.getfield 18, 3) := dk_180 0 18 (dk_at dksX1_init_4 0 rfl rfl)
theorem dX1_init_98 : decode cX1_init 98 = .ok (.arraylength, 1) := dk_190 (dk_at dksX1_init_4 3 rfl rfl)
theorem dX1_init_99 : decode cX1_init 99 = .ok (.if_icmp .ge 20, 3) := dk_162 0 20 (dk_at dksX1_init_4 4 rfl rfl)
theorem dX1_init_102 : decode cX1_init 102 = .ok (.aload_n 0, 1) := dk_42 (dk_at dksX1_init_4 7 rfl rfl)
theorem dX1_init_103 : decode cX1_init 103 = .ok (.getfield 18, 3) := dk_180 0 18 (dk_at dksX1_init_4 8 rfl rfl)
theorem dX1_init_106 : decode cX1_init 106 = .ok (.iload_n 1, 1) := dk_27 (dk_at dksX1_init_4 11 rfl rfl)
theorem dX1_init_107 : decode cX1_init 107 = .ok (.getstatic 14, 3) := dk_178 0 14 (dk_at dksX1_init_4 12 rfl rfl)
theorem dX1_init_110 : decode cX1_init 110 = .ok (.iload_n 1, 1) := dk_27 (dk_at dksX1_init_4 15 rfl rfl)
theorem dX1_init_111 : decode cX1_init 111 = .ok (.iaload, 1) := dk_46 (dk_at dksX1_init_4 16 rfl rfl)
theorem dX1_init_112 : decode cX1_init 112 = .ok (.iastore, 1) := dk_79 (dk_at dksX1_init_4 17 rfl rfl)
theorem dX1_init_113 : decode cX1_init 113 = .ok (.iinc 1 1, 3) := dk_132 1 1 (dk_at dksX1_init_4 18 rfl rfl)
theorem dX1_init_116 : decode cX1_init 116 = .ok (.goto (-23), 3) := dk_167 255 233 (dk_at dksX1_init_4 21 rfl rfl)
theorem dX1_init_119 : decode cX1_init 119 = .ok (.return_, 1) := dk_177 (dk_at dksX1_init_5 0 rfl rfl)
abbrev cX1_holes : ByteArray := prog_1_method_34_code
def yX1_holes : MethodName := ⟨RX1, "holes", "()I"⟩
def dkwX1_holes_1 : List UInt8 := [3, 96, 60, 132, 2, 1, 167, 255, 230, 27, 172]
abbrev dktX1_holes_1 : List UInt8 := dkwX1_holes_1 ++ []
def dkwX1_holes_0 : List UInt8 := [3, 60, 3, 61, 28, 17, 1, 0, 162, 0, 25, 27, 42, 28, 182, 0, 207, 153, 0, 7, 4, 167, 0, 4]
abbrev dktX1_holes_0 : List UInt8 := dkwX1_holes_0 ++ dktX1_holes_1
theorem dksX1_holes_0 : cX1_holes.data.toList.drop 0 = dktX1_holes_0 := by decide +kernel
theorem dksX1_holes_1 : cX1_holes.data.toList.drop 24 = dktX1_holes_1 := dk_seg dksX1_holes_0 24 rfl rfl
theorem dX1_holes_0 : decode cX1_holes 0 = .ok (.iconst 0, 1) := dk_3 (dk_at dksX1_holes_0 0 rfl rfl)
theorem dX1_holes_1 : decode cX1_holes 1 = .ok (.istore_n 1, 1) := dk_60 (dk_at dksX1_holes_0 1 rfl rfl)
theorem dX1_holes_2 : decode cX1_holes 2 = .ok (.iconst 0, 1) := dk_3 (dk_at dksX1_holes_0 2 rfl rfl)
theorem dX1_holes_3 : decode cX1_holes 3 = .ok (.istore_n 2, 1) := dk_61 (dk_at dksX1_holes_0 3 rfl rfl)
theorem dX1_holes_4 : decode cX1_holes 4 = .ok (.iload_n 2, 1) := dk_28 (dk_at dksX1_holes_0 4 rfl rfl)
theorem dX1_holes_5 : decode cX1_holes 5 = .ok (.sipush 256, 3) := dk_17 1 0 (dk_at dksX1_holes_0 5 rfl rfl)
theorem dX1_holes_8 : decode cX1_holes 8 = .ok (.if_icmp .ge 25, 3) := dk_162 0 25 (dk_at dksX1_holes_0 8 rfl rfl)
theorem dX1_holes_11 : decode cX1_holes 11 = .ok (.iload_n 1, 1) := dk_27 (dk_at dksX1_holes_0 11 rfl rfl)
theorem dX1_holes_12 : decode cX1_holes 12 = .ok (.aload_n 0, 1) := dk_42 (dk_at dksX1_holes_0 12 rfl rfl)
theorem dX1_holes_13 : decode cX1_holes 13 = .ok (.iload_n 2, 1) := dk_28 (dk_at dksX1_holes_0 13 rfl rfl)
theorem dX1_holes_14 : decode cX1_holes 14 = .ok (.invokevirtual 207, 3) := dk_182 0 207 (dk_at dksX1_holes_0 14 rfl rfl)
theorem dX1_holes_17 : decode cX1_holes 17 = .ok (.ifCond .eq 7, 3) := dk_153 0 7 (dk_at dksX1_holes_0 17 rfl rfl)
theorem dX1_holes_20 : decode cX1_holes 20 = .ok (.iconst 1, 1) := dk_4 (dk_at dksX1_holes_0 20 rfl rfl)
theorem dX1_holes_21 : decode cX1_holes 21 = .ok (.goto 4, 3) := dk_167 0 4 (dk_at dksX1_holes_0 21 rfl rfl)
theorem dX1_holes_24 : decode cX1_holes 24 = .ok (.iconst 0, 1) := dk_3 (dk_at dksX1_holes_1 0 rfl rfl)
theorem dX1_holes_25 : decode cX1_holes 25 = .ok (.iadd, 1) := dk_96 (dk_at dksX1_holes_1 1 rfl rfl)
theorem dX1_holes_26 : decode cX1_holes 26 = .ok (.istore_n 1, 1) := dk_60 (dk_at dksX1_holes_1 2 rfl rfl)
theorem dX1_holes_27 : decode cX1_holes 27 = .ok (.iinc 2 1, 3) := dk_132 2 1 (dk_at dksX1_holes_1 3 rfl rfl)
theorem dX1_holes_30 : decode cX1_holes 30 = .ok (.goto (-26), 3) := dk_167 255 230 (dk_at dksX1_holes_1 6 rfl rfl)
theorem dX1_holes_33 : decode cX1_holes 33 = .ok (.iload_n 1, 1) := dk_27 (dk_at dksX1_holes_1 9 rfl rfl)
theorem dX1_holes_34 : decode cX1_holes 34 = .ok (.ireturn, 1) := dk_172 (dk_at dksX1_holes_1 10 rfl rfl)
abbrev cX1_isHole : ByteArray := prog_1_method_33_code
def yX1_isHole : MethodName := ⟨RX1, "isHole", "(I)Z"⟩
def dkwX1_isHole_4 : List UInt8 := [167, 255, 185, 132, 3, 1, 167, 255, 163, 28, 154, 0, 7, 4, 167, 0, 4, 3, 172]
abbrev dktX1_isHole_4 : List UInt8 := dkwX1_isHole_4 ++ []
def dkwX1_isHole_3 : List UInt8 := [182, 0, 133, 5, 160, 0, 7, 4, 167, 0, 4, 3, 128, 61, 132, 5, 1, 167, 255, 208, 132, 4, 1]
abbrev dktX1_isHole_3 : List UInt8 := dkwX1_isHole_3 ++ dktX1_isHole_4
def dkwX1_isHole_2 : List UInt8 := [29, 21, 4, 21, 5, 182, 0, 129, 54, 6, 28, 42, 21, 6, 27, 182, 0, 183, 153, 0, 17, 42, 21, 6]
abbrev dktX1_isHole_2 : List UInt8 := dkwX1_isHole_2 ++ dktX1_isHole_3
def dkwX1_isHole_1 : List UInt8 := [21, 4, 42, 180, 0, 31, 185, 0, 59, 1, 0, 162, 0, 63, 3, 54, 5, 21, 5, 7, 162, 0, 48, 42]
abbrev dktX1_isHole_1 : List UInt8 := dkwX1_isHole_1 ++ dktX1_isHole_2
def dkwX1_isHole_0 : List UInt8 := [27, 184, 0, 101, 3, 61, 3, 62, 29, 42, 180, 0, 28, 185, 0, 59, 1, 0, 162, 0, 86, 3, 54, 4]
abbrev dktX1_isHole_0 : List UInt8 := dkwX1_isHole_0 ++ dktX1_isHole_1
theorem dksX1_isHole_0 : cX1_isHole.data.toList.drop 0 = dktX1_isHole_0 := by decide +kernel
theorem dksX1_isHole_1 : cX1_isHole.data.toList.drop 24 = dktX1_isHole_1 := dk_seg dksX1_isHole_0 24 rfl rfl
theorem dksX1_isHole_2 : cX1_isHole.data.toList.drop 48 = dktX1_isHole_2 := dk_seg dksX1_isHole_1 24 rfl rfl
theorem dksX1_isHole_3 : cX1_isHole.data.toList.drop 72 = dktX1_isHole_3 := dk_seg dksX1_isHole_2 24 rfl rfl
theorem dksX1_isHole_4 : cX1_isHole.data.toList.drop 95 = dktX1_isHole_4 := dk_seg dksX1_isHole_3 23 rfl rfl
theorem dX1_isHole_0 : decode cX1_isHole 0 = .ok (.iload_n 1, 1) := dk_27 (dk_at dksX1_isHole_0 0 rfl rfl)
theorem dX1_isHole_1 : decode cX1_isHole 1 = .ok (.invokestatic 101, 3) := dk_184 0 101 (dk_at dksX1_isHole_0 1 rfl rfl)
theorem dX1_isHole_4 : decode cX1_isHole 4 = .ok (.iconst 0, 1) := dk_3 (dk_at dksX1_isHole_0 4 rfl rfl)
theorem dX1_isHole_5 : decode cX1_isHole 5 = .ok (.istore_n 2, 1) := dk_61 (dk_at dksX1_isHole_0 5 rfl rfl)
theorem dX1_isHole_6 : decode cX1_isHole 6 = .ok (.iconst 0, 1) := dk_3 (dk_at dksX1_isHole_0 6 rfl rfl)
theorem dX1_isHole_7 : decode cX1_isHole 7 = .ok (.istore_n 3, 1) := dk_62 (dk_at dksX1_isHole_0 7 rfl rfl)
theorem dX1_isHole_8 : decode cX1_isHole 8 = .ok (.iload_n 3, 1) := dk_29 (dk_at dksX1_isHole_0 8 rfl rfl)
theorem dX1_isHole_9 : decode cX1_isHole 9 = .ok (.aload_n 0, 1) := dk_42 (dk_at dksX1_isHole_0 9 rfl rfl)
theorem dX1_isHole_10 : decode cX1_isHole 10 = .ok (.getfield 28, 3) := dk_180 0 28 (dk_at dksX1_isHole_0 10 rfl rfl)
theorem dX1_isHole_13 : decode cX1_isHole 13 = .ok (.invokeinterface 59 1, 5) := by decide +kernel
theorem dX1_isHole_18 : decode cX1_isHole 18 = .ok (.if_icmp .ge 86, 3) := dk_162 0 86 (dk_at dksX1_isHole_0 18 rfl rfl)
theorem dX1_isHole_21 : decode cX1_isHole 21 = .ok (.iconst 0, 1) := dk_3 (dk_at dksX1_isHole_0 21 rfl rfl)
theorem dX1_isHole_22 : decode cX1_isHole 22 = .ok (.istore 4, 2) := dk_54 4 (dk_at dksX1_isHole_0 22 rfl rfl)
theorem dX1_isHole_24 : decode cX1_isHole 24 = .ok (.iload 4, 2) := dk_21 4 (dk_at dksX1_isHole_1 0 rfl rfl)
theorem dX1_isHole_26 : decode cX1_isHole 26 = .ok (.aload_n 0, 1) := dk_42 (dk_at dksX1_isHole_1 2 rfl rfl)
theorem dX1_isHole_27 : decode cX1_isHole 27 = .ok (.getfield 31, 3) := dk_180 0 31 (dk_at dksX1_isHole_1 3 rfl rfl)
theorem dX1_isHole_30 : decode cX1_isHole 30 = .ok (.invokeinterface 59 1, 5) := by decide +kernel
theorem dX1_isHole_35 : decode cX1_isHole 35 = .ok (.if_icmp .ge 63, 3) := dk_162 0 63 (dk_at dksX1_isHole_1 11 rfl rfl)
theorem dX1_isHole_38 : decode cX1_isHole 38 = .ok (.iconst 0, 1) := dk_3 (dk_at dksX1_isHole_1 14 rfl rfl)
theorem dX1_isHole_39 : decode cX1_isHole 39 = .ok (.istore 5, 2) := dk_54 5 (dk_at dksX1_isHole_1 15 rfl rfl)
theorem dX1_isHole_41 : decode cX1_isHole 41 = .ok (.iload 5, 2) := dk_21 5 (dk_at dksX1_isHole_1 17 rfl rfl)
theorem dX1_isHole_43 : decode cX1_isHole 43 = .ok (.iconst 4, 1) := dk_7 (dk_at dksX1_isHole_1 19 rfl rfl)
theorem dX1_isHole_44 : decode cX1_isHole 44 = .ok (.if_icmp .ge 48, 3) := dk_162 0 48 (dk_at dksX1_isHole_1 20 rfl rfl)
theorem dX1_isHole_47 : decode cX1_isHole 47 = .ok (.aload_n 0, 1) := dk_42 (dk_at dksX1_isHole_1 23 rfl rfl)
theorem dX1_isHole_48 : decode cX1_isHole 48 = .ok (.iload_n 3, 1) := dk_29 (dk_at dksX1_isHole_2 0 rfl rfl)
theorem dX1_isHole_49 : decode cX1_isHole 49 = .ok (.iload 4, 2) := dk_21 4 (dk_at dksX1_isHole_2 1 rfl rfl)
theorem dX1_isHole_51 : decode cX1_isHole 51 = .ok (.iload 5, 2) := dk_21 5 (dk_at dksX1_isHole_2 3 rfl rfl)
theorem dX1_isHole_53 : decode cX1_isHole 53 = .ok (.invokevirtual 129, 3) := dk_182 0 129 (dk_at dksX1_isHole_2 5 rfl rfl)
theorem dX1_isHole_56 : decode cX1_isHole 56 = .ok (.istore 6, 2) := dk_54 6 (dk_at dksX1_isHole_2 8 rfl rfl)
theorem dX1_isHole_58 : decode cX1_isHole 58 = .ok (.iload_n 2, 1) := dk_28 (dk_at dksX1_isHole_2 10 rfl rfl)
theorem dX1_isHole_59 : decode cX1_isHole 59 = .ok (.aload_n 0, 1) := dk_42 (dk_at dksX1_isHole_2 11 rfl rfl)
theorem dX1_isHole_60 : decode cX1_isHole 60 = .ok (.iload 6, 2) := dk_21 6 (dk_at dksX1_isHole_2 12 rfl rfl)
theorem dX1_isHole_62 : decode cX1_isHole 62 = .ok (.iload_n 1, 1) := dk_27 (dk_at dksX1_isHole_2 14 rfl rfl)
theorem dX1_isHole_63 : decode cX1_isHole 63 = .ok (.invokevirtual 183, 3) := dk_182 0 183 (dk_at dksX1_isHole_2 15 rfl rfl)
theorem dX1_isHole_66 : decode cX1_isHole 66 = .ok (.ifCond .eq 17, 3) := dk_153 0 17 (dk_at dksX1_isHole_2 18 rfl rfl)
theorem dX1_isHole_69 : decode cX1_isHole 69 = .ok (.aload_n 0, 1) := dk_42 (dk_at dksX1_isHole_2 21 rfl rfl)
theorem dX1_isHole_70 : decode cX1_isHole 70 = .ok (.iload 6, 2) := dk_21 6 (dk_at dksX1_isHole_2 22 rfl rfl)
theorem dX1_isHole_72 : decode cX1_isHole 72 = .ok (.invokevirtual 133, 3) := dk_182 0 133 (dk_at dksX1_isHole_3 0 rfl rfl)
theorem dX1_isHole_75 : decode cX1_isHole 75 = .ok (.iconst 2, 1) := dk_5 (dk_at dksX1_isHole_3 3 rfl rfl)
theorem dX1_isHole_76 : decode cX1_isHole 76 = .ok (.if_icmp .ne 7, 3) := dk_160 0 7 (dk_at dksX1_isHole_3 4 rfl rfl)
theorem dX1_isHole_79 : decode cX1_isHole 79 = .ok (.iconst 1, 1) := dk_4 (dk_at dksX1_isHole_3 7 rfl rfl)
theorem dX1_isHole_80 : decode cX1_isHole 80 = .ok (.goto 4, 3) := dk_167 0 4 (dk_at dksX1_isHole_3 8 rfl rfl)
theorem dX1_isHole_83 : decode cX1_isHole 83 = .ok (.iconst 0, 1) := dk_3 (dk_at dksX1_isHole_3 11 rfl rfl)
theorem dX1_isHole_84 : decode cX1_isHole 84 = .ok (.ior, 1) := dk_128 (dk_at dksX1_isHole_3 12 rfl rfl)
theorem dX1_isHole_85 : decode cX1_isHole 85 = .ok (.istore_n 2, 1) := dk_61 (dk_at dksX1_isHole_3 13 rfl rfl)
theorem dX1_isHole_86 : decode cX1_isHole 86 = .ok (.iinc 5 1, 3) := dk_132 5 1 (dk_at dksX1_isHole_3 14 rfl rfl)
theorem dX1_isHole_89 : decode cX1_isHole 89 = .ok (.goto (-48), 3) := dk_167 255 208 (dk_at dksX1_isHole_3 17 rfl rfl)
theorem dX1_isHole_92 : decode cX1_isHole 92 = .ok (.iinc 4 1, 3) := dk_132 4 1 (dk_at dksX1_isHole_3 20 rfl rfl)
theorem dX1_isHole_95 : decode cX1_isHole 95 = .ok (.goto (-71), 3) := dk_167 255 185 (dk_at dksX1_isHole_4 0 rfl rfl)
theorem dX1_isHole_98 : decode cX1_isHole 98 = .ok (.iinc 3 1, 3) := dk_132 3 1 (dk_at dksX1_isHole_4 3 rfl rfl)
theorem dX1_isHole_101 : decode cX1_isHole 101 = .ok (.goto (-93), 3) := dk_167 255 163 (dk_at dksX1_isHole_4 6 rfl rfl)
theorem dX1_isHole_104 : decode cX1_isHole 104 = .ok (.iload_n 2, 1) := dk_28 (dk_at dksX1_isHole_4 9 rfl rfl)
theorem dX1_isHole_105 : decode cX1_isHole 105 = .ok (.ifCond .ne 7, 3) := dk_154 0 7 (dk_at dksX1_isHole_4 10 rfl rfl)
theorem dX1_isHole_108 : decode cX1_isHole 108 = .ok (.iconst 1, 1) := dk_4 (dk_at dksX1_isHole_4 13 rfl rfl)
theorem dX1_isHole_109 : decode cX1_isHole 109 = .ok (.goto 4, 3) := dk_167 0 4 (dk_at dksX1_isHole_4 14 rfl rfl)
theorem dX1_isHole_112 : decode cX1_isHole 112 = .ok (.iconst 0, 1) := dk_3 (dk_at dksX1_isHole_4 17 rfl rfl)
theorem dX1_isHole_113 : decode cX1_isHole 113 = .ok (.ireturn, 1) := dk_172 (dk_at dksX1_isHole_4 18 rfl rfl)
abbrev cX1_checkWord : ByteArray := prog_1_method_5_code
def yX1_checkWord : MethodName := ⟨RX1, "checkWord", "(I)V"⟩
def dkwX1_checkWord_0 : List UInt8 := [26, 3, 17, 0, 255, 184, 0, 52, 177]
abbrev dktX1_checkWord_0 : List UInt8 := dkwX1_checkWord_0 ++ []
theorem dksX1_checkWord_0 : cX1_checkWord.data.toList.drop 0 = dktX1_checkWord_0 := by decide +kernel
theorem dX1_checkWord_0 : decode cX1_checkWord 0 = .ok (.iload_n 0, 1) := dk_26 (dk_at dksX1_checkWord_0 0 rfl rfl)
theorem dX1_checkWord_1 : decode cX1_checkWord 1 = .ok (.iconst 0, 1) := dk_3 (dk_at dksX1_checkWord_0 1 rfl rfl)
theorem dX1_checkWord_2 : decode cX1_checkWord 2 = .ok (.sipush 255, 3) := dk_17 0 255 (dk_at dksX1_checkWord_0 2 rfl rfl)
theorem dX1_checkWord_5 : decode cX1_checkWord 5 = .ok (.invokestatic 52, 3) := dk_184 0 52 (dk_at dksX1_checkWord_0 5 rfl rfl)
theorem dX1_checkWord_8 : decode cX1_checkWord 8 = .ok (.return_, 1) := dk_177 (dk_at dksX1_checkWord_0 8 rfl rfl)
abbrev cX1_check : ByteArray := prog_1_method_2_code
def yX1_check : MethodName := ⟨RX1, "check", "(III)V"⟩
def dkwX1_check_0 : List UInt8 := [26, 27, 161, 0, 8, 26, 28, 164, 0, 11, 187, 0, 43, 89, 183, 0, 45, 191, 177]
abbrev dktX1_check_0 : List UInt8 := dkwX1_check_0 ++ []
theorem dksX1_check_0 : cX1_check.data.toList.drop 0 = dktX1_check_0 := by decide +kernel
theorem dX1_check_0 : decode cX1_check 0 = .ok (.iload_n 0, 1) := dk_26 (dk_at dksX1_check_0 0 rfl rfl)
theorem dX1_check_1 : decode cX1_check 1 = .ok (.iload_n 1, 1) := dk_27 (dk_at dksX1_check_0 1 rfl rfl)
theorem dX1_check_2 : decode cX1_check 2 = .ok (.if_icmp .lt 8, 3) := dk_161 0 8 (dk_at dksX1_check_0 2 rfl rfl)
theorem dX1_check_5 : decode cX1_check 5 = .ok (.iload_n 0, 1) := dk_26 (dk_at dksX1_check_0 5 rfl rfl)
theorem dX1_check_6 : decode cX1_check 6 = .ok (.iload_n 2, 1) := dk_28 (dk_at dksX1_check_0 6 rfl rfl)
theorem dX1_check_7 : decode cX1_check 7 = .ok (.if_icmp .le 11, 3) := dk_164 0 11 (dk_at dksX1_check_0 7 rfl rfl)
theorem dX1_check_10 : decode cX1_check 10 = .ok (.new 43, 3) := dk_187 0 43 (dk_at dksX1_check_0 10 rfl rfl)
theorem dX1_check_13 : decode cX1_check 13 = .ok (.dup, 1) := dk_89 (dk_at dksX1_check_0 13 rfl rfl)
theorem dX1_check_14 : decode cX1_check 14 = .ok (.invokespecial 45, 3) := dk_183 0 45 (dk_at dksX1_check_0 14 rfl rfl)
theorem dX1_check_17 : decode cX1_check 17 = .ok (.athrow, 1) := dk_191 (dk_at dksX1_check_0 17 rfl rfl)
theorem dX1_check_18 : decode cX1_check 18 = .ok (.return_, 1) := dk_177 (dk_at dksX1_check_0 18 rfl rfl)
abbrev cX1_lockOf : ByteArray := prog_1_method_21_code
def yX1_lockOf : MethodName := ⟨RX1, "lockOf", "(III)I"⟩
def dkwX1_lockOf_1 : List UInt8 := [185, 0, 69, 2, 0, 192, 0, 87, 182, 0, 89, 7, 120, 128, 29, 16, 6, 120, 128, 172]
abbrev dktX1_lockOf_1 : List UInt8 := dkwX1_lockOf_1 ++ []
def dkwX1_lockOf_0 : List UInt8 := [42, 180, 0, 28, 27, 185, 0, 69, 2, 0, 192, 0, 87, 182, 0, 89, 42, 180, 0, 31, 28]
abbrev dktX1_lockOf_0 : List UInt8 := dkwX1_lockOf_0 ++ dktX1_lockOf_1
theorem dksX1_lockOf_0 : cX1_lockOf.data.toList.drop 0 = dktX1_lockOf_0 := by decide +kernel
theorem dksX1_lockOf_1 : cX1_lockOf.data.toList.drop 21 = dktX1_lockOf_1 := dk_seg dksX1_lockOf_0 21 rfl rfl
theorem dX1_lockOf_0 : decode cX1_lockOf 0 = .ok (.aload_n 0, 1) := dk_42 (dk_at dksX1_lockOf_0 0 rfl rfl)
theorem dX1_lockOf_1 : decode cX1_lockOf 1 = .ok (.getfield 28, 3) := dk_180 0 28 (dk_at dksX1_lockOf_0 1 rfl rfl)
theorem dX1_lockOf_4 : decode cX1_lockOf 4 = .ok (.iload_n 1, 1) := dk_27 (dk_at dksX1_lockOf_0 4 rfl rfl)
theorem dX1_lockOf_5 : decode cX1_lockOf 5 = .ok (.invokeinterface 69 2, 5) := by decide +kernel
theorem dX1_lockOf_10 : decode cX1_lockOf 10 = .ok (.checkcast 87, 3) := dk_192 0 87 (dk_at dksX1_lockOf_0 10 rfl rfl)
theorem dX1_lockOf_13 : decode cX1_lockOf 13 = .ok (.invokevirtual 89, 3) := dk_182 0 89 (dk_at dksX1_lockOf_0 13 rfl rfl)
theorem dX1_lockOf_16 : decode cX1_lockOf 16 = .ok (.aload_n 0, 1) := dk_42 (dk_at dksX1_lockOf_0 16 rfl rfl)
theorem dX1_lockOf_17 : decode cX1_lockOf 17 = .ok (.getfield 31, 3) := dk_180 0 31 (dk_at dksX1_lockOf_0 17 rfl rfl)
theorem dX1_lockOf_20 : decode cX1_lockOf 20 = .ok (.iload_n 2, 1) := dk_28 (dk_at dksX1_lockOf_0 20 rfl rfl)
theorem dX1_lockOf_21 : decode cX1_lockOf 21 = .ok (.invokeinterface 69 2, 5) := by decide +kernel
theorem dX1_lockOf_26 : decode cX1_lockOf 26 = .ok (.checkcast 87, 3) := dk_192 0 87 (dk_at dksX1_lockOf_1 5 rfl rfl)
theorem dX1_lockOf_29 : decode cX1_lockOf 29 = .ok (.invokevirtual 89, 3) := dk_182 0 89 (dk_at dksX1_lockOf_1 8 rfl rfl)
theorem dX1_lockOf_32 : decode cX1_lockOf 32 = .ok (.iconst 4, 1) := dk_7 (dk_at dksX1_lockOf_1 11 rfl rfl)
theorem dX1_lockOf_33 : decode cX1_lockOf 33 = .ok (.ishl, 1) := dk_120 (dk_at dksX1_lockOf_1 12 rfl rfl)
theorem dX1_lockOf_34 : decode cX1_lockOf 34 = .ok (.ior, 1) := dk_128 (dk_at dksX1_lockOf_1 13 rfl rfl)
theorem dX1_lockOf_35 : decode cX1_lockOf 35 = .ok (.iload_n 3, 1) := dk_29 (dk_at dksX1_lockOf_1 14 rfl rfl)
theorem dX1_lockOf_36 : decode cX1_lockOf 36 = .ok (.bipush 6, 2) := dk_16 6 (dk_at dksX1_lockOf_1 15 rfl rfl)
theorem dX1_lockOf_38 : decode cX1_lockOf 38 = .ok (.ishl, 1) := dk_120 (dk_at dksX1_lockOf_1 17 rfl rfl)
theorem dX1_lockOf_39 : decode cX1_lockOf 39 = .ok (.ior, 1) := dk_128 (dk_at dksX1_lockOf_1 18 rfl rfl)
theorem dX1_lockOf_40 : decode cX1_lockOf 40 = .ok (.ireturn, 1) := dk_172 (dk_at dksX1_lockOf_1 19 rfl rfl)
abbrev cX1_touches : ByteArray := prog_1_method_11_code
def yX1_touches : MethodName := ⟨RX1, "touches", "(II)Z"⟩
def dkwX1_touches_0 : List UInt8 := [42, 27, 28, 182, 0, 84, 42, 180, 0, 18, 3, 46, 161, 0, 7, 4, 167, 0, 4, 3, 172]
abbrev dktX1_touches_0 : List UInt8 := dkwX1_touches_0 ++ []
theorem dksX1_touches_0 : cX1_touches.data.toList.drop 0 = dktX1_touches_0 := by decide +kernel
theorem dX1_touches_0 : decode cX1_touches 0 = .ok (.aload_n 0, 1) := dk_42 (dk_at dksX1_touches_0 0 rfl rfl)
theorem dX1_touches_1 : decode cX1_touches 1 = .ok (.iload_n 1, 1) := dk_27 (dk_at dksX1_touches_0 1 rfl rfl)
theorem dX1_touches_2 : decode cX1_touches 2 = .ok (.iload_n 2, 1) := dk_28 (dk_at dksX1_touches_0 2 rfl rfl)
theorem dX1_touches_3 : decode cX1_touches 3 = .ok (.invokevirtual 84, 3) := dk_182 0 84 (dk_at dksX1_touches_0 3 rfl rfl)
theorem dX1_touches_6 : decode cX1_touches 6 = .ok (.aload_n 0, 1) := dk_42 (dk_at dksX1_touches_0 6 rfl rfl)
theorem dX1_touches_7 : decode cX1_touches 7 = .ok (.getfield 18, 3) := dk_180 0 18 (dk_at dksX1_touches_0 7 rfl rfl)
theorem dX1_touches_10 : decode cX1_touches 10 = .ok (.iconst 0, 1) := dk_3 (dk_at dksX1_touches_0 10 rfl rfl)
theorem dX1_touches_11 : decode cX1_touches 11 = .ok (.iaload, 1) := dk_46 (dk_at dksX1_touches_0 11 rfl rfl)
theorem dX1_touches_12 : decode cX1_touches 12 = .ok (.if_icmp .lt 7, 3) := dk_161 0 7 (dk_at dksX1_touches_0 12 rfl rfl)
theorem dX1_touches_15 : decode cX1_touches 15 = .ok (.iconst 1, 1) := dk_4 (dk_at dksX1_touches_0 15 rfl rfl)
theorem dX1_touches_16 : decode cX1_touches 16 = .ok (.goto 4, 3) := dk_167 0 4 (dk_at dksX1_touches_0 16 rfl rfl)
theorem dX1_touches_19 : decode cX1_touches 19 = .ok (.iconst 0, 1) := dk_3 (dk_at dksX1_touches_0 19 rfl rfl)
theorem dX1_touches_20 : decode cX1_touches 20 = .ok (.ireturn, 1) := dk_172 (dk_at dksX1_touches_0 20 rfl rfl)
abbrev cX1_fitOf : ByteArray := prog_1_method_10_code
def yX1_fitOf : MethodName := ⟨RX1, "fitOf", "(II)I"⟩
def dkwX1_fitOf_1 : List UInt8 := [21, 4, 184, 0, 80, 46, 96, 62, 132, 4, 1, 167, 255, 226, 29, 172]
abbrev dktX1_fitOf_1 : List UInt8 := dkwX1_fitOf_1 ++ []
def dkwX1_fitOf_0 : List UInt8 := [3, 62, 3, 54, 4, 21, 4, 7, 162, 0, 30, 29, 42, 180, 0, 11, 27, 21, 4, 184, 0, 80, 50, 28]
abbrev dktX1_fitOf_0 : List UInt8 := dkwX1_fitOf_0 ++ dktX1_fitOf_1
theorem dksX1_fitOf_0 : cX1_fitOf.data.toList.drop 0 = dktX1_fitOf_0 := by decide +kernel
theorem dksX1_fitOf_1 : cX1_fitOf.data.toList.drop 24 = dktX1_fitOf_1 := dk_seg dksX1_fitOf_0 24 rfl rfl
theorem dX1_fitOf_0 : decode cX1_fitOf 0 = .ok (.iconst 0, 1) := dk_3 (dk_at dksX1_fitOf_0 0 rfl rfl)
theorem dX1_fitOf_1 : decode cX1_fitOf 1 = .ok (.istore_n 3, 1) := dk_62 (dk_at dksX1_fitOf_0 1 rfl rfl)
theorem dX1_fitOf_2 : decode cX1_fitOf 2 = .ok (.iconst 0, 1) := dk_3 (dk_at dksX1_fitOf_0 2 rfl rfl)
theorem dX1_fitOf_3 : decode cX1_fitOf 3 = .ok (.istore 4, 2) := dk_54 4 (dk_at dksX1_fitOf_0 3 rfl rfl)
theorem dX1_fitOf_5 : decode cX1_fitOf 5 = .ok (.iload 4, 2) := dk_21 4 (dk_at dksX1_fitOf_0 5 rfl rfl)
theorem dX1_fitOf_7 : decode cX1_fitOf 7 = .ok (.iconst 4, 1) := dk_7 (dk_at dksX1_fitOf_0 7 rfl rfl)
theorem dX1_fitOf_8 : decode cX1_fitOf 8 = .ok (.if_icmp .ge 30, 3) := dk_162 0 30 (dk_at dksX1_fitOf_0 8 rfl rfl)
theorem dX1_fitOf_11 : decode cX1_fitOf 11 = .ok (.iload_n 3, 1) := dk_29 (dk_at dksX1_fitOf_0 11 rfl rfl)
theorem dX1_fitOf_12 : decode cX1_fitOf 12 = .ok (.aload_n 0, 1) := dk_42 (dk_at dksX1_fitOf_0 12 rfl rfl)
theorem dX1_fitOf_13 : decode cX1_fitOf 13 = .ok (.getfield 11, 3) := dk_180 0 11 (dk_at dksX1_fitOf_0 13 rfl rfl)
theorem dX1_fitOf_16 : decode cX1_fitOf 16 = .ok (.iload_n 1, 1) := dk_27 (dk_at dksX1_fitOf_0 16 rfl rfl)
theorem dX1_fitOf_17 : decode cX1_fitOf 17 = .ok (.iload 4, 2) := dk_21 4 (dk_at dksX1_fitOf_0 17 rfl rfl)
theorem dX1_fitOf_19 : decode cX1_fitOf 19 = .ok (.invokestatic 80, 3) := dk_184 0 80 (dk_at dksX1_fitOf_0 19 rfl rfl)
theorem dX1_fitOf_22 : decode cX1_fitOf 22 = .ok (.aaload, 1) := dk_50 (dk_at dksX1_fitOf_0 22 rfl rfl)
theorem dX1_fitOf_23 : decode cX1_fitOf 23 = .ok (.iload_n 2, 1) := dk_28 (dk_at dksX1_fitOf_0 23 rfl rfl)
theorem dX1_fitOf_24 : decode cX1_fitOf 24 = .ok (.iload 4, 2) := dk_21 4 (dk_at dksX1_fitOf_1 0 rfl rfl)
theorem dX1_fitOf_26 : decode cX1_fitOf 26 = .ok (.invokestatic 80, 3) := dk_184 0 80 (dk_at dksX1_fitOf_1 2 rfl rfl)
theorem dX1_fitOf_29 : decode cX1_fitOf 29 = .ok (.iaload, 1) := dk_46 (dk_at dksX1_fitOf_1 5 rfl rfl)
theorem dX1_fitOf_30 : decode cX1_fitOf 30 = .ok (.iadd, 1) := dk_96 (dk_at dksX1_fitOf_1 6 rfl rfl)
theorem dX1_fitOf_31 : decode cX1_fitOf 31 = .ok (.istore_n 3, 1) := dk_62 (dk_at dksX1_fitOf_1 7 rfl rfl)
theorem dX1_fitOf_32 : decode cX1_fitOf 32 = .ok (.iinc 4 1, 3) := dk_132 4 1 (dk_at dksX1_fitOf_1 8 rfl rfl)
theorem dX1_fitOf_35 : decode cX1_fitOf 35 = .ok (.goto (-30), 3) := dk_167 255 226 (dk_at dksX1_fitOf_1 11 rfl rfl)
theorem dX1_fitOf_38 : decode cX1_fitOf 38 = .ok (.iload_n 3, 1) := dk_29 (dk_at dksX1_fitOf_1 14 rfl rfl)
theorem dX1_fitOf_39 : decode cX1_fitOf 39 = .ok (.ireturn, 1) := dk_172 (dk_at dksX1_fitOf_1 15 rfl rfl)
abbrev cX1_letterOf : ByteArray := prog_1_method_9_code
def yX1_letterOf : MethodName := ⟨RX1, "letterOf", "(II)I"⟩
def dkwX1_letterOf_0 : List UInt8 := [26, 5, 27, 104, 122, 6, 126, 172]
abbrev dktX1_letterOf_0 : List UInt8 := dkwX1_letterOf_0 ++ []
theorem dksX1_letterOf_0 : cX1_letterOf.data.toList.drop 0 = dktX1_letterOf_0 := by decide +kernel
theorem dX1_letterOf_0 : decode cX1_letterOf 0 = .ok (.iload_n 0, 1) := dk_26 (dk_at dksX1_letterOf_0 0 rfl rfl)
theorem dX1_letterOf_1 : decode cX1_letterOf 1 = .ok (.iconst 2, 1) := dk_5 (dk_at dksX1_letterOf_0 1 rfl rfl)
theorem dX1_letterOf_2 : decode cX1_letterOf 2 = .ok (.iload_n 1, 1) := dk_27 (dk_at dksX1_letterOf_0 2 rfl rfl)
theorem dX1_letterOf_3 : decode cX1_letterOf 3 = .ok (.imul, 1) := dk_104 (dk_at dksX1_letterOf_0 3 rfl rfl)
theorem dX1_letterOf_4 : decode cX1_letterOf 4 = .ok (.ishr, 1) := dk_122 (dk_at dksX1_letterOf_0 4 rfl rfl)
theorem dX1_letterOf_5 : decode cX1_letterOf 5 = .ok (.iconst 3, 1) := dk_6 (dk_at dksX1_letterOf_0 5 rfl rfl)
theorem dX1_letterOf_6 : decode cX1_letterOf 6 = .ok (.iand, 1) := dk_126 (dk_at dksX1_letterOf_0 6 rfl rfl)
theorem dX1_letterOf_7 : decode cX1_letterOf 7 = .ok (.ireturn, 1) := dk_172 (dk_at dksX1_letterOf_0 7 rfl rfl)
abbrev cX1_schooled : ByteArray := prog_1_method_22_code
def yX1_schooled : MethodName := ⟨RX1, "schooled", "(I)I"⟩
def dkwX1_schooled_1 : List UInt8 := [180, 0, 18, 5, 46, 162, 0, 7, 4, 167, 0, 4, 5, 172]
abbrev dktX1_schooled_1 : List UInt8 := dkwX1_schooled_1 ++ []
def dkwX1_schooled_0 : List UInt8 := [42, 27, 182, 0, 125, 61, 28, 42, 180, 0, 18, 4, 46, 161, 0, 7, 3, 167, 0, 18, 28, 42]
abbrev dktX1_schooled_0 : List UInt8 := dkwX1_schooled_0 ++ dktX1_schooled_1
theorem dksX1_schooled_0 : cX1_schooled.data.toList.drop 0 = dktX1_schooled_0 := by decide +kernel
theorem dksX1_schooled_1 : cX1_schooled.data.toList.drop 22 = dktX1_schooled_1 := dk_seg dksX1_schooled_0 22 rfl rfl
theorem dX1_schooled_0 : decode cX1_schooled 0 = .ok (.aload_n 0, 1) := dk_42 (dk_at dksX1_schooled_0 0 rfl rfl)
theorem dX1_schooled_1 : decode cX1_schooled 1 = .ok (.iload_n 1, 1) := dk_27 (dk_at dksX1_schooled_0 1 rfl rfl)
theorem dX1_schooled_2 : decode cX1_schooled 2 = .ok (.invokevirtual 125, 3) := dk_182 0 125 (dk_at dksX1_schooled_0 2 rfl rfl)
theorem dX1_schooled_5 : decode cX1_schooled 5 = .ok (.istore_n 2, 1) := dk_61 (dk_at dksX1_schooled_0 5 rfl rfl)
theorem dX1_schooled_6 : decode cX1_schooled 6 = .ok (.iload_n 2, 1) := dk_28 (dk_at dksX1_schooled_0 6 rfl rfl)
theorem dX1_schooled_7 : decode cX1_schooled 7 = .ok (.aload_n 0, 1) := dk_42 (dk_at dksX1_schooled_0 7 rfl rfl)
theorem dX1_schooled_8 : decode cX1_schooled 8 = .ok (.getfield 18, 3) := dk_180 0 18 (dk_at dksX1_schooled_0 8 rfl rfl)
theorem dX1_schooled_11 : decode cX1_schooled 11 = .ok (.iconst 1, 1) := dk_4 (dk_at dksX1_schooled_0 11 rfl rfl)
theorem dX1_schooled_12 : decode cX1_schooled 12 = .ok (.iaload, 1) := dk_46 (dk_at dksX1_schooled_0 12 rfl rfl)
theorem dX1_schooled_13 : decode cX1_schooled 13 = .ok (.if_icmp .lt 7, 3) := dk_161 0 7 (dk_at dksX1_schooled_0 13 rfl rfl)
theorem dX1_schooled_16 : decode cX1_schooled 16 = .ok (.iconst 0, 1) := dk_3 (dk_at dksX1_schooled_0 16 rfl rfl)
theorem dX1_schooled_17 : decode cX1_schooled 17 = .ok (.goto 18, 3) := dk_167 0 18 (dk_at dksX1_schooled_0 17 rfl rfl)
theorem dX1_schooled_20 : decode cX1_schooled 20 = .ok (.iload_n 2, 1) := dk_28 (dk_at dksX1_schooled_0 20 rfl rfl)
theorem dX1_schooled_21 : decode cX1_schooled 21 = .ok (.aload_n 0, 1) := dk_42 (dk_at dksX1_schooled_0 21 rfl rfl)
theorem dX1_schooled_22 : decode cX1_schooled 22 = .ok (.getfield 18, 3) := dk_180 0 18 (dk_at dksX1_schooled_1 0 rfl rfl)
theorem dX1_schooled_25 : decode cX1_schooled 25 = .ok (.iconst 2, 1) := dk_5 (dk_at dksX1_schooled_1 3 rfl rfl)
theorem dX1_schooled_26 : decode cX1_schooled 26 = .ok (.iaload, 1) := dk_46 (dk_at dksX1_schooled_1 4 rfl rfl)
theorem dX1_schooled_27 : decode cX1_schooled 27 = .ok (.if_icmp .ge 7, 3) := dk_162 0 7 (dk_at dksX1_schooled_1 5 rfl rfl)
theorem dX1_schooled_30 : decode cX1_schooled 30 = .ok (.iconst 1, 1) := dk_4 (dk_at dksX1_schooled_1 8 rfl rfl)
theorem dX1_schooled_31 : decode cX1_schooled 31 = .ok (.goto 4, 3) := dk_167 0 4 (dk_at dksX1_schooled_1 9 rfl rfl)
theorem dX1_schooled_34 : decode cX1_schooled 34 = .ok (.iconst 2, 1) := dk_5 (dk_at dksX1_schooled_1 12 rfl rfl)
theorem dX1_schooled_35 : decode cX1_schooled 35 = .ok (.ireturn, 1) := dk_172 (dk_at dksX1_schooled_1 13 rfl rfl)
abbrev cX1_nearnessOf : ByteArray := prog_1_method_12_code
def yX1_nearnessOf : MethodName := ⟨RX1, "nearnessOf", "(I)I"⟩
def dkwX1_nearnessOf_2 : List UInt8 := [167, 255, 214, 28, 172]
abbrev dktX1_nearnessOf_2 : List UInt8 := dkwX1_nearnessOf_2 ++ []
def dkwX1_nearnessOf_1 : List UInt8 := [185, 0, 69, 2, 0, 192, 0, 87, 182, 0, 89, 182, 0, 84, 28, 184, 0, 92, 61, 132, 3, 1]
abbrev dktX1_nearnessOf_1 : List UInt8 := dkwX1_nearnessOf_1 ++ dktX1_nearnessOf_2
def dkwX1_nearnessOf_0 : List UInt8 := [3, 61, 3, 62, 29, 42, 180, 0, 24, 185, 0, 59, 1, 0, 162, 0, 35, 42, 27, 42, 180, 0, 24, 29]
abbrev dktX1_nearnessOf_0 : List UInt8 := dkwX1_nearnessOf_0 ++ dktX1_nearnessOf_1
theorem dksX1_nearnessOf_0 : cX1_nearnessOf.data.toList.drop 0 = dktX1_nearnessOf_0 := by decide +kernel
theorem dksX1_nearnessOf_1 : cX1_nearnessOf.data.toList.drop 24 = dktX1_nearnessOf_1 := dk_seg dksX1_nearnessOf_0 24 rfl rfl
theorem dksX1_nearnessOf_2 : cX1_nearnessOf.data.toList.drop 46 = dktX1_nearnessOf_2 := dk_seg dksX1_nearnessOf_1 22 rfl rfl
theorem dX1_nearnessOf_0 : decode cX1_nearnessOf 0 = .ok (.iconst 0, 1) := dk_3 (dk_at dksX1_nearnessOf_0 0 rfl rfl)
theorem dX1_nearnessOf_1 : decode cX1_nearnessOf 1 = .ok (.istore_n 2, 1) := dk_61 (dk_at dksX1_nearnessOf_0 1 rfl rfl)
theorem dX1_nearnessOf_2 : decode cX1_nearnessOf 2 = .ok (.iconst 0, 1) := dk_3 (dk_at dksX1_nearnessOf_0 2 rfl rfl)
theorem dX1_nearnessOf_3 : decode cX1_nearnessOf 3 = .ok (.istore_n 3, 1) := dk_62 (dk_at dksX1_nearnessOf_0 3 rfl rfl)
theorem dX1_nearnessOf_4 : decode cX1_nearnessOf 4 = .ok (.iload_n 3, 1) := dk_29 (dk_at dksX1_nearnessOf_0 4 rfl rfl)
theorem dX1_nearnessOf_5 : decode cX1_nearnessOf 5 = .ok (.aload_n 0, 1) := dk_42 (dk_at dksX1_nearnessOf_0 5 rfl rfl)
theorem dX1_nearnessOf_6 : decode cX1_nearnessOf 6 = .ok (.getfield 24, 3) := dk_180 0 24 (dk_at dksX1_nearnessOf_0 6 rfl rfl)
theorem dX1_nearnessOf_9 : decode cX1_nearnessOf 9 = .ok (.invokeinterface 59 1, 5) := by decide +kernel
theorem dX1_nearnessOf_14 : decode cX1_nearnessOf 14 = .ok (.if_icmp .ge 35, 3) := dk_162 0 35 (dk_at dksX1_nearnessOf_0 14 rfl rfl)
theorem dX1_nearnessOf_17 : decode cX1_nearnessOf 17 = .ok (.aload_n 0, 1) := dk_42 (dk_at dksX1_nearnessOf_0 17 rfl rfl)
theorem dX1_nearnessOf_18 : decode cX1_nearnessOf 18 = .ok (.iload_n 1, 1) := dk_27 (dk_at dksX1_nearnessOf_0 18 rfl rfl)
theorem dX1_nearnessOf_19 : decode cX1_nearnessOf 19 = .ok (.aload_n 0, 1) := dk_42 (dk_at dksX1_nearnessOf_0 19 rfl rfl)
theorem dX1_nearnessOf_20 : decode cX1_nearnessOf 20 = .ok (.getfield 24, 3) := dk_180 0 24 (dk_at dksX1_nearnessOf_0 20 rfl rfl)
theorem dX1_nearnessOf_23 : decode cX1_nearnessOf 23 = .ok (.iload_n 3, 1) := dk_29 (dk_at dksX1_nearnessOf_0 23 rfl rfl)
theorem dX1_nearnessOf_24 : decode cX1_nearnessOf 24 = .ok (.invokeinterface 69 2, 5) := by decide +kernel
theorem dX1_nearnessOf_29 : decode cX1_nearnessOf 29 = .ok (.checkcast 87, 3) := dk_192 0 87 (dk_at dksX1_nearnessOf_1 5 rfl rfl)
theorem dX1_nearnessOf_32 : decode cX1_nearnessOf 32 = .ok (.invokevirtual 89, 3) := dk_182 0 89 (dk_at dksX1_nearnessOf_1 8 rfl rfl)
theorem dX1_nearnessOf_35 : decode cX1_nearnessOf 35 = .ok (.invokevirtual 84, 3) := dk_182 0 84 (dk_at dksX1_nearnessOf_1 11 rfl rfl)
theorem dX1_nearnessOf_38 : decode cX1_nearnessOf 38 = .ok (.iload_n 2, 1) := dk_28 (dk_at dksX1_nearnessOf_1 14 rfl rfl)
theorem dX1_nearnessOf_39 : decode cX1_nearnessOf 39 = .ok (.invokestatic 92, 3) := dk_184 0 92 (dk_at dksX1_nearnessOf_1 15 rfl rfl)
theorem dX1_nearnessOf_42 : decode cX1_nearnessOf 42 = .ok (.istore_n 2, 1) := dk_61 (dk_at dksX1_nearnessOf_1 18 rfl rfl)
theorem dX1_nearnessOf_43 : decode cX1_nearnessOf 43 = .ok (.iinc 3 1, 3) := dk_132 3 1 (dk_at dksX1_nearnessOf_1 19 rfl rfl)
theorem dX1_nearnessOf_46 : decode cX1_nearnessOf 46 = .ok (.goto (-42), 3) := dk_167 255 214 (dk_at dksX1_nearnessOf_2 0 rfl rfl)
theorem dX1_nearnessOf_49 : decode cX1_nearnessOf 49 = .ok (.iload_n 2, 1) := dk_28 (dk_at dksX1_nearnessOf_2 3 rfl rfl)
theorem dX1_nearnessOf_50 : decode cX1_nearnessOf 50 = .ok (.ireturn, 1) := dk_172 (dk_at dksX1_nearnessOf_2 4 rfl rfl)
abbrev cX1_holesAnew : ByteArray := prog_1_method_36_code
def yX1_holesAnew : MethodName := ⟨RX1, "holesAnew", "()I"⟩
def dkwX1_holesAnew_3 : List UInt8 := [167, 255, 206, 27, 29, 153, 0, 7, 4, 167, 0, 4, 3, 100, 60, 132, 2, 1, 167, 255, 176, 27, 172]
abbrev dktX1_holesAnew_3 : List UInt8 := dkwX1_holesAnew_3 ++ []
def dkwX1_holesAnew_2 : List UInt8 := [153, 0, 17, 42, 21, 4, 182, 0, 133, 5, 160, 0, 7, 4, 167, 0, 4, 3, 62, 132, 4, 1]
abbrev dktX1_holesAnew_2 : List UInt8 := dkwX1_holesAnew_2 ++ dktX1_holesAnew_3
def dkwX1_holesAnew_1 : List UInt8 := [162, 0, 48, 29, 154, 0, 44, 42, 21, 4, 28, 182, 0, 183, 153, 0, 26, 42, 21, 4, 182, 0, 211]
abbrev dktX1_holesAnew_1 : List UInt8 := dkwX1_holesAnew_1 ++ dktX1_holesAnew_2
def dkwX1_holesAnew_0 : List UInt8 := [17, 1, 0, 60, 3, 61, 28, 17, 1, 0, 162, 0, 79, 3, 62, 3, 54, 4, 21, 4, 17, 1, 0]
abbrev dktX1_holesAnew_0 : List UInt8 := dkwX1_holesAnew_0 ++ dktX1_holesAnew_1
theorem dksX1_holesAnew_0 : cX1_holesAnew.data.toList.drop 0 = dktX1_holesAnew_0 := by decide +kernel
theorem dksX1_holesAnew_1 : cX1_holesAnew.data.toList.drop 23 = dktX1_holesAnew_1 := dk_seg dksX1_holesAnew_0 23 rfl rfl
theorem dksX1_holesAnew_2 : cX1_holesAnew.data.toList.drop 46 = dktX1_holesAnew_2 := dk_seg dksX1_holesAnew_1 23 rfl rfl
theorem dksX1_holesAnew_3 : cX1_holesAnew.data.toList.drop 68 = dktX1_holesAnew_3 := dk_seg dksX1_holesAnew_2 22 rfl rfl
theorem dX1_holesAnew_0 : decode cX1_holesAnew 0 = .ok (.sipush 256, 3) := dk_17 1 0 (dk_at dksX1_holesAnew_0 0 rfl rfl)
theorem dX1_holesAnew_3 : decode cX1_holesAnew 3 = .ok (.istore_n 1, 1) := dk_60 (dk_at dksX1_holesAnew_0 3 rfl rfl)
theorem dX1_holesAnew_4 : decode cX1_holesAnew 4 = .ok (.iconst 0, 1) := dk_3 (dk_at dksX1_holesAnew_0 4 rfl rfl)
theorem dX1_holesAnew_5 : decode cX1_holesAnew 5 = .ok (.istore_n 2, 1) := dk_61 (dk_at dksX1_holesAnew_0 5 rfl rfl)
theorem dX1_holesAnew_6 : decode cX1_holesAnew 6 = .ok (.iload_n 2, 1) := dk_28 (dk_at dksX1_holesAnew_0 6 rfl rfl)
theorem dX1_holesAnew_7 : decode cX1_holesAnew 7 = .ok (.sipush 256, 3) := dk_17 1 0 (dk_at dksX1_holesAnew_0 7 rfl rfl)
theorem dX1_holesAnew_10 : decode cX1_holesAnew 10 = .ok (.if_icmp .ge 79, 3) := dk_162 0 79 (dk_at dksX1_holesAnew_0 10 rfl rfl)
theorem dX1_holesAnew_13 : decode cX1_holesAnew 13 = .ok (.iconst 0, 1) := dk_3 (dk_at dksX1_holesAnew_0 13 rfl rfl)
theorem dX1_holesAnew_14 : decode cX1_holesAnew 14 = .ok (.istore_n 3, 1) := dk_62 (dk_at dksX1_holesAnew_0 14 rfl rfl)
theorem dX1_holesAnew_15 : decode cX1_holesAnew 15 = .ok (.iconst 0, 1) := dk_3 (dk_at dksX1_holesAnew_0 15 rfl rfl)
theorem dX1_holesAnew_16 : decode cX1_holesAnew 16 = .ok (.istore 4, 2) := dk_54 4 (dk_at dksX1_holesAnew_0 16 rfl rfl)
theorem dX1_holesAnew_18 : decode cX1_holesAnew 18 = .ok (.iload 4, 2) := dk_21 4 (dk_at dksX1_holesAnew_0 18 rfl rfl)
theorem dX1_holesAnew_20 : decode cX1_holesAnew 20 = .ok (.sipush 256, 3) := dk_17 1 0 (dk_at dksX1_holesAnew_0 20 rfl rfl)
theorem dX1_holesAnew_23 : decode cX1_holesAnew 23 = .ok (.if_icmp .ge 48, 3) := dk_162 0 48 (dk_at dksX1_holesAnew_1 0 rfl rfl)
theorem dX1_holesAnew_26 : decode cX1_holesAnew 26 = .ok (.iload_n 3, 1) := dk_29 (dk_at dksX1_holesAnew_1 3 rfl rfl)
theorem dX1_holesAnew_27 : decode cX1_holesAnew 27 = .ok (.ifCond .ne 44, 3) := dk_154 0 44 (dk_at dksX1_holesAnew_1 4 rfl rfl)
theorem dX1_holesAnew_30 : decode cX1_holesAnew 30 = .ok (.aload_n 0, 1) := dk_42 (dk_at dksX1_holesAnew_1 7 rfl rfl)
theorem dX1_holesAnew_31 : decode cX1_holesAnew 31 = .ok (.iload 4, 2) := dk_21 4 (dk_at dksX1_holesAnew_1 8 rfl rfl)
theorem dX1_holesAnew_33 : decode cX1_holesAnew 33 = .ok (.iload_n 2, 1) := dk_28 (dk_at dksX1_holesAnew_1 10 rfl rfl)
theorem dX1_holesAnew_34 : decode cX1_holesAnew 34 = .ok (.invokevirtual 183, 3) := dk_182 0 183 (dk_at dksX1_holesAnew_1 11 rfl rfl)
theorem dX1_holesAnew_37 : decode cX1_holesAnew 37 = .ok (.ifCond .eq 26, 3) := dk_153 0 26 (dk_at dksX1_holesAnew_1 14 rfl rfl)
theorem dX1_holesAnew_40 : decode cX1_holesAnew 40 = .ok (.aload_n 0, 1) := dk_42 (dk_at dksX1_holesAnew_1 17 rfl rfl)
theorem dX1_holesAnew_41 : decode cX1_holesAnew 41 = .ok (.iload 4, 2) := dk_21 4 (dk_at dksX1_holesAnew_1 18 rfl rfl)
theorem dX1_holesAnew_43 : decode cX1_holesAnew 43 = .ok (.invokevirtual 211, 3) := dk_182 0 211 (dk_at dksX1_holesAnew_1 20 rfl rfl)
theorem dX1_holesAnew_46 : decode cX1_holesAnew 46 = .ok (.ifCond .eq 17, 3) := dk_153 0 17 (dk_at dksX1_holesAnew_2 0 rfl rfl)
theorem dX1_holesAnew_49 : decode cX1_holesAnew 49 = .ok (.aload_n 0, 1) := dk_42 (dk_at dksX1_holesAnew_2 3 rfl rfl)
theorem dX1_holesAnew_50 : decode cX1_holesAnew 50 = .ok (.iload 4, 2) := dk_21 4 (dk_at dksX1_holesAnew_2 4 rfl rfl)
theorem dX1_holesAnew_52 : decode cX1_holesAnew 52 = .ok (.invokevirtual 133, 3) := dk_182 0 133 (dk_at dksX1_holesAnew_2 6 rfl rfl)
theorem dX1_holesAnew_55 : decode cX1_holesAnew 55 = .ok (.iconst 2, 1) := dk_5 (dk_at dksX1_holesAnew_2 9 rfl rfl)
theorem dX1_holesAnew_56 : decode cX1_holesAnew 56 = .ok (.if_icmp .ne 7, 3) := dk_160 0 7 (dk_at dksX1_holesAnew_2 10 rfl rfl)
theorem dX1_holesAnew_59 : decode cX1_holesAnew 59 = .ok (.iconst 1, 1) := dk_4 (dk_at dksX1_holesAnew_2 13 rfl rfl)
theorem dX1_holesAnew_60 : decode cX1_holesAnew 60 = .ok (.goto 4, 3) := dk_167 0 4 (dk_at dksX1_holesAnew_2 14 rfl rfl)
theorem dX1_holesAnew_63 : decode cX1_holesAnew 63 = .ok (.iconst 0, 1) := dk_3 (dk_at dksX1_holesAnew_2 17 rfl rfl)
theorem dX1_holesAnew_64 : decode cX1_holesAnew 64 = .ok (.istore_n 3, 1) := dk_62 (dk_at dksX1_holesAnew_2 18 rfl rfl)
theorem dX1_holesAnew_65 : decode cX1_holesAnew 65 = .ok (.iinc 4 1, 3) := dk_132 4 1 (dk_at dksX1_holesAnew_2 19 rfl rfl)
theorem dX1_holesAnew_68 : decode cX1_holesAnew 68 = .ok (.goto (-50), 3) := dk_167 255 206 (dk_at dksX1_holesAnew_3 0 rfl rfl)
theorem dX1_holesAnew_71 : decode cX1_holesAnew 71 = .ok (.iload_n 1, 1) := dk_27 (dk_at dksX1_holesAnew_3 3 rfl rfl)
theorem dX1_holesAnew_72 : decode cX1_holesAnew 72 = .ok (.iload_n 3, 1) := dk_29 (dk_at dksX1_holesAnew_3 4 rfl rfl)
theorem dX1_holesAnew_73 : decode cX1_holesAnew 73 = .ok (.ifCond .eq 7, 3) := dk_153 0 7 (dk_at dksX1_holesAnew_3 5 rfl rfl)
theorem dX1_holesAnew_76 : decode cX1_holesAnew 76 = .ok (.iconst 1, 1) := dk_4 (dk_at dksX1_holesAnew_3 8 rfl rfl)
theorem dX1_holesAnew_77 : decode cX1_holesAnew 77 = .ok (.goto 4, 3) := dk_167 0 4 (dk_at dksX1_holesAnew_3 9 rfl rfl)
theorem dX1_holesAnew_80 : decode cX1_holesAnew 80 = .ok (.iconst 0, 1) := dk_3 (dk_at dksX1_holesAnew_3 12 rfl rfl)
theorem dX1_holesAnew_81 : decode cX1_holesAnew 81 = .ok (.isub, 1) := dk_100 (dk_at dksX1_holesAnew_3 13 rfl rfl)
theorem dX1_holesAnew_82 : decode cX1_holesAnew 82 = .ok (.istore_n 1, 1) := dk_60 (dk_at dksX1_holesAnew_3 14 rfl rfl)
theorem dX1_holesAnew_83 : decode cX1_holesAnew 83 = .ok (.iinc 2 1, 3) := dk_132 2 1 (dk_at dksX1_holesAnew_3 15 rfl rfl)
theorem dX1_holesAnew_86 : decode cX1_holesAnew 86 = .ok (.goto (-80), 3) := dk_167 255 176 (dk_at dksX1_holesAnew_3 18 rfl rfl)
theorem dX1_holesAnew_89 : decode cX1_holesAnew 89 = .ok (.iload_n 1, 1) := dk_27 (dk_at dksX1_holesAnew_3 21 rfl rfl)
theorem dX1_holesAnew_90 : decode cX1_holesAnew 90 = .ok (.ireturn, 1) := dk_172 (dk_at dksX1_holesAnew_3 22 rfl rfl)
abbrev cX1_isOfLibrary : ByteArray := prog_1_method_35_code
def yX1_isOfLibrary : MethodName := ⟨RX1, "isOfLibrary", "(I)Z"⟩
def dkwX1_isOfLibrary_5 : List UInt8 := [28, 153, 0, 11, 29, 153, 0, 7, 4, 167, 0, 4, 3, 172]
abbrev dktX1_isOfLibrary_5 : List UInt8 := dkwX1_isOfLibrary_5 ++ []
def dkwX1_isOfLibrary_4 : List UInt8 := [182, 0, 89, 27, 5, 184, 0, 80, 160, 0, 7, 4, 167, 0, 4, 3, 128, 62, 132, 4, 1, 167, 255, 206]
abbrev dktX1_isOfLibrary_4 : List UInt8 := dkwX1_isOfLibrary_4 ++ dktX1_isOfLibrary_5
def dkwX1_isOfLibrary_3 : List UInt8 := [185, 0, 59, 1, 0, 162, 0, 42, 29, 42, 180, 0, 31, 21, 4, 185, 0, 69, 2, 0, 192, 0, 87]
abbrev dktX1_isOfLibrary_3 : List UInt8 := dkwX1_isOfLibrary_3 ++ dktX1_isOfLibrary_4
def dkwX1_isOfLibrary_2 : List UInt8 := [167, 0, 4, 3, 128, 61, 132, 4, 1, 167, 255, 207, 3, 54, 4, 21, 4, 42, 180, 0, 31]
abbrev dktX1_isOfLibrary_2 : List UInt8 := dkwX1_isOfLibrary_2 ++ dktX1_isOfLibrary_3
def dkwX1_isOfLibrary_1 : List UInt8 := [180, 0, 28, 21, 4, 185, 0, 69, 2, 0, 192, 0, 87, 182, 0, 89, 27, 16, 16, 112, 160, 0, 7, 4]
abbrev dktX1_isOfLibrary_1 : List UInt8 := dkwX1_isOfLibrary_1 ++ dktX1_isOfLibrary_2
def dkwX1_isOfLibrary_0 : List UInt8 := [3, 61, 3, 62, 3, 54, 4, 21, 4, 42, 180, 0, 28, 185, 0, 59, 1, 0, 162, 0, 41, 28, 42]
abbrev dktX1_isOfLibrary_0 : List UInt8 := dkwX1_isOfLibrary_0 ++ dktX1_isOfLibrary_1
theorem dksX1_isOfLibrary_0 : cX1_isOfLibrary.data.toList.drop 0 = dktX1_isOfLibrary_0 := by decide +kernel
theorem dksX1_isOfLibrary_1 : cX1_isOfLibrary.data.toList.drop 23 = dktX1_isOfLibrary_1 := dk_seg dksX1_isOfLibrary_0 23 rfl rfl
theorem dksX1_isOfLibrary_2 : cX1_isOfLibrary.data.toList.drop 47 = dktX1_isOfLibrary_2 := dk_seg dksX1_isOfLibrary_1 24 rfl rfl
theorem dksX1_isOfLibrary_3 : cX1_isOfLibrary.data.toList.drop 68 = dktX1_isOfLibrary_3 := dk_seg dksX1_isOfLibrary_2 21 rfl rfl
theorem dksX1_isOfLibrary_4 : cX1_isOfLibrary.data.toList.drop 91 = dktX1_isOfLibrary_4 := dk_seg dksX1_isOfLibrary_3 23 rfl rfl
theorem dksX1_isOfLibrary_5 : cX1_isOfLibrary.data.toList.drop 115 = dktX1_isOfLibrary_5 := dk_seg dksX1_isOfLibrary_4 24 rfl rfl
theorem dX1_isOfLibrary_0 : decode cX1_isOfLibrary 0 = .ok (.iconst 0, 1) := dk_3 (dk_at dksX1_isOfLibrary_0 0 rfl rfl)
theorem dX1_isOfLibrary_1 : decode cX1_isOfLibrary 1 = .ok (.istore_n 2, 1) := dk_61 (dk_at dksX1_isOfLibrary_0 1 rfl rfl)
theorem dX1_isOfLibrary_2 : decode cX1_isOfLibrary 2 = .ok (.iconst 0, 1) := dk_3 (dk_at dksX1_isOfLibrary_0 2 rfl rfl)
theorem dX1_isOfLibrary_3 : decode cX1_isOfLibrary 3 = .ok (.istore_n 3, 1) := dk_62 (dk_at dksX1_isOfLibrary_0 3 rfl rfl)
theorem dX1_isOfLibrary_4 : decode cX1_isOfLibrary 4 = .ok (.iconst 0, 1) := dk_3 (dk_at dksX1_isOfLibrary_0 4 rfl rfl)
theorem dX1_isOfLibrary_5 : decode cX1_isOfLibrary 5 = .ok (.istore 4, 2) := dk_54 4 (dk_at dksX1_isOfLibrary_0 5 rfl rfl)
theorem dX1_isOfLibrary_7 : decode cX1_isOfLibrary 7 = .ok (.iload 4, 2) := dk_21 4 (dk_at dksX1_isOfLibrary_0 7 rfl rfl)
theorem dX1_isOfLibrary_9 : decode cX1_isOfLibrary 9 = .ok (.aload_n 0, 1) := dk_42 (dk_at dksX1_isOfLibrary_0 9 rfl rfl)
theorem dX1_isOfLibrary_10 : decode cX1_isOfLibrary 10 = .ok (.getfield 28, 3) := dk_180 0 28 (dk_at dksX1_isOfLibrary_0 10 rfl rfl)
theorem dX1_isOfLibrary_13 : decode cX1_isOfLibrary 13 = .ok (.invokeinterface 59 1, 5) := by decide +kernel
theorem dX1_isOfLibrary_18 : decode cX1_isOfLibrary 18 = .ok (.if_icmp .ge 41, 3) := dk_162 0 41 (dk_at dksX1_isOfLibrary_0 18 rfl rfl)
theorem dX1_isOfLibrary_21 : decode cX1_isOfLibrary 21 = .ok (.iload_n 2, 1) := dk_28 (dk_at dksX1_isOfLibrary_0 21 rfl rfl)
theorem dX1_isOfLibrary_22 : decode cX1_isOfLibrary 22 = .ok (.aload_n 0, 1) := dk_42 (dk_at dksX1_isOfLibrary_0 22 rfl rfl)
theorem dX1_isOfLibrary_23 : decode cX1_isOfLibrary 23 = .ok (.getfield 28, 3) := dk_180 0 28 (dk_at dksX1_isOfLibrary_1 0 rfl rfl)
theorem dX1_isOfLibrary_26 : decode cX1_isOfLibrary 26 = .ok (.iload 4, 2) := dk_21 4 (dk_at dksX1_isOfLibrary_1 3 rfl rfl)
theorem dX1_isOfLibrary_28 : decode cX1_isOfLibrary 28 = .ok (.invokeinterface 69 2, 5) := by decide +kernel
theorem dX1_isOfLibrary_33 : decode cX1_isOfLibrary 33 = .ok (.checkcast 87, 3) := dk_192 0 87 (dk_at dksX1_isOfLibrary_1 10 rfl rfl)
theorem dX1_isOfLibrary_36 : decode cX1_isOfLibrary 36 = .ok (.invokevirtual 89, 3) := dk_182 0 89 (dk_at dksX1_isOfLibrary_1 13 rfl rfl)
theorem dX1_isOfLibrary_39 : decode cX1_isOfLibrary 39 = .ok (.iload_n 1, 1) := dk_27 (dk_at dksX1_isOfLibrary_1 16 rfl rfl)
theorem dX1_isOfLibrary_40 : decode cX1_isOfLibrary 40 = .ok (.bipush 16, 2) := dk_16 16 (dk_at dksX1_isOfLibrary_1 17 rfl rfl)
theorem dX1_isOfLibrary_42 : decode cX1_isOfLibrary 42 = .ok (.irem, 1) := dk_112 (dk_at dksX1_isOfLibrary_1 19 rfl rfl)
theorem dX1_isOfLibrary_43 : decode cX1_isOfLibrary 43 = .ok (.if_icmp .ne 7, 3) := dk_160 0 7 (dk_at dksX1_isOfLibrary_1 20 rfl rfl)
theorem dX1_isOfLibrary_46 : decode cX1_isOfLibrary 46 = .ok (.iconst 1, 1) := dk_4 (dk_at dksX1_isOfLibrary_1 23 rfl rfl)
theorem dX1_isOfLibrary_47 : decode cX1_isOfLibrary 47 = .ok (.goto 4, 3) := dk_167 0 4 (dk_at dksX1_isOfLibrary_2 0 rfl rfl)
theorem dX1_isOfLibrary_50 : decode cX1_isOfLibrary 50 = .ok (.iconst 0, 1) := dk_3 (dk_at dksX1_isOfLibrary_2 3 rfl rfl)
theorem dX1_isOfLibrary_51 : decode cX1_isOfLibrary 51 = .ok (.ior, 1) := dk_128 (dk_at dksX1_isOfLibrary_2 4 rfl rfl)
theorem dX1_isOfLibrary_52 : decode cX1_isOfLibrary 52 = .ok (.istore_n 2, 1) := dk_61 (dk_at dksX1_isOfLibrary_2 5 rfl rfl)
theorem dX1_isOfLibrary_53 : decode cX1_isOfLibrary 53 = .ok (.iinc 4 1, 3) := dk_132 4 1 (dk_at dksX1_isOfLibrary_2 6 rfl rfl)
theorem dX1_isOfLibrary_56 : decode cX1_isOfLibrary 56 = .ok (.goto (-49), 3) := dk_167 255 207 (dk_at dksX1_isOfLibrary_2 9 rfl rfl)
theorem dX1_isOfLibrary_59 : decode cX1_isOfLibrary 59 = .ok (.iconst 0, 1) := dk_3 (dk_at dksX1_isOfLibrary_2 12 rfl rfl)
theorem dX1_isOfLibrary_60 : decode cX1_isOfLibrary 60 = .ok (.istore 4, 2) := dk_54 4 (dk_at dksX1_isOfLibrary_2 13 rfl rfl)
theorem dX1_isOfLibrary_62 : decode cX1_isOfLibrary 62 = .ok (.iload 4, 2) := dk_21 4 (dk_at dksX1_isOfLibrary_2 15 rfl rfl)
theorem dX1_isOfLibrary_64 : decode cX1_isOfLibrary 64 = .ok (.aload_n 0, 1) := dk_42 (dk_at dksX1_isOfLibrary_2 17 rfl rfl)
theorem dX1_isOfLibrary_65 : decode cX1_isOfLibrary 65 = .ok (.getfield 31, 3) := dk_180 0 31 (dk_at dksX1_isOfLibrary_2 18 rfl rfl)
theorem dX1_isOfLibrary_68 : decode cX1_isOfLibrary 68 = .ok (.invokeinterface 59 1, 5) := by decide +kernel
theorem dX1_isOfLibrary_73 : decode cX1_isOfLibrary 73 = .ok (.if_icmp .ge 42, 3) := dk_162 0 42 (dk_at dksX1_isOfLibrary_3 5 rfl rfl)
theorem dX1_isOfLibrary_76 : decode cX1_isOfLibrary 76 = .ok (.iload_n 3, 1) := dk_29 (dk_at dksX1_isOfLibrary_3 8 rfl rfl)
theorem dX1_isOfLibrary_77 : decode cX1_isOfLibrary 77 = .ok (.aload_n 0, 1) := dk_42 (dk_at dksX1_isOfLibrary_3 9 rfl rfl)
theorem dX1_isOfLibrary_78 : decode cX1_isOfLibrary 78 = .ok (.getfield 31, 3) := dk_180 0 31 (dk_at dksX1_isOfLibrary_3 10 rfl rfl)
theorem dX1_isOfLibrary_81 : decode cX1_isOfLibrary 81 = .ok (.iload 4, 2) := dk_21 4 (dk_at dksX1_isOfLibrary_3 13 rfl rfl)
theorem dX1_isOfLibrary_83 : decode cX1_isOfLibrary 83 = .ok (.invokeinterface 69 2, 5) := by decide +kernel
theorem dX1_isOfLibrary_88 : decode cX1_isOfLibrary 88 = .ok (.checkcast 87, 3) := dk_192 0 87 (dk_at dksX1_isOfLibrary_3 20 rfl rfl)
theorem dX1_isOfLibrary_91 : decode cX1_isOfLibrary 91 = .ok (.invokevirtual 89, 3) := dk_182 0 89 (dk_at dksX1_isOfLibrary_4 0 rfl rfl)
theorem dX1_isOfLibrary_94 : decode cX1_isOfLibrary 94 = .ok (.iload_n 1, 1) := dk_27 (dk_at dksX1_isOfLibrary_4 3 rfl rfl)
theorem dX1_isOfLibrary_95 : decode cX1_isOfLibrary 95 = .ok (.iconst 2, 1) := dk_5 (dk_at dksX1_isOfLibrary_4 4 rfl rfl)
theorem dX1_isOfLibrary_96 : decode cX1_isOfLibrary 96 = .ok (.invokestatic 80, 3) := dk_184 0 80 (dk_at dksX1_isOfLibrary_4 5 rfl rfl)
theorem dX1_isOfLibrary_99 : decode cX1_isOfLibrary 99 = .ok (.if_icmp .ne 7, 3) := dk_160 0 7 (dk_at dksX1_isOfLibrary_4 8 rfl rfl)
theorem dX1_isOfLibrary_102 : decode cX1_isOfLibrary 102 = .ok (.iconst 1, 1) := dk_4 (dk_at dksX1_isOfLibrary_4 11 rfl rfl)
theorem dX1_isOfLibrary_103 : decode cX1_isOfLibrary 103 = .ok (.goto 4, 3) := dk_167 0 4 (dk_at dksX1_isOfLibrary_4 12 rfl rfl)
theorem dX1_isOfLibrary_106 : decode cX1_isOfLibrary 106 = .ok (.iconst 0, 1) := dk_3 (dk_at dksX1_isOfLibrary_4 15 rfl rfl)
theorem dX1_isOfLibrary_107 : decode cX1_isOfLibrary 107 = .ok (.ior, 1) := dk_128 (dk_at dksX1_isOfLibrary_4 16 rfl rfl)
theorem dX1_isOfLibrary_108 : decode cX1_isOfLibrary 108 = .ok (.istore_n 3, 1) := dk_62 (dk_at dksX1_isOfLibrary_4 17 rfl rfl)
theorem dX1_isOfLibrary_109 : decode cX1_isOfLibrary 109 = .ok (.iinc 4 1, 3) := dk_132 4 1 (dk_at dksX1_isOfLibrary_4 18 rfl rfl)
theorem dX1_isOfLibrary_112 : decode cX1_isOfLibrary 112 = .ok (.goto (-50), 3) := dk_167 255 206 (dk_at dksX1_isOfLibrary_4 21 rfl rfl)
theorem dX1_isOfLibrary_115 : decode cX1_isOfLibrary 115 = .ok (.iload_n 2, 1) := dk_28 (dk_at dksX1_isOfLibrary_5 0 rfl rfl)
theorem dX1_isOfLibrary_116 : decode cX1_isOfLibrary 116 = .ok (.ifCond .eq 11, 3) := dk_153 0 11 (dk_at dksX1_isOfLibrary_5 1 rfl rfl)
theorem dX1_isOfLibrary_119 : decode cX1_isOfLibrary 119 = .ok (.iload_n 3, 1) := dk_29 (dk_at dksX1_isOfLibrary_5 4 rfl rfl)
theorem dX1_isOfLibrary_120 : decode cX1_isOfLibrary 120 = .ok (.ifCond .eq 7, 3) := dk_153 0 7 (dk_at dksX1_isOfLibrary_5 5 rfl rfl)
theorem dX1_isOfLibrary_123 : decode cX1_isOfLibrary 123 = .ok (.iconst 1, 1) := dk_4 (dk_at dksX1_isOfLibrary_5 8 rfl rfl)
theorem dX1_isOfLibrary_124 : decode cX1_isOfLibrary 124 = .ok (.goto 4, 3) := dk_167 0 4 (dk_at dksX1_isOfLibrary_5 9 rfl rfl)
theorem dX1_isOfLibrary_127 : decode cX1_isOfLibrary 127 = .ok (.iconst 0, 1) := dk_3 (dk_at dksX1_isOfLibrary_5 12 rfl rfl)
theorem dX1_isOfLibrary_128 : decode cX1_isOfLibrary 128 = .ok (.ireturn, 1) := dk_172 (dk_at dksX1_isOfLibrary_5 13 rfl rfl)
abbrev cX1_table : ByteArray := prog_1_method_13_code
def yX1_table : MethodName := ⟨RX1, "table", "(III)I"⟩
def dkwX1_table_1 : List UInt8 := [54, 4, 42, 180, 0, 11, 27, 50, 28, 29, 79, 21, 4, 172]
abbrev dktX1_table_1 : List UInt8 := dkwX1_table_1 ++ []
def dkwX1_table_0 : List UInt8 := [27, 184, 0, 97, 28, 184, 0, 97, 29, 3, 16, 9, 184, 0, 52, 42, 180, 0, 11, 27, 50, 28, 46]
abbrev dktX1_table_0 : List UInt8 := dkwX1_table_0 ++ dktX1_table_1
theorem dksX1_table_0 : cX1_table.data.toList.drop 0 = dktX1_table_0 := by decide +kernel
theorem dksX1_table_1 : cX1_table.data.toList.drop 23 = dktX1_table_1 := dk_seg dksX1_table_0 23 rfl rfl
theorem dX1_table_0 : decode cX1_table 0 = .ok (.iload_n 1, 1) := dk_27 (dk_at dksX1_table_0 0 rfl rfl)
theorem dX1_table_1 : decode cX1_table 1 = .ok (.invokestatic 97, 3) := dk_184 0 97 (dk_at dksX1_table_0 1 rfl rfl)
theorem dX1_table_4 : decode cX1_table 4 = .ok (.iload_n 2, 1) := dk_28 (dk_at dksX1_table_0 4 rfl rfl)
theorem dX1_table_5 : decode cX1_table 5 = .ok (.invokestatic 97, 3) := dk_184 0 97 (dk_at dksX1_table_0 5 rfl rfl)
theorem dX1_table_8 : decode cX1_table 8 = .ok (.iload_n 3, 1) := dk_29 (dk_at dksX1_table_0 8 rfl rfl)
theorem dX1_table_9 : decode cX1_table 9 = .ok (.iconst 0, 1) := dk_3 (dk_at dksX1_table_0 9 rfl rfl)
theorem dX1_table_10 : decode cX1_table 10 = .ok (.bipush 9, 2) := dk_16 9 (dk_at dksX1_table_0 10 rfl rfl)
theorem dX1_table_12 : decode cX1_table 12 = .ok (.invokestatic 52, 3) := dk_184 0 52 (dk_at dksX1_table_0 12 rfl rfl)
theorem dX1_table_15 : decode cX1_table 15 = .ok (.aload_n 0, 1) := dk_42 (dk_at dksX1_table_0 15 rfl rfl)
theorem dX1_table_16 : decode cX1_table 16 = .ok (.getfield 11, 3) := dk_180 0 11 (dk_at dksX1_table_0 16 rfl rfl)
theorem dX1_table_19 : decode cX1_table 19 = .ok (.iload_n 1, 1) := dk_27 (dk_at dksX1_table_0 19 rfl rfl)
theorem dX1_table_20 : decode cX1_table 20 = .ok (.aaload, 1) := dk_50 (dk_at dksX1_table_0 20 rfl rfl)
theorem dX1_table_21 : decode cX1_table 21 = .ok (.iload_n 2, 1) := dk_28 (dk_at dksX1_table_0 21 rfl rfl)
theorem dX1_table_22 : decode cX1_table 22 = .ok (.iaload, 1) := dk_46 (dk_at dksX1_table_0 22 rfl rfl)
theorem dX1_table_23 : decode cX1_table 23 = .ok (.istore 4, 2) := dk_54 4 (dk_at dksX1_table_1 0 rfl rfl)
theorem dX1_table_25 : decode cX1_table 25 = .ok (.aload_n 0, 1) := dk_42 (dk_at dksX1_table_1 2 rfl rfl)
theorem dX1_table_26 : decode cX1_table 26 = .ok (.getfield 11, 3) := dk_180 0 11 (dk_at dksX1_table_1 3 rfl rfl)
theorem dX1_table_29 : decode cX1_table 29 = .ok (.iload_n 1, 1) := dk_27 (dk_at dksX1_table_1 6 rfl rfl)
theorem dX1_table_30 : decode cX1_table 30 = .ok (.aaload, 1) := dk_50 (dk_at dksX1_table_1 7 rfl rfl)
theorem dX1_table_31 : decode cX1_table 31 = .ok (.iload_n 2, 1) := dk_28 (dk_at dksX1_table_1 8 rfl rfl)
theorem dX1_table_32 : decode cX1_table 32 = .ok (.iload_n 3, 1) := dk_29 (dk_at dksX1_table_1 9 rfl rfl)
theorem dX1_table_33 : decode cX1_table 33 = .ok (.iastore, 1) := dk_79 (dk_at dksX1_table_1 10 rfl rfl)
theorem dX1_table_34 : decode cX1_table 34 = .ok (.iload 4, 2) := dk_21 4 (dk_at dksX1_table_1 11 rfl rfl)
theorem dX1_table_36 : decode cX1_table 36 = .ok (.ireturn, 1) := dk_172 (dk_at dksX1_table_1 13 rfl rfl)
abbrev cX1_checkLetter : ByteArray := prog_1_method_6_code
def yX1_checkLetter : MethodName := ⟨RX1, "checkLetter", "(I)V"⟩
def dkwX1_checkLetter_0 : List UInt8 := [26, 3, 6, 184, 0, 52, 177]
abbrev dktX1_checkLetter_0 : List UInt8 := dkwX1_checkLetter_0 ++ []
theorem dksX1_checkLetter_0 : cX1_checkLetter.data.toList.drop 0 = dktX1_checkLetter_0 := by decide +kernel
theorem dX1_checkLetter_0 : decode cX1_checkLetter 0 = .ok (.iload_n 0, 1) := dk_26 (dk_at dksX1_checkLetter_0 0 rfl rfl)
theorem dX1_checkLetter_1 : decode cX1_checkLetter 1 = .ok (.iconst 0, 1) := dk_3 (dk_at dksX1_checkLetter_0 1 rfl rfl)
theorem dX1_checkLetter_2 : decode cX1_checkLetter 2 = .ok (.iconst 3, 1) := dk_6 (dk_at dksX1_checkLetter_0 2 rfl rfl)
theorem dX1_checkLetter_3 : decode cX1_checkLetter 3 = .ok (.invokestatic 52, 3) := dk_184 0 52 (dk_at dksX1_checkLetter_0 3 rfl rfl)
theorem dX1_checkLetter_6 : decode cX1_checkLetter 6 = .ok (.return_, 1) := dk_177 (dk_at dksX1_checkLetter_0 6 rfl rfl)
abbrev cX1_fit : ByteArray := prog_1_method_14_code
def yX1_fit : MethodName := ⟨RX1, "fit", "(II)I"⟩
def dkwX1_fit_0 : List UInt8 := [27, 184, 0, 101, 28, 184, 0, 101, 42, 27, 28, 182, 0, 84, 172]
abbrev dktX1_fit_0 : List UInt8 := dkwX1_fit_0 ++ []
theorem dksX1_fit_0 : cX1_fit.data.toList.drop 0 = dktX1_fit_0 := by decide +kernel
theorem dX1_fit_0 : decode cX1_fit 0 = .ok (.iload_n 1, 1) := dk_27 (dk_at dksX1_fit_0 0 rfl rfl)
theorem dX1_fit_1 : decode cX1_fit 1 = .ok (.invokestatic 101, 3) := dk_184 0 101 (dk_at dksX1_fit_0 1 rfl rfl)
theorem dX1_fit_4 : decode cX1_fit 4 = .ok (.iload_n 2, 1) := dk_28 (dk_at dksX1_fit_0 4 rfl rfl)
theorem dX1_fit_5 : decode cX1_fit 5 = .ok (.invokestatic 101, 3) := dk_184 0 101 (dk_at dksX1_fit_0 5 rfl rfl)
theorem dX1_fit_8 : decode cX1_fit 8 = .ok (.aload_n 0, 1) := dk_42 (dk_at dksX1_fit_0 8 rfl rfl)
theorem dX1_fit_9 : decode cX1_fit 9 = .ok (.iload_n 1, 1) := dk_27 (dk_at dksX1_fit_0 9 rfl rfl)
theorem dX1_fit_10 : decode cX1_fit 10 = .ok (.iload_n 2, 1) := dk_28 (dk_at dksX1_fit_0 10 rfl rfl)
theorem dX1_fit_11 : decode cX1_fit 11 = .ok (.invokevirtual 84, 3) := dk_182 0 84 (dk_at dksX1_fit_0 11 rfl rfl)
theorem dX1_fit_14 : decode cX1_fit 14 = .ok (.ireturn, 1) := dk_172 (dk_at dksX1_fit_0 14 rfl rfl)
abbrev cX1_mark : ByteArray := prog_1_method_15_code
def yX1_mark : MethodName := ⟨RX1, "mark", "(II)I"⟩
def dkwX1_mark_1 : List UInt8 := [27, 46, 62, 42, 180, 0, 18, 27, 28, 79, 29, 172]
abbrev dktX1_mark_1 : List UInt8 := dkwX1_mark_1 ++ []
def dkwX1_mark_0 : List UInt8 := [27, 3, 7, 184, 0, 52, 28, 178, 0, 104, 27, 46, 178, 0, 107, 27, 46, 184, 0, 52, 42, 180, 0, 18]
abbrev dktX1_mark_0 : List UInt8 := dkwX1_mark_0 ++ dktX1_mark_1
theorem dksX1_mark_0 : cX1_mark.data.toList.drop 0 = dktX1_mark_0 := by decide +kernel
theorem dksX1_mark_1 : cX1_mark.data.toList.drop 24 = dktX1_mark_1 := dk_seg dksX1_mark_0 24 rfl rfl
theorem dX1_mark_0 : decode cX1_mark 0 = .ok (.iload_n 1, 1) := dk_27 (dk_at dksX1_mark_0 0 rfl rfl)
theorem dX1_mark_1 : decode cX1_mark 1 = .ok (.iconst 0, 1) := dk_3 (dk_at dksX1_mark_0 1 rfl rfl)
theorem dX1_mark_2 : decode cX1_mark 2 = .ok (.iconst 4, 1) := dk_7 (dk_at dksX1_mark_0 2 rfl rfl)
theorem dX1_mark_3 : decode cX1_mark 3 = .ok (.invokestatic 52, 3) := dk_184 0 52 (dk_at dksX1_mark_0 3 rfl rfl)
theorem dX1_mark_6 : decode cX1_mark 6 = .ok (.iload_n 2, 1) := dk_28 (dk_at dksX1_mark_0 6 rfl rfl)
theorem dX1_mark_7 : decode cX1_mark 7 = .ok (.getstatic 104, 3) := dk_178 0 104 (dk_at dksX1_mark_0 7 rfl rfl)
theorem dX1_mark_10 : decode cX1_mark 10 = .ok (.iload_n 1, 1) := dk_27 (dk_at dksX1_mark_0 10 rfl rfl)
theorem dX1_mark_11 : decode cX1_mark 11 = .ok (.iaload, 1) := dk_46 (dk_at dksX1_mark_0 11 rfl rfl)
theorem dX1_mark_12 : decode cX1_mark 12 = .ok (.getstatic 107, 3) := dk_178 0 107 (dk_at dksX1_mark_0 12 rfl rfl)
theorem dX1_mark_15 : decode cX1_mark 15 = .ok (.iload_n 1, 1) := dk_27 (dk_at dksX1_mark_0 15 rfl rfl)
theorem dX1_mark_16 : decode cX1_mark 16 = .ok (.iaload, 1) := dk_46 (dk_at dksX1_mark_0 16 rfl rfl)
theorem dX1_mark_17 : decode cX1_mark 17 = .ok (.invokestatic 52, 3) := dk_184 0 52 (dk_at dksX1_mark_0 17 rfl rfl)
theorem dX1_mark_20 : decode cX1_mark 20 = .ok (.aload_n 0, 1) := dk_42 (dk_at dksX1_mark_0 20 rfl rfl)
theorem dX1_mark_21 : decode cX1_mark 21 = .ok (.getfield 18, 3) := dk_180 0 18 (dk_at dksX1_mark_0 21 rfl rfl)
theorem dX1_mark_24 : decode cX1_mark 24 = .ok (.iload_n 1, 1) := dk_27 (dk_at dksX1_mark_1 0 rfl rfl)
theorem dX1_mark_25 : decode cX1_mark 25 = .ok (.iaload, 1) := dk_46 (dk_at dksX1_mark_1 1 rfl rfl)
theorem dX1_mark_26 : decode cX1_mark 26 = .ok (.istore_n 3, 1) := dk_62 (dk_at dksX1_mark_1 2 rfl rfl)
theorem dX1_mark_27 : decode cX1_mark 27 = .ok (.aload_n 0, 1) := dk_42 (dk_at dksX1_mark_1 3 rfl rfl)
theorem dX1_mark_28 : decode cX1_mark 28 = .ok (.getfield 18, 3) := dk_180 0 18 (dk_at dksX1_mark_1 4 rfl rfl)
theorem dX1_mark_31 : decode cX1_mark 31 = .ok (.iload_n 1, 1) := dk_27 (dk_at dksX1_mark_1 7 rfl rfl)
theorem dX1_mark_32 : decode cX1_mark 32 = .ok (.iload_n 2, 1) := dk_28 (dk_at dksX1_mark_1 8 rfl rfl)
theorem dX1_mark_33 : decode cX1_mark 33 = .ok (.iastore, 1) := dk_79 (dk_at dksX1_mark_1 9 rfl rfl)
theorem dX1_mark_34 : decode cX1_mark 34 = .ok (.iload_n 3, 1) := dk_29 (dk_at dksX1_mark_1 10 rfl rfl)
theorem dX1_mark_35 : decode cX1_mark 35 = .ok (.ireturn, 1) := dk_172 (dk_at dksX1_mark_1 11 rfl rfl)
abbrev cX1_own : ByteArray := prog_1_method_16_code
def yX1_own : MethodName := ⟨RX1, "own", "(I)I"⟩
def dkwX1_own_2 : List UInt8 := [185, 0, 59, 1, 0, 4, 100, 172]
abbrev dktX1_own_2 : List UInt8 := dkwX1_own_2 ++ []
def dkwX1_own_1 : List UInt8 := [184, 0, 110, 42, 180, 0, 24, 27, 184, 0, 114, 185, 0, 118, 2, 0, 87, 42, 180, 0, 24]
abbrev dktX1_own_1 : List UInt8 := dkwX1_own_1 ++ dktX1_own_2
def dkwX1_own_0 : List UInt8 := [27, 184, 0, 101, 42, 180, 0, 24, 185, 0, 59, 1, 0, 16, 8, 162, 0, 7, 4, 167, 0, 4, 3]
abbrev dktX1_own_0 : List UInt8 := dkwX1_own_0 ++ dktX1_own_1
theorem dksX1_own_0 : cX1_own.data.toList.drop 0 = dktX1_own_0 := by decide +kernel
theorem dksX1_own_1 : cX1_own.data.toList.drop 23 = dktX1_own_1 := dk_seg dksX1_own_0 23 rfl rfl
theorem dksX1_own_2 : cX1_own.data.toList.drop 44 = dktX1_own_2 := dk_seg dksX1_own_1 21 rfl rfl
theorem dX1_own_0 : decode cX1_own 0 = .ok (.iload_n 1, 1) := dk_27 (dk_at dksX1_own_0 0 rfl rfl)
theorem dX1_own_1 : decode cX1_own 1 = .ok (.invokestatic 101, 3) := dk_184 0 101 (dk_at dksX1_own_0 1 rfl rfl)
theorem dX1_own_4 : decode cX1_own 4 = .ok (.aload_n 0, 1) := dk_42 (dk_at dksX1_own_0 4 rfl rfl)
theorem dX1_own_5 : decode cX1_own 5 = .ok (.getfield 24, 3) := dk_180 0 24 (dk_at dksX1_own_0 5 rfl rfl)
theorem dX1_own_8 : decode cX1_own 8 = .ok (.invokeinterface 59 1, 5) := by decide +kernel
theorem dX1_own_13 : decode cX1_own 13 = .ok (.bipush 8, 2) := dk_16 8 (dk_at dksX1_own_0 13 rfl rfl)
theorem dX1_own_15 : decode cX1_own 15 = .ok (.if_icmp .ge 7, 3) := dk_162 0 7 (dk_at dksX1_own_0 15 rfl rfl)
theorem dX1_own_18 : decode cX1_own 18 = .ok (.iconst 1, 1) := dk_4 (dk_at dksX1_own_0 18 rfl rfl)
theorem dX1_own_19 : decode cX1_own 19 = .ok (.goto 4, 3) := dk_167 0 4 (dk_at dksX1_own_0 19 rfl rfl)
theorem dX1_own_22 : decode cX1_own 22 = .ok (.iconst 0, 1) := dk_3 (dk_at dksX1_own_0 22 rfl rfl)
theorem dX1_own_23 : decode cX1_own 23 = .ok (.invokestatic 110, 3) := dk_184 0 110 (dk_at dksX1_own_1 0 rfl rfl)
theorem dX1_own_26 : decode cX1_own 26 = .ok (.aload_n 0, 1) := dk_42 (dk_at dksX1_own_1 3 rfl rfl)
theorem dX1_own_27 : decode cX1_own 27 = .ok (.getfield 24, 3) := dk_180 0 24 (dk_at dksX1_own_1 4 rfl rfl)
theorem dX1_own_30 : decode cX1_own 30 = .ok (.iload_n 1, 1) := dk_27 (dk_at dksX1_own_1 7 rfl rfl)
theorem dX1_own_31 : decode cX1_own 31 = .ok (.invokestatic 114, 3) := dk_184 0 114 (dk_at dksX1_own_1 8 rfl rfl)
theorem dX1_own_34 : decode cX1_own 34 = .ok (.invokeinterface 118 2, 5) := by decide +kernel
theorem dX1_own_39 : decode cX1_own 39 = .ok (.pop, 1) := dk_87 (dk_at dksX1_own_1 16 rfl rfl)
theorem dX1_own_40 : decode cX1_own 40 = .ok (.aload_n 0, 1) := dk_42 (dk_at dksX1_own_1 17 rfl rfl)
theorem dX1_own_41 : decode cX1_own 41 = .ok (.getfield 24, 3) := dk_180 0 24 (dk_at dksX1_own_1 18 rfl rfl)
theorem dX1_own_44 : decode cX1_own 44 = .ok (.invokeinterface 59 1, 5) := by decide +kernel
theorem dX1_own_49 : decode cX1_own 49 = .ok (.iconst 1, 1) := dk_4 (dk_at dksX1_own_2 5 rfl rfl)
theorem dX1_own_50 : decode cX1_own 50 = .ok (.isub, 1) := dk_100 (dk_at dksX1_own_2 6 rfl rfl)
theorem dX1_own_51 : decode cX1_own 51 = .ok (.ireturn, 1) := dk_172 (dk_at dksX1_own_2 7 rfl rfl)
abbrev cX1_checkState : ByteArray := prog_1_method_3_code
def yX1_checkState : MethodName := ⟨RX1, "checkState", "(Z)V"⟩
def dkwX1_checkState_0 : List UInt8 := [26, 154, 0, 11, 187, 0, 46, 89, 183, 0, 48, 191, 177]
abbrev dktX1_checkState_0 : List UInt8 := dkwX1_checkState_0 ++ []
theorem dksX1_checkState_0 : cX1_checkState.data.toList.drop 0 = dktX1_checkState_0 := by decide +kernel
theorem dX1_checkState_0 : decode cX1_checkState 0 = .ok (.iload_n 0, 1) := dk_26 (dk_at dksX1_checkState_0 0 rfl rfl)
theorem dX1_checkState_1 : decode cX1_checkState 1 = .ok (.ifCond .ne 11, 3) := dk_154 0 11 (dk_at dksX1_checkState_0 1 rfl rfl)
theorem dX1_checkState_4 : decode cX1_checkState 4 = .ok (.new 46, 3) := dk_187 0 46 (dk_at dksX1_checkState_0 4 rfl rfl)
theorem dX1_checkState_7 : decode cX1_checkState 7 = .ok (.dup, 1) := dk_89 (dk_at dksX1_checkState_0 7 rfl rfl)
theorem dX1_checkState_8 : decode cX1_checkState 8 = .ok (.invokespecial 48, 3) := dk_183 0 48 (dk_at dksX1_checkState_0 8 rfl rfl)
theorem dX1_checkState_11 : decode cX1_checkState 11 = .ok (.athrow, 1) := dk_191 (dk_at dksX1_checkState_0 11 rfl rfl)
theorem dX1_checkState_12 : decode cX1_checkState 12 = .ok (.return_, 1) := dk_177 (dk_at dksX1_checkState_0 12 rfl rfl)
abbrev cX1_harm : ByteArray := prog_1_method_17_code
def yX1_harm : MethodName := ⟨RX1, "harm", "(I)I"⟩
def dkwX1_harm_0 : List UInt8 := [27, 42, 180, 0, 24, 185, 0, 59, 1, 0, 184, 0, 65, 42, 180, 0, 39, 180, 0, 122, 27, 46, 172]
abbrev dktX1_harm_0 : List UInt8 := dkwX1_harm_0 ++ []
theorem dksX1_harm_0 : cX1_harm.data.toList.drop 0 = dktX1_harm_0 := by decide +kernel
theorem dX1_harm_0 : decode cX1_harm 0 = .ok (.iload_n 1, 1) := dk_27 (dk_at dksX1_harm_0 0 rfl rfl)
theorem dX1_harm_1 : decode cX1_harm 1 = .ok (.aload_n 0, 1) := dk_42 (dk_at dksX1_harm_0 1 rfl rfl)
theorem dX1_harm_2 : decode cX1_harm 2 = .ok (.getfield 24, 3) := dk_180 0 24 (dk_at dksX1_harm_0 2 rfl rfl)
theorem dX1_harm_5 : decode cX1_harm 5 = .ok (.invokeinterface 59 1, 5) := by decide +kernel
theorem dX1_harm_10 : decode cX1_harm 10 = .ok (.invokestatic 65, 3) := dk_184 0 65 (dk_at dksX1_harm_0 10 rfl rfl)
theorem dX1_harm_13 : decode cX1_harm 13 = .ok (.aload_n 0, 1) := dk_42 (dk_at dksX1_harm_0 13 rfl rfl)
theorem dX1_harm_14 : decode cX1_harm 14 = .ok (.getfield 39, 3) := dk_180 0 39 (dk_at dksX1_harm_0 14 rfl rfl)
theorem dX1_harm_17 : decode cX1_harm 17 = .ok (.getfield 122, 3) := dk_180 0 122 (dk_at dksX1_harm_0 17 rfl rfl)
theorem dX1_harm_20 : decode cX1_harm 20 = .ok (.iload_n 1, 1) := dk_27 (dk_at dksX1_harm_0 20 rfl rfl)
theorem dX1_harm_21 : decode cX1_harm 21 = .ok (.iaload, 1) := dk_46 (dk_at dksX1_harm_0 21 rfl rfl)
theorem dX1_harm_22 : decode cX1_harm 22 = .ok (.ireturn, 1) := dk_172 (dk_at dksX1_harm_0 22 rfl rfl)
abbrev cX1_checkThere : ByteArray := prog_1_method_4_code
def yX1_checkThere : MethodName := ⟨RX1, "checkThere", "(II)V"⟩
def dkwX1_checkThere_0 : List UInt8 := [26, 155, 0, 8, 26, 27, 161, 0, 11, 187, 0, 49, 89, 183, 0, 51, 191, 177]
abbrev dktX1_checkThere_0 : List UInt8 := dkwX1_checkThere_0 ++ []
theorem dksX1_checkThere_0 : cX1_checkThere.data.toList.drop 0 = dktX1_checkThere_0 := by decide +kernel
theorem dX1_checkThere_0 : decode cX1_checkThere 0 = .ok (.iload_n 0, 1) := dk_26 (dk_at dksX1_checkThere_0 0 rfl rfl)
theorem dX1_checkThere_1 : decode cX1_checkThere 1 = .ok (.ifCond .lt 8, 3) := dk_155 0 8 (dk_at dksX1_checkThere_0 1 rfl rfl)
theorem dX1_checkThere_4 : decode cX1_checkThere 4 = .ok (.iload_n 0, 1) := dk_26 (dk_at dksX1_checkThere_0 4 rfl rfl)
theorem dX1_checkThere_5 : decode cX1_checkThere 5 = .ok (.iload_n 1, 1) := dk_27 (dk_at dksX1_checkThere_0 5 rfl rfl)
theorem dX1_checkThere_6 : decode cX1_checkThere 6 = .ok (.if_icmp .lt 11, 3) := dk_161 0 11 (dk_at dksX1_checkThere_0 6 rfl rfl)
theorem dX1_checkThere_9 : decode cX1_checkThere 9 = .ok (.new 49, 3) := dk_187 0 49 (dk_at dksX1_checkThere_0 9 rfl rfl)
theorem dX1_checkThere_12 : decode cX1_checkThere 12 = .ok (.dup, 1) := dk_89 (dk_at dksX1_checkThere_0 12 rfl rfl)
theorem dX1_checkThere_13 : decode cX1_checkThere 13 = .ok (.invokespecial 51, 3) := dk_183 0 51 (dk_at dksX1_checkThere_0 13 rfl rfl)
theorem dX1_checkThere_16 : decode cX1_checkThere 16 = .ok (.athrow, 1) := dk_191 (dk_at dksX1_checkThere_0 16 rfl rfl)
theorem dX1_checkThere_17 : decode cX1_checkThere 17 = .ok (.return_, 1) := dk_177 (dk_at dksX1_checkThere_0 17 rfl rfl)
abbrev cX1_nearness : ByteArray := prog_1_method_18_code
def yX1_nearness : MethodName := ⟨RX1, "nearness", "(I)I"⟩
def dkwX1_nearness_0 : List UInt8 := [27, 184, 0, 101, 42, 27, 182, 0, 125, 172]
abbrev dktX1_nearness_0 : List UInt8 := dkwX1_nearness_0 ++ []
theorem dksX1_nearness_0 : cX1_nearness.data.toList.drop 0 = dktX1_nearness_0 := by decide +kernel
theorem dX1_nearness_0 : decode cX1_nearness 0 = .ok (.iload_n 1, 1) := dk_27 (dk_at dksX1_nearness_0 0 rfl rfl)
theorem dX1_nearness_1 : decode cX1_nearness 1 = .ok (.invokestatic 101, 3) := dk_184 0 101 (dk_at dksX1_nearness_0 1 rfl rfl)
theorem dX1_nearness_4 : decode cX1_nearness 4 = .ok (.aload_n 0, 1) := dk_42 (dk_at dksX1_nearness_0 4 rfl rfl)
theorem dX1_nearness_5 : decode cX1_nearness 5 = .ok (.iload_n 1, 1) := dk_27 (dk_at dksX1_nearness_0 5 rfl rfl)
theorem dX1_nearness_6 : decode cX1_nearness 6 = .ok (.invokevirtual 125, 3) := dk_182 0 125 (dk_at dksX1_nearness_0 6 rfl rfl)
theorem dX1_nearness_9 : decode cX1_nearness 9 = .ok (.ireturn, 1) := dk_172 (dk_at dksX1_nearness_0 9 rfl rfl)
abbrev cX1_segment : ByteArray := prog_1_method_19_code
def yX1_segment : MethodName := ⟨RX1, "segment", "(II)I"⟩
def dkwX1_segment_2 : List UInt8 := [87, 42, 180, 0, 28, 185, 0, 59, 1, 0, 4, 100, 172]
abbrev dktX1_segment_2 : List UInt8 := dkwX1_segment_2 ++ []
def dkwX1_segment_1 : List UInt8 := [167, 0, 4, 3, 184, 0, 110, 42, 180, 0, 28, 27, 7, 28, 104, 96, 184, 0, 114, 185, 0, 118, 2, 0]
abbrev dktX1_segment_1 : List UInt8 := dkwX1_segment_1 ++ dktX1_segment_2
def dkwX1_segment_0 : List UInt8 := [27, 184, 0, 97, 28, 184, 0, 97, 42, 180, 0, 28, 185, 0, 59, 1, 0, 7, 162, 0, 7, 4]
abbrev dktX1_segment_0 : List UInt8 := dkwX1_segment_0 ++ dktX1_segment_1
theorem dksX1_segment_0 : cX1_segment.data.toList.drop 0 = dktX1_segment_0 := by decide +kernel
theorem dksX1_segment_1 : cX1_segment.data.toList.drop 22 = dktX1_segment_1 := dk_seg dksX1_segment_0 22 rfl rfl
theorem dksX1_segment_2 : cX1_segment.data.toList.drop 46 = dktX1_segment_2 := dk_seg dksX1_segment_1 24 rfl rfl
theorem dX1_segment_0 : decode cX1_segment 0 = .ok (.iload_n 1, 1) := dk_27 (dk_at dksX1_segment_0 0 rfl rfl)
theorem dX1_segment_1 : decode cX1_segment 1 = .ok (.invokestatic 97, 3) := dk_184 0 97 (dk_at dksX1_segment_0 1 rfl rfl)
theorem dX1_segment_4 : decode cX1_segment 4 = .ok (.iload_n 2, 1) := dk_28 (dk_at dksX1_segment_0 4 rfl rfl)
theorem dX1_segment_5 : decode cX1_segment 5 = .ok (.invokestatic 97, 3) := dk_184 0 97 (dk_at dksX1_segment_0 5 rfl rfl)
theorem dX1_segment_8 : decode cX1_segment 8 = .ok (.aload_n 0, 1) := dk_42 (dk_at dksX1_segment_0 8 rfl rfl)
theorem dX1_segment_9 : decode cX1_segment 9 = .ok (.getfield 28, 3) := dk_180 0 28 (dk_at dksX1_segment_0 9 rfl rfl)
theorem dX1_segment_12 : decode cX1_segment 12 = .ok (.invokeinterface 59 1, 5) := by decide +kernel
theorem dX1_segment_17 : decode cX1_segment 17 = .ok (.iconst 4, 1) := dk_7 (dk_at dksX1_segment_0 17 rfl rfl)
theorem dX1_segment_18 : decode cX1_segment 18 = .ok (.if_icmp .ge 7, 3) := dk_162 0 7 (dk_at dksX1_segment_0 18 rfl rfl)
theorem dX1_segment_21 : decode cX1_segment 21 = .ok (.iconst 1, 1) := dk_4 (dk_at dksX1_segment_0 21 rfl rfl)
theorem dX1_segment_22 : decode cX1_segment 22 = .ok (.goto 4, 3) := dk_167 0 4 (dk_at dksX1_segment_1 0 rfl rfl)
theorem dX1_segment_25 : decode cX1_segment 25 = .ok (.iconst 0, 1) := dk_3 (dk_at dksX1_segment_1 3 rfl rfl)
theorem dX1_segment_26 : decode cX1_segment 26 = .ok (.invokestatic 110, 3) := dk_184 0 110 (dk_at dksX1_segment_1 4 rfl rfl)
theorem dX1_segment_29 : decode cX1_segment 29 = .ok (.aload_n 0, 1) := dk_42 (dk_at dksX1_segment_1 7 rfl rfl)
theorem dX1_segment_30 : decode cX1_segment 30 = .ok (.getfield 28, 3) := dk_180 0 28 (dk_at dksX1_segment_1 8 rfl rfl)
theorem dX1_segment_33 : decode cX1_segment 33 = .ok (.iload_n 1, 1) := dk_27 (dk_at dksX1_segment_1 11 rfl rfl)
theorem dX1_segment_34 : decode cX1_segment 34 = .ok (.iconst 4, 1) := dk_7 (dk_at dksX1_segment_1 12 rfl rfl)
theorem dX1_segment_35 : decode cX1_segment 35 = .ok (.iload_n 2, 1) := dk_28 (dk_at dksX1_segment_1 13 rfl rfl)
theorem dX1_segment_36 : decode cX1_segment 36 = .ok (.imul, 1) := dk_104 (dk_at dksX1_segment_1 14 rfl rfl)
theorem dX1_segment_37 : decode cX1_segment 37 = .ok (.iadd, 1) := dk_96 (dk_at dksX1_segment_1 15 rfl rfl)
theorem dX1_segment_38 : decode cX1_segment 38 = .ok (.invokestatic 114, 3) := dk_184 0 114 (dk_at dksX1_segment_1 16 rfl rfl)
theorem dX1_segment_41 : decode cX1_segment 41 = .ok (.invokeinterface 118 2, 5) := by decide +kernel
theorem dX1_segment_46 : decode cX1_segment 46 = .ok (.pop, 1) := dk_87 (dk_at dksX1_segment_2 0 rfl rfl)
theorem dX1_segment_47 : decode cX1_segment 47 = .ok (.aload_n 0, 1) := dk_42 (dk_at dksX1_segment_2 1 rfl rfl)
theorem dX1_segment_48 : decode cX1_segment 48 = .ok (.getfield 28, 3) := dk_180 0 28 (dk_at dksX1_segment_2 2 rfl rfl)
theorem dX1_segment_51 : decode cX1_segment 51 = .ok (.invokeinterface 59 1, 5) := by decide +kernel
theorem dX1_segment_56 : decode cX1_segment 56 = .ok (.iconst 1, 1) := dk_4 (dk_at dksX1_segment_2 10 rfl rfl)
theorem dX1_segment_57 : decode cX1_segment 57 = .ok (.isub, 1) := dk_100 (dk_at dksX1_segment_2 11 rfl rfl)
theorem dX1_segment_58 : decode cX1_segment 58 = .ok (.ireturn, 1) := dk_172 (dk_at dksX1_segment_2 12 rfl rfl)
abbrev cX1_joint : ByteArray := prog_1_method_20_code
def yX1_joint : MethodName := ⟨RX1, "joint", "(I)I"⟩
def dkwX1_joint_2 : List UInt8 := [185, 0, 59, 1, 0, 4, 100, 172]
abbrev dktX1_joint_2 : List UInt8 := dkwX1_joint_2 ++ []
def dkwX1_joint_1 : List UInt8 := [184, 0, 110, 42, 180, 0, 31, 27, 184, 0, 114, 185, 0, 118, 2, 0, 87, 42, 180, 0, 31]
abbrev dktX1_joint_1 : List UInt8 := dkwX1_joint_1 ++ dktX1_joint_2
def dkwX1_joint_0 : List UInt8 := [27, 184, 0, 97, 42, 180, 0, 31, 185, 0, 59, 1, 0, 7, 162, 0, 7, 4, 167, 0, 4, 3]
abbrev dktX1_joint_0 : List UInt8 := dkwX1_joint_0 ++ dktX1_joint_1
theorem dksX1_joint_0 : cX1_joint.data.toList.drop 0 = dktX1_joint_0 := by decide +kernel
theorem dksX1_joint_1 : cX1_joint.data.toList.drop 22 = dktX1_joint_1 := dk_seg dksX1_joint_0 22 rfl rfl
theorem dksX1_joint_2 : cX1_joint.data.toList.drop 43 = dktX1_joint_2 := dk_seg dksX1_joint_1 21 rfl rfl
theorem dX1_joint_0 : decode cX1_joint 0 = .ok (.iload_n 1, 1) := dk_27 (dk_at dksX1_joint_0 0 rfl rfl)
theorem dX1_joint_1 : decode cX1_joint 1 = .ok (.invokestatic 97, 3) := dk_184 0 97 (dk_at dksX1_joint_0 1 rfl rfl)
theorem dX1_joint_4 : decode cX1_joint 4 = .ok (.aload_n 0, 1) := dk_42 (dk_at dksX1_joint_0 4 rfl rfl)
theorem dX1_joint_5 : decode cX1_joint 5 = .ok (.getfield 31, 3) := dk_180 0 31 (dk_at dksX1_joint_0 5 rfl rfl)
theorem dX1_joint_8 : decode cX1_joint 8 = .ok (.invokeinterface 59 1, 5) := by decide +kernel
theorem dX1_joint_13 : decode cX1_joint 13 = .ok (.iconst 4, 1) := dk_7 (dk_at dksX1_joint_0 13 rfl rfl)
theorem dX1_joint_14 : decode cX1_joint 14 = .ok (.if_icmp .ge 7, 3) := dk_162 0 7 (dk_at dksX1_joint_0 14 rfl rfl)
theorem dX1_joint_17 : decode cX1_joint 17 = .ok (.iconst 1, 1) := dk_4 (dk_at dksX1_joint_0 17 rfl rfl)
theorem dX1_joint_18 : decode cX1_joint 18 = .ok (.goto 4, 3) := dk_167 0 4 (dk_at dksX1_joint_0 18 rfl rfl)
theorem dX1_joint_21 : decode cX1_joint 21 = .ok (.iconst 0, 1) := dk_3 (dk_at dksX1_joint_0 21 rfl rfl)
theorem dX1_joint_22 : decode cX1_joint 22 = .ok (.invokestatic 110, 3) := dk_184 0 110 (dk_at dksX1_joint_1 0 rfl rfl)
theorem dX1_joint_25 : decode cX1_joint 25 = .ok (.aload_n 0, 1) := dk_42 (dk_at dksX1_joint_1 3 rfl rfl)
theorem dX1_joint_26 : decode cX1_joint 26 = .ok (.getfield 31, 3) := dk_180 0 31 (dk_at dksX1_joint_1 4 rfl rfl)
theorem dX1_joint_29 : decode cX1_joint 29 = .ok (.iload_n 1, 1) := dk_27 (dk_at dksX1_joint_1 7 rfl rfl)
theorem dX1_joint_30 : decode cX1_joint 30 = .ok (.invokestatic 114, 3) := dk_184 0 114 (dk_at dksX1_joint_1 8 rfl rfl)
theorem dX1_joint_33 : decode cX1_joint 33 = .ok (.invokeinterface 118 2, 5) := by decide +kernel
theorem dX1_joint_38 : decode cX1_joint 38 = .ok (.pop, 1) := dk_87 (dk_at dksX1_joint_1 16 rfl rfl)
theorem dX1_joint_39 : decode cX1_joint 39 = .ok (.aload_n 0, 1) := dk_42 (dk_at dksX1_joint_1 17 rfl rfl)
theorem dX1_joint_40 : decode cX1_joint 40 = .ok (.getfield 31, 3) := dk_180 0 31 (dk_at dksX1_joint_1 18 rfl rfl)
theorem dX1_joint_43 : decode cX1_joint 43 = .ok (.invokeinterface 59 1, 5) := by decide +kernel
theorem dX1_joint_48 : decode cX1_joint 48 = .ok (.iconst 1, 1) := dk_4 (dk_at dksX1_joint_2 5 rfl rfl)
theorem dX1_joint_49 : decode cX1_joint 49 = .ok (.isub, 1) := dk_100 (dk_at dksX1_joint_2 6 rfl rfl)
theorem dX1_joint_50 : decode cX1_joint 50 = .ok (.ireturn, 1) := dk_172 (dk_at dksX1_joint_2 7 rfl rfl)
abbrev cX1_draw : ByteArray := prog_1_method_23_code
def yX1_draw : MethodName := ⟨RX1, "draw", "(IIIZ)I"⟩
def dkwX1_draw_8 : List UInt8 := [100, 172]
abbrev dktX1_draw_8 : List UInt8 := dkwX1_draw_8 ++ []
def dkwX1_draw_7 : List UInt8 := [167, 0, 4, 3, 3, 183, 0, 136, 182, 0, 139, 42, 180, 0, 39, 180, 0, 56, 185, 0, 59, 1, 0, 4]
abbrev dktX1_draw_7 : List UInt8 := dkwX1_draw_7 ++ dktX1_draw_8
def dkwX1_draw_6 : List UInt8 := [180, 0, 56, 185, 0, 59, 1, 0, 21, 5, 21, 8, 2, 21, 6, 21, 6, 5, 160, 0, 7, 4]
abbrev dktX1_draw_6 : List UInt8 := dkwX1_draw_6 ++ dktX1_draw_7
def dkwX1_draw_5 : List UInt8 := [153, 0, 7, 4, 167, 0, 4, 3, 54, 8, 42, 180, 0, 39, 187, 0, 73, 89, 42, 180, 0, 39]
abbrev dktX1_draw_5 : List UInt8 := dkwX1_draw_5 ++ dktX1_draw_6
def dkwX1_draw_4 : List UInt8 := [46, 5, 100, 161, 0, 7, 4, 167, 0, 4, 3, 54, 7, 21, 7, 153, 0, 7, 5, 167, 0, 13, 21, 4]
abbrev dktX1_draw_4 : List UInt8 := dkwX1_draw_4 ++ dktX1_draw_5
def dkwX1_draw_3 : List UInt8 := [54, 6, 21, 4, 153, 0, 30, 21, 6, 5, 160, 0, 24, 42, 21, 5, 182, 0, 125, 42, 180, 0, 18, 4]
abbrev dktX1_draw_3 : List UInt8 := dkwX1_draw_3 ++ dktX1_draw_4
def dkwX1_draw_2 : List UInt8 := [4, 167, 0, 4, 3, 184, 0, 110, 42, 27, 28, 29, 182, 0, 129, 54, 5, 42, 21, 5, 182, 0, 133]
abbrev dktX1_draw_2 : List UInt8 := dkwX1_draw_2 ++ dktX1_draw_3
def dkwX1_draw_1 : List UInt8 := [184, 0, 65, 29, 184, 0, 97, 42, 180, 0, 39, 180, 0, 56, 185, 0, 59, 1, 0, 16, 40, 162, 0, 7]
abbrev dktX1_draw_1 : List UInt8 := dkwX1_draw_1 ++ dktX1_draw_2
def dkwX1_draw_0 : List UInt8 := [27, 42, 180, 0, 28, 185, 0, 59, 1, 0, 184, 0, 65, 28, 42, 180, 0, 31, 185, 0, 59, 1, 0]
abbrev dktX1_draw_0 : List UInt8 := dkwX1_draw_0 ++ dktX1_draw_1
theorem dksX1_draw_0 : cX1_draw.data.toList.drop 0 = dktX1_draw_0 := by decide +kernel
theorem dksX1_draw_1 : cX1_draw.data.toList.drop 23 = dktX1_draw_1 := dk_seg dksX1_draw_0 23 rfl rfl
theorem dksX1_draw_2 : cX1_draw.data.toList.drop 47 = dktX1_draw_2 := dk_seg dksX1_draw_1 24 rfl rfl
theorem dksX1_draw_3 : cX1_draw.data.toList.drop 70 = dktX1_draw_3 := dk_seg dksX1_draw_2 23 rfl rfl
theorem dksX1_draw_4 : cX1_draw.data.toList.drop 94 = dktX1_draw_4 := dk_seg dksX1_draw_3 24 rfl rfl
theorem dksX1_draw_5 : cX1_draw.data.toList.drop 118 = dktX1_draw_5 := dk_seg dksX1_draw_4 24 rfl rfl
theorem dksX1_draw_6 : cX1_draw.data.toList.drop 140 = dktX1_draw_6 := dk_seg dksX1_draw_5 22 rfl rfl
theorem dksX1_draw_7 : cX1_draw.data.toList.drop 162 = dktX1_draw_7 := dk_seg dksX1_draw_6 22 rfl rfl
theorem dksX1_draw_8 : cX1_draw.data.toList.drop 186 = dktX1_draw_8 := dk_seg dksX1_draw_7 24 rfl rfl
theorem dX1_draw_0 : decode cX1_draw 0 = .ok (.iload_n 1, 1) := dk_27 (dk_at dksX1_draw_0 0 rfl rfl)
theorem dX1_draw_1 : decode cX1_draw 1 = .ok (.aload_n 0, 1) := dk_42 (dk_at dksX1_draw_0 1 rfl rfl)
theorem dX1_draw_2 : decode cX1_draw 2 = .ok (.getfield 28, 3) := dk_180 0 28 (dk_at dksX1_draw_0 2 rfl rfl)
theorem dX1_draw_5 : decode cX1_draw 5 = .ok (.invokeinterface 59 1, 5) := by decide +kernel
theorem dX1_draw_10 : decode cX1_draw 10 = .ok (.invokestatic 65, 3) := dk_184 0 65 (dk_at dksX1_draw_0 10 rfl rfl)
theorem dX1_draw_13 : decode cX1_draw 13 = .ok (.iload_n 2, 1) := dk_28 (dk_at dksX1_draw_0 13 rfl rfl)
theorem dX1_draw_14 : decode cX1_draw 14 = .ok (.aload_n 0, 1) := dk_42 (dk_at dksX1_draw_0 14 rfl rfl)
theorem dX1_draw_15 : decode cX1_draw 15 = .ok (.getfield 31, 3) := dk_180 0 31 (dk_at dksX1_draw_0 15 rfl rfl)
theorem dX1_draw_18 : decode cX1_draw 18 = .ok (.invokeinterface 59 1, 5) := by decide +kernel
theorem dX1_draw_23 : decode cX1_draw 23 = .ok (.invokestatic 65, 3) := dk_184 0 65 (dk_at dksX1_draw_1 0 rfl rfl)
theorem dX1_draw_26 : decode cX1_draw 26 = .ok (.iload_n 3, 1) := dk_29 (dk_at dksX1_draw_1 3 rfl rfl)
theorem dX1_draw_27 : decode cX1_draw 27 = .ok (.invokestatic 97, 3) := dk_184 0 97 (dk_at dksX1_draw_1 4 rfl rfl)
theorem dX1_draw_30 : decode cX1_draw 30 = .ok (.aload_n 0, 1) := dk_42 (dk_at dksX1_draw_1 7 rfl rfl)
theorem dX1_draw_31 : decode cX1_draw 31 = .ok (.getfield 39, 3) := dk_180 0 39 (dk_at dksX1_draw_1 8 rfl rfl)
theorem dX1_draw_34 : decode cX1_draw 34 = .ok (.getfield 56, 3) := dk_180 0 56 (dk_at dksX1_draw_1 11 rfl rfl)
theorem dX1_draw_37 : decode cX1_draw 37 = .ok (.invokeinterface 59 1, 5) := by decide +kernel
theorem dX1_draw_42 : decode cX1_draw 42 = .ok (.bipush 40, 2) := dk_16 40 (dk_at dksX1_draw_1 19 rfl rfl)
theorem dX1_draw_44 : decode cX1_draw 44 = .ok (.if_icmp .ge 7, 3) := dk_162 0 7 (dk_at dksX1_draw_1 21 rfl rfl)
theorem dX1_draw_47 : decode cX1_draw 47 = .ok (.iconst 1, 1) := dk_4 (dk_at dksX1_draw_2 0 rfl rfl)
theorem dX1_draw_48 : decode cX1_draw 48 = .ok (.goto 4, 3) := dk_167 0 4 (dk_at dksX1_draw_2 1 rfl rfl)
theorem dX1_draw_51 : decode cX1_draw 51 = .ok (.iconst 0, 1) := dk_3 (dk_at dksX1_draw_2 4 rfl rfl)
theorem dX1_draw_52 : decode cX1_draw 52 = .ok (.invokestatic 110, 3) := dk_184 0 110 (dk_at dksX1_draw_2 5 rfl rfl)
theorem dX1_draw_55 : decode cX1_draw 55 = .ok (.aload_n 0, 1) := dk_42 (dk_at dksX1_draw_2 8 rfl rfl)
theorem dX1_draw_56 : decode cX1_draw 56 = .ok (.iload_n 1, 1) := dk_27 (dk_at dksX1_draw_2 9 rfl rfl)
theorem dX1_draw_57 : decode cX1_draw 57 = .ok (.iload_n 2, 1) := dk_28 (dk_at dksX1_draw_2 10 rfl rfl)
theorem dX1_draw_58 : decode cX1_draw 58 = .ok (.iload_n 3, 1) := dk_29 (dk_at dksX1_draw_2 11 rfl rfl)
theorem dX1_draw_59 : decode cX1_draw 59 = .ok (.invokevirtual 129, 3) := dk_182 0 129 (dk_at dksX1_draw_2 12 rfl rfl)
theorem dX1_draw_62 : decode cX1_draw 62 = .ok (.istore 5, 2) := dk_54 5 (dk_at dksX1_draw_2 15 rfl rfl)
theorem dX1_draw_64 : decode cX1_draw 64 = .ok (.aload_n 0, 1) := dk_42 (dk_at dksX1_draw_2 17 rfl rfl)
theorem dX1_draw_65 : decode cX1_draw 65 = .ok (.iload 5, 2) := dk_21 5 (dk_at dksX1_draw_2 18 rfl rfl)
theorem dX1_draw_67 : decode cX1_draw 67 = .ok (.invokevirtual 133, 3) := dk_182 0 133 (dk_at dksX1_draw_2 20 rfl rfl)
theorem dX1_draw_70 : decode cX1_draw 70 = .ok (.istore 6, 2) := dk_54 6 (dk_at dksX1_draw_3 0 rfl rfl)
theorem dX1_draw_72 : decode cX1_draw 72 = .ok (.iload 4, 2) := dk_21 4 (dk_at dksX1_draw_3 2 rfl rfl)
theorem dX1_draw_74 : decode cX1_draw 74 = .ok (.ifCond .eq 30, 3) := dk_153 0 30 (dk_at dksX1_draw_3 4 rfl rfl)
theorem dX1_draw_77 : decode cX1_draw 77 = .ok (.iload 6, 2) := dk_21 6 (dk_at dksX1_draw_3 7 rfl rfl)
theorem dX1_draw_79 : decode cX1_draw 79 = .ok (.iconst 2, 1) := dk_5 (dk_at dksX1_draw_3 9 rfl rfl)
theorem dX1_draw_80 : decode cX1_draw 80 = .ok (.if_icmp .ne 24, 3) := dk_160 0 24 (dk_at dksX1_draw_3 10 rfl rfl)
theorem dX1_draw_83 : decode cX1_draw 83 = .ok (.aload_n 0, 1) := dk_42 (dk_at dksX1_draw_3 13 rfl rfl)
theorem dX1_draw_84 : decode cX1_draw 84 = .ok (.iload 5, 2) := dk_21 5 (dk_at dksX1_draw_3 14 rfl rfl)
theorem dX1_draw_86 : decode cX1_draw 86 = .ok (.invokevirtual 125, 3) := dk_182 0 125 (dk_at dksX1_draw_3 16 rfl rfl)
theorem dX1_draw_89 : decode cX1_draw 89 = .ok (.aload_n 0, 1) := dk_42 (dk_at dksX1_draw_3 19 rfl rfl)
theorem dX1_draw_90 : decode cX1_draw 90 = .ok (.getfield 18, 3) := dk_180 0 18 (dk_at dksX1_draw_3 20 rfl rfl)
theorem dX1_draw_93 : decode cX1_draw 93 = .ok (.iconst 1, 1) := dk_4 (dk_at dksX1_draw_3 23 rfl rfl)
theorem dX1_draw_94 : decode cX1_draw 94 = .ok (.iaload, 1) := dk_46 (dk_at dksX1_draw_4 0 rfl rfl)
theorem dX1_draw_95 : decode cX1_draw 95 = .ok (.iconst 2, 1) := dk_5 (dk_at dksX1_draw_4 1 rfl rfl)
theorem dX1_draw_96 : decode cX1_draw 96 = .ok (.isub, 1) := dk_100 (dk_at dksX1_draw_4 2 rfl rfl)
theorem dX1_draw_97 : decode cX1_draw 97 = .ok (.if_icmp .lt 7, 3) := dk_161 0 7 (dk_at dksX1_draw_4 3 rfl rfl)
theorem dX1_draw_100 : decode cX1_draw 100 = .ok (.iconst 1, 1) := dk_4 (dk_at dksX1_draw_4 6 rfl rfl)
theorem dX1_draw_101 : decode cX1_draw 101 = .ok (.goto 4, 3) := dk_167 0 4 (dk_at dksX1_draw_4 7 rfl rfl)
theorem dX1_draw_104 : decode cX1_draw 104 = .ok (.iconst 0, 1) := dk_3 (dk_at dksX1_draw_4 10 rfl rfl)
theorem dX1_draw_105 : decode cX1_draw 105 = .ok (.istore 7, 2) := dk_54 7 (dk_at dksX1_draw_4 11 rfl rfl)
theorem dX1_draw_107 : decode cX1_draw 107 = .ok (.iload 7, 2) := dk_21 7 (dk_at dksX1_draw_4 13 rfl rfl)
theorem dX1_draw_109 : decode cX1_draw 109 = .ok (.ifCond .eq 7, 3) := dk_153 0 7 (dk_at dksX1_draw_4 15 rfl rfl)
theorem dX1_draw_112 : decode cX1_draw 112 = .ok (.iconst 2, 1) := dk_5 (dk_at dksX1_draw_4 18 rfl rfl)
theorem dX1_draw_113 : decode cX1_draw 113 = .ok (.goto 13, 3) := dk_167 0 13 (dk_at dksX1_draw_4 19 rfl rfl)
theorem dX1_draw_116 : decode cX1_draw 116 = .ok (.iload 4, 2) := dk_21 4 (dk_at dksX1_draw_4 22 rfl rfl)
theorem dX1_draw_118 : decode cX1_draw 118 = .ok (.ifCond .eq 7, 3) := dk_153 0 7 (dk_at dksX1_draw_5 0 rfl rfl)
theorem dX1_draw_121 : decode cX1_draw 121 = .ok (.iconst 1, 1) := dk_4 (dk_at dksX1_draw_5 3 rfl rfl)
theorem dX1_draw_122 : decode cX1_draw 122 = .ok (.goto 4, 3) := dk_167 0 4 (dk_at dksX1_draw_5 4 rfl rfl)
theorem dX1_draw_125 : decode cX1_draw 125 = .ok (.iconst 0, 1) := dk_3 (dk_at dksX1_draw_5 7 rfl rfl)
theorem dX1_draw_126 : decode cX1_draw 126 = .ok (.istore 8, 2) := dk_54 8 (dk_at dksX1_draw_5 8 rfl rfl)
theorem dX1_draw_128 : decode cX1_draw 128 = .ok (.aload_n 0, 1) := dk_42 (dk_at dksX1_draw_5 10 rfl rfl)
theorem dX1_draw_129 : decode cX1_draw 129 = .ok (.getfield 39, 3) := dk_180 0 39 (dk_at dksX1_draw_5 11 rfl rfl)
theorem dX1_draw_132 : decode cX1_draw 132 = .ok (.new 73, 3) := dk_187 0 73 (dk_at dksX1_draw_5 14 rfl rfl)
theorem dX1_draw_135 : decode cX1_draw 135 = .ok (.dup, 1) := dk_89 (dk_at dksX1_draw_5 17 rfl rfl)
theorem dX1_draw_136 : decode cX1_draw 136 = .ok (.aload_n 0, 1) := dk_42 (dk_at dksX1_draw_5 18 rfl rfl)
theorem dX1_draw_137 : decode cX1_draw 137 = .ok (.getfield 39, 3) := dk_180 0 39 (dk_at dksX1_draw_5 19 rfl rfl)
theorem dX1_draw_140 : decode cX1_draw 140 = .ok (.getfield 56, 3) := dk_180 0 56 (dk_at dksX1_draw_6 0 rfl rfl)
theorem dX1_draw_143 : decode cX1_draw 143 = .ok (.invokeinterface 59 1, 5) := by decide +kernel
theorem dX1_draw_148 : decode cX1_draw 148 = .ok (.iload 5, 2) := dk_21 5 (dk_at dksX1_draw_6 8 rfl rfl)
theorem dX1_draw_150 : decode cX1_draw 150 = .ok (.iload 8, 2) := dk_21 8 (dk_at dksX1_draw_6 10 rfl rfl)
theorem dX1_draw_152 : decode cX1_draw 152 = .ok (.iconst (-1), 1) := dk_2 (dk_at dksX1_draw_6 12 rfl rfl)
theorem dX1_draw_153 : decode cX1_draw 153 = .ok (.iload 6, 2) := dk_21 6 (dk_at dksX1_draw_6 13 rfl rfl)
theorem dX1_draw_155 : decode cX1_draw 155 = .ok (.iload 6, 2) := dk_21 6 (dk_at dksX1_draw_6 15 rfl rfl)
theorem dX1_draw_157 : decode cX1_draw 157 = .ok (.iconst 2, 1) := dk_5 (dk_at dksX1_draw_6 17 rfl rfl)
theorem dX1_draw_158 : decode cX1_draw 158 = .ok (.if_icmp .ne 7, 3) := dk_160 0 7 (dk_at dksX1_draw_6 18 rfl rfl)
theorem dX1_draw_161 : decode cX1_draw 161 = .ok (.iconst 1, 1) := dk_4 (dk_at dksX1_draw_6 21 rfl rfl)
theorem dX1_draw_162 : decode cX1_draw 162 = .ok (.goto 4, 3) := dk_167 0 4 (dk_at dksX1_draw_7 0 rfl rfl)
theorem dX1_draw_165 : decode cX1_draw 165 = .ok (.iconst 0, 1) := dk_3 (dk_at dksX1_draw_7 3 rfl rfl)
theorem dX1_draw_166 : decode cX1_draw 166 = .ok (.iconst 0, 1) := dk_3 (dk_at dksX1_draw_7 4 rfl rfl)
theorem dX1_draw_167 : decode cX1_draw 167 = .ok (.invokespecial 136, 3) := dk_183 0 136 (dk_at dksX1_draw_7 5 rfl rfl)
theorem dX1_draw_170 : decode cX1_draw 170 = .ok (.invokevirtual 139, 3) := dk_182 0 139 (dk_at dksX1_draw_7 8 rfl rfl)
theorem dX1_draw_173 : decode cX1_draw 173 = .ok (.aload_n 0, 1) := dk_42 (dk_at dksX1_draw_7 11 rfl rfl)
theorem dX1_draw_174 : decode cX1_draw 174 = .ok (.getfield 39, 3) := dk_180 0 39 (dk_at dksX1_draw_7 12 rfl rfl)
theorem dX1_draw_177 : decode cX1_draw 177 = .ok (.getfield 56, 3) := dk_180 0 56 (dk_at dksX1_draw_7 15 rfl rfl)
theorem dX1_draw_180 : decode cX1_draw 180 = .ok (.invokeinterface 59 1, 5) := by decide +kernel
theorem dX1_draw_185 : decode cX1_draw 185 = .ok (.iconst 1, 1) := dk_4 (dk_at dksX1_draw_7 23 rfl rfl)
theorem dX1_draw_186 : decode cX1_draw 186 = .ok (.isub, 1) := dk_100 (dk_at dksX1_draw_8 0 rfl rfl)
theorem dX1_draw_187 : decode cX1_draw 187 = .ok (.ireturn, 1) := dk_172 (dk_at dksX1_draw_8 1 rfl rfl)
abbrev cX1_slip : ByteArray := prog_1_method_24_code
def yX1_slip : MethodName := ⟨RX1, "slip", "(III)I"⟩
def dkwX1_slip_8 : List UInt8 := [21, 7, 172]
abbrev dktX1_slip_8 : List UInt8 := dkwX1_slip_8 ++ []
def dkwX1_slip_7 : List UInt8 := [167, 0, 4, 4, 21, 6, 153, 0, 7, 3, 167, 0, 8, 25, 4, 180, 0, 156, 183, 0, 136, 182, 0, 139]
abbrev dktX1_slip_7 : List UInt8 := dkwX1_slip_7 ++ dktX1_slip_8
def dkwX1_slip_6 : List UInt8 := [21, 5, 25, 4, 180, 0, 153, 27, 21, 6, 153, 0, 7, 3, 167, 0, 4, 6, 21, 6, 153, 0, 7, 3]
abbrev dktX1_slip_6 : List UInt8 := dkwX1_slip_6 ++ dktX1_slip_7
def dkwX1_slip_5 : List UInt8 := [42, 180, 0, 39, 180, 0, 56, 185, 0, 59, 1, 0, 54, 7, 42, 180, 0, 39, 187, 0, 73, 89, 21, 7]
abbrev dktX1_slip_5 : List UInt8 := dkwX1_slip_5 ++ dktX1_slip_6
def dkwX1_slip_4 : List UInt8 := [54, 5, 42, 21, 5, 182, 0, 125, 42, 180, 0, 18, 4, 46, 161, 0, 7, 4, 167, 0, 4, 3, 54, 6]
abbrev dktX1_slip_4 : List UInt8 := dkwX1_slip_4 ++ dktX1_slip_5
def dkwX1_slip_3 : List UInt8 := [3, 184, 0, 110, 25, 4, 180, 0, 146, 6, 5, 28, 104, 120, 2, 130, 126, 29, 5, 28, 104, 120, 128]
abbrev dktX1_slip_3 : List UInt8 := dkwX1_slip_3 ++ dktX1_slip_4
def dkwX1_slip_2 : List UInt8 := [160, 0, 24, 42, 180, 0, 39, 180, 0, 56, 185, 0, 59, 1, 0, 16, 40, 162, 0, 7, 4, 167, 0, 4]
abbrev dktX1_slip_2 : List UInt8 := dkwX1_slip_2 ++ dktX1_slip_3
def dkwX1_slip_1 : List UInt8 := [184, 0, 80, 29, 160, 0, 7, 4, 167, 0, 4, 3, 3, 3, 184, 0, 52, 25, 4, 180, 0, 150, 6]
abbrev dktX1_slip_1 : List UInt8 := dkwX1_slip_1 ++ dktX1_slip_2
def dkwX1_slip_0 : List UInt8 := [42, 27, 182, 0, 142, 58, 4, 28, 7, 184, 0, 65, 29, 184, 0, 97, 25, 4, 180, 0, 146, 28]
abbrev dktX1_slip_0 : List UInt8 := dkwX1_slip_0 ++ dktX1_slip_1
theorem dksX1_slip_0 : cX1_slip.data.toList.drop 0 = dktX1_slip_0 := by decide +kernel
theorem dksX1_slip_1 : cX1_slip.data.toList.drop 22 = dktX1_slip_1 := dk_seg dksX1_slip_0 22 rfl rfl
theorem dksX1_slip_2 : cX1_slip.data.toList.drop 45 = dktX1_slip_2 := dk_seg dksX1_slip_1 23 rfl rfl
theorem dksX1_slip_3 : cX1_slip.data.toList.drop 69 = dktX1_slip_3 := dk_seg dksX1_slip_2 24 rfl rfl
theorem dksX1_slip_4 : cX1_slip.data.toList.drop 92 = dktX1_slip_4 := dk_seg dksX1_slip_3 23 rfl rfl
theorem dksX1_slip_5 : cX1_slip.data.toList.drop 116 = dktX1_slip_5 := dk_seg dksX1_slip_4 24 rfl rfl
theorem dksX1_slip_6 : cX1_slip.data.toList.drop 140 = dktX1_slip_6 := dk_seg dksX1_slip_5 24 rfl rfl
theorem dksX1_slip_7 : cX1_slip.data.toList.drop 164 = dktX1_slip_7 := dk_seg dksX1_slip_6 24 rfl rfl
theorem dksX1_slip_8 : cX1_slip.data.toList.drop 188 = dktX1_slip_8 := dk_seg dksX1_slip_7 24 rfl rfl
theorem dX1_slip_0 : decode cX1_slip 0 = .ok (.aload_n 0, 1) := dk_42 (dk_at dksX1_slip_0 0 rfl rfl)
theorem dX1_slip_1 : decode cX1_slip 1 = .ok (.iload_n 1, 1) := dk_27 (dk_at dksX1_slip_0 1 rfl rfl)
theorem dX1_slip_2 : decode cX1_slip 2 = .ok (.invokevirtual 142, 3) := dk_182 0 142 (dk_at dksX1_slip_0 2 rfl rfl)
theorem dX1_slip_5 : decode cX1_slip 5 = .ok (.astore 4, 2) := dk_58 4 (dk_at dksX1_slip_0 5 rfl rfl)
theorem dX1_slip_7 : decode cX1_slip 7 = .ok (.iload_n 2, 1) := dk_28 (dk_at dksX1_slip_0 7 rfl rfl)
theorem dX1_slip_8 : decode cX1_slip 8 = .ok (.iconst 4, 1) := dk_7 (dk_at dksX1_slip_0 8 rfl rfl)
theorem dX1_slip_9 : decode cX1_slip 9 = .ok (.invokestatic 65, 3) := dk_184 0 65 (dk_at dksX1_slip_0 9 rfl rfl)
theorem dX1_slip_12 : decode cX1_slip 12 = .ok (.iload_n 3, 1) := dk_29 (dk_at dksX1_slip_0 12 rfl rfl)
theorem dX1_slip_13 : decode cX1_slip 13 = .ok (.invokestatic 97, 3) := dk_184 0 97 (dk_at dksX1_slip_0 13 rfl rfl)
theorem dX1_slip_16 : decode cX1_slip 16 = .ok (.aload 4, 2) := dk_25 4 (dk_at dksX1_slip_0 16 rfl rfl)
theorem dX1_slip_18 : decode cX1_slip 18 = .ok (.getfield 146, 3) := dk_180 0 146 (dk_at dksX1_slip_0 18 rfl rfl)
theorem dX1_slip_21 : decode cX1_slip 21 = .ok (.iload_n 2, 1) := dk_28 (dk_at dksX1_slip_0 21 rfl rfl)
theorem dX1_slip_22 : decode cX1_slip 22 = .ok (.invokestatic 80, 3) := dk_184 0 80 (dk_at dksX1_slip_1 0 rfl rfl)
theorem dX1_slip_25 : decode cX1_slip 25 = .ok (.iload_n 3, 1) := dk_29 (dk_at dksX1_slip_1 3 rfl rfl)
theorem dX1_slip_26 : decode cX1_slip 26 = .ok (.if_icmp .ne 7, 3) := dk_160 0 7 (dk_at dksX1_slip_1 4 rfl rfl)
theorem dX1_slip_29 : decode cX1_slip 29 = .ok (.iconst 1, 1) := dk_4 (dk_at dksX1_slip_1 7 rfl rfl)
theorem dX1_slip_30 : decode cX1_slip 30 = .ok (.goto 4, 3) := dk_167 0 4 (dk_at dksX1_slip_1 8 rfl rfl)
theorem dX1_slip_33 : decode cX1_slip 33 = .ok (.iconst 0, 1) := dk_3 (dk_at dksX1_slip_1 11 rfl rfl)
theorem dX1_slip_34 : decode cX1_slip 34 = .ok (.iconst 0, 1) := dk_3 (dk_at dksX1_slip_1 12 rfl rfl)
theorem dX1_slip_35 : decode cX1_slip 35 = .ok (.iconst 0, 1) := dk_3 (dk_at dksX1_slip_1 13 rfl rfl)
theorem dX1_slip_36 : decode cX1_slip 36 = .ok (.invokestatic 52, 3) := dk_184 0 52 (dk_at dksX1_slip_1 14 rfl rfl)
theorem dX1_slip_39 : decode cX1_slip 39 = .ok (.aload 4, 2) := dk_25 4 (dk_at dksX1_slip_1 17 rfl rfl)
theorem dX1_slip_41 : decode cX1_slip 41 = .ok (.getfield 150, 3) := dk_180 0 150 (dk_at dksX1_slip_1 19 rfl rfl)
theorem dX1_slip_44 : decode cX1_slip 44 = .ok (.iconst 3, 1) := dk_6 (dk_at dksX1_slip_1 22 rfl rfl)
theorem dX1_slip_45 : decode cX1_slip 45 = .ok (.if_icmp .ne 24, 3) := dk_160 0 24 (dk_at dksX1_slip_2 0 rfl rfl)
theorem dX1_slip_48 : decode cX1_slip 48 = .ok (.aload_n 0, 1) := dk_42 (dk_at dksX1_slip_2 3 rfl rfl)
theorem dX1_slip_49 : decode cX1_slip 49 = .ok (.getfield 39, 3) := dk_180 0 39 (dk_at dksX1_slip_2 4 rfl rfl)
theorem dX1_slip_52 : decode cX1_slip 52 = .ok (.getfield 56, 3) := dk_180 0 56 (dk_at dksX1_slip_2 7 rfl rfl)
theorem dX1_slip_55 : decode cX1_slip 55 = .ok (.invokeinterface 59 1, 5) := by decide +kernel
theorem dX1_slip_60 : decode cX1_slip 60 = .ok (.bipush 40, 2) := dk_16 40 (dk_at dksX1_slip_2 15 rfl rfl)
theorem dX1_slip_62 : decode cX1_slip 62 = .ok (.if_icmp .ge 7, 3) := dk_162 0 7 (dk_at dksX1_slip_2 17 rfl rfl)
theorem dX1_slip_65 : decode cX1_slip 65 = .ok (.iconst 1, 1) := dk_4 (dk_at dksX1_slip_2 20 rfl rfl)
theorem dX1_slip_66 : decode cX1_slip 66 = .ok (.goto 4, 3) := dk_167 0 4 (dk_at dksX1_slip_2 21 rfl rfl)
theorem dX1_slip_69 : decode cX1_slip 69 = .ok (.iconst 0, 1) := dk_3 (dk_at dksX1_slip_3 0 rfl rfl)
theorem dX1_slip_70 : decode cX1_slip 70 = .ok (.invokestatic 110, 3) := dk_184 0 110 (dk_at dksX1_slip_3 1 rfl rfl)
theorem dX1_slip_73 : decode cX1_slip 73 = .ok (.aload 4, 2) := dk_25 4 (dk_at dksX1_slip_3 4 rfl rfl)
theorem dX1_slip_75 : decode cX1_slip 75 = .ok (.getfield 146, 3) := dk_180 0 146 (dk_at dksX1_slip_3 6 rfl rfl)
theorem dX1_slip_78 : decode cX1_slip 78 = .ok (.iconst 3, 1) := dk_6 (dk_at dksX1_slip_3 9 rfl rfl)
theorem dX1_slip_79 : decode cX1_slip 79 = .ok (.iconst 2, 1) := dk_5 (dk_at dksX1_slip_3 10 rfl rfl)
theorem dX1_slip_80 : decode cX1_slip 80 = .ok (.iload_n 2, 1) := dk_28 (dk_at dksX1_slip_3 11 rfl rfl)
theorem dX1_slip_81 : decode cX1_slip 81 = .ok (.imul, 1) := dk_104 (dk_at dksX1_slip_3 12 rfl rfl)
theorem dX1_slip_82 : decode cX1_slip 82 = .ok (.ishl, 1) := dk_120 (dk_at dksX1_slip_3 13 rfl rfl)
theorem dX1_slip_83 : decode cX1_slip 83 = .ok (.iconst (-1), 1) := dk_2 (dk_at dksX1_slip_3 14 rfl rfl)
theorem dX1_slip_84 : decode cX1_slip 84 = .ok (.ixor, 1) := dk_130 (dk_at dksX1_slip_3 15 rfl rfl)
theorem dX1_slip_85 : decode cX1_slip 85 = .ok (.iand, 1) := dk_126 (dk_at dksX1_slip_3 16 rfl rfl)
theorem dX1_slip_86 : decode cX1_slip 86 = .ok (.iload_n 3, 1) := dk_29 (dk_at dksX1_slip_3 17 rfl rfl)
theorem dX1_slip_87 : decode cX1_slip 87 = .ok (.iconst 2, 1) := dk_5 (dk_at dksX1_slip_3 18 rfl rfl)
theorem dX1_slip_88 : decode cX1_slip 88 = .ok (.iload_n 2, 1) := dk_28 (dk_at dksX1_slip_3 19 rfl rfl)
theorem dX1_slip_89 : decode cX1_slip 89 = .ok (.imul, 1) := dk_104 (dk_at dksX1_slip_3 20 rfl rfl)
theorem dX1_slip_90 : decode cX1_slip 90 = .ok (.ishl, 1) := dk_120 (dk_at dksX1_slip_3 21 rfl rfl)
theorem dX1_slip_91 : decode cX1_slip 91 = .ok (.ior, 1) := dk_128 (dk_at dksX1_slip_3 22 rfl rfl)
theorem dX1_slip_92 : decode cX1_slip 92 = .ok (.istore 5, 2) := dk_54 5 (dk_at dksX1_slip_4 0 rfl rfl)
theorem dX1_slip_94 : decode cX1_slip 94 = .ok (.aload_n 0, 1) := dk_42 (dk_at dksX1_slip_4 2 rfl rfl)
theorem dX1_slip_95 : decode cX1_slip 95 = .ok (.iload 5, 2) := dk_21 5 (dk_at dksX1_slip_4 3 rfl rfl)
theorem dX1_slip_97 : decode cX1_slip 97 = .ok (.invokevirtual 125, 3) := dk_182 0 125 (dk_at dksX1_slip_4 5 rfl rfl)
theorem dX1_slip_100 : decode cX1_slip 100 = .ok (.aload_n 0, 1) := dk_42 (dk_at dksX1_slip_4 8 rfl rfl)
theorem dX1_slip_101 : decode cX1_slip 101 = .ok (.getfield 18, 3) := dk_180 0 18 (dk_at dksX1_slip_4 9 rfl rfl)
theorem dX1_slip_104 : decode cX1_slip 104 = .ok (.iconst 1, 1) := dk_4 (dk_at dksX1_slip_4 12 rfl rfl)
theorem dX1_slip_105 : decode cX1_slip 105 = .ok (.iaload, 1) := dk_46 (dk_at dksX1_slip_4 13 rfl rfl)
theorem dX1_slip_106 : decode cX1_slip 106 = .ok (.if_icmp .lt 7, 3) := dk_161 0 7 (dk_at dksX1_slip_4 14 rfl rfl)
theorem dX1_slip_109 : decode cX1_slip 109 = .ok (.iconst 1, 1) := dk_4 (dk_at dksX1_slip_4 17 rfl rfl)
theorem dX1_slip_110 : decode cX1_slip 110 = .ok (.goto 4, 3) := dk_167 0 4 (dk_at dksX1_slip_4 18 rfl rfl)
theorem dX1_slip_113 : decode cX1_slip 113 = .ok (.iconst 0, 1) := dk_3 (dk_at dksX1_slip_4 21 rfl rfl)
theorem dX1_slip_114 : decode cX1_slip 114 = .ok (.istore 6, 2) := dk_54 6 (dk_at dksX1_slip_4 22 rfl rfl)
theorem dX1_slip_116 : decode cX1_slip 116 = .ok (.aload_n 0, 1) := dk_42 (dk_at dksX1_slip_5 0 rfl rfl)
theorem dX1_slip_117 : decode cX1_slip 117 = .ok (.getfield 39, 3) := dk_180 0 39 (dk_at dksX1_slip_5 1 rfl rfl)
theorem dX1_slip_120 : decode cX1_slip 120 = .ok (.getfield 56, 3) := dk_180 0 56 (dk_at dksX1_slip_5 4 rfl rfl)
theorem dX1_slip_123 : decode cX1_slip 123 = .ok (.invokeinterface 59 1, 5) := by decide +kernel
theorem dX1_slip_128 : decode cX1_slip 128 = .ok (.istore 7, 2) := dk_54 7 (dk_at dksX1_slip_5 12 rfl rfl)
theorem dX1_slip_130 : decode cX1_slip 130 = .ok (.aload_n 0, 1) := dk_42 (dk_at dksX1_slip_5 14 rfl rfl)
theorem dX1_slip_131 : decode cX1_slip 131 = .ok (.getfield 39, 3) := dk_180 0 39 (dk_at dksX1_slip_5 15 rfl rfl)
theorem dX1_slip_134 : decode cX1_slip 134 = .ok (.new 73, 3) := dk_187 0 73 (dk_at dksX1_slip_5 18 rfl rfl)
theorem dX1_slip_137 : decode cX1_slip 137 = .ok (.dup, 1) := dk_89 (dk_at dksX1_slip_5 21 rfl rfl)
theorem dX1_slip_138 : decode cX1_slip 138 = .ok (.iload 7, 2) := dk_21 7 (dk_at dksX1_slip_5 22 rfl rfl)
theorem dX1_slip_140 : decode cX1_slip 140 = .ok (.iload 5, 2) := dk_21 5 (dk_at dksX1_slip_6 0 rfl rfl)
theorem dX1_slip_142 : decode cX1_slip 142 = .ok (.aload 4, 2) := dk_25 4 (dk_at dksX1_slip_6 2 rfl rfl)
theorem dX1_slip_144 : decode cX1_slip 144 = .ok (.getfield 153, 3) := dk_180 0 153 (dk_at dksX1_slip_6 4 rfl rfl)
theorem dX1_slip_147 : decode cX1_slip 147 = .ok (.iload_n 1, 1) := dk_27 (dk_at dksX1_slip_6 7 rfl rfl)
theorem dX1_slip_148 : decode cX1_slip 148 = .ok (.iload 6, 2) := dk_21 6 (dk_at dksX1_slip_6 8 rfl rfl)
theorem dX1_slip_150 : decode cX1_slip 150 = .ok (.ifCond .eq 7, 3) := dk_153 0 7 (dk_at dksX1_slip_6 10 rfl rfl)
theorem dX1_slip_153 : decode cX1_slip 153 = .ok (.iconst 0, 1) := dk_3 (dk_at dksX1_slip_6 13 rfl rfl)
theorem dX1_slip_154 : decode cX1_slip 154 = .ok (.goto 4, 3) := dk_167 0 4 (dk_at dksX1_slip_6 14 rfl rfl)
theorem dX1_slip_157 : decode cX1_slip 157 = .ok (.iconst 3, 1) := dk_6 (dk_at dksX1_slip_6 17 rfl rfl)
theorem dX1_slip_158 : decode cX1_slip 158 = .ok (.iload 6, 2) := dk_21 6 (dk_at dksX1_slip_6 18 rfl rfl)
theorem dX1_slip_160 : decode cX1_slip 160 = .ok (.ifCond .eq 7, 3) := dk_153 0 7 (dk_at dksX1_slip_6 20 rfl rfl)
theorem dX1_slip_163 : decode cX1_slip 163 = .ok (.iconst 0, 1) := dk_3 (dk_at dksX1_slip_6 23 rfl rfl)
theorem dX1_slip_164 : decode cX1_slip 164 = .ok (.goto 4, 3) := dk_167 0 4 (dk_at dksX1_slip_7 0 rfl rfl)
theorem dX1_slip_167 : decode cX1_slip 167 = .ok (.iconst 1, 1) := dk_4 (dk_at dksX1_slip_7 3 rfl rfl)
theorem dX1_slip_168 : decode cX1_slip 168 = .ok (.iload 6, 2) := dk_21 6 (dk_at dksX1_slip_7 4 rfl rfl)
theorem dX1_slip_170 : decode cX1_slip 170 = .ok (.ifCond .eq 7, 3) := dk_153 0 7 (dk_at dksX1_slip_7 6 rfl rfl)
theorem dX1_slip_173 : decode cX1_slip 173 = .ok (.iconst 0, 1) := dk_3 (dk_at dksX1_slip_7 9 rfl rfl)
theorem dX1_slip_174 : decode cX1_slip 174 = .ok (.goto 8, 3) := dk_167 0 8 (dk_at dksX1_slip_7 10 rfl rfl)
theorem dX1_slip_177 : decode cX1_slip 177 = .ok (.aload 4, 2) := dk_25 4 (dk_at dksX1_slip_7 13 rfl rfl)
theorem dX1_slip_179 : decode cX1_slip 179 = .ok (.getfield 156, 3) := dk_180 0 156 (dk_at dksX1_slip_7 15 rfl rfl)
theorem dX1_slip_182 : decode cX1_slip 182 = .ok (.invokespecial 136, 3) := dk_183 0 136 (dk_at dksX1_slip_7 18 rfl rfl)
theorem dX1_slip_185 : decode cX1_slip 185 = .ok (.invokevirtual 139, 3) := dk_182 0 139 (dk_at dksX1_slip_7 21 rfl rfl)
theorem dX1_slip_188 : decode cX1_slip 188 = .ok (.iload 7, 2) := dk_21 7 (dk_at dksX1_slip_8 0 rfl rfl)
theorem dX1_slip_190 : decode cX1_slip 190 = .ok (.ireturn, 1) := dk_172 (dk_at dksX1_slip_8 2 rfl rfl)
abbrev cX1_cellAt : ByteArray := prog_1_method_7_code
def yX1_cellAt : MethodName := ⟨RX1, "cellAt", "(I)LKeylockBody$Cell;"⟩
def dkwX1_cellAt_1 : List UInt8 := [185, 0, 69, 2, 0, 192, 0, 73, 176]
abbrev dktX1_cellAt_1 : List UInt8 := dkwX1_cellAt_1 ++ []
def dkwX1_cellAt_0 : List UInt8 := [27, 42, 180, 0, 39, 180, 0, 56, 185, 0, 59, 1, 0, 184, 0, 65, 42, 180, 0, 39, 180, 0, 56, 27]
abbrev dktX1_cellAt_0 : List UInt8 := dkwX1_cellAt_0 ++ dktX1_cellAt_1
theorem dksX1_cellAt_0 : cX1_cellAt.data.toList.drop 0 = dktX1_cellAt_0 := by decide +kernel
theorem dksX1_cellAt_1 : cX1_cellAt.data.toList.drop 24 = dktX1_cellAt_1 := dk_seg dksX1_cellAt_0 24 rfl rfl
theorem dX1_cellAt_0 : decode cX1_cellAt 0 = .ok (.iload_n 1, 1) := dk_27 (dk_at dksX1_cellAt_0 0 rfl rfl)
theorem dX1_cellAt_1 : decode cX1_cellAt 1 = .ok (.aload_n 0, 1) := dk_42 (dk_at dksX1_cellAt_0 1 rfl rfl)
theorem dX1_cellAt_2 : decode cX1_cellAt 2 = .ok (.getfield 39, 3) := dk_180 0 39 (dk_at dksX1_cellAt_0 2 rfl rfl)
theorem dX1_cellAt_5 : decode cX1_cellAt 5 = .ok (.getfield 56, 3) := dk_180 0 56 (dk_at dksX1_cellAt_0 5 rfl rfl)
theorem dX1_cellAt_8 : decode cX1_cellAt 8 = .ok (.invokeinterface 59 1, 5) := by decide +kernel
theorem dX1_cellAt_13 : decode cX1_cellAt 13 = .ok (.invokestatic 65, 3) := dk_184 0 65 (dk_at dksX1_cellAt_0 13 rfl rfl)
theorem dX1_cellAt_16 : decode cX1_cellAt 16 = .ok (.aload_n 0, 1) := dk_42 (dk_at dksX1_cellAt_0 16 rfl rfl)
theorem dX1_cellAt_17 : decode cX1_cellAt 17 = .ok (.getfield 39, 3) := dk_180 0 39 (dk_at dksX1_cellAt_0 17 rfl rfl)
theorem dX1_cellAt_20 : decode cX1_cellAt 20 = .ok (.getfield 56, 3) := dk_180 0 56 (dk_at dksX1_cellAt_0 20 rfl rfl)
theorem dX1_cellAt_23 : decode cX1_cellAt 23 = .ok (.iload_n 1, 1) := dk_27 (dk_at dksX1_cellAt_0 23 rfl rfl)
theorem dX1_cellAt_24 : decode cX1_cellAt 24 = .ok (.invokeinterface 69 2, 5) := by decide +kernel
theorem dX1_cellAt_29 : decode cX1_cellAt 29 = .ok (.checkcast 73, 3) := dk_192 0 73 (dk_at dksX1_cellAt_1 5 rfl rfl)
theorem dX1_cellAt_32 : decode cX1_cellAt 32 = .ok (.areturn, 1) := dk_176 (dk_at dksX1_cellAt_1 8 rfl rfl)
abbrev cX1_cellIs : ByteArray := prog_1_method_25_code
def yX1_cellIs : MethodName := ⟨RX1, "cellIs", "(II)I"⟩
def dkwX1_cellIs_3 : List UInt8 := [180, 0, 159, 167, 0, 14, 45, 180, 0, 156, 167, 0, 7, 45, 180, 0, 161, 172]
abbrev dktX1_cellIs_3 : List UInt8 := dkwX1_cellIs_3 ++ []
def dkwX1_cellIs_2 : List UInt8 := [45, 180, 0, 146, 167, 0, 35, 45, 180, 0, 153, 167, 0, 28, 45, 180, 0, 150, 167, 0, 21, 45]
abbrev dktX1_cellIs_2 : List UInt8 := dkwX1_cellIs_2 ++ dktX1_cellIs_3
def dkwX1_cellIs_1 : List UInt8 := [170, 0, 0, 0, 0, 0, 70, 0, 0, 0, 0, 0, 0, 0, 4, 0, 0, 0, 35, 0, 0, 0, 42, 0, 0, 0, 49, 0, 0, 0, 56, 0, 0, 0, 63]
abbrev dktX1_cellIs_1 : List UInt8 := dkwX1_cellIs_1 ++ dktX1_cellIs_2
def dkwX1_cellIs_0 : List UInt8 := [42, 27, 182, 0, 142, 78, 28, 3, 8, 184, 0, 52, 28]
abbrev dktX1_cellIs_0 : List UInt8 := dkwX1_cellIs_0 ++ dktX1_cellIs_1
theorem dksX1_cellIs_0 : cX1_cellIs.data.toList.drop 0 = dktX1_cellIs_0 := by decide +kernel
theorem dksX1_cellIs_1 : cX1_cellIs.data.toList.drop 13 = dktX1_cellIs_1 := dk_seg dksX1_cellIs_0 13 rfl rfl
theorem dksX1_cellIs_2 : cX1_cellIs.data.toList.drop 48 = dktX1_cellIs_2 := dk_seg dksX1_cellIs_1 35 rfl rfl
theorem dksX1_cellIs_3 : cX1_cellIs.data.toList.drop 70 = dktX1_cellIs_3 := dk_seg dksX1_cellIs_2 22 rfl rfl
theorem dX1_cellIs_0 : decode cX1_cellIs 0 = .ok (.aload_n 0, 1) := dk_42 (dk_at dksX1_cellIs_0 0 rfl rfl)
theorem dX1_cellIs_1 : decode cX1_cellIs 1 = .ok (.iload_n 1, 1) := dk_27 (dk_at dksX1_cellIs_0 1 rfl rfl)
theorem dX1_cellIs_2 : decode cX1_cellIs 2 = .ok (.invokevirtual 142, 3) := dk_182 0 142 (dk_at dksX1_cellIs_0 2 rfl rfl)
theorem dX1_cellIs_5 : decode cX1_cellIs 5 = .ok (.astore_n 3, 1) := dk_78 (dk_at dksX1_cellIs_0 5 rfl rfl)
theorem dX1_cellIs_6 : decode cX1_cellIs 6 = .ok (.iload_n 2, 1) := dk_28 (dk_at dksX1_cellIs_0 6 rfl rfl)
theorem dX1_cellIs_7 : decode cX1_cellIs 7 = .ok (.iconst 0, 1) := dk_3 (dk_at dksX1_cellIs_0 7 rfl rfl)
theorem dX1_cellIs_8 : decode cX1_cellIs 8 = .ok (.iconst 5, 1) := dk_8 (dk_at dksX1_cellIs_0 8 rfl rfl)
theorem dX1_cellIs_9 : decode cX1_cellIs 9 = .ok (.invokestatic 52, 3) := dk_184 0 52 (dk_at dksX1_cellIs_0 9 rfl rfl)
theorem dX1_cellIs_12 : decode cX1_cellIs 12 = .ok (.iload_n 2, 1) := dk_28 (dk_at dksX1_cellIs_0 12 rfl rfl)
theorem dX1_cellIs_13 : decode cX1_cellIs 13 = .ok (.tableswitch 70 0 4 #[35, 42, 49, 56, 63], 35) := by decide +kernel
theorem dX1_cellIs_48 : decode cX1_cellIs 48 = .ok (.aload_n 3, 1) := dk_45 (dk_at dksX1_cellIs_2 0 rfl rfl)
theorem dX1_cellIs_49 : decode cX1_cellIs 49 = .ok (.getfield 146, 3) := dk_180 0 146 (dk_at dksX1_cellIs_2 1 rfl rfl)
theorem dX1_cellIs_52 : decode cX1_cellIs 52 = .ok (.goto 35, 3) := dk_167 0 35 (dk_at dksX1_cellIs_2 4 rfl rfl)
theorem dX1_cellIs_55 : decode cX1_cellIs 55 = .ok (.aload_n 3, 1) := dk_45 (dk_at dksX1_cellIs_2 7 rfl rfl)
theorem dX1_cellIs_56 : decode cX1_cellIs 56 = .ok (.getfield 153, 3) := dk_180 0 153 (dk_at dksX1_cellIs_2 8 rfl rfl)
theorem dX1_cellIs_59 : decode cX1_cellIs 59 = .ok (.goto 28, 3) := dk_167 0 28 (dk_at dksX1_cellIs_2 11 rfl rfl)
theorem dX1_cellIs_62 : decode cX1_cellIs 62 = .ok (.aload_n 3, 1) := dk_45 (dk_at dksX1_cellIs_2 14 rfl rfl)
theorem dX1_cellIs_63 : decode cX1_cellIs 63 = .ok (.getfield 150, 3) := dk_180 0 150 (dk_at dksX1_cellIs_2 15 rfl rfl)
theorem dX1_cellIs_66 : decode cX1_cellIs 66 = .ok (.goto 21, 3) := dk_167 0 21 (dk_at dksX1_cellIs_2 18 rfl rfl)
theorem dX1_cellIs_69 : decode cX1_cellIs 69 = .ok (.aload_n 3, 1) := dk_45 (dk_at dksX1_cellIs_2 21 rfl rfl)
theorem dX1_cellIs_70 : decode cX1_cellIs 70 = .ok (.getfield 159, 3) := dk_180 0 159 (dk_at dksX1_cellIs_3 0 rfl rfl)
theorem dX1_cellIs_73 : decode cX1_cellIs 73 = .ok (.goto 14, 3) := dk_167 0 14 (dk_at dksX1_cellIs_3 3 rfl rfl)
theorem dX1_cellIs_76 : decode cX1_cellIs 76 = .ok (.aload_n 3, 1) := dk_45 (dk_at dksX1_cellIs_3 6 rfl rfl)
theorem dX1_cellIs_77 : decode cX1_cellIs 77 = .ok (.getfield 156, 3) := dk_180 0 156 (dk_at dksX1_cellIs_3 7 rfl rfl)
theorem dX1_cellIs_80 : decode cX1_cellIs 80 = .ok (.goto 7, 3) := dk_167 0 7 (dk_at dksX1_cellIs_3 10 rfl rfl)
theorem dX1_cellIs_83 : decode cX1_cellIs 83 = .ok (.aload_n 3, 1) := dk_45 (dk_at dksX1_cellIs_3 13 rfl rfl)
theorem dX1_cellIs_84 : decode cX1_cellIs 84 = .ok (.getfield 161, 3) := dk_180 0 161 (dk_at dksX1_cellIs_3 14 rfl rfl)
theorem dX1_cellIs_87 : decode cX1_cellIs 87 = .ok (.ireturn, 1) := dk_172 (dk_at dksX1_cellIs_3 17 rfl rfl)
abbrev cX1_invade : ByteArray := prog_1_method_26_code
def yX1_invade : MethodName := ⟨RX1, "invade", "(III)I"⟩
def dkwX1_invade_3 : List UInt8 := [180, 0, 39, 180, 0, 75, 185, 0, 59, 1, 0, 4, 100, 172]
abbrev dktX1_invade_3 : List UInt8 := dkwX1_invade_3 ++ []
def dkwX1_invade_2 : List UInt8 := [180, 0, 39, 180, 0, 75, 187, 0, 78, 89, 27, 28, 29, 183, 0, 164, 185, 0, 118, 2, 0, 87, 42]
abbrev dktX1_invade_2 : List UInt8 := dkwX1_invade_2 ++ dktX1_invade_3
def dkwX1_invade_1 : List UInt8 := [180, 0, 75, 185, 0, 59, 1, 0, 16, 8, 162, 0, 7, 4, 167, 0, 4, 3, 184, 0, 110, 42]
abbrev dktX1_invade_1 : List UInt8 := dkwX1_invade_1 ++ dktX1_invade_2
def dkwX1_invade_0 : List UInt8 := [27, 184, 0, 101, 28, 4, 17, 3, 231, 184, 0, 52, 29, 2, 16, 9, 184, 0, 52, 42, 180, 0, 39]
abbrev dktX1_invade_0 : List UInt8 := dkwX1_invade_0 ++ dktX1_invade_1
theorem dksX1_invade_0 : cX1_invade.data.toList.drop 0 = dktX1_invade_0 := by decide +kernel
theorem dksX1_invade_1 : cX1_invade.data.toList.drop 23 = dktX1_invade_1 := dk_seg dksX1_invade_0 23 rfl rfl
theorem dksX1_invade_2 : cX1_invade.data.toList.drop 45 = dktX1_invade_2 := dk_seg dksX1_invade_1 22 rfl rfl
theorem dksX1_invade_3 : cX1_invade.data.toList.drop 68 = dktX1_invade_3 := dk_seg dksX1_invade_2 23 rfl rfl
theorem dX1_invade_0 : decode cX1_invade 0 = .ok (.iload_n 1, 1) := dk_27 (dk_at dksX1_invade_0 0 rfl rfl)
theorem dX1_invade_1 : decode cX1_invade 1 = .ok (.invokestatic 101, 3) := dk_184 0 101 (dk_at dksX1_invade_0 1 rfl rfl)
theorem dX1_invade_4 : decode cX1_invade 4 = .ok (.iload_n 2, 1) := dk_28 (dk_at dksX1_invade_0 4 rfl rfl)
theorem dX1_invade_5 : decode cX1_invade 5 = .ok (.iconst 1, 1) := dk_4 (dk_at dksX1_invade_0 5 rfl rfl)
theorem dX1_invade_6 : decode cX1_invade 6 = .ok (.sipush 999, 3) := dk_17 3 231 (dk_at dksX1_invade_0 6 rfl rfl)
theorem dX1_invade_9 : decode cX1_invade 9 = .ok (.invokestatic 52, 3) := dk_184 0 52 (dk_at dksX1_invade_0 9 rfl rfl)
theorem dX1_invade_12 : decode cX1_invade 12 = .ok (.iload_n 3, 1) := dk_29 (dk_at dksX1_invade_0 12 rfl rfl)
theorem dX1_invade_13 : decode cX1_invade 13 = .ok (.iconst (-1), 1) := dk_2 (dk_at dksX1_invade_0 13 rfl rfl)
theorem dX1_invade_14 : decode cX1_invade 14 = .ok (.bipush 9, 2) := dk_16 9 (dk_at dksX1_invade_0 14 rfl rfl)
theorem dX1_invade_16 : decode cX1_invade 16 = .ok (.invokestatic 52, 3) := dk_184 0 52 (dk_at dksX1_invade_0 16 rfl rfl)
theorem dX1_invade_19 : decode cX1_invade 19 = .ok (.aload_n 0, 1) := dk_42 (dk_at dksX1_invade_0 19 rfl rfl)
theorem dX1_invade_20 : decode cX1_invade 20 = .ok (.getfield 39, 3) := dk_180 0 39 (dk_at dksX1_invade_0 20 rfl rfl)
theorem dX1_invade_23 : decode cX1_invade 23 = .ok (.getfield 75, 3) := dk_180 0 75 (dk_at dksX1_invade_1 0 rfl rfl)
theorem dX1_invade_26 : decode cX1_invade 26 = .ok (.invokeinterface 59 1, 5) := by decide +kernel
theorem dX1_invade_31 : decode cX1_invade 31 = .ok (.bipush 8, 2) := dk_16 8 (dk_at dksX1_invade_1 8 rfl rfl)
theorem dX1_invade_33 : decode cX1_invade 33 = .ok (.if_icmp .ge 7, 3) := dk_162 0 7 (dk_at dksX1_invade_1 10 rfl rfl)
theorem dX1_invade_36 : decode cX1_invade 36 = .ok (.iconst 1, 1) := dk_4 (dk_at dksX1_invade_1 13 rfl rfl)
theorem dX1_invade_37 : decode cX1_invade 37 = .ok (.goto 4, 3) := dk_167 0 4 (dk_at dksX1_invade_1 14 rfl rfl)
theorem dX1_invade_40 : decode cX1_invade 40 = .ok (.iconst 0, 1) := dk_3 (dk_at dksX1_invade_1 17 rfl rfl)
theorem dX1_invade_41 : decode cX1_invade 41 = .ok (.invokestatic 110, 3) := dk_184 0 110 (dk_at dksX1_invade_1 18 rfl rfl)
theorem dX1_invade_44 : decode cX1_invade 44 = .ok (.aload_n 0, 1) := dk_42 (dk_at dksX1_invade_1 21 rfl rfl)
theorem dX1_invade_45 : decode cX1_invade 45 = .ok (.getfield 39, 3) := dk_180 0 39 (dk_at dksX1_invade_2 0 rfl rfl)
theorem dX1_invade_48 : decode cX1_invade 48 = .ok (.getfield 75, 3) := dk_180 0 75 (dk_at dksX1_invade_2 3 rfl rfl)
theorem dX1_invade_51 : decode cX1_invade 51 = .ok (.new 78, 3) := dk_187 0 78 (dk_at dksX1_invade_2 6 rfl rfl)
theorem dX1_invade_54 : decode cX1_invade 54 = .ok (.dup, 1) := dk_89 (dk_at dksX1_invade_2 9 rfl rfl)
theorem dX1_invade_55 : decode cX1_invade 55 = .ok (.iload_n 1, 1) := dk_27 (dk_at dksX1_invade_2 10 rfl rfl)
theorem dX1_invade_56 : decode cX1_invade 56 = .ok (.iload_n 2, 1) := dk_28 (dk_at dksX1_invade_2 11 rfl rfl)
theorem dX1_invade_57 : decode cX1_invade 57 = .ok (.iload_n 3, 1) := dk_29 (dk_at dksX1_invade_2 12 rfl rfl)
theorem dX1_invade_58 : decode cX1_invade 58 = .ok (.invokespecial 164, 3) := dk_183 0 164 (dk_at dksX1_invade_2 13 rfl rfl)
theorem dX1_invade_61 : decode cX1_invade 61 = .ok (.invokeinterface 118 2, 5) := by decide +kernel
theorem dX1_invade_66 : decode cX1_invade 66 = .ok (.pop, 1) := dk_87 (dk_at dksX1_invade_2 21 rfl rfl)
theorem dX1_invade_67 : decode cX1_invade 67 = .ok (.aload_n 0, 1) := dk_42 (dk_at dksX1_invade_2 22 rfl rfl)
theorem dX1_invade_68 : decode cX1_invade 68 = .ok (.getfield 39, 3) := dk_180 0 39 (dk_at dksX1_invade_3 0 rfl rfl)
theorem dX1_invade_71 : decode cX1_invade 71 = .ok (.getfield 75, 3) := dk_180 0 75 (dk_at dksX1_invade_3 3 rfl rfl)
theorem dX1_invade_74 : decode cX1_invade 74 = .ok (.invokeinterface 59 1, 5) := by decide +kernel
theorem dX1_invade_79 : decode cX1_invade 79 = .ok (.iconst 1, 1) := dk_4 (dk_at dksX1_invade_3 11 rfl rfl)
theorem dX1_invade_80 : decode cX1_invade 80 = .ok (.isub, 1) := dk_100 (dk_at dksX1_invade_3 12 rfl rfl)
theorem dX1_invade_81 : decode cX1_invade 81 = .ok (.ireturn, 1) := dk_172 (dk_at dksX1_invade_3 13 rfl rfl)
abbrev cX1_change : ByteArray := prog_1_method_27_code
def yX1_change : MethodName := ⟨RX1, "change", "(II)I"⟩
def dkwX1_change_1 : List UInt8 := [184, 0, 110, 45, 180, 0, 171, 54, 4, 45, 28, 181, 0, 171, 21, 4, 172]
abbrev dktX1_change_1 : List UInt8 := dkwX1_change_1 ++ []
def dkwX1_change_0 : List UInt8 := [42, 27, 182, 0, 166, 78, 28, 184, 0, 101, 45, 180, 0, 170, 158, 0, 7, 4, 167, 0, 4, 3]
abbrev dktX1_change_0 : List UInt8 := dkwX1_change_0 ++ dktX1_change_1
theorem dksX1_change_0 : cX1_change.data.toList.drop 0 = dktX1_change_0 := by decide +kernel
theorem dksX1_change_1 : cX1_change.data.toList.drop 22 = dktX1_change_1 := dk_seg dksX1_change_0 22 rfl rfl
theorem dX1_change_0 : decode cX1_change 0 = .ok (.aload_n 0, 1) := dk_42 (dk_at dksX1_change_0 0 rfl rfl)
theorem dX1_change_1 : decode cX1_change 1 = .ok (.iload_n 1, 1) := dk_27 (dk_at dksX1_change_0 1 rfl rfl)
theorem dX1_change_2 : decode cX1_change 2 = .ok (.invokevirtual 166, 3) := dk_182 0 166 (dk_at dksX1_change_0 2 rfl rfl)
theorem dX1_change_5 : decode cX1_change 5 = .ok (.astore_n 3, 1) := dk_78 (dk_at dksX1_change_0 5 rfl rfl)
theorem dX1_change_6 : decode cX1_change 6 = .ok (.iload_n 2, 1) := dk_28 (dk_at dksX1_change_0 6 rfl rfl)
theorem dX1_change_7 : decode cX1_change 7 = .ok (.invokestatic 101, 3) := dk_184 0 101 (dk_at dksX1_change_0 7 rfl rfl)
theorem dX1_change_10 : decode cX1_change 10 = .ok (.aload_n 3, 1) := dk_45 (dk_at dksX1_change_0 10 rfl rfl)
theorem dX1_change_11 : decode cX1_change 11 = .ok (.getfield 170, 3) := dk_180 0 170 (dk_at dksX1_change_0 11 rfl rfl)
theorem dX1_change_14 : decode cX1_change 14 = .ok (.ifCond .le 7, 3) := dk_158 0 7 (dk_at dksX1_change_0 14 rfl rfl)
theorem dX1_change_17 : decode cX1_change 17 = .ok (.iconst 1, 1) := dk_4 (dk_at dksX1_change_0 17 rfl rfl)
theorem dX1_change_18 : decode cX1_change 18 = .ok (.goto 4, 3) := dk_167 0 4 (dk_at dksX1_change_0 18 rfl rfl)
theorem dX1_change_21 : decode cX1_change 21 = .ok (.iconst 0, 1) := dk_3 (dk_at dksX1_change_0 21 rfl rfl)
theorem dX1_change_22 : decode cX1_change 22 = .ok (.invokestatic 110, 3) := dk_184 0 110 (dk_at dksX1_change_1 0 rfl rfl)
theorem dX1_change_25 : decode cX1_change 25 = .ok (.aload_n 3, 1) := dk_45 (dk_at dksX1_change_1 3 rfl rfl)
theorem dX1_change_26 : decode cX1_change 26 = .ok (.getfield 171, 3) := dk_180 0 171 (dk_at dksX1_change_1 4 rfl rfl)
theorem dX1_change_29 : decode cX1_change 29 = .ok (.istore 4, 2) := dk_54 4 (dk_at dksX1_change_1 7 rfl rfl)
theorem dX1_change_31 : decode cX1_change 31 = .ok (.aload_n 3, 1) := dk_45 (dk_at dksX1_change_1 9 rfl rfl)
theorem dX1_change_32 : decode cX1_change 32 = .ok (.iload_n 2, 1) := dk_28 (dk_at dksX1_change_1 10 rfl rfl)
theorem dX1_change_33 : decode cX1_change 33 = .ok (.putfield 171, 3) := dk_181 0 171 (dk_at dksX1_change_1 11 rfl rfl)
theorem dX1_change_36 : decode cX1_change 36 = .ok (.iload 4, 2) := dk_21 4 (dk_at dksX1_change_1 14 rfl rfl)
theorem dX1_change_38 : decode cX1_change 38 = .ok (.ireturn, 1) := dk_172 (dk_at dksX1_change_1 16 rfl rfl)
abbrev cX1_invaderAt : ByteArray := prog_1_method_8_code
def yX1_invaderAt : MethodName := ⟨RX1, "invaderAt", "(I)LKeylockBody$Invader;"⟩
def dkwX1_invaderAt_1 : List UInt8 := [185, 0, 69, 2, 0, 192, 0, 78, 176]
abbrev dktX1_invaderAt_1 : List UInt8 := dkwX1_invaderAt_1 ++ []
def dkwX1_invaderAt_0 : List UInt8 := [27, 42, 180, 0, 39, 180, 0, 75, 185, 0, 59, 1, 0, 184, 0, 65, 42, 180, 0, 39, 180, 0, 75, 27]
abbrev dktX1_invaderAt_0 : List UInt8 := dkwX1_invaderAt_0 ++ dktX1_invaderAt_1
theorem dksX1_invaderAt_0 : cX1_invaderAt.data.toList.drop 0 = dktX1_invaderAt_0 := by decide +kernel
theorem dksX1_invaderAt_1 : cX1_invaderAt.data.toList.drop 24 = dktX1_invaderAt_1 := dk_seg dksX1_invaderAt_0 24 rfl rfl
theorem dX1_invaderAt_0 : decode cX1_invaderAt 0 = .ok (.iload_n 1, 1) := dk_27 (dk_at dksX1_invaderAt_0 0 rfl rfl)
theorem dX1_invaderAt_1 : decode cX1_invaderAt 1 = .ok (.aload_n 0, 1) := dk_42 (dk_at dksX1_invaderAt_0 1 rfl rfl)
theorem dX1_invaderAt_2 : decode cX1_invaderAt 2 = .ok (.getfield 39, 3) := dk_180 0 39 (dk_at dksX1_invaderAt_0 2 rfl rfl)
theorem dX1_invaderAt_5 : decode cX1_invaderAt 5 = .ok (.getfield 75, 3) := dk_180 0 75 (dk_at dksX1_invaderAt_0 5 rfl rfl)
theorem dX1_invaderAt_8 : decode cX1_invaderAt 8 = .ok (.invokeinterface 59 1, 5) := by decide +kernel
theorem dX1_invaderAt_13 : decode cX1_invaderAt 13 = .ok (.invokestatic 65, 3) := dk_184 0 65 (dk_at dksX1_invaderAt_0 13 rfl rfl)
theorem dX1_invaderAt_16 : decode cX1_invaderAt 16 = .ok (.aload_n 0, 1) := dk_42 (dk_at dksX1_invaderAt_0 16 rfl rfl)
theorem dX1_invaderAt_17 : decode cX1_invaderAt 17 = .ok (.getfield 39, 3) := dk_180 0 39 (dk_at dksX1_invaderAt_0 17 rfl rfl)
theorem dX1_invaderAt_20 : decode cX1_invaderAt 20 = .ok (.getfield 75, 3) := dk_180 0 75 (dk_at dksX1_invaderAt_0 20 rfl rfl)
theorem dX1_invaderAt_23 : decode cX1_invaderAt 23 = .ok (.iload_n 1, 1) := dk_27 (dk_at dksX1_invaderAt_0 23 rfl rfl)
theorem dX1_invaderAt_24 : decode cX1_invaderAt 24 = .ok (.invokeinterface 69 2, 5) := by decide +kernel
theorem dX1_invaderAt_29 : decode cX1_invaderAt 29 = .ok (.checkcast 78, 3) := dk_192 0 78 (dk_at dksX1_invaderAt_1 5 rfl rfl)
theorem dX1_invaderAt_32 : decode cX1_invaderAt 32 = .ok (.areturn, 1) := dk_176 (dk_at dksX1_invaderAt_1 8 rfl rfl)
abbrev cX1_invaderIs : ByteArray := prog_1_method_28_code
def yX1_invaderIs : MethodName := ⟨RX1, "invaderIs", "(II)I"⟩
def dkwX1_invaderIs_3 : List UInt8 := [180, 0, 177, 167, 0, 7, 45, 180, 0, 180, 172]
abbrev dktX1_invaderIs_3 : List UInt8 := dkwX1_invaderIs_3 ++ []
def dkwX1_invaderIs_2 : List UInt8 := [45, 180, 0, 171, 167, 0, 28, 45, 180, 0, 170, 167, 0, 21, 45, 180, 0, 174, 167, 0, 14, 45]
abbrev dktX1_invaderIs_2 : List UInt8 := dkwX1_invaderIs_2 ++ dktX1_invaderIs_3
def dkwX1_invaderIs_1 : List UInt8 := [170, 0, 0, 0, 0, 0, 59, 0, 0, 0, 0, 0, 0, 0, 3, 0, 0, 0, 31, 0, 0, 0, 38, 0, 0, 0, 45, 0, 0, 0, 52]
abbrev dktX1_invaderIs_1 : List UInt8 := dkwX1_invaderIs_1 ++ dktX1_invaderIs_2
def dkwX1_invaderIs_0 : List UInt8 := [42, 27, 182, 0, 166, 78, 28, 3, 7, 184, 0, 52, 28]
abbrev dktX1_invaderIs_0 : List UInt8 := dkwX1_invaderIs_0 ++ dktX1_invaderIs_1
theorem dksX1_invaderIs_0 : cX1_invaderIs.data.toList.drop 0 = dktX1_invaderIs_0 := by decide +kernel
theorem dksX1_invaderIs_1 : cX1_invaderIs.data.toList.drop 13 = dktX1_invaderIs_1 := dk_seg dksX1_invaderIs_0 13 rfl rfl
theorem dksX1_invaderIs_2 : cX1_invaderIs.data.toList.drop 44 = dktX1_invaderIs_2 := dk_seg dksX1_invaderIs_1 31 rfl rfl
theorem dksX1_invaderIs_3 : cX1_invaderIs.data.toList.drop 66 = dktX1_invaderIs_3 := dk_seg dksX1_invaderIs_2 22 rfl rfl
theorem dX1_invaderIs_0 : decode cX1_invaderIs 0 = .ok (.aload_n 0, 1) := dk_42 (dk_at dksX1_invaderIs_0 0 rfl rfl)
theorem dX1_invaderIs_1 : decode cX1_invaderIs 1 = .ok (.iload_n 1, 1) := dk_27 (dk_at dksX1_invaderIs_0 1 rfl rfl)
theorem dX1_invaderIs_2 : decode cX1_invaderIs 2 = .ok (.invokevirtual 166, 3) := dk_182 0 166 (dk_at dksX1_invaderIs_0 2 rfl rfl)
theorem dX1_invaderIs_5 : decode cX1_invaderIs 5 = .ok (.astore_n 3, 1) := dk_78 (dk_at dksX1_invaderIs_0 5 rfl rfl)
theorem dX1_invaderIs_6 : decode cX1_invaderIs 6 = .ok (.iload_n 2, 1) := dk_28 (dk_at dksX1_invaderIs_0 6 rfl rfl)
theorem dX1_invaderIs_7 : decode cX1_invaderIs 7 = .ok (.iconst 0, 1) := dk_3 (dk_at dksX1_invaderIs_0 7 rfl rfl)
theorem dX1_invaderIs_8 : decode cX1_invaderIs 8 = .ok (.iconst 4, 1) := dk_7 (dk_at dksX1_invaderIs_0 8 rfl rfl)
theorem dX1_invaderIs_9 : decode cX1_invaderIs 9 = .ok (.invokestatic 52, 3) := dk_184 0 52 (dk_at dksX1_invaderIs_0 9 rfl rfl)
theorem dX1_invaderIs_12 : decode cX1_invaderIs 12 = .ok (.iload_n 2, 1) := dk_28 (dk_at dksX1_invaderIs_0 12 rfl rfl)
theorem dX1_invaderIs_13 : decode cX1_invaderIs 13 = .ok (.tableswitch 59 0 3 #[31, 38, 45, 52], 31) := by decide +kernel
theorem dX1_invaderIs_44 : decode cX1_invaderIs 44 = .ok (.aload_n 3, 1) := dk_45 (dk_at dksX1_invaderIs_2 0 rfl rfl)
theorem dX1_invaderIs_45 : decode cX1_invaderIs 45 = .ok (.getfield 171, 3) := dk_180 0 171 (dk_at dksX1_invaderIs_2 1 rfl rfl)
theorem dX1_invaderIs_48 : decode cX1_invaderIs 48 = .ok (.goto 28, 3) := dk_167 0 28 (dk_at dksX1_invaderIs_2 4 rfl rfl)
theorem dX1_invaderIs_51 : decode cX1_invaderIs 51 = .ok (.aload_n 3, 1) := dk_45 (dk_at dksX1_invaderIs_2 7 rfl rfl)
theorem dX1_invaderIs_52 : decode cX1_invaderIs 52 = .ok (.getfield 170, 3) := dk_180 0 170 (dk_at dksX1_invaderIs_2 8 rfl rfl)
theorem dX1_invaderIs_55 : decode cX1_invaderIs 55 = .ok (.goto 21, 3) := dk_167 0 21 (dk_at dksX1_invaderIs_2 11 rfl rfl)
theorem dX1_invaderIs_58 : decode cX1_invaderIs 58 = .ok (.aload_n 3, 1) := dk_45 (dk_at dksX1_invaderIs_2 14 rfl rfl)
theorem dX1_invaderIs_59 : decode cX1_invaderIs 59 = .ok (.getfield 174, 3) := dk_180 0 174 (dk_at dksX1_invaderIs_2 15 rfl rfl)
theorem dX1_invaderIs_62 : decode cX1_invaderIs 62 = .ok (.goto 14, 3) := dk_167 0 14 (dk_at dksX1_invaderIs_2 18 rfl rfl)
theorem dX1_invaderIs_65 : decode cX1_invaderIs 65 = .ok (.aload_n 3, 1) := dk_45 (dk_at dksX1_invaderIs_2 21 rfl rfl)
theorem dX1_invaderIs_66 : decode cX1_invaderIs 66 = .ok (.getfield 177, 3) := dk_180 0 177 (dk_at dksX1_invaderIs_3 0 rfl rfl)
theorem dX1_invaderIs_69 : decode cX1_invaderIs 69 = .ok (.goto 7, 3) := dk_167 0 7 (dk_at dksX1_invaderIs_3 3 rfl rfl)
theorem dX1_invaderIs_72 : decode cX1_invaderIs 72 = .ok (.aload_n 3, 1) := dk_45 (dk_at dksX1_invaderIs_3 6 rfl rfl)
theorem dX1_invaderIs_73 : decode cX1_invaderIs 73 = .ok (.getfield 180, 3) := dk_180 0 180 (dk_at dksX1_invaderIs_3 7 rfl rfl)
theorem dX1_invaderIs_76 : decode cX1_invaderIs 76 = .ok (.ireturn, 1) := dk_172 (dk_at dksX1_invaderIs_3 10 rfl rfl)
abbrev cX1_why : ByteArray := prog_1_method_29_code
def yX1_why : MethodName := ⟨RX1, "why", "(I)I"⟩
def dkwX1_why_10 : List UInt8 := [167, 0, 14, 21, 7, 154, 0, 8, 16, 6, 167, 0, 4, 3, 172]
abbrev dktX1_why_10 : List UInt8 := dkwX1_why_10 ++ []
def dkwX1_why_9 : List UInt8 := [154, 0, 7, 6, 167, 0, 32, 21, 5, 154, 0, 7, 7, 167, 0, 23, 21, 6, 154, 0, 7, 8]
abbrev dktX1_why_9 : List UInt8 := dkwX1_why_9 ++ dktX1_why_10
def dkwX1_why_8 : List UInt8 := [167, 255, 93, 44, 180, 0, 170, 154, 0, 5, 4, 172, 29, 154, 0, 7, 5, 167, 0, 41, 21, 4]
abbrev dktX1_why_8 : List UInt8 := dkwX1_why_8 ++ dktX1_why_9
def dkwX1_why_7 : List UInt8 := [153, 0, 17, 25, 9, 3, 6, 182, 0, 191, 153, 0, 7, 4, 167, 0, 4, 3, 128, 54, 7, 132, 8, 1]
abbrev dktX1_why_7 : List UInt8 := dkwX1_why_7 ++ dktX1_why_8
def dkwX1_why_6 : List UInt8 := [153, 0, 16, 25, 9, 180, 0, 150, 6, 160, 0, 7, 4, 167, 0, 4, 3, 128, 54, 6, 21, 7, 21, 10]
abbrev dktX1_why_6 : List UInt8 := dkwX1_why_6 ++ dktX1_why_7
def dkwX1_why_5 : List UInt8 := [154, 0, 16, 25, 9, 180, 0, 150, 7, 159, 0, 7, 4, 167, 0, 4, 3, 128, 54, 5, 21, 6, 21, 10]
abbrev dktX1_why_5 : List UInt8 := dkwX1_why_5 ++ dktX1_why_6
def dkwX1_why_4 : List UInt8 := [154, 0, 7, 4, 167, 0, 4, 3, 128, 54, 4, 21, 5, 21, 10, 153, 0, 24, 25, 9, 182, 0, 187]
abbrev dktX1_why_4 : List UInt8 := dkwX1_why_4 ++ dktX1_why_5
def dkwX1_why_3 : List UInt8 := [182, 0, 183, 54, 10, 29, 21, 10, 128, 62, 21, 4, 21, 10, 153, 0, 15, 25, 9, 182, 0, 187]
abbrev dktX1_why_3 : List UInt8 := dkwX1_why_3 ++ dktX1_why_4
def dkwX1_why_2 : List UInt8 := [21, 8, 185, 0, 69, 2, 0, 192, 0, 73, 58, 9, 42, 25, 9, 180, 0, 146, 44, 180, 0, 171]
abbrev dktX1_why_2 : List UInt8 := dkwX1_why_2 ++ dktX1_why_3
def dkwX1_why_1 : List UInt8 := [21, 8, 42, 180, 0, 39, 180, 0, 56, 185, 0, 59, 1, 0, 162, 0, 152, 42, 180, 0, 39, 180, 0, 56]
abbrev dktX1_why_1 : List UInt8 := dkwX1_why_1 ++ dktX1_why_2
def dkwX1_why_0 : List UInt8 := [42, 27, 182, 0, 166, 77, 3, 62, 3, 54, 4, 3, 54, 5, 3, 54, 6, 3, 54, 7, 3, 54, 8]
abbrev dktX1_why_0 : List UInt8 := dkwX1_why_0 ++ dktX1_why_1
theorem dksX1_why_0 : cX1_why.data.toList.drop 0 = dktX1_why_0 := by decide +kernel
theorem dksX1_why_1 : cX1_why.data.toList.drop 23 = dktX1_why_1 := dk_seg dksX1_why_0 23 rfl rfl
theorem dksX1_why_2 : cX1_why.data.toList.drop 47 = dktX1_why_2 := dk_seg dksX1_why_1 24 rfl rfl
theorem dksX1_why_3 : cX1_why.data.toList.drop 69 = dktX1_why_3 := dk_seg dksX1_why_2 22 rfl rfl
theorem dksX1_why_4 : cX1_why.data.toList.drop 91 = dktX1_why_4 := dk_seg dksX1_why_3 22 rfl rfl
theorem dksX1_why_5 : cX1_why.data.toList.drop 114 = dktX1_why_5 := dk_seg dksX1_why_4 23 rfl rfl
theorem dksX1_why_6 : cX1_why.data.toList.drop 138 = dktX1_why_6 := dk_seg dksX1_why_5 24 rfl rfl
theorem dksX1_why_7 : cX1_why.data.toList.drop 162 = dktX1_why_7 := dk_seg dksX1_why_6 24 rfl rfl
theorem dksX1_why_8 : cX1_why.data.toList.drop 186 = dktX1_why_8 := dk_seg dksX1_why_7 24 rfl rfl
theorem dksX1_why_9 : cX1_why.data.toList.drop 208 = dktX1_why_9 := dk_seg dksX1_why_8 22 rfl rfl
theorem dksX1_why_10 : cX1_why.data.toList.drop 230 = dktX1_why_10 := dk_seg dksX1_why_9 22 rfl rfl
theorem dX1_why_0 : decode cX1_why 0 = .ok (.aload_n 0, 1) := dk_42 (dk_at dksX1_why_0 0 rfl rfl)
theorem dX1_why_1 : decode cX1_why 1 = .ok (.iload_n 1, 1) := dk_27 (dk_at dksX1_why_0 1 rfl rfl)
theorem dX1_why_2 : decode cX1_why 2 = .ok (.invokevirtual 166, 3) := dk_182 0 166 (dk_at dksX1_why_0 2 rfl rfl)
theorem dX1_why_5 : decode cX1_why 5 = .ok (.astore_n 2, 1) := dk_77 (dk_at dksX1_why_0 5 rfl rfl)
theorem dX1_why_6 : decode cX1_why 6 = .ok (.iconst 0, 1) := dk_3 (dk_at dksX1_why_0 6 rfl rfl)
theorem dX1_why_7 : decode cX1_why 7 = .ok (.istore_n 3, 1) := dk_62 (dk_at dksX1_why_0 7 rfl rfl)
theorem dX1_why_8 : decode cX1_why 8 = .ok (.iconst 0, 1) := dk_3 (dk_at dksX1_why_0 8 rfl rfl)
theorem dX1_why_9 : decode cX1_why 9 = .ok (.istore 4, 2) := dk_54 4 (dk_at dksX1_why_0 9 rfl rfl)
theorem dX1_why_11 : decode cX1_why 11 = .ok (.iconst 0, 1) := dk_3 (dk_at dksX1_why_0 11 rfl rfl)
theorem dX1_why_12 : decode cX1_why 12 = .ok (.istore 5, 2) := dk_54 5 (dk_at dksX1_why_0 12 rfl rfl)
theorem dX1_why_14 : decode cX1_why 14 = .ok (.iconst 0, 1) := dk_3 (dk_at dksX1_why_0 14 rfl rfl)
theorem dX1_why_15 : decode cX1_why 15 = .ok (.istore 6, 2) := dk_54 6 (dk_at dksX1_why_0 15 rfl rfl)
theorem dX1_why_17 : decode cX1_why 17 = .ok (.iconst 0, 1) := dk_3 (dk_at dksX1_why_0 17 rfl rfl)
theorem dX1_why_18 : decode cX1_why 18 = .ok (.istore 7, 2) := dk_54 7 (dk_at dksX1_why_0 18 rfl rfl)
theorem dX1_why_20 : decode cX1_why 20 = .ok (.iconst 0, 1) := dk_3 (dk_at dksX1_why_0 20 rfl rfl)
theorem dX1_why_21 : decode cX1_why 21 = .ok (.istore 8, 2) := dk_54 8 (dk_at dksX1_why_0 21 rfl rfl)
theorem dX1_why_23 : decode cX1_why 23 = .ok (.iload 8, 2) := dk_21 8 (dk_at dksX1_why_1 0 rfl rfl)
theorem dX1_why_25 : decode cX1_why 25 = .ok (.aload_n 0, 1) := dk_42 (dk_at dksX1_why_1 2 rfl rfl)
theorem dX1_why_26 : decode cX1_why 26 = .ok (.getfield 39, 3) := dk_180 0 39 (dk_at dksX1_why_1 3 rfl rfl)
theorem dX1_why_29 : decode cX1_why 29 = .ok (.getfield 56, 3) := dk_180 0 56 (dk_at dksX1_why_1 6 rfl rfl)
theorem dX1_why_32 : decode cX1_why 32 = .ok (.invokeinterface 59 1, 5) := by decide +kernel
theorem dX1_why_37 : decode cX1_why 37 = .ok (.if_icmp .ge 152, 3) := dk_162 0 152 (dk_at dksX1_why_1 14 rfl rfl)
theorem dX1_why_40 : decode cX1_why 40 = .ok (.aload_n 0, 1) := dk_42 (dk_at dksX1_why_1 17 rfl rfl)
theorem dX1_why_41 : decode cX1_why 41 = .ok (.getfield 39, 3) := dk_180 0 39 (dk_at dksX1_why_1 18 rfl rfl)
theorem dX1_why_44 : decode cX1_why 44 = .ok (.getfield 56, 3) := dk_180 0 56 (dk_at dksX1_why_1 21 rfl rfl)
theorem dX1_why_47 : decode cX1_why 47 = .ok (.iload 8, 2) := dk_21 8 (dk_at dksX1_why_2 0 rfl rfl)
theorem dX1_why_49 : decode cX1_why 49 = .ok (.invokeinterface 69 2, 5) := by decide +kernel
theorem dX1_why_54 : decode cX1_why 54 = .ok (.checkcast 73, 3) := dk_192 0 73 (dk_at dksX1_why_2 7 rfl rfl)
theorem dX1_why_57 : decode cX1_why 57 = .ok (.astore 9, 2) := dk_58 9 (dk_at dksX1_why_2 10 rfl rfl)
theorem dX1_why_59 : decode cX1_why 59 = .ok (.aload_n 0, 1) := dk_42 (dk_at dksX1_why_2 12 rfl rfl)
theorem dX1_why_60 : decode cX1_why 60 = .ok (.aload 9, 2) := dk_25 9 (dk_at dksX1_why_2 13 rfl rfl)
theorem dX1_why_62 : decode cX1_why 62 = .ok (.getfield 146, 3) := dk_180 0 146 (dk_at dksX1_why_2 15 rfl rfl)
theorem dX1_why_65 : decode cX1_why 65 = .ok (.aload_n 2, 1) := dk_44 (dk_at dksX1_why_2 18 rfl rfl)
theorem dX1_why_66 : decode cX1_why 66 = .ok (.getfield 171, 3) := dk_180 0 171 (dk_at dksX1_why_2 19 rfl rfl)
theorem dX1_why_69 : decode cX1_why 69 = .ok (.invokevirtual 183, 3) := dk_182 0 183 (dk_at dksX1_why_3 0 rfl rfl)
theorem dX1_why_72 : decode cX1_why 72 = .ok (.istore 10, 2) := dk_54 10 (dk_at dksX1_why_3 3 rfl rfl)
theorem dX1_why_74 : decode cX1_why 74 = .ok (.iload_n 3, 1) := dk_29 (dk_at dksX1_why_3 5 rfl rfl)
theorem dX1_why_75 : decode cX1_why 75 = .ok (.iload 10, 2) := dk_21 10 (dk_at dksX1_why_3 6 rfl rfl)
theorem dX1_why_77 : decode cX1_why 77 = .ok (.ior, 1) := dk_128 (dk_at dksX1_why_3 8 rfl rfl)
theorem dX1_why_78 : decode cX1_why 78 = .ok (.istore_n 3, 1) := dk_62 (dk_at dksX1_why_3 9 rfl rfl)
theorem dX1_why_79 : decode cX1_why 79 = .ok (.iload 4, 2) := dk_21 4 (dk_at dksX1_why_3 10 rfl rfl)
theorem dX1_why_81 : decode cX1_why 81 = .ok (.iload 10, 2) := dk_21 10 (dk_at dksX1_why_3 12 rfl rfl)
theorem dX1_why_83 : decode cX1_why 83 = .ok (.ifCond .eq 15, 3) := dk_153 0 15 (dk_at dksX1_why_3 14 rfl rfl)
theorem dX1_why_86 : decode cX1_why 86 = .ok (.aload 9, 2) := dk_25 9 (dk_at dksX1_why_3 17 rfl rfl)
theorem dX1_why_88 : decode cX1_why 88 = .ok (.invokevirtual 187, 3) := dk_182 0 187 (dk_at dksX1_why_3 19 rfl rfl)
theorem dX1_why_91 : decode cX1_why 91 = .ok (.ifCond .ne 7, 3) := dk_154 0 7 (dk_at dksX1_why_4 0 rfl rfl)
theorem dX1_why_94 : decode cX1_why 94 = .ok (.iconst 1, 1) := dk_4 (dk_at dksX1_why_4 3 rfl rfl)
theorem dX1_why_95 : decode cX1_why 95 = .ok (.goto 4, 3) := dk_167 0 4 (dk_at dksX1_why_4 4 rfl rfl)
theorem dX1_why_98 : decode cX1_why 98 = .ok (.iconst 0, 1) := dk_3 (dk_at dksX1_why_4 7 rfl rfl)
theorem dX1_why_99 : decode cX1_why 99 = .ok (.ior, 1) := dk_128 (dk_at dksX1_why_4 8 rfl rfl)
theorem dX1_why_100 : decode cX1_why 100 = .ok (.istore 4, 2) := dk_54 4 (dk_at dksX1_why_4 9 rfl rfl)
theorem dX1_why_102 : decode cX1_why 102 = .ok (.iload 5, 2) := dk_21 5 (dk_at dksX1_why_4 11 rfl rfl)
theorem dX1_why_104 : decode cX1_why 104 = .ok (.iload 10, 2) := dk_21 10 (dk_at dksX1_why_4 13 rfl rfl)
theorem dX1_why_106 : decode cX1_why 106 = .ok (.ifCond .eq 24, 3) := dk_153 0 24 (dk_at dksX1_why_4 15 rfl rfl)
theorem dX1_why_109 : decode cX1_why 109 = .ok (.aload 9, 2) := dk_25 9 (dk_at dksX1_why_4 18 rfl rfl)
theorem dX1_why_111 : decode cX1_why 111 = .ok (.invokevirtual 187, 3) := dk_182 0 187 (dk_at dksX1_why_4 20 rfl rfl)
theorem dX1_why_114 : decode cX1_why 114 = .ok (.ifCond .ne 16, 3) := dk_154 0 16 (dk_at dksX1_why_5 0 rfl rfl)
theorem dX1_why_117 : decode cX1_why 117 = .ok (.aload 9, 2) := dk_25 9 (dk_at dksX1_why_5 3 rfl rfl)
theorem dX1_why_119 : decode cX1_why 119 = .ok (.getfield 150, 3) := dk_180 0 150 (dk_at dksX1_why_5 5 rfl rfl)
theorem dX1_why_122 : decode cX1_why 122 = .ok (.iconst 4, 1) := dk_7 (dk_at dksX1_why_5 8 rfl rfl)
theorem dX1_why_123 : decode cX1_why 123 = .ok (.if_icmp .eq 7, 3) := dk_159 0 7 (dk_at dksX1_why_5 9 rfl rfl)
theorem dX1_why_126 : decode cX1_why 126 = .ok (.iconst 1, 1) := dk_4 (dk_at dksX1_why_5 12 rfl rfl)
theorem dX1_why_127 : decode cX1_why 127 = .ok (.goto 4, 3) := dk_167 0 4 (dk_at dksX1_why_5 13 rfl rfl)
theorem dX1_why_130 : decode cX1_why 130 = .ok (.iconst 0, 1) := dk_3 (dk_at dksX1_why_5 16 rfl rfl)
theorem dX1_why_131 : decode cX1_why 131 = .ok (.ior, 1) := dk_128 (dk_at dksX1_why_5 17 rfl rfl)
theorem dX1_why_132 : decode cX1_why 132 = .ok (.istore 5, 2) := dk_54 5 (dk_at dksX1_why_5 18 rfl rfl)
theorem dX1_why_134 : decode cX1_why 134 = .ok (.iload 6, 2) := dk_21 6 (dk_at dksX1_why_5 20 rfl rfl)
theorem dX1_why_136 : decode cX1_why 136 = .ok (.iload 10, 2) := dk_21 10 (dk_at dksX1_why_5 22 rfl rfl)
theorem dX1_why_138 : decode cX1_why 138 = .ok (.ifCond .eq 16, 3) := dk_153 0 16 (dk_at dksX1_why_6 0 rfl rfl)
theorem dX1_why_141 : decode cX1_why 141 = .ok (.aload 9, 2) := dk_25 9 (dk_at dksX1_why_6 3 rfl rfl)
theorem dX1_why_143 : decode cX1_why 143 = .ok (.getfield 150, 3) := dk_180 0 150 (dk_at dksX1_why_6 5 rfl rfl)
theorem dX1_why_146 : decode cX1_why 146 = .ok (.iconst 3, 1) := dk_6 (dk_at dksX1_why_6 8 rfl rfl)
theorem dX1_why_147 : decode cX1_why 147 = .ok (.if_icmp .ne 7, 3) := dk_160 0 7 (dk_at dksX1_why_6 9 rfl rfl)
theorem dX1_why_150 : decode cX1_why 150 = .ok (.iconst 1, 1) := dk_4 (dk_at dksX1_why_6 12 rfl rfl)
theorem dX1_why_151 : decode cX1_why 151 = .ok (.goto 4, 3) := dk_167 0 4 (dk_at dksX1_why_6 13 rfl rfl)
theorem dX1_why_154 : decode cX1_why 154 = .ok (.iconst 0, 1) := dk_3 (dk_at dksX1_why_6 16 rfl rfl)
theorem dX1_why_155 : decode cX1_why 155 = .ok (.ior, 1) := dk_128 (dk_at dksX1_why_6 17 rfl rfl)
theorem dX1_why_156 : decode cX1_why 156 = .ok (.istore 6, 2) := dk_54 6 (dk_at dksX1_why_6 18 rfl rfl)
theorem dX1_why_158 : decode cX1_why 158 = .ok (.iload 7, 2) := dk_21 7 (dk_at dksX1_why_6 20 rfl rfl)
theorem dX1_why_160 : decode cX1_why 160 = .ok (.iload 10, 2) := dk_21 10 (dk_at dksX1_why_6 22 rfl rfl)
theorem dX1_why_162 : decode cX1_why 162 = .ok (.ifCond .eq 17, 3) := dk_153 0 17 (dk_at dksX1_why_7 0 rfl rfl)
theorem dX1_why_165 : decode cX1_why 165 = .ok (.aload 9, 2) := dk_25 9 (dk_at dksX1_why_7 3 rfl rfl)
theorem dX1_why_167 : decode cX1_why 167 = .ok (.iconst 0, 1) := dk_3 (dk_at dksX1_why_7 5 rfl rfl)
theorem dX1_why_168 : decode cX1_why 168 = .ok (.iconst 3, 1) := dk_6 (dk_at dksX1_why_7 6 rfl rfl)
theorem dX1_why_169 : decode cX1_why 169 = .ok (.invokevirtual 191, 3) := dk_182 0 191 (dk_at dksX1_why_7 7 rfl rfl)
theorem dX1_why_172 : decode cX1_why 172 = .ok (.ifCond .eq 7, 3) := dk_153 0 7 (dk_at dksX1_why_7 10 rfl rfl)
theorem dX1_why_175 : decode cX1_why 175 = .ok (.iconst 1, 1) := dk_4 (dk_at dksX1_why_7 13 rfl rfl)
theorem dX1_why_176 : decode cX1_why 176 = .ok (.goto 4, 3) := dk_167 0 4 (dk_at dksX1_why_7 14 rfl rfl)
theorem dX1_why_179 : decode cX1_why 179 = .ok (.iconst 0, 1) := dk_3 (dk_at dksX1_why_7 17 rfl rfl)
theorem dX1_why_180 : decode cX1_why 180 = .ok (.ior, 1) := dk_128 (dk_at dksX1_why_7 18 rfl rfl)
theorem dX1_why_181 : decode cX1_why 181 = .ok (.istore 7, 2) := dk_54 7 (dk_at dksX1_why_7 19 rfl rfl)
theorem dX1_why_183 : decode cX1_why 183 = .ok (.iinc 8 1, 3) := dk_132 8 1 (dk_at dksX1_why_7 21 rfl rfl)
theorem dX1_why_186 : decode cX1_why 186 = .ok (.goto (-163), 3) := dk_167 255 93 (dk_at dksX1_why_8 0 rfl rfl)
theorem dX1_why_189 : decode cX1_why 189 = .ok (.aload_n 2, 1) := dk_44 (dk_at dksX1_why_8 3 rfl rfl)
theorem dX1_why_190 : decode cX1_why 190 = .ok (.getfield 170, 3) := dk_180 0 170 (dk_at dksX1_why_8 4 rfl rfl)
theorem dX1_why_193 : decode cX1_why 193 = .ok (.ifCond .ne 5, 3) := dk_154 0 5 (dk_at dksX1_why_8 7 rfl rfl)
theorem dX1_why_196 : decode cX1_why 196 = .ok (.iconst 1, 1) := dk_4 (dk_at dksX1_why_8 10 rfl rfl)
theorem dX1_why_197 : decode cX1_why 197 = .ok (.ireturn, 1) := dk_172 (dk_at dksX1_why_8 11 rfl rfl)
theorem dX1_why_198 : decode cX1_why 198 = .ok (.iload_n 3, 1) := dk_29 (dk_at dksX1_why_8 12 rfl rfl)
theorem dX1_why_199 : decode cX1_why 199 = .ok (.ifCond .ne 7, 3) := dk_154 0 7 (dk_at dksX1_why_8 13 rfl rfl)
theorem dX1_why_202 : decode cX1_why 202 = .ok (.iconst 2, 1) := dk_5 (dk_at dksX1_why_8 16 rfl rfl)
theorem dX1_why_203 : decode cX1_why 203 = .ok (.goto 41, 3) := dk_167 0 41 (dk_at dksX1_why_8 17 rfl rfl)
theorem dX1_why_206 : decode cX1_why 206 = .ok (.iload 4, 2) := dk_21 4 (dk_at dksX1_why_8 20 rfl rfl)
theorem dX1_why_208 : decode cX1_why 208 = .ok (.ifCond .ne 7, 3) := dk_154 0 7 (dk_at dksX1_why_9 0 rfl rfl)
theorem dX1_why_211 : decode cX1_why 211 = .ok (.iconst 3, 1) := dk_6 (dk_at dksX1_why_9 3 rfl rfl)
theorem dX1_why_212 : decode cX1_why 212 = .ok (.goto 32, 3) := dk_167 0 32 (dk_at dksX1_why_9 4 rfl rfl)
theorem dX1_why_215 : decode cX1_why 215 = .ok (.iload 5, 2) := dk_21 5 (dk_at dksX1_why_9 7 rfl rfl)
theorem dX1_why_217 : decode cX1_why 217 = .ok (.ifCond .ne 7, 3) := dk_154 0 7 (dk_at dksX1_why_9 9 rfl rfl)
theorem dX1_why_220 : decode cX1_why 220 = .ok (.iconst 4, 1) := dk_7 (dk_at dksX1_why_9 12 rfl rfl)
theorem dX1_why_221 : decode cX1_why 221 = .ok (.goto 23, 3) := dk_167 0 23 (dk_at dksX1_why_9 13 rfl rfl)
theorem dX1_why_224 : decode cX1_why 224 = .ok (.iload 6, 2) := dk_21 6 (dk_at dksX1_why_9 16 rfl rfl)
theorem dX1_why_226 : decode cX1_why 226 = .ok (.ifCond .ne 7, 3) := dk_154 0 7 (dk_at dksX1_why_9 18 rfl rfl)
theorem dX1_why_229 : decode cX1_why 229 = .ok (.iconst 5, 1) := dk_8 (dk_at dksX1_why_9 21 rfl rfl)
theorem dX1_why_230 : decode cX1_why 230 = .ok (.goto 14, 3) := dk_167 0 14 (dk_at dksX1_why_10 0 rfl rfl)
theorem dX1_why_233 : decode cX1_why 233 = .ok (.iload 7, 2) := dk_21 7 (dk_at dksX1_why_10 3 rfl rfl)
theorem dX1_why_235 : decode cX1_why 235 = .ok (.ifCond .ne 8, 3) := dk_154 0 8 (dk_at dksX1_why_10 5 rfl rfl)
theorem dX1_why_238 : decode cX1_why 238 = .ok (.bipush 6, 2) := dk_16 6 (dk_at dksX1_why_10 8 rfl rfl)
theorem dX1_why_240 : decode cX1_why 240 = .ok (.goto 4, 3) := dk_167 0 4 (dk_at dksX1_why_10 10 rfl rfl)
theorem dX1_why_243 : decode cX1_why 243 = .ok (.iconst 0, 1) := dk_3 (dk_at dksX1_why_10 13 rfl rfl)
theorem dX1_why_244 : decode cX1_why 244 = .ok (.ireturn, 1) := dk_172 (dk_at dksX1_why_10 14 rfl rfl)
abbrev cX1_pass : ByteArray := prog_1_method_30_code
def yX1_pass : MethodName := ⟨RX1, "pass", "(I)I"⟩
def dkwX1_pass_2 : List UInt8 := [167, 255, 242, 42, 180, 0, 39, 180, 0, 194, 172]
abbrev dktX1_pass_2 : List UInt8 := dkwX1_pass_2 ++ []
def dkwX1_pass_1 : List UInt8 := [167, 0, 4, 3, 184, 0, 110, 27, 61, 28, 158, 0, 16, 42, 180, 0, 39, 182, 0, 197, 132, 2, 255]
abbrev dktX1_pass_1 : List UInt8 := dkwX1_pass_1 ++ dktX1_pass_2
def dkwX1_pass_0 : List UInt8 := [27, 4, 16, 48, 184, 0, 52, 42, 180, 0, 39, 180, 0, 194, 27, 96, 17, 39, 15, 163, 0, 7, 4]
abbrev dktX1_pass_0 : List UInt8 := dkwX1_pass_0 ++ dktX1_pass_1
theorem dksX1_pass_0 : cX1_pass.data.toList.drop 0 = dktX1_pass_0 := by decide +kernel
theorem dksX1_pass_1 : cX1_pass.data.toList.drop 23 = dktX1_pass_1 := dk_seg dksX1_pass_0 23 rfl rfl
theorem dksX1_pass_2 : cX1_pass.data.toList.drop 46 = dktX1_pass_2 := dk_seg dksX1_pass_1 23 rfl rfl
theorem dX1_pass_0 : decode cX1_pass 0 = .ok (.iload_n 1, 1) := dk_27 (dk_at dksX1_pass_0 0 rfl rfl)
theorem dX1_pass_1 : decode cX1_pass 1 = .ok (.iconst 1, 1) := dk_4 (dk_at dksX1_pass_0 1 rfl rfl)
theorem dX1_pass_2 : decode cX1_pass 2 = .ok (.bipush 48, 2) := dk_16 48 (dk_at dksX1_pass_0 2 rfl rfl)
theorem dX1_pass_4 : decode cX1_pass 4 = .ok (.invokestatic 52, 3) := dk_184 0 52 (dk_at dksX1_pass_0 4 rfl rfl)
theorem dX1_pass_7 : decode cX1_pass 7 = .ok (.aload_n 0, 1) := dk_42 (dk_at dksX1_pass_0 7 rfl rfl)
theorem dX1_pass_8 : decode cX1_pass 8 = .ok (.getfield 39, 3) := dk_180 0 39 (dk_at dksX1_pass_0 8 rfl rfl)
theorem dX1_pass_11 : decode cX1_pass 11 = .ok (.getfield 194, 3) := dk_180 0 194 (dk_at dksX1_pass_0 11 rfl rfl)
theorem dX1_pass_14 : decode cX1_pass 14 = .ok (.iload_n 1, 1) := dk_27 (dk_at dksX1_pass_0 14 rfl rfl)
theorem dX1_pass_15 : decode cX1_pass 15 = .ok (.iadd, 1) := dk_96 (dk_at dksX1_pass_0 15 rfl rfl)
theorem dX1_pass_16 : decode cX1_pass 16 = .ok (.sipush 9999, 3) := dk_17 39 15 (dk_at dksX1_pass_0 16 rfl rfl)
theorem dX1_pass_19 : decode cX1_pass 19 = .ok (.if_icmp .gt 7, 3) := dk_163 0 7 (dk_at dksX1_pass_0 19 rfl rfl)
theorem dX1_pass_22 : decode cX1_pass 22 = .ok (.iconst 1, 1) := dk_4 (dk_at dksX1_pass_0 22 rfl rfl)
theorem dX1_pass_23 : decode cX1_pass 23 = .ok (.goto 4, 3) := dk_167 0 4 (dk_at dksX1_pass_1 0 rfl rfl)
theorem dX1_pass_26 : decode cX1_pass 26 = .ok (.iconst 0, 1) := dk_3 (dk_at dksX1_pass_1 3 rfl rfl)
theorem dX1_pass_27 : decode cX1_pass 27 = .ok (.invokestatic 110, 3) := dk_184 0 110 (dk_at dksX1_pass_1 4 rfl rfl)
theorem dX1_pass_30 : decode cX1_pass 30 = .ok (.iload_n 1, 1) := dk_27 (dk_at dksX1_pass_1 7 rfl rfl)
theorem dX1_pass_31 : decode cX1_pass 31 = .ok (.istore_n 2, 1) := dk_61 (dk_at dksX1_pass_1 8 rfl rfl)
theorem dX1_pass_32 : decode cX1_pass 32 = .ok (.iload_n 2, 1) := dk_28 (dk_at dksX1_pass_1 9 rfl rfl)
theorem dX1_pass_33 : decode cX1_pass 33 = .ok (.ifCond .le 16, 3) := dk_158 0 16 (dk_at dksX1_pass_1 10 rfl rfl)
theorem dX1_pass_36 : decode cX1_pass 36 = .ok (.aload_n 0, 1) := dk_42 (dk_at dksX1_pass_1 13 rfl rfl)
theorem dX1_pass_37 : decode cX1_pass 37 = .ok (.getfield 39, 3) := dk_180 0 39 (dk_at dksX1_pass_1 14 rfl rfl)
theorem dX1_pass_40 : decode cX1_pass 40 = .ok (.invokevirtual 197, 3) := dk_182 0 197 (dk_at dksX1_pass_1 17 rfl rfl)
theorem dX1_pass_43 : decode cX1_pass 43 = .ok (.iinc 2 (-1), 3) := dk_132 2 255 (dk_at dksX1_pass_1 20 rfl rfl)
theorem dX1_pass_46 : decode cX1_pass 46 = .ok (.goto (-14), 3) := dk_167 255 242 (dk_at dksX1_pass_2 0 rfl rfl)
theorem dX1_pass_49 : decode cX1_pass 49 = .ok (.aload_n 0, 1) := dk_42 (dk_at dksX1_pass_2 3 rfl rfl)
theorem dX1_pass_50 : decode cX1_pass 50 = .ok (.getfield 39, 3) := dk_180 0 39 (dk_at dksX1_pass_2 4 rfl rfl)
theorem dX1_pass_53 : decode cX1_pass 53 = .ok (.getfield 194, 3) := dk_180 0 194 (dk_at dksX1_pass_2 7 rfl rfl)
theorem dX1_pass_56 : decode cX1_pass 56 = .ok (.ireturn, 1) := dk_172 (dk_at dksX1_pass_2 10 rfl rfl)
abbrev cX1_ahead : ByteArray := prog_1_method_31_code
def yX1_ahead : MethodName := ⟨RX1, "ahead", "(II)I"⟩
def dkwX1_ahead_1 : List UInt8 := [21, 4, 158, 0, 13, 45, 182, 0, 197, 132, 4, 255, 167, 255, 244, 45, 28, 182, 0, 204, 172]
abbrev dktX1_ahead_1 : List UInt8 := dkwX1_ahead_1 ++ []
def dkwX1_ahead_0 : List UInt8 := [27, 4, 16, 48, 184, 0, 52, 28, 3, 8, 184, 0, 52, 42, 180, 0, 39, 182, 0, 200, 78, 27, 54, 4]
abbrev dktX1_ahead_0 : List UInt8 := dkwX1_ahead_0 ++ dktX1_ahead_1
theorem dksX1_ahead_0 : cX1_ahead.data.toList.drop 0 = dktX1_ahead_0 := by decide +kernel
theorem dksX1_ahead_1 : cX1_ahead.data.toList.drop 24 = dktX1_ahead_1 := dk_seg dksX1_ahead_0 24 rfl rfl
theorem dX1_ahead_0 : decode cX1_ahead 0 = .ok (.iload_n 1, 1) := dk_27 (dk_at dksX1_ahead_0 0 rfl rfl)
theorem dX1_ahead_1 : decode cX1_ahead 1 = .ok (.iconst 1, 1) := dk_4 (dk_at dksX1_ahead_0 1 rfl rfl)
theorem dX1_ahead_2 : decode cX1_ahead 2 = .ok (.bipush 48, 2) := dk_16 48 (dk_at dksX1_ahead_0 2 rfl rfl)
theorem dX1_ahead_4 : decode cX1_ahead 4 = .ok (.invokestatic 52, 3) := dk_184 0 52 (dk_at dksX1_ahead_0 4 rfl rfl)
theorem dX1_ahead_7 : decode cX1_ahead 7 = .ok (.iload_n 2, 1) := dk_28 (dk_at dksX1_ahead_0 7 rfl rfl)
theorem dX1_ahead_8 : decode cX1_ahead 8 = .ok (.iconst 0, 1) := dk_3 (dk_at dksX1_ahead_0 8 rfl rfl)
theorem dX1_ahead_9 : decode cX1_ahead 9 = .ok (.iconst 5, 1) := dk_8 (dk_at dksX1_ahead_0 9 rfl rfl)
theorem dX1_ahead_10 : decode cX1_ahead 10 = .ok (.invokestatic 52, 3) := dk_184 0 52 (dk_at dksX1_ahead_0 10 rfl rfl)
theorem dX1_ahead_13 : decode cX1_ahead 13 = .ok (.aload_n 0, 1) := dk_42 (dk_at dksX1_ahead_0 13 rfl rfl)
theorem dX1_ahead_14 : decode cX1_ahead 14 = .ok (.getfield 39, 3) := dk_180 0 39 (dk_at dksX1_ahead_0 14 rfl rfl)
theorem dX1_ahead_17 : decode cX1_ahead 17 = .ok (.invokevirtual 200, 3) := dk_182 0 200 (dk_at dksX1_ahead_0 17 rfl rfl)
theorem dX1_ahead_20 : decode cX1_ahead 20 = .ok (.astore_n 3, 1) := dk_78 (dk_at dksX1_ahead_0 20 rfl rfl)
theorem dX1_ahead_21 : decode cX1_ahead 21 = .ok (.iload_n 1, 1) := dk_27 (dk_at dksX1_ahead_0 21 rfl rfl)
theorem dX1_ahead_22 : decode cX1_ahead 22 = .ok (.istore 4, 2) := dk_54 4 (dk_at dksX1_ahead_0 22 rfl rfl)
theorem dX1_ahead_24 : decode cX1_ahead 24 = .ok (.iload 4, 2) := dk_21 4 (dk_at dksX1_ahead_1 0 rfl rfl)
theorem dX1_ahead_26 : decode cX1_ahead 26 = .ok (.ifCond .le 13, 3) := dk_158 0 13 (dk_at dksX1_ahead_1 2 rfl rfl)
theorem dX1_ahead_29 : decode cX1_ahead 29 = .ok (.aload_n 3, 1) := dk_45 (dk_at dksX1_ahead_1 5 rfl rfl)
theorem dX1_ahead_30 : decode cX1_ahead 30 = .ok (.invokevirtual 197, 3) := dk_182 0 197 (dk_at dksX1_ahead_1 6 rfl rfl)
theorem dX1_ahead_33 : decode cX1_ahead 33 = .ok (.iinc 4 (-1), 3) := dk_132 4 255 (dk_at dksX1_ahead_1 9 rfl rfl)
theorem dX1_ahead_36 : decode cX1_ahead 36 = .ok (.goto (-12), 3) := dk_167 255 244 (dk_at dksX1_ahead_1 12 rfl rfl)
theorem dX1_ahead_39 : decode cX1_ahead 39 = .ok (.aload_n 3, 1) := dk_45 (dk_at dksX1_ahead_1 15 rfl rfl)
theorem dX1_ahead_40 : decode cX1_ahead 40 = .ok (.iload_n 2, 1) := dk_28 (dk_at dksX1_ahead_1 16 rfl rfl)
theorem dX1_ahead_41 : decode cX1_ahead 41 = .ok (.invokevirtual 204, 3) := dk_182 0 204 (dk_at dksX1_ahead_1 17 rfl rfl)
theorem dX1_ahead_44 : decode cX1_ahead 44 = .ok (.ireturn, 1) := dk_172 (dk_at dksX1_ahead_1 20 rfl rfl)
abbrev cX1_sum : ByteArray := prog_1_method_32_code
def yX1_sum : MethodName := ⟨RX1, "sum", "(I)I"⟩
def dkwX1_sum_0 : List UInt8 := [27, 3, 8, 184, 0, 52, 42, 180, 0, 39, 27, 182, 0, 204, 172]
abbrev dktX1_sum_0 : List UInt8 := dkwX1_sum_0 ++ []
theorem dksX1_sum_0 : cX1_sum.data.toList.drop 0 = dktX1_sum_0 := by decide +kernel
theorem dX1_sum_0 : decode cX1_sum 0 = .ok (.iload_n 1, 1) := dk_27 (dk_at dksX1_sum_0 0 rfl rfl)
theorem dX1_sum_1 : decode cX1_sum 1 = .ok (.iconst 0, 1) := dk_3 (dk_at dksX1_sum_0 1 rfl rfl)
theorem dX1_sum_2 : decode cX1_sum 2 = .ok (.iconst 5, 1) := dk_8 (dk_at dksX1_sum_0 2 rfl rfl)
theorem dX1_sum_3 : decode cX1_sum 3 = .ok (.invokestatic 52, 3) := dk_184 0 52 (dk_at dksX1_sum_0 3 rfl rfl)
theorem dX1_sum_6 : decode cX1_sum 6 = .ok (.aload_n 0, 1) := dk_42 (dk_at dksX1_sum_0 6 rfl rfl)
theorem dX1_sum_7 : decode cX1_sum 7 = .ok (.getfield 39, 3) := dk_180 0 39 (dk_at dksX1_sum_0 7 rfl rfl)
theorem dX1_sum_10 : decode cX1_sum 10 = .ok (.iload_n 1, 1) := dk_27 (dk_at dksX1_sum_0 10 rfl rfl)
theorem dX1_sum_11 : decode cX1_sum 11 = .ok (.invokevirtual 204, 3) := dk_182 0 204 (dk_at dksX1_sum_0 11 rfl rfl)
theorem dX1_sum_14 : decode cX1_sum 14 = .ok (.ireturn, 1) := dk_172 (dk_at dksX1_sum_0 14 rfl rfl)
theorem q37 : (Jvm.Cond.initialized "KeylockBody") ∈ lw_all := lw_g (lw_at lw_m1 1 rfl) rfl
theorem q63 : (Jvm.Cond.instantiable "KeylockBody" (6 : Nat)) ∈ lw_all := lw_g (lw_at lw_m1 27 rfl) rfl
theorem q65 : (Jvm.Cond.instanceMethod ({ cls := "KeylockBody", name := "<init>", desc := "()V" } : Jvm.MethodName)) ∈ lw_all := lw_g (lw_at lw_m1 29 rfl) rfl
theorem q66 : (Jvm.Cond.code ({ cls := "KeylockBody", name := "<init>", desc := "()V" } : Jvm.MethodName) prog_1_method_1_code (2 : Nat) (Option.none : Option Jvm.ClassFile.FieldType)) ∈ lw_all := lw_g (lw_at lw_m1 30 rfl) rfl
theorem q67 : (Jvm.Cond.methodLink "KeylockBody" (1 : Nat) ({ cls := "java/lang/Object", name := "<init>", desc := "()V" } : Jvm.MethodName)) ∈ lw_all := lw_g (lw_at lw_m1 31 rfl) rfl
theorem q70 : (Jvm.Cond.classLink "KeylockBody" (9 : Nat) "[[I") ∈ lw_all := lw_g (lw_at lw_m1 34 rfl) rfl
theorem q72 : (Jvm.Cond.fieldLink "KeylockBody" (14 : Nat) "KeylockBody" "FIRST_MARKS" "[I") ∈ lw_all := lw_g (lw_at lw_m1 36 rfl) rfl
theorem q73 : (Jvm.Cond.laysStatic "KeylockBody" "FIRST_MARKS" "[I") ∈ lw_tbl := lw_at lw_m1 37 rfl
theorem q74 : (Jvm.Cond.classLink "KeylockBody" (21 : Nat) "java/util/ArrayList") ∈ lw_all := lw_g (lw_at lw_m1 38 rfl) rfl
theorem q76 : (Jvm.Cond.methodLink "KeylockBody" (23 : Nat) ({ cls := "java/util/ArrayList", name := "<init>", desc := "()V" } : Jvm.MethodName)) ∈ lw_all := lw_g (lw_at lw_m1 40 rfl) rfl
theorem q101 : (Jvm.Cond.classLink "KeylockBody" (34 : Nat) "KeylockBody$Inside") ∈ lw_all := lw_g (lw_at lw_m1 65 rfl) rfl
theorem q103 : (Jvm.Cond.methodLinkNest "KeylockBody" (36 : Nat) ({ cls := "KeylockBody$Inside", name := "<init>", desc := "(LKeylockBody;)V" } : Jvm.MethodName) "KeylockBody") ∈ lw_tbl := lw_at lw_m1 67 rfl
theorem q110 : (Jvm.Cond.fieldLinkNest "KeylockBody" (56 : Nat) "KeylockBody$Inside" "cells" "Ljava/util/List;" "KeylockBody") ∈ lw_tbl := lw_at lw_m1 74 rfl
theorem q112 : (Jvm.Cond.fieldLinkNest "KeylockBody" (75 : Nat) "KeylockBody$Inside" "invaders" "Ljava/util/List;" "KeylockBody") ∈ lw_tbl := lw_at lw_m1 76 rfl
theorem q114 : (Jvm.Cond.fieldLinkNest "KeylockBody" (122 : Nat) "KeylockBody$Inside" "harms" "[I" "KeylockBody") ∈ lw_tbl := lw_at lw_m1 78 rfl
theorem q118 : (Jvm.Cond.fieldLinkNest "KeylockBody" (194 : Nat) "KeylockBody$Inside" "hour" "I" "KeylockBody") ∈ lw_tbl := lw_at lw_m1 82 rfl
theorem q135 : (Jvm.Cond.fieldLink "KeylockBody" (11 : Nat) "KeylockBody" "table" "[[I") ∈ lw_all := lw_g (lw_at lw_m1 99 rfl) rfl
theorem q136 : (Jvm.Cond.fieldLink "KeylockBody" (18 : Nat) "KeylockBody" "marks" "[I") ∈ lw_all := lw_g (lw_at lw_m1 100 rfl) rfl
theorem q138 : (Jvm.Cond.fieldLink "KeylockBody" (24 : Nat) "KeylockBody" "owns" "Ljava/util/List;") ∈ lw_all := lw_g (lw_at lw_m1 102 rfl) rfl
theorem q140 : (Jvm.Cond.fieldLink "KeylockBody" (28 : Nat) "KeylockBody" "segments" "Ljava/util/List;") ∈ lw_all := lw_g (lw_at lw_m1 104 rfl) rfl
theorem q141 : (Jvm.Cond.fieldLink "KeylockBody" (31 : Nat) "KeylockBody" "joints" "Ljava/util/List;") ∈ lw_all := lw_g (lw_at lw_m1 105 rfl) rfl
theorem q142 : (Jvm.Cond.fieldLink "KeylockBody" (39 : Nat) "KeylockBody" "inside" "LKeylockBody$Inside;") ∈ lw_all := lw_g (lw_at lw_m1 106 rfl) rfl
theorem q143 : (Jvm.Cond.laysFinal "KeylockBody" "KeylockBody" "table" "[[I") ∈ lw_all := lw_g (lw_at lw_m1 107 rfl) rfl
theorem q144 : (Jvm.Cond.soleField "KeylockBody" "table") ∈ lw_all := lw_g (lw_at lw_m1 108 rfl) rfl
theorem q145 : (Jvm.Cond.laysFinal "KeylockBody" "KeylockBody" "marks" "[I") ∈ lw_all := lw_g (lw_at lw_m1 109 rfl) rfl
theorem q146 : (Jvm.Cond.soleField "KeylockBody" "marks") ∈ lw_all := lw_g (lw_at lw_m1 110 rfl) rfl
theorem q147 : (Jvm.Cond.laysFinal "KeylockBody" "KeylockBody" "owns" "Ljava/util/List;") ∈ lw_all := lw_g (lw_at lw_m1 111 rfl) rfl
theorem q148 : (Jvm.Cond.soleField "KeylockBody" "owns") ∈ lw_all := lw_g (lw_at lw_m1 112 rfl) rfl
theorem q149 : (Jvm.Cond.laysFinal "KeylockBody" "KeylockBody" "segments" "Ljava/util/List;") ∈ lw_all := lw_g (lw_at lw_m1 113 rfl) rfl
theorem q150 : (Jvm.Cond.soleField "KeylockBody" "segments") ∈ lw_all := lw_g (lw_at lw_m1 114 rfl) rfl
theorem q151 : (Jvm.Cond.laysFinal "KeylockBody" "KeylockBody" "joints" "Ljava/util/List;") ∈ lw_all := lw_g (lw_at lw_m1 115 rfl) rfl
theorem q152 : (Jvm.Cond.soleField "KeylockBody" "joints") ∈ lw_all := lw_g (lw_at lw_m1 116 rfl) rfl
theorem q153 : (Jvm.Cond.lays "KeylockBody" "KeylockBody" "inside" "LKeylockBody$Inside;") ∈ lw_all := lw_g (lw_at lw_m1 117 rfl) rfl
theorem q154 : (Jvm.Cond.soleField "KeylockBody" "inside") ∈ lw_all := lw_g (lw_at lw_m1 118 rfl) rfl
theorem q155 : (Jvm.Cond.superclass "KeylockBody" "java/lang/Object") ∈ lw_all := lw_g (lw_at lw_m1 119 rfl) rfl
theorem q157 : (Jvm.Cond.instanceMethod ({ cls := "KeylockBody", name := "holes", desc := "()I" } : Jvm.MethodName)) ∈ lw_all := lw_g (lw_at lw_m1 121 rfl) rfl
theorem q158 : (Jvm.Cond.selects "KeylockBody" ({ cls := "KeylockBody", name := "holes", desc := "()I" } : Jvm.MethodName) ({ cls := "KeylockBody", name := "holes", desc := "()I" } : Jvm.MethodName)) ∈ lw_all := lw_g (lw_at lw_m1 122 rfl) rfl
theorem q159 : (Jvm.Cond.code ({ cls := "KeylockBody", name := "holes", desc := "()I" } : Jvm.MethodName) prog_1_method_34_code (3 : Nat) (Option.some Jvm.ClassFile.FieldType.int)) ∈ lw_all := lw_g (lw_at lw_m1 123 rfl) rfl
theorem q160 : (Jvm.Cond.methodLink "KeylockBody" (207 : Nat) ({ cls := "KeylockBody", name := "isHole", desc := "(I)Z" } : Jvm.MethodName)) ∈ lw_all := lw_g (lw_at lw_m1 124 rfl) rfl
theorem q161 : (Jvm.Cond.instanceMethod ({ cls := "KeylockBody", name := "isHole", desc := "(I)Z" } : Jvm.MethodName)) ∈ lw_all := lw_g (lw_at lw_m1 125 rfl) rfl
theorem q162 : (Jvm.Cond.selects "KeylockBody" ({ cls := "KeylockBody", name := "isHole", desc := "(I)Z" } : Jvm.MethodName) ({ cls := "KeylockBody", name := "isHole", desc := "(I)Z" } : Jvm.MethodName)) ∈ lw_all := lw_g (lw_at lw_m1 126 rfl) rfl
theorem q163 : (Jvm.Cond.code ({ cls := "KeylockBody", name := "isHole", desc := "(I)Z" } : Jvm.MethodName) prog_1_method_33_code (7 : Nat) (Option.some Jvm.ClassFile.FieldType.boolean)) ∈ lw_all := lw_g (lw_at lw_m1 127 rfl) rfl
theorem q164 : (Jvm.Cond.methodLink "KeylockBody" (101 : Nat) ({ cls := "KeylockBody", name := "checkWord", desc := "(I)V" } : Jvm.MethodName)) ∈ lw_all := lw_g (lw_at lw_m1 128 rfl) rfl
theorem q165 : (Jvm.Cond.static ({ cls := "KeylockBody", name := "checkWord", desc := "(I)V" } : Jvm.MethodName)) ∈ lw_all := lw_g (lw_at lw_m1 129 rfl) rfl
theorem q166 : (Jvm.Cond.code ({ cls := "KeylockBody", name := "checkWord", desc := "(I)V" } : Jvm.MethodName) prog_1_method_5_code (1 : Nat) (Option.none : Option Jvm.ClassFile.FieldType)) ∈ lw_all := lw_g (lw_at lw_m1 130 rfl) rfl
theorem q167 : (Jvm.Cond.methodLink "KeylockBody" (52 : Nat) ({ cls := "KeylockBody", name := "check", desc := "(III)V" } : Jvm.MethodName)) ∈ lw_all := lw_g (lw_at lw_m1 131 rfl) rfl
theorem q168 : (Jvm.Cond.static ({ cls := "KeylockBody", name := "check", desc := "(III)V" } : Jvm.MethodName)) ∈ lw_all := lw_g (lw_at lw_m1 132 rfl) rfl
theorem q169 : (Jvm.Cond.code ({ cls := "KeylockBody", name := "check", desc := "(III)V" } : Jvm.MethodName) prog_1_method_2_code (3 : Nat) (Option.none : Option Jvm.ClassFile.FieldType)) ∈ lw_all := lw_g (lw_at lw_m1 133 rfl) rfl
theorem q170 : (Jvm.Cond.classLink "KeylockBody" (43 : Nat) "java/lang/IllegalArgumentException") ∈ lw_all := lw_g (lw_at lw_m1 134 rfl) rfl
theorem q212 : (Jvm.Cond.methodLink "KeylockBody" (45 : Nat) ({ cls := "java/lang/IllegalArgumentException", name := "<init>", desc := "()V" } : Jvm.MethodName)) ∈ lw_all := lw_g (lw_at lw_m1 176 rfl) rfl
theorem q235 : (Jvm.Cond.interfaceEntry "KeylockBody" (59 : Nat)) ∈ lw_tbl := lw_at lw_m1 199 rfl
theorem q236 : (Jvm.Cond.methodLink "KeylockBody" (59 : Nat) ({ cls := "java/util/List", name := "size", desc := "()I" } : Jvm.MethodName)) ∈ lw_all := lw_g (lw_at lw_m1 200 rfl) rfl
theorem q245 : (Jvm.Cond.methodLink "KeylockBody" (129 : Nat) ({ cls := "KeylockBody", name := "lockOf", desc := "(III)I" } : Jvm.MethodName)) ∈ lw_all := lw_g (lw_at lw_m1 209 rfl) rfl
theorem q246 : (Jvm.Cond.privateMethod ({ cls := "KeylockBody", name := "lockOf", desc := "(III)I" } : Jvm.MethodName)) ∈ lw_tbl := lw_at lw_m1 210 rfl
theorem q247 : (Jvm.Cond.instanceMethod ({ cls := "KeylockBody", name := "lockOf", desc := "(III)I" } : Jvm.MethodName)) ∈ lw_all := lw_g (lw_at lw_m1 211 rfl) rfl
theorem q248 : (Jvm.Cond.code ({ cls := "KeylockBody", name := "lockOf", desc := "(III)I" } : Jvm.MethodName) prog_1_method_21_code (4 : Nat) (Option.some Jvm.ClassFile.FieldType.int)) ∈ lw_all := lw_g (lw_at lw_m1 212 rfl) rfl
theorem q249 : (Jvm.Cond.interfaceEntry "KeylockBody" (69 : Nat)) ∈ lw_tbl := lw_at lw_m1 213 rfl
theorem q250 : (Jvm.Cond.methodLink "KeylockBody" (69 : Nat) ({ cls := "java/util/List", name := "get", desc := "(I)Ljava/lang/Object;" } : Jvm.MethodName)) ∈ lw_all := lw_g (lw_at lw_m1 214 rfl) rfl
theorem q268 : (Jvm.Cond.classLink "KeylockBody" (87 : Nat) "java/lang/Integer") ∈ lw_all := lw_g (lw_at lw_m1 232 rfl) rfl
theorem q269 : (Jvm.Cond.methodLink "KeylockBody" (89 : Nat) ({ cls := "java/lang/Integer", name := "intValue", desc := "()I" } : Jvm.MethodName)) ∈ lw_all := lw_g (lw_at lw_m1 233 rfl) rfl
theorem q273 : (Jvm.Cond.methodLink "KeylockBody" (183 : Nat) ({ cls := "KeylockBody", name := "touches", desc := "(II)Z" } : Jvm.MethodName)) ∈ lw_all := lw_g (lw_at lw_m1 237 rfl) rfl
theorem q274 : (Jvm.Cond.privateMethod ({ cls := "KeylockBody", name := "touches", desc := "(II)Z" } : Jvm.MethodName)) ∈ lw_tbl := lw_at lw_m1 238 rfl
theorem q275 : (Jvm.Cond.instanceMethod ({ cls := "KeylockBody", name := "touches", desc := "(II)Z" } : Jvm.MethodName)) ∈ lw_all := lw_g (lw_at lw_m1 239 rfl) rfl
theorem q276 : (Jvm.Cond.code ({ cls := "KeylockBody", name := "touches", desc := "(II)Z" } : Jvm.MethodName) prog_1_method_11_code (3 : Nat) (Option.some Jvm.ClassFile.FieldType.boolean)) ∈ lw_all := lw_g (lw_at lw_m2 0 rfl) rfl
theorem q277 : (Jvm.Cond.methodLink "KeylockBody" (84 : Nat) ({ cls := "KeylockBody", name := "fitOf", desc := "(II)I" } : Jvm.MethodName)) ∈ lw_all := lw_g (lw_at lw_m2 1 rfl) rfl
theorem q278 : (Jvm.Cond.privateMethod ({ cls := "KeylockBody", name := "fitOf", desc := "(II)I" } : Jvm.MethodName)) ∈ lw_tbl := lw_at lw_m2 2 rfl
theorem q279 : (Jvm.Cond.instanceMethod ({ cls := "KeylockBody", name := "fitOf", desc := "(II)I" } : Jvm.MethodName)) ∈ lw_all := lw_g (lw_at lw_m2 3 rfl) rfl
theorem q280 : (Jvm.Cond.code ({ cls := "KeylockBody", name := "fitOf", desc := "(II)I" } : Jvm.MethodName) prog_1_method_10_code (5 : Nat) (Option.some Jvm.ClassFile.FieldType.int)) ∈ lw_all := lw_g (lw_at lw_m2 4 rfl) rfl
theorem q281 : (Jvm.Cond.methodLink "KeylockBody" (80 : Nat) ({ cls := "KeylockBody", name := "letterOf", desc := "(II)I" } : Jvm.MethodName)) ∈ lw_all := lw_g (lw_at lw_m2 5 rfl) rfl
theorem q282 : (Jvm.Cond.static ({ cls := "KeylockBody", name := "letterOf", desc := "(II)I" } : Jvm.MethodName)) ∈ lw_all := lw_g (lw_at lw_m2 6 rfl) rfl
theorem q283 : (Jvm.Cond.code ({ cls := "KeylockBody", name := "letterOf", desc := "(II)I" } : Jvm.MethodName) prog_1_method_9_code (2 : Nat) (Option.some Jvm.ClassFile.FieldType.int)) ∈ lw_all := lw_g (lw_at lw_m2 7 rfl) rfl
theorem q284 : (Jvm.Cond.methodLink "KeylockBody" (133 : Nat) ({ cls := "KeylockBody", name := "schooled", desc := "(I)I" } : Jvm.MethodName)) ∈ lw_all := lw_g (lw_at lw_m2 8 rfl) rfl
theorem q285 : (Jvm.Cond.privateMethod ({ cls := "KeylockBody", name := "schooled", desc := "(I)I" } : Jvm.MethodName)) ∈ lw_tbl := lw_at lw_m2 9 rfl
theorem q286 : (Jvm.Cond.instanceMethod ({ cls := "KeylockBody", name := "schooled", desc := "(I)I" } : Jvm.MethodName)) ∈ lw_all := lw_g (lw_at lw_m2 10 rfl) rfl
theorem q287 : (Jvm.Cond.code ({ cls := "KeylockBody", name := "schooled", desc := "(I)I" } : Jvm.MethodName) prog_1_method_22_code (3 : Nat) (Option.some Jvm.ClassFile.FieldType.int)) ∈ lw_all := lw_g (lw_at lw_m2 11 rfl) rfl
theorem q288 : (Jvm.Cond.methodLink "KeylockBody" (125 : Nat) ({ cls := "KeylockBody", name := "nearnessOf", desc := "(I)I" } : Jvm.MethodName)) ∈ lw_all := lw_g (lw_at lw_m2 12 rfl) rfl
theorem q289 : (Jvm.Cond.privateMethod ({ cls := "KeylockBody", name := "nearnessOf", desc := "(I)I" } : Jvm.MethodName)) ∈ lw_tbl := lw_at lw_m2 13 rfl
theorem q290 : (Jvm.Cond.instanceMethod ({ cls := "KeylockBody", name := "nearnessOf", desc := "(I)I" } : Jvm.MethodName)) ∈ lw_all := lw_g (lw_at lw_m2 14 rfl) rfl
theorem q291 : (Jvm.Cond.code ({ cls := "KeylockBody", name := "nearnessOf", desc := "(I)I" } : Jvm.MethodName) prog_1_method_12_code (4 : Nat) (Option.some Jvm.ClassFile.FieldType.int)) ∈ lw_all := lw_g (lw_at lw_m2 15 rfl) rfl
theorem q292 : (Jvm.Cond.methodLink "KeylockBody" (92 : Nat) ({ cls := "java/lang/Math", name := "max", desc := "(II)I" } : Jvm.MethodName)) ∈ lw_all := lw_g (lw_at lw_m2 16 rfl) rfl
theorem q296 : (Jvm.Cond.instanceMethod ({ cls := "KeylockBody", name := "holesAnew", desc := "()I" } : Jvm.MethodName)) ∈ lw_all := lw_g (lw_at lw_m2 20 rfl) rfl
theorem q297 : (Jvm.Cond.selects "KeylockBody" ({ cls := "KeylockBody", name := "holesAnew", desc := "()I" } : Jvm.MethodName) ({ cls := "KeylockBody", name := "holesAnew", desc := "()I" } : Jvm.MethodName)) ∈ lw_all := lw_g (lw_at lw_m2 21 rfl) rfl
theorem q298 : (Jvm.Cond.code ({ cls := "KeylockBody", name := "holesAnew", desc := "()I" } : Jvm.MethodName) prog_1_method_36_code (5 : Nat) (Option.some Jvm.ClassFile.FieldType.int)) ∈ lw_all := lw_g (lw_at lw_m2 22 rfl) rfl
theorem q299 : (Jvm.Cond.methodLink "KeylockBody" (211 : Nat) ({ cls := "KeylockBody", name := "isOfLibrary", desc := "(I)Z" } : Jvm.MethodName)) ∈ lw_all := lw_g (lw_at lw_m2 23 rfl) rfl
theorem q300 : (Jvm.Cond.privateMethod ({ cls := "KeylockBody", name := "isOfLibrary", desc := "(I)Z" } : Jvm.MethodName)) ∈ lw_tbl := lw_at lw_m2 24 rfl
theorem q301 : (Jvm.Cond.instanceMethod ({ cls := "KeylockBody", name := "isOfLibrary", desc := "(I)Z" } : Jvm.MethodName)) ∈ lw_all := lw_g (lw_at lw_m2 25 rfl) rfl
theorem q302 : (Jvm.Cond.code ({ cls := "KeylockBody", name := "isOfLibrary", desc := "(I)Z" } : Jvm.MethodName) prog_1_method_35_code (5 : Nat) (Option.some Jvm.ClassFile.FieldType.boolean)) ∈ lw_all := lw_g (lw_at lw_m2 26 rfl) rfl
theorem q308 : (Jvm.Cond.instanceMethod ({ cls := "KeylockBody", name := "table", desc := "(III)I" } : Jvm.MethodName)) ∈ lw_all := lw_g (lw_at lw_m2 32 rfl) rfl
theorem q309 : (Jvm.Cond.selects "KeylockBody" ({ cls := "KeylockBody", name := "table", desc := "(III)I" } : Jvm.MethodName) ({ cls := "KeylockBody", name := "table", desc := "(III)I" } : Jvm.MethodName)) ∈ lw_all := lw_g (lw_at lw_m2 33 rfl) rfl
theorem q310 : (Jvm.Cond.code ({ cls := "KeylockBody", name := "table", desc := "(III)I" } : Jvm.MethodName) prog_1_method_13_code (5 : Nat) (Option.some Jvm.ClassFile.FieldType.int)) ∈ lw_all := lw_g (lw_at lw_m2 34 rfl) rfl
theorem q311 : (Jvm.Cond.methodLink "KeylockBody" (97 : Nat) ({ cls := "KeylockBody", name := "checkLetter", desc := "(I)V" } : Jvm.MethodName)) ∈ lw_all := lw_g (lw_at lw_m2 35 rfl) rfl
theorem q312 : (Jvm.Cond.static ({ cls := "KeylockBody", name := "checkLetter", desc := "(I)V" } : Jvm.MethodName)) ∈ lw_all := lw_g (lw_at lw_m2 36 rfl) rfl
theorem q313 : (Jvm.Cond.code ({ cls := "KeylockBody", name := "checkLetter", desc := "(I)V" } : Jvm.MethodName) prog_1_method_6_code (1 : Nat) (Option.none : Option Jvm.ClassFile.FieldType)) ∈ lw_all := lw_g (lw_at lw_m2 37 rfl) rfl
theorem q318 : (Jvm.Cond.instanceMethod ({ cls := "KeylockBody", name := "fit", desc := "(II)I" } : Jvm.MethodName)) ∈ lw_all := lw_g (lw_at lw_m2 42 rfl) rfl
theorem q319 : (Jvm.Cond.selects "KeylockBody" ({ cls := "KeylockBody", name := "fit", desc := "(II)I" } : Jvm.MethodName) ({ cls := "KeylockBody", name := "fit", desc := "(II)I" } : Jvm.MethodName)) ∈ lw_all := lw_g (lw_at lw_m2 43 rfl) rfl
theorem q320 : (Jvm.Cond.code ({ cls := "KeylockBody", name := "fit", desc := "(II)I" } : Jvm.MethodName) prog_1_method_14_code (3 : Nat) (Option.some Jvm.ClassFile.FieldType.int)) ∈ lw_all := lw_g (lw_at lw_m2 44 rfl) rfl
theorem q325 : (Jvm.Cond.instanceMethod ({ cls := "KeylockBody", name := "mark", desc := "(II)I" } : Jvm.MethodName)) ∈ lw_all := lw_g (lw_at lw_m2 49 rfl) rfl
theorem q326 : (Jvm.Cond.selects "KeylockBody" ({ cls := "KeylockBody", name := "mark", desc := "(II)I" } : Jvm.MethodName) ({ cls := "KeylockBody", name := "mark", desc := "(II)I" } : Jvm.MethodName)) ∈ lw_all := lw_g (lw_at lw_m2 50 rfl) rfl
theorem q327 : (Jvm.Cond.code ({ cls := "KeylockBody", name := "mark", desc := "(II)I" } : Jvm.MethodName) prog_1_method_15_code (4 : Nat) (Option.some Jvm.ClassFile.FieldType.int)) ∈ lw_all := lw_g (lw_at lw_m2 51 rfl) rfl
theorem q328 : (Jvm.Cond.fieldLink "KeylockBody" (104 : Nat) "KeylockBody" "LEAST_MARKS" "[I") ∈ lw_all := lw_g (lw_at lw_m2 52 rfl) rfl
theorem q329 : (Jvm.Cond.laysStatic "KeylockBody" "LEAST_MARKS" "[I") ∈ lw_tbl := lw_at lw_m2 53 rfl
theorem q330 : (Jvm.Cond.fieldLink "KeylockBody" (107 : Nat) "KeylockBody" "MOST_MARKS" "[I") ∈ lw_all := lw_g (lw_at lw_m2 54 rfl) rfl
theorem q331 : (Jvm.Cond.laysStatic "KeylockBody" "MOST_MARKS" "[I") ∈ lw_tbl := lw_at lw_m2 55 rfl
theorem q337 : (Jvm.Cond.instanceMethod ({ cls := "KeylockBody", name := "own", desc := "(I)I" } : Jvm.MethodName)) ∈ lw_all := lw_g (lw_at lw_m2 61 rfl) rfl
theorem q338 : (Jvm.Cond.selects "KeylockBody" ({ cls := "KeylockBody", name := "own", desc := "(I)I" } : Jvm.MethodName) ({ cls := "KeylockBody", name := "own", desc := "(I)I" } : Jvm.MethodName)) ∈ lw_all := lw_g (lw_at lw_m2 62 rfl) rfl
theorem q339 : (Jvm.Cond.code ({ cls := "KeylockBody", name := "own", desc := "(I)I" } : Jvm.MethodName) prog_1_method_16_code (2 : Nat) (Option.some Jvm.ClassFile.FieldType.int)) ∈ lw_all := lw_g (lw_at lw_m2 63 rfl) rfl
theorem q340 : (Jvm.Cond.methodLink "KeylockBody" (110 : Nat) ({ cls := "KeylockBody", name := "checkState", desc := "(Z)V" } : Jvm.MethodName)) ∈ lw_all := lw_g (lw_at lw_m2 64 rfl) rfl
theorem q341 : (Jvm.Cond.static ({ cls := "KeylockBody", name := "checkState", desc := "(Z)V" } : Jvm.MethodName)) ∈ lw_all := lw_g (lw_at lw_m2 65 rfl) rfl
theorem q342 : (Jvm.Cond.code ({ cls := "KeylockBody", name := "checkState", desc := "(Z)V" } : Jvm.MethodName) prog_1_method_3_code (1 : Nat) (Option.none : Option Jvm.ClassFile.FieldType)) ∈ lw_all := lw_g (lw_at lw_m2 66 rfl) rfl
theorem q343 : (Jvm.Cond.classLink "KeylockBody" (46 : Nat) "java/lang/IllegalStateException") ∈ lw_all := lw_g (lw_at lw_m2 67 rfl) rfl
theorem q352 : (Jvm.Cond.methodLink "KeylockBody" (48 : Nat) ({ cls := "java/lang/IllegalStateException", name := "<init>", desc := "()V" } : Jvm.MethodName)) ∈ lw_all := lw_g (lw_at lw_m2 76 rfl) rfl
theorem q358 : (Jvm.Cond.methodLink "KeylockBody" (114 : Nat) ({ cls := "java/lang/Integer", name := "valueOf", desc := "(I)Ljava/lang/Integer;" } : Jvm.MethodName)) ∈ lw_all := lw_g (lw_at lw_m2 82 rfl) rfl
theorem q378 : (Jvm.Cond.interfaceEntry "KeylockBody" (118 : Nat)) ∈ lw_tbl := lw_at lw_m2 102 rfl
theorem q379 : (Jvm.Cond.methodLink "KeylockBody" (118 : Nat) ({ cls := "java/util/List", name := "add", desc := "(Ljava/lang/Object;)Z" } : Jvm.MethodName)) ∈ lw_all := lw_g (lw_at lw_m2 103 rfl) rfl
theorem q413 : (Jvm.Cond.selects "KeylockBody" ({ cls := "java/lang/Object", name := "getClass", desc := "()Ljava/lang/Class;" } : Jvm.MethodName) ({ cls := "java/lang/Object", name := "getClass", desc := "()Ljava/lang/Class;" } : Jvm.MethodName)) ∈ lw_all := lw_g (lw_at lw_m2 137 rfl) rfl
theorem q476 : (Jvm.Cond.instanceMethod ({ cls := "KeylockBody", name := "harm", desc := "(I)I" } : Jvm.MethodName)) ∈ lw_all := lw_g (lw_at lw_m2 200 rfl) rfl
theorem q477 : (Jvm.Cond.selects "KeylockBody" ({ cls := "KeylockBody", name := "harm", desc := "(I)I" } : Jvm.MethodName) ({ cls := "KeylockBody", name := "harm", desc := "(I)I" } : Jvm.MethodName)) ∈ lw_all := lw_g (lw_at lw_m2 201 rfl) rfl
theorem q478 : (Jvm.Cond.code ({ cls := "KeylockBody", name := "harm", desc := "(I)I" } : Jvm.MethodName) prog_1_method_17_code (2 : Nat) (Option.some Jvm.ClassFile.FieldType.int)) ∈ lw_all := lw_g (lw_at lw_m2 202 rfl) rfl
theorem q479 : (Jvm.Cond.methodLink "KeylockBody" (65 : Nat) ({ cls := "KeylockBody", name := "checkThere", desc := "(II)V" } : Jvm.MethodName)) ∈ lw_all := lw_g (lw_at lw_m2 203 rfl) rfl
theorem q480 : (Jvm.Cond.static ({ cls := "KeylockBody", name := "checkThere", desc := "(II)V" } : Jvm.MethodName)) ∈ lw_all := lw_g (lw_at lw_m2 204 rfl) rfl
theorem q481 : (Jvm.Cond.code ({ cls := "KeylockBody", name := "checkThere", desc := "(II)V" } : Jvm.MethodName) prog_1_method_4_code (2 : Nat) (Option.none : Option Jvm.ClassFile.FieldType)) ∈ lw_all := lw_g (lw_at lw_m2 205 rfl) rfl
theorem q482 : (Jvm.Cond.classLink "KeylockBody" (49 : Nat) "java/lang/IndexOutOfBoundsException") ∈ lw_all := lw_g (lw_at lw_m2 206 rfl) rfl
theorem q491 : (Jvm.Cond.methodLink "KeylockBody" (51 : Nat) ({ cls := "java/lang/IndexOutOfBoundsException", name := "<init>", desc := "()V" } : Jvm.MethodName)) ∈ lw_all := lw_g (lw_at lw_m2 215 rfl) rfl
theorem q501 : (Jvm.Cond.instanceMethod ({ cls := "KeylockBody", name := "nearness", desc := "(I)I" } : Jvm.MethodName)) ∈ lw_all := lw_g (lw_at lw_m2 225 rfl) rfl
theorem q502 : (Jvm.Cond.selects "KeylockBody" ({ cls := "KeylockBody", name := "nearness", desc := "(I)I" } : Jvm.MethodName) ({ cls := "KeylockBody", name := "nearness", desc := "(I)I" } : Jvm.MethodName)) ∈ lw_all := lw_g (lw_at lw_m2 226 rfl) rfl
theorem q503 : (Jvm.Cond.code ({ cls := "KeylockBody", name := "nearness", desc := "(I)I" } : Jvm.MethodName) prog_1_method_18_code (2 : Nat) (Option.some Jvm.ClassFile.FieldType.int)) ∈ lw_all := lw_g (lw_at lw_m2 227 rfl) rfl
theorem q508 : (Jvm.Cond.instanceMethod ({ cls := "KeylockBody", name := "segment", desc := "(II)I" } : Jvm.MethodName)) ∈ lw_all := lw_g (lw_at lw_m2 232 rfl) rfl
theorem q509 : (Jvm.Cond.selects "KeylockBody" ({ cls := "KeylockBody", name := "segment", desc := "(II)I" } : Jvm.MethodName) ({ cls := "KeylockBody", name := "segment", desc := "(II)I" } : Jvm.MethodName)) ∈ lw_all := lw_g (lw_at lw_m2 233 rfl) rfl
theorem q510 : (Jvm.Cond.code ({ cls := "KeylockBody", name := "segment", desc := "(II)I" } : Jvm.MethodName) prog_1_method_19_code (3 : Nat) (Option.some Jvm.ClassFile.FieldType.int)) ∈ lw_all := lw_g (lw_at lw_m2 234 rfl) rfl
theorem q515 : (Jvm.Cond.instanceMethod ({ cls := "KeylockBody", name := "joint", desc := "(I)I" } : Jvm.MethodName)) ∈ lw_all := lw_g (lw_at lw_m2 239 rfl) rfl
theorem q516 : (Jvm.Cond.selects "KeylockBody" ({ cls := "KeylockBody", name := "joint", desc := "(I)I" } : Jvm.MethodName) ({ cls := "KeylockBody", name := "joint", desc := "(I)I" } : Jvm.MethodName)) ∈ lw_all := lw_g (lw_at lw_m3 0 rfl) rfl
theorem q517 : (Jvm.Cond.code ({ cls := "KeylockBody", name := "joint", desc := "(I)I" } : Jvm.MethodName) prog_1_method_20_code (2 : Nat) (Option.some Jvm.ClassFile.FieldType.int)) ∈ lw_all := lw_g (lw_at lw_m3 1 rfl) rfl
theorem q522 : (Jvm.Cond.instanceMethod ({ cls := "KeylockBody", name := "draw", desc := "(IIIZ)I" } : Jvm.MethodName)) ∈ lw_all := lw_g (lw_at lw_m3 6 rfl) rfl
theorem q523 : (Jvm.Cond.selects "KeylockBody" ({ cls := "KeylockBody", name := "draw", desc := "(IIIZ)I" } : Jvm.MethodName) ({ cls := "KeylockBody", name := "draw", desc := "(IIIZ)I" } : Jvm.MethodName)) ∈ lw_all := lw_g (lw_at lw_m3 7 rfl) rfl
theorem q524 : (Jvm.Cond.code ({ cls := "KeylockBody", name := "draw", desc := "(IIIZ)I" } : Jvm.MethodName) prog_1_method_23_code (9 : Nat) (Option.some Jvm.ClassFile.FieldType.int)) ∈ lw_all := lw_g (lw_at lw_m3 8 rfl) rfl
theorem q525 : (Jvm.Cond.classLink "KeylockBody" (73 : Nat) "KeylockBody$Cell") ∈ lw_all := lw_g (lw_at lw_m3 9 rfl) rfl
theorem q527 : (Jvm.Cond.methodLink "KeylockBody" (136 : Nat) ({ cls := "KeylockBody$Cell", name := "<init>", desc := "(IIIIIII)V" } : Jvm.MethodName)) ∈ lw_all := lw_g (lw_at lw_m3 11 rfl) rfl
theorem q534 : (Jvm.Cond.fieldLinkNest "KeylockBody" (146 : Nat) "KeylockBody$Cell" "lock" "I" "KeylockBody") ∈ lw_tbl := lw_at lw_m3 18 rfl
theorem q537 : (Jvm.Cond.fieldLinkNest "KeylockBody" (153 : Nat) "KeylockBody$Cell" "kind" "I" "KeylockBody") ∈ lw_tbl := lw_at lw_m3 21 rfl
theorem q539 : (Jvm.Cond.fieldLinkNest "KeylockBody" (161 : Nat) "KeylockBody$Cell" "mother" "I" "KeylockBody") ∈ lw_tbl := lw_at lw_m3 23 rfl
theorem q542 : (Jvm.Cond.fieldLinkNest "KeylockBody" (150 : Nat) "KeylockBody$Cell" "state" "I" "KeylockBody") ∈ lw_tbl := lw_at lw_m3 26 rfl
theorem q545 : (Jvm.Cond.fieldLinkNest "KeylockBody" (159 : Nat) "KeylockBody$Cell" "size" "I" "KeylockBody") ∈ lw_tbl := lw_at lw_m3 29 rfl
theorem q548 : (Jvm.Cond.fieldLinkNest "KeylockBody" (156 : Nat) "KeylockBody$Cell" "work" "I" "KeylockBody") ∈ lw_tbl := lw_at lw_m3 32 rfl
theorem q564 : (Jvm.Cond.methodLink "KeylockBody" (139 : Nat) ({ cls := "KeylockBody$Inside", name := "add", desc := "(LKeylockBody$Cell;)V" } : Jvm.MethodName)) ∈ lw_all := lw_g (lw_at lw_m3 48 rfl) rfl
theorem q574 : (Jvm.Cond.instanceMethod ({ cls := "KeylockBody", name := "slip", desc := "(III)I" } : Jvm.MethodName)) ∈ lw_all := lw_g (lw_at lw_m3 58 rfl) rfl
theorem q575 : (Jvm.Cond.selects "KeylockBody" ({ cls := "KeylockBody", name := "slip", desc := "(III)I" } : Jvm.MethodName) ({ cls := "KeylockBody", name := "slip", desc := "(III)I" } : Jvm.MethodName)) ∈ lw_all := lw_g (lw_at lw_m3 59 rfl) rfl
theorem q576 : (Jvm.Cond.code ({ cls := "KeylockBody", name := "slip", desc := "(III)I" } : Jvm.MethodName) prog_1_method_24_code (8 : Nat) (Option.some Jvm.ClassFile.FieldType.int)) ∈ lw_all := lw_g (lw_at lw_m3 60 rfl) rfl
theorem q577 : (Jvm.Cond.methodLink "KeylockBody" (142 : Nat) ({ cls := "KeylockBody", name := "cellAt", desc := "(I)LKeylockBody$Cell;" } : Jvm.MethodName)) ∈ lw_all := lw_g (lw_at lw_m3 61 rfl) rfl
theorem q578 : (Jvm.Cond.privateMethod ({ cls := "KeylockBody", name := "cellAt", desc := "(I)LKeylockBody$Cell;" } : Jvm.MethodName)) ∈ lw_tbl := lw_at lw_m3 62 rfl
theorem q579 : (Jvm.Cond.instanceMethod ({ cls := "KeylockBody", name := "cellAt", desc := "(I)LKeylockBody$Cell;" } : Jvm.MethodName)) ∈ lw_all := lw_g (lw_at lw_m3 63 rfl) rfl
theorem q580 : (Jvm.Cond.code ({ cls := "KeylockBody", name := "cellAt", desc := "(I)LKeylockBody$Cell;" } : Jvm.MethodName) prog_1_method_7_code (2 : Nat) (Option.some (Jvm.ClassFile.FieldType.object "KeylockBody$Cell"))) ∈ lw_all := lw_g (lw_at lw_m3 64 rfl) rfl
theorem q585 : (Jvm.Cond.instanceMethod ({ cls := "KeylockBody", name := "cellIs", desc := "(II)I" } : Jvm.MethodName)) ∈ lw_all := lw_g (lw_at lw_m3 69 rfl) rfl
theorem q586 : (Jvm.Cond.selects "KeylockBody" ({ cls := "KeylockBody", name := "cellIs", desc := "(II)I" } : Jvm.MethodName) ({ cls := "KeylockBody", name := "cellIs", desc := "(II)I" } : Jvm.MethodName)) ∈ lw_all := lw_g (lw_at lw_m3 70 rfl) rfl
theorem q587 : (Jvm.Cond.code ({ cls := "KeylockBody", name := "cellIs", desc := "(II)I" } : Jvm.MethodName) prog_1_method_25_code (4 : Nat) (Option.some Jvm.ClassFile.FieldType.int)) ∈ lw_all := lw_g (lw_at lw_m3 71 rfl) rfl
theorem q592 : (Jvm.Cond.instanceMethod ({ cls := "KeylockBody", name := "invade", desc := "(III)I" } : Jvm.MethodName)) ∈ lw_all := lw_g (lw_at lw_m3 76 rfl) rfl
theorem q593 : (Jvm.Cond.selects "KeylockBody" ({ cls := "KeylockBody", name := "invade", desc := "(III)I" } : Jvm.MethodName) ({ cls := "KeylockBody", name := "invade", desc := "(III)I" } : Jvm.MethodName)) ∈ lw_all := lw_g (lw_at lw_m3 77 rfl) rfl
theorem q594 : (Jvm.Cond.code ({ cls := "KeylockBody", name := "invade", desc := "(III)I" } : Jvm.MethodName) prog_1_method_26_code (4 : Nat) (Option.some Jvm.ClassFile.FieldType.int)) ∈ lw_all := lw_g (lw_at lw_m3 78 rfl) rfl
theorem q595 : (Jvm.Cond.classLink "KeylockBody" (78 : Nat) "KeylockBody$Invader") ∈ lw_all := lw_g (lw_at lw_m3 79 rfl) rfl
theorem q597 : (Jvm.Cond.methodLink "KeylockBody" (164 : Nat) ({ cls := "KeylockBody$Invader", name := "<init>", desc := "(III)V" } : Jvm.MethodName)) ∈ lw_all := lw_g (lw_at lw_m3 81 rfl) rfl
theorem q603 : (Jvm.Cond.fieldLinkNest "KeylockBody" (171 : Nat) "KeylockBody$Invader" "coat" "I" "KeylockBody") ∈ lw_tbl := lw_at lw_m3 87 rfl
theorem q606 : (Jvm.Cond.fieldLinkNest "KeylockBody" (170 : Nat) "KeylockBody$Invader" "size" "I" "KeylockBody") ∈ lw_tbl := lw_at lw_m3 90 rfl
theorem q608 : (Jvm.Cond.fieldLinkNest "KeylockBody" (174 : Nat) "KeylockBody$Invader" "growth" "I" "KeylockBody") ∈ lw_tbl := lw_at lw_m3 92 rfl
theorem q611 : (Jvm.Cond.fieldLinkNest "KeylockBody" (177 : Nat) "KeylockBody$Invader" "clearedBy" "I" "KeylockBody") ∈ lw_tbl := lw_at lw_m3 95 rfl
theorem q614 : (Jvm.Cond.fieldLinkNest "KeylockBody" (180 : Nat) "KeylockBody$Invader" "greatest" "I" "KeylockBody") ∈ lw_tbl := lw_at lw_m3 98 rfl
theorem q630 : (Jvm.Cond.instanceMethod ({ cls := "KeylockBody", name := "change", desc := "(II)I" } : Jvm.MethodName)) ∈ lw_all := lw_g (lw_at lw_m3 114 rfl) rfl
theorem q631 : (Jvm.Cond.selects "KeylockBody" ({ cls := "KeylockBody", name := "change", desc := "(II)I" } : Jvm.MethodName) ({ cls := "KeylockBody", name := "change", desc := "(II)I" } : Jvm.MethodName)) ∈ lw_all := lw_g (lw_at lw_m3 115 rfl) rfl
theorem q632 : (Jvm.Cond.code ({ cls := "KeylockBody", name := "change", desc := "(II)I" } : Jvm.MethodName) prog_1_method_27_code (5 : Nat) (Option.some Jvm.ClassFile.FieldType.int)) ∈ lw_all := lw_g (lw_at lw_m3 116 rfl) rfl
theorem q633 : (Jvm.Cond.methodLink "KeylockBody" (166 : Nat) ({ cls := "KeylockBody", name := "invaderAt", desc := "(I)LKeylockBody$Invader;" } : Jvm.MethodName)) ∈ lw_all := lw_g (lw_at lw_m3 117 rfl) rfl
theorem q634 : (Jvm.Cond.privateMethod ({ cls := "KeylockBody", name := "invaderAt", desc := "(I)LKeylockBody$Invader;" } : Jvm.MethodName)) ∈ lw_tbl := lw_at lw_m3 118 rfl
theorem q635 : (Jvm.Cond.instanceMethod ({ cls := "KeylockBody", name := "invaderAt", desc := "(I)LKeylockBody$Invader;" } : Jvm.MethodName)) ∈ lw_all := lw_g (lw_at lw_m3 119 rfl) rfl
theorem q636 : (Jvm.Cond.code ({ cls := "KeylockBody", name := "invaderAt", desc := "(I)LKeylockBody$Invader;" } : Jvm.MethodName) prog_1_method_8_code (2 : Nat) (Option.some (Jvm.ClassFile.FieldType.object "KeylockBody$Invader"))) ∈ lw_all := lw_g (lw_at lw_m3 120 rfl) rfl
theorem q641 : (Jvm.Cond.instanceMethod ({ cls := "KeylockBody", name := "invaderIs", desc := "(II)I" } : Jvm.MethodName)) ∈ lw_all := lw_g (lw_at lw_m3 125 rfl) rfl
theorem q642 : (Jvm.Cond.selects "KeylockBody" ({ cls := "KeylockBody", name := "invaderIs", desc := "(II)I" } : Jvm.MethodName) ({ cls := "KeylockBody", name := "invaderIs", desc := "(II)I" } : Jvm.MethodName)) ∈ lw_all := lw_g (lw_at lw_m3 126 rfl) rfl
theorem q643 : (Jvm.Cond.code ({ cls := "KeylockBody", name := "invaderIs", desc := "(II)I" } : Jvm.MethodName) prog_1_method_28_code (4 : Nat) (Option.some Jvm.ClassFile.FieldType.int)) ∈ lw_all := lw_g (lw_at lw_m3 127 rfl) rfl
theorem q648 : (Jvm.Cond.instanceMethod ({ cls := "KeylockBody", name := "why", desc := "(I)I" } : Jvm.MethodName)) ∈ lw_all := lw_g (lw_at lw_m3 132 rfl) rfl
theorem q649 : (Jvm.Cond.selects "KeylockBody" ({ cls := "KeylockBody", name := "why", desc := "(I)I" } : Jvm.MethodName) ({ cls := "KeylockBody", name := "why", desc := "(I)I" } : Jvm.MethodName)) ∈ lw_all := lw_g (lw_at lw_m3 133 rfl) rfl
theorem q650 : (Jvm.Cond.code ({ cls := "KeylockBody", name := "why", desc := "(I)I" } : Jvm.MethodName) prog_1_method_29_code (11 : Nat) (Option.some Jvm.ClassFile.FieldType.int)) ∈ lw_all := lw_g (lw_at lw_m3 134 rfl) rfl
theorem q651 : (Jvm.Cond.methodLink "KeylockBody" (187 : Nat) ({ cls := "KeylockBody$Cell", name := "isLost", desc := "()Z" } : Jvm.MethodName)) ∈ lw_all := lw_g (lw_at lw_m3 135 rfl) rfl
theorem q655 : (Jvm.Cond.methodLink "KeylockBody" (191 : Nat) ({ cls := "KeylockBody$Cell", name := "is", desc := "(II)Z" } : Jvm.MethodName)) ∈ lw_all := lw_g (lw_at lw_m3 139 rfl) rfl
theorem q663 : (Jvm.Cond.instanceMethod ({ cls := "KeylockBody", name := "pass", desc := "(I)I" } : Jvm.MethodName)) ∈ lw_all := lw_g (lw_at lw_m3 147 rfl) rfl
theorem q664 : (Jvm.Cond.selects "KeylockBody" ({ cls := "KeylockBody", name := "pass", desc := "(I)I" } : Jvm.MethodName) ({ cls := "KeylockBody", name := "pass", desc := "(I)I" } : Jvm.MethodName)) ∈ lw_all := lw_g (lw_at lw_m3 148 rfl) rfl
theorem q665 : (Jvm.Cond.code ({ cls := "KeylockBody", name := "pass", desc := "(I)I" } : Jvm.MethodName) prog_1_method_30_code (3 : Nat) (Option.some Jvm.ClassFile.FieldType.int)) ∈ lw_all := lw_g (lw_at lw_m3 149 rfl) rfl
theorem q666 : (Jvm.Cond.methodLink "KeylockBody" (197 : Nat) ({ cls := "KeylockBody$Inside", name := "passHour", desc := "()V" } : Jvm.MethodName)) ∈ lw_all := lw_g (lw_at lw_m3 150 rfl) rfl
theorem q748 : (Jvm.Cond.instanceMethod ({ cls := "KeylockBody", name := "ahead", desc := "(II)I" } : Jvm.MethodName)) ∈ lw_all := lw_g (lw_at lw_m3 232 rfl) rfl
theorem q749 : (Jvm.Cond.selects "KeylockBody" ({ cls := "KeylockBody", name := "ahead", desc := "(II)I" } : Jvm.MethodName) ({ cls := "KeylockBody", name := "ahead", desc := "(II)I" } : Jvm.MethodName)) ∈ lw_all := lw_g (lw_at lw_m3 233 rfl) rfl
theorem q750 : (Jvm.Cond.code ({ cls := "KeylockBody", name := "ahead", desc := "(II)I" } : Jvm.MethodName) prog_1_method_31_code (5 : Nat) (Option.some Jvm.ClassFile.FieldType.int)) ∈ lw_all := lw_g (lw_at lw_m3 234 rfl) rfl
theorem q751 : (Jvm.Cond.methodLink "KeylockBody" (200 : Nat) ({ cls := "KeylockBody$Inside", name := "copy", desc := "()LKeylockBody$Inside;" } : Jvm.MethodName)) ∈ lw_all := lw_g (lw_at lw_m3 235 rfl) rfl
theorem q769 : (Jvm.Cond.methodLink "KeylockBody" (204 : Nat) ({ cls := "KeylockBody$Inside", name := "sum", desc := "(I)I" } : Jvm.MethodName)) ∈ lw_all := lw_g (lw_at lw_m4 13 rfl) rfl
theorem q777 : (Jvm.Cond.instanceMethod ({ cls := "KeylockBody", name := "sum", desc := "(I)I" } : Jvm.MethodName)) ∈ lw_all := lw_g (lw_at lw_m4 21 rfl) rfl
theorem q778 : (Jvm.Cond.selects "KeylockBody" ({ cls := "KeylockBody", name := "sum", desc := "(I)I" } : Jvm.MethodName) ({ cls := "KeylockBody", name := "sum", desc := "(I)I" } : Jvm.MethodName)) ∈ lw_all := lw_g (lw_at lw_m4 22 rfl) rfl
theorem q779 : (Jvm.Cond.code ({ cls := "KeylockBody", name := "sum", desc := "(I)I" } : Jvm.MethodName) prog_1_method_32_code (2 : Nat) (Option.some Jvm.ClassFile.FieldType.int)) ∈ lw_all := lw_g (lw_at lw_m4 23 rfl) rfl
theorem q1044 : (Jvm.Cond.castable "KeylockBody" "java/lang/Object") ∈ lw_tbl := lw_at lw_m5 48 rfl
theorem in_X1 : ∀ w ∈ wsX10, w ∈ lw_all := lw_in wsX10 [143, 145, 147, 149, 151, 153] (by decide +kernel) (by decide +kernel)
