/-! KeylockBodyModel -/
set_option maxRecDepth 100000
def RX3 : String := "KeylockBodyModel"
def TX3 : u_T := fun k => match k with
  | 0 => ("KeylockBodyModel", "table", "[I", true)
  | 1 => ("KeylockBodyModel", "marks", "[I", true)
  | 2 => ("KeylockBodyModel", "owns", "I", false)
  | 3 => ("KeylockBodyModel", "ownCoats", "[I", true)
  | 4 => ("KeylockBodyModel", "segments", "I", false)
  | 5 => ("KeylockBodyModel", "zeros", "[I", true)
  | 6 => ("KeylockBodyModel", "ones", "[I", true)
  | 7 => ("KeylockBodyModel", "joints", "I", false)
  | 8 => ("KeylockBodyModel", "twos", "[I", true)
  | 9 => ("KeylockBodyModel", "cells", "I", false)
  | 10 => ("KeylockBodyModel", "locks", "[I", true)
  | 11 => ("KeylockBodyModel", "kinds", "[I", true)
  | 12 => ("KeylockBodyModel", "parents", "[I", true)
  | 13 => ("KeylockBodyModel", "invaders", "I", false)
  | 14 => ("KeylockBodyModel", "coats", "[I", true)
  | 15 => ("KeylockBodyModel", "growths", "[I", true)
  | 16 => ("KeylockBodyModel", "now", "[I", false)
  | 17 => ("KeylockBodyModel", "aside", "[I", false)
  | 18 => ("KeylockBodyModel", "thrown", "I", false)
  | _ => ("KeylockBodyModel", "isReached", "[Z", true)
def tyX3 : Nat → FieldType := fun k => match k with
  | 0 => .array .int
  | 1 => .array .int
  | 2 => .int
  | 3 => .array .int
  | 4 => .int
  | 5 => .array .int
  | 6 => .array .int
  | 7 => .int
  | 8 => .array .int
  | 9 => .int
  | 10 => .array .int
  | 11 => .array .int
  | 12 => .array .int
  | 13 => .int
  | 14 => .array .int
  | 15 => .array .int
  | 16 => .array .int
  | 17 => .array .int
  | 18 => .int
  | _ => .array .boolean
abbrev wsX30 : List Cond := u_ws RX3 TX3 20
set_option maxRecDepth 100000 in
theorem nmX3 : ∀ a, a < 20 → ∀ b, b < 20 → a ≠ b → (TX3 a).2.1 ≠ (TX3 b).2.1 := by decide +kernel
set_option maxRecDepth 100000 in
theorem tyX3_ok : ∀ k, k < 20 → parseFieldDescriptor (TX3 k).2.2.1 = some (tyX3 k) := by decide +kernel
abbrev cX3_init : ByteArray := prog_6_method_1_code
def yX3_init : MethodName := ⟨RX3, "<init>", "()V"⟩
def dkwX3_init_7 : List UInt8 := [16, 12, 79, 177]
abbrev dktX3_init_7 : List UInt8 := dkwX3_init_7 ++ []
def dkwX3_init_6 : List UInt8 := [16, 6, 79, 42, 180, 0, 13, 4, 16, 9, 79, 42, 180, 0, 13, 6, 16, 20, 79, 42, 180, 0, 13, 7]
abbrev dktX3_init_6 : List UInt8 := dkwX3_init_6 ++ dktX3_init_7
def dkwX3_init_5 : List UInt8 := [7, 162, 0, 18, 42, 180, 0, 7, 8, 27, 104, 6, 79, 132, 1, 1, 167, 255, 239, 42, 180, 0, 13, 3]
abbrev dktX3_init_5 : List UInt8 := dkwX3_init_5 ++ dktX3_init_6
def dkwX3_init_4 : List UInt8 := [181, 0, 43, 42, 17, 0, 155, 188, 10, 181, 0, 46, 42, 17, 1, 0, 188, 4, 181, 0, 49, 3, 60, 27]
abbrev dktX3_init_4 : List UInt8 := dkwX3_init_4 ++ dktX3_init_5
def dkwX3_init_3 : List UInt8 := [42, 16, 8, 188, 10, 181, 0, 37, 42, 16, 8, 188, 10, 181, 0, 40, 42, 17, 0, 155, 188, 10]
abbrev dktX3_init_3 : List UInt8 := dkwX3_init_3 ++ dktX3_init_4
def dkwX3_init_2 : List UInt8 := [42, 16, 40, 188, 10, 181, 0, 28, 42, 16, 40, 188, 10, 181, 0, 31, 42, 16, 40, 188, 10, 181, 0, 34]
abbrev dktX3_init_2 : List UInt8 := dkwX3_init_2 ++ dktX3_init_3
def dkwX3_init_1 : List UInt8 := [181, 0, 16, 42, 7, 188, 10, 181, 0, 19, 42, 7, 188, 10, 181, 0, 22, 42, 7, 188, 10, 181, 0, 25]
abbrev dktX3_init_1 : List UInt8 := dkwX3_init_1 ++ dktX3_init_2
def dkwX3_init_0 : List UInt8 := [42, 183, 0, 1, 42, 16, 16, 188, 10, 181, 0, 7, 42, 8, 188, 10, 181, 0, 13, 42, 16, 8, 188, 10]
abbrev dktX3_init_0 : List UInt8 := dkwX3_init_0 ++ dktX3_init_1
theorem dksX3_init_0 : cX3_init.data.toList.drop 0 = dktX3_init_0 := by decide +kernel
theorem dksX3_init_1 : cX3_init.data.toList.drop 24 = dktX3_init_1 := dk_seg dksX3_init_0 24 rfl rfl
theorem dksX3_init_2 : cX3_init.data.toList.drop 48 = dktX3_init_2 := dk_seg dksX3_init_1 24 rfl rfl
theorem dksX3_init_3 : cX3_init.data.toList.drop 72 = dktX3_init_3 := dk_seg dksX3_init_2 24 rfl rfl
theorem dksX3_init_4 : cX3_init.data.toList.drop 94 = dktX3_init_4 := dk_seg dksX3_init_3 22 rfl rfl
theorem dksX3_init_5 : cX3_init.data.toList.drop 118 = dktX3_init_5 := dk_seg dksX3_init_4 24 rfl rfl
theorem dksX3_init_6 : cX3_init.data.toList.drop 142 = dktX3_init_6 := dk_seg dksX3_init_5 24 rfl rfl
theorem dksX3_init_7 : cX3_init.data.toList.drop 166 = dktX3_init_7 := dk_seg dksX3_init_6 24 rfl rfl
theorem dX3_init_0 : decode cX3_init 0 = .ok (.aload_n 0, 1) := dk_42 (dk_at dksX3_init_0 0 rfl rfl)
theorem dX3_init_1 : decode cX3_init 1 = .ok (.invokespecial 1, 3) := dk_183 0 1 (dk_at dksX3_init_0 1 rfl rfl)
theorem dX3_init_4 : decode cX3_init 4 = .ok (.aload_n 0, 1) := dk_42 (dk_at dksX3_init_0 4 rfl rfl)
theorem dX3_init_5 : decode cX3_init 5 = .ok (.bipush 16, 2) := dk_16 16 (dk_at dksX3_init_0 5 rfl rfl)
theorem dX3_init_7 : decode cX3_init 7 = .ok (.newarray .int, 2) := dk_188_10 (dk_at dksX3_init_0 7 rfl rfl)
theorem dX3_init_9 : decode cX3_init 9 = .ok (.putfield 7, 3) := dk_181 0 7 (dk_at dksX3_init_0 9 rfl rfl)
theorem dX3_init_12 : decode cX3_init 12 = .ok (.aload_n 0, 1) := dk_42 (dk_at dksX3_init_0 12 rfl rfl)
theorem dX3_init_13 : decode cX3_init 13 = .ok (.iconst 5, 1) := dk_8 (dk_at dksX3_init_0 13 rfl rfl)
theorem dX3_init_14 : decode cX3_init 14 = .ok (.newarray .int, 2) := dk_188_10 (dk_at dksX3_init_0 14 rfl rfl)
theorem dX3_init_16 : decode cX3_init 16 = .ok (.putfield 13, 3) := dk_181 0 13 (dk_at dksX3_init_0 16 rfl rfl)
theorem dX3_init_19 : decode cX3_init 19 = .ok (.aload_n 0, 1) := dk_42 (dk_at dksX3_init_0 19 rfl rfl)
theorem dX3_init_20 : decode cX3_init 20 = .ok (.bipush 8, 2) := dk_16 8 (dk_at dksX3_init_0 20 rfl rfl)
theorem dX3_init_22 : decode cX3_init 22 = .ok (.newarray .int, 2) := dk_188_10 (dk_at dksX3_init_0 22 rfl rfl)
theorem dX3_init_24 : decode cX3_init 24 = .ok (.putfield 16, 3) := dk_181 0 16 (dk_at dksX3_init_1 0 rfl rfl)
theorem dX3_init_27 : decode cX3_init 27 = .ok (.aload_n 0, 1) := dk_42 (dk_at dksX3_init_1 3 rfl rfl)
theorem dX3_init_28 : decode cX3_init 28 = .ok (.iconst 4, 1) := dk_7 (dk_at dksX3_init_1 4 rfl rfl)
theorem dX3_init_29 : decode cX3_init 29 = .ok (.newarray .int, 2) := dk_188_10 (dk_at dksX3_init_1 5 rfl rfl)
theorem dX3_init_31 : decode cX3_init 31 = .ok (.putfield 19, 3) := dk_181 0 19 (dk_at dksX3_init_1 7 rfl rfl)
theorem dX3_init_34 : decode cX3_init 34 = .ok (.aload_n 0, 1) := dk_42 (dk_at dksX3_init_1 10 rfl rfl)
theorem dX3_init_35 : decode cX3_init 35 = .ok (.iconst 4, 1) := dk_7 (dk_at dksX3_init_1 11 rfl rfl)
theorem dX3_init_36 : decode cX3_init 36 = .ok (.newarray .int, 2) := dk_188_10 (dk_at dksX3_init_1 12 rfl rfl)
theorem dX3_init_38 : decode cX3_init 38 = .ok (.putfield 22, 3) := dk_181 0 22 (dk_at dksX3_init_1 14 rfl rfl)
theorem dX3_init_41 : decode cX3_init 41 = .ok (.aload_n 0, 1) := dk_42 (dk_at dksX3_init_1 17 rfl rfl)
theorem dX3_init_42 : decode cX3_init 42 = .ok (.iconst 4, 1) := dk_7 (dk_at dksX3_init_1 18 rfl rfl)
theorem dX3_init_43 : decode cX3_init 43 = .ok (.newarray .int, 2) := dk_188_10 (dk_at dksX3_init_1 19 rfl rfl)
theorem dX3_init_45 : decode cX3_init 45 = .ok (.putfield 25, 3) := dk_181 0 25 (dk_at dksX3_init_1 21 rfl rfl)
theorem dX3_init_48 : decode cX3_init 48 = .ok (.aload_n 0, 1) := dk_42 (dk_at dksX3_init_2 0 rfl rfl)
theorem dX3_init_49 : decode cX3_init 49 = .ok (.bipush 40, 2) := dk_16 40 (dk_at dksX3_init_2 1 rfl rfl)
theorem dX3_init_51 : decode cX3_init 51 = .ok (.newarray .int, 2) := dk_188_10 (dk_at dksX3_init_2 3 rfl rfl)
theorem dX3_init_53 : decode cX3_init 53 = .ok (.putfield 28, 3) := dk_181 0 28 (dk_at dksX3_init_2 5 rfl rfl)
theorem dX3_init_56 : decode cX3_init 56 = .ok (.aload_n 0, 1) := dk_42 (dk_at dksX3_init_2 8 rfl rfl)
theorem dX3_init_57 : decode cX3_init 57 = .ok (.bipush 40, 2) := dk_16 40 (dk_at dksX3_init_2 9 rfl rfl)
theorem dX3_init_59 : decode cX3_init 59 = .ok (.newarray .int, 2) := dk_188_10 (dk_at dksX3_init_2 11 rfl rfl)
theorem dX3_init_61 : decode cX3_init 61 = .ok (.putfield 31, 3) := dk_181 0 31 (dk_at dksX3_init_2 13 rfl rfl)
theorem dX3_init_64 : decode cX3_init 64 = .ok (.aload_n 0, 1) := dk_42 (dk_at dksX3_init_2 16 rfl rfl)
theorem dX3_init_65 : decode cX3_init 65 = .ok (.bipush 40, 2) := dk_16 40 (dk_at dksX3_init_2 17 rfl rfl)
theorem dX3_init_67 : decode cX3_init 67 = .ok (.newarray .int, 2) := dk_188_10 (dk_at dksX3_init_2 19 rfl rfl)
theorem dX3_init_69 : decode cX3_init 69 = .ok (.putfield 34, 3) := dk_181 0 34 (dk_at dksX3_init_2 21 rfl rfl)
theorem dX3_init_72 : decode cX3_init 72 = .ok (.aload_n 0, 1) := dk_42 (dk_at dksX3_init_3 0 rfl rfl)
theorem dX3_init_73 : decode cX3_init 73 = .ok (.bipush 8, 2) := dk_16 8 (dk_at dksX3_init_3 1 rfl rfl)
theorem dX3_init_75 : decode cX3_init 75 = .ok (.newarray .int, 2) := dk_188_10 (dk_at dksX3_init_3 3 rfl rfl)
theorem dX3_init_77 : decode cX3_init 77 = .ok (.putfield 37, 3) := dk_181 0 37 (dk_at dksX3_init_3 5 rfl rfl)
theorem dX3_init_80 : decode cX3_init 80 = .ok (.aload_n 0, 1) := dk_42 (dk_at dksX3_init_3 8 rfl rfl)
theorem dX3_init_81 : decode cX3_init 81 = .ok (.bipush 8, 2) := dk_16 8 (dk_at dksX3_init_3 9 rfl rfl)
theorem dX3_init_83 : decode cX3_init 83 = .ok (.newarray .int, 2) := dk_188_10 (dk_at dksX3_init_3 11 rfl rfl)
theorem dX3_init_85 : decode cX3_init 85 = .ok (.putfield 40, 3) := dk_181 0 40 (dk_at dksX3_init_3 13 rfl rfl)
theorem dX3_init_88 : decode cX3_init 88 = .ok (.aload_n 0, 1) := dk_42 (dk_at dksX3_init_3 16 rfl rfl)
theorem dX3_init_89 : decode cX3_init 89 = .ok (.sipush 155, 3) := dk_17 0 155 (dk_at dksX3_init_3 17 rfl rfl)
theorem dX3_init_92 : decode cX3_init 92 = .ok (.newarray .int, 2) := dk_188_10 (dk_at dksX3_init_3 20 rfl rfl)
theorem dX3_init_94 : decode cX3_init 94 = .ok (.putfield 43, 3) := dk_181 0 43 (dk_at dksX3_init_4 0 rfl rfl)
theorem dX3_init_97 : decode cX3_init 97 = .ok (.aload_n 0, 1) := dk_42 (dk_at dksX3_init_4 3 rfl rfl)
theorem dX3_init_98 : decode cX3_init 98 = .ok (.sipush 155, 3) := dk_17 0 155 (dk_at dksX3_init_4 4 rfl rfl)
theorem dX3_init_101 : decode cX3_init 101 = .ok (.newarray .int, 2) := dk_188_10 (dk_at dksX3_init_4 7 rfl rfl)
theorem dX3_init_103 : decode cX3_init 103 = .ok (.putfield 46, 3) := dk_181 0 46 (dk_at dksX3_init_4 9 rfl rfl)
theorem dX3_init_106 : decode cX3_init 106 = .ok (.aload_n 0, 1) := dk_42 (dk_at dksX3_init_4 12 rfl rfl)
theorem dX3_init_107 : decode cX3_init 107 = .ok (.sipush 256, 3) := dk_17 1 0 (dk_at dksX3_init_4 13 rfl rfl)
theorem dX3_init_110 : decode cX3_init 110 = .ok (.newarray .boolean, 2) := dk_188_4 (dk_at dksX3_init_4 16 rfl rfl)
theorem dX3_init_112 : decode cX3_init 112 = .ok (.putfield 49, 3) := dk_181 0 49 (dk_at dksX3_init_4 18 rfl rfl)
theorem dX3_init_115 : decode cX3_init 115 = .ok (.iconst 0, 1) := dk_3 (dk_at dksX3_init_4 21 rfl rfl)
theorem dX3_init_116 : decode cX3_init 116 = .ok (.istore_n 1, 1) := dk_60 (dk_at dksX3_init_4 22 rfl rfl)
theorem dX3_init_117 : decode cX3_init 117 = .ok (.iload_n 1, 1) := dk_27 (dk_at dksX3_init_4 23 rfl rfl)
theorem dX3_init_118 : decode cX3_init 118 = .ok (.iconst 4, 1) := dk_7 (dk_at dksX3_init_5 0 rfl rfl)
theorem dX3_init_119 : decode cX3_init 119 = .ok (.if_icmp .ge 18, 3) := dk_162 0 18 (dk_at dksX3_init_5 1 rfl rfl)
theorem dX3_init_122 : decode cX3_init 122 = .ok (.aload_n 0, 1) := dk_42 (dk_at dksX3_init_5 4 rfl rfl)
theorem dX3_init_123 : decode cX3_init 123 = .ok (.getfield 7, 3) := dk_180 0 7 (dk_at dksX3_init_5 5 rfl rfl)
theorem dX3_init_126 : decode cX3_init 126 = .ok (.iconst 5, 1) := dk_8 (dk_at dksX3_init_5 8 rfl rfl)
theorem dX3_init_127 : decode cX3_init 127 = .ok (.iload_n 1, 1) := dk_27 (dk_at dksX3_init_5 9 rfl rfl)
theorem dX3_init_128 : decode cX3_init 128 = .ok (.imul, 1) := dk_104 (dk_at dksX3_init_5 10 rfl rfl)
theorem dX3_init_129 : decode cX3_init 129 = .ok (.iconst 3, 1) := dk_6 (dk_at dksX3_init_5 11 rfl rfl)
theorem dX3_init_130 : decode cX3_init 130 = .ok (.iastore, 1) := dk_79 (dk_at dksX3_init_5 12 rfl rfl)
theorem dX3_init_131 : decode cX3_init 131 = .ok (.iinc 1 1, 3) := dk_132 1 1 (dk_at dksX3_init_5 13 rfl rfl)
theorem dX3_init_134 : decode cX3_init 134 = .ok (.goto (-17), 3) := dk_167 255 239 (dk_at dksX3_init_5 16 rfl rfl)
theorem dX3_init_137 : decode cX3_init 137 = .ok (.aload_n 0, 1) := dk_42 (dk_at dksX3_init_5 19 rfl rfl)
theorem dX3_init_138 : decode cX3_init 138 = .ok (.getfield 13, 3) := dk_180 0 13 (dk_at dksX3_init_5 20 rfl rfl)
theorem dX3_init_141 : decode cX3_init 141 = .ok (.iconst 0, 1) := dk_3 (dk_at dksX3_init_5 23 rfl rfl)
theorem dX3_init_142 : decode cX3_init 142 = .ok (.bipush 6, 2) := dk_16 6 (dk_at dksX3_init_6 0 rfl rfl)
theorem dX3_init_144 : decode cX3_init 144 = .ok (.iastore, 1) := dk_79 (dk_at dksX3_init_6 2 rfl rfl)
theorem dX3_init_145 : decode cX3_init 145 = .ok (.aload_n 0, 1) := dk_42 (dk_at dksX3_init_6 3 rfl rfl)
theorem dX3_init_146 : decode cX3_init 146 = .ok (.getfield 13, 3) := dk_180 0 13 (dk_at dksX3_init_6 4 rfl rfl)
theorem dX3_init_149 : decode cX3_init 149 = .ok (.iconst 1, 1) := dk_4 (dk_at dksX3_init_6 7 rfl rfl)
theorem dX3_init_150 : decode cX3_init 150 = .ok (.bipush 9, 2) := dk_16 9 (dk_at dksX3_init_6 8 rfl rfl)
theorem dX3_init_152 : decode cX3_init 152 = .ok (.iastore, 1) := dk_79 (dk_at dksX3_init_6 10 rfl rfl)
theorem dX3_init_153 : decode cX3_init 153 = .ok (.aload_n 0, 1) := dk_42 (dk_at dksX3_init_6 11 rfl rfl)
theorem dX3_init_154 : decode cX3_init 154 = .ok (.getfield 13, 3) := dk_180 0 13 (dk_at dksX3_init_6 12 rfl rfl)
theorem dX3_init_157 : decode cX3_init 157 = .ok (.iconst 3, 1) := dk_6 (dk_at dksX3_init_6 15 rfl rfl)
theorem dX3_init_158 : decode cX3_init 158 = .ok (.bipush 20, 2) := dk_16 20 (dk_at dksX3_init_6 16 rfl rfl)
theorem dX3_init_160 : decode cX3_init 160 = .ok (.iastore, 1) := dk_79 (dk_at dksX3_init_6 18 rfl rfl)
theorem dX3_init_161 : decode cX3_init 161 = .ok (.aload_n 0, 1) := dk_42 (dk_at dksX3_init_6 19 rfl rfl)
theorem dX3_init_162 : decode cX3_init 162 = .ok (.getfield 13, 3) := dk_180 0 13 (dk_at dksX3_init_6 20 rfl rfl)
theorem dX3_init_165 : decode cX3_init 165 = .ok (.iconst 4, 1) := dk_7 (dk_at dksX3_init_6 23 rfl rfl)
theorem dX3_init_166 : decode cX3_init 166 = .ok (.bipush 12, 2) := dk_16 12 (dk_at dksX3_init_7 0 rfl rfl)
theorem dX3_init_168 : decode cX3_init 168 = .ok (.iastore, 1) := dk_79 (dk_at dksX3_init_7 2 rfl rfl)
theorem dX3_init_169 : decode cX3_init 169 = .ok (.return_, 1) := dk_177 (dk_at dksX3_init_7 3 rfl rfl)
abbrev cX3_thrown : ByteArray := prog_6_method_2_code
def yX3_thrown : MethodName := ⟨RX3, "thrown", "()I"⟩
theorem dX3_thrown_0 : decode cX3_thrown 0 = .ok (.aload_n 0, 1) := by decide +kernel
theorem dX3_thrown_1 : decode cX3_thrown 1 = .ok (.getfield 53, 3) := by decide +kernel
theorem dX3_thrown_4 : decode cX3_thrown 4 = .ok (.ireturn, 1) := by decide +kernel
abbrev cX3_table : ByteArray := prog_6_method_7_code
def yX3_table : MethodName := ⟨RX3, "table", "(III)I"⟩
def dkwX3_table_2 : List UInt8 := [7, 27, 104, 28, 96, 46, 54, 4, 42, 180, 0, 7, 7, 27, 104, 28, 96, 29, 79, 21, 4, 172]
abbrev dktX3_table_2 : List UInt8 := dkwX3_table_2 ++ []
def dkwX3_table_1 : List UInt8 := [153, 0, 7, 3, 167, 0, 4, 4, 181, 0, 53, 42, 180, 0, 53, 158, 0, 5, 3, 172, 42, 180, 0, 7]
abbrev dktX3_table_1 : List UInt8 := dkwX3_table_1 ++ dktX3_table_2
def dkwX3_table_0 : List UInt8 := [42, 27, 184, 0, 61, 153, 0, 24, 28, 184, 0, 61, 153, 0, 17, 29, 3, 16, 9, 184, 0, 57]
abbrev dktX3_table_0 : List UInt8 := dkwX3_table_0 ++ dktX3_table_1
theorem dksX3_table_0 : cX3_table.data.toList.drop 0 = dktX3_table_0 := by decide +kernel
theorem dksX3_table_1 : cX3_table.data.toList.drop 22 = dktX3_table_1 := dk_seg dksX3_table_0 22 rfl rfl
theorem dksX3_table_2 : cX3_table.data.toList.drop 46 = dktX3_table_2 := dk_seg dksX3_table_1 24 rfl rfl
theorem dX3_table_0 : decode cX3_table 0 = .ok (.aload_n 0, 1) := dk_42 (dk_at dksX3_table_0 0 rfl rfl)
theorem dX3_table_1 : decode cX3_table 1 = .ok (.iload_n 1, 1) := dk_27 (dk_at dksX3_table_0 1 rfl rfl)
theorem dX3_table_2 : decode cX3_table 2 = .ok (.invokestatic 61, 3) := dk_184 0 61 (dk_at dksX3_table_0 2 rfl rfl)
theorem dX3_table_5 : decode cX3_table 5 = .ok (.ifCond .eq 24, 3) := dk_153 0 24 (dk_at dksX3_table_0 5 rfl rfl)
theorem dX3_table_8 : decode cX3_table 8 = .ok (.iload_n 2, 1) := dk_28 (dk_at dksX3_table_0 8 rfl rfl)
theorem dX3_table_9 : decode cX3_table 9 = .ok (.invokestatic 61, 3) := dk_184 0 61 (dk_at dksX3_table_0 9 rfl rfl)
theorem dX3_table_12 : decode cX3_table 12 = .ok (.ifCond .eq 17, 3) := dk_153 0 17 (dk_at dksX3_table_0 12 rfl rfl)
theorem dX3_table_15 : decode cX3_table 15 = .ok (.iload_n 3, 1) := dk_29 (dk_at dksX3_table_0 15 rfl rfl)
theorem dX3_table_16 : decode cX3_table 16 = .ok (.iconst 0, 1) := dk_3 (dk_at dksX3_table_0 16 rfl rfl)
theorem dX3_table_17 : decode cX3_table 17 = .ok (.bipush 9, 2) := dk_16 9 (dk_at dksX3_table_0 17 rfl rfl)
theorem dX3_table_19 : decode cX3_table 19 = .ok (.invokestatic 57, 3) := dk_184 0 57 (dk_at dksX3_table_0 19 rfl rfl)
theorem dX3_table_22 : decode cX3_table 22 = .ok (.ifCond .eq 7, 3) := dk_153 0 7 (dk_at dksX3_table_1 0 rfl rfl)
theorem dX3_table_25 : decode cX3_table 25 = .ok (.iconst 0, 1) := dk_3 (dk_at dksX3_table_1 3 rfl rfl)
theorem dX3_table_26 : decode cX3_table 26 = .ok (.goto 4, 3) := dk_167 0 4 (dk_at dksX3_table_1 4 rfl rfl)
theorem dX3_table_29 : decode cX3_table 29 = .ok (.iconst 1, 1) := dk_4 (dk_at dksX3_table_1 7 rfl rfl)
theorem dX3_table_30 : decode cX3_table 30 = .ok (.putfield 53, 3) := dk_181 0 53 (dk_at dksX3_table_1 8 rfl rfl)
theorem dX3_table_33 : decode cX3_table 33 = .ok (.aload_n 0, 1) := dk_42 (dk_at dksX3_table_1 11 rfl rfl)
theorem dX3_table_34 : decode cX3_table 34 = .ok (.getfield 53, 3) := dk_180 0 53 (dk_at dksX3_table_1 12 rfl rfl)
theorem dX3_table_37 : decode cX3_table 37 = .ok (.ifCond .le 5, 3) := dk_158 0 5 (dk_at dksX3_table_1 15 rfl rfl)
theorem dX3_table_40 : decode cX3_table 40 = .ok (.iconst 0, 1) := dk_3 (dk_at dksX3_table_1 18 rfl rfl)
theorem dX3_table_41 : decode cX3_table 41 = .ok (.ireturn, 1) := dk_172 (dk_at dksX3_table_1 19 rfl rfl)
theorem dX3_table_42 : decode cX3_table 42 = .ok (.aload_n 0, 1) := dk_42 (dk_at dksX3_table_1 20 rfl rfl)
theorem dX3_table_43 : decode cX3_table 43 = .ok (.getfield 7, 3) := dk_180 0 7 (dk_at dksX3_table_1 21 rfl rfl)
theorem dX3_table_46 : decode cX3_table 46 = .ok (.iconst 4, 1) := dk_7 (dk_at dksX3_table_2 0 rfl rfl)
theorem dX3_table_47 : decode cX3_table 47 = .ok (.iload_n 1, 1) := dk_27 (dk_at dksX3_table_2 1 rfl rfl)
theorem dX3_table_48 : decode cX3_table 48 = .ok (.imul, 1) := dk_104 (dk_at dksX3_table_2 2 rfl rfl)
theorem dX3_table_49 : decode cX3_table 49 = .ok (.iload_n 2, 1) := dk_28 (dk_at dksX3_table_2 3 rfl rfl)
theorem dX3_table_50 : decode cX3_table 50 = .ok (.iadd, 1) := dk_96 (dk_at dksX3_table_2 4 rfl rfl)
theorem dX3_table_51 : decode cX3_table 51 = .ok (.iaload, 1) := dk_46 (dk_at dksX3_table_2 5 rfl rfl)
theorem dX3_table_52 : decode cX3_table 52 = .ok (.istore 4, 2) := dk_54 4 (dk_at dksX3_table_2 6 rfl rfl)
theorem dX3_table_54 : decode cX3_table 54 = .ok (.aload_n 0, 1) := dk_42 (dk_at dksX3_table_2 8 rfl rfl)
theorem dX3_table_55 : decode cX3_table 55 = .ok (.getfield 7, 3) := dk_180 0 7 (dk_at dksX3_table_2 9 rfl rfl)
theorem dX3_table_58 : decode cX3_table 58 = .ok (.iconst 4, 1) := dk_7 (dk_at dksX3_table_2 12 rfl rfl)
theorem dX3_table_59 : decode cX3_table 59 = .ok (.iload_n 1, 1) := dk_27 (dk_at dksX3_table_2 13 rfl rfl)
theorem dX3_table_60 : decode cX3_table 60 = .ok (.imul, 1) := dk_104 (dk_at dksX3_table_2 14 rfl rfl)
theorem dX3_table_61 : decode cX3_table 61 = .ok (.iload_n 2, 1) := dk_28 (dk_at dksX3_table_2 15 rfl rfl)
theorem dX3_table_62 : decode cX3_table 62 = .ok (.iadd, 1) := dk_96 (dk_at dksX3_table_2 16 rfl rfl)
theorem dX3_table_63 : decode cX3_table 63 = .ok (.iload_n 3, 1) := dk_29 (dk_at dksX3_table_2 17 rfl rfl)
theorem dX3_table_64 : decode cX3_table 64 = .ok (.iastore, 1) := dk_79 (dk_at dksX3_table_2 18 rfl rfl)
theorem dX3_table_65 : decode cX3_table 65 = .ok (.iload 4, 2) := dk_21 4 (dk_at dksX3_table_2 19 rfl rfl)
theorem dX3_table_67 : decode cX3_table 67 = .ok (.ireturn, 1) := dk_172 (dk_at dksX3_table_2 21 rfl rfl)
abbrev cX3_isLetter : ByteArray := prog_6_method_4_code
def yX3_isLetter : MethodName := ⟨RX3, "isLetter", "(I)Z"⟩
def dkwX3_isLetter_0 : List UInt8 := [26, 3, 6, 184, 0, 57, 172]
abbrev dktX3_isLetter_0 : List UInt8 := dkwX3_isLetter_0 ++ []
theorem dksX3_isLetter_0 : cX3_isLetter.data.toList.drop 0 = dktX3_isLetter_0 := by decide +kernel
theorem dX3_isLetter_0 : decode cX3_isLetter 0 = .ok (.iload_n 0, 1) := dk_26 (dk_at dksX3_isLetter_0 0 rfl rfl)
theorem dX3_isLetter_1 : decode cX3_isLetter 1 = .ok (.iconst 0, 1) := dk_3 (dk_at dksX3_isLetter_0 1 rfl rfl)
theorem dX3_isLetter_2 : decode cX3_isLetter 2 = .ok (.iconst 3, 1) := dk_6 (dk_at dksX3_isLetter_0 2 rfl rfl)
theorem dX3_isLetter_3 : decode cX3_isLetter 3 = .ok (.invokestatic 57, 3) := dk_184 0 57 (dk_at dksX3_isLetter_0 3 rfl rfl)
theorem dX3_isLetter_6 : decode cX3_isLetter 6 = .ok (.ireturn, 1) := dk_172 (dk_at dksX3_isLetter_0 6 rfl rfl)
abbrev cX3_in : ByteArray := prog_6_method_3_code
def yX3_in : MethodName := ⟨RX3, "in", "(III)Z"⟩
def dkwX3_in_0 : List UInt8 := [26, 27, 161, 0, 12, 26, 28, 163, 0, 7, 4, 167, 0, 4, 3, 172]
abbrev dktX3_in_0 : List UInt8 := dkwX3_in_0 ++ []
theorem dksX3_in_0 : cX3_in.data.toList.drop 0 = dktX3_in_0 := by decide +kernel
theorem dX3_in_0 : decode cX3_in 0 = .ok (.iload_n 0, 1) := dk_26 (dk_at dksX3_in_0 0 rfl rfl)
theorem dX3_in_1 : decode cX3_in 1 = .ok (.iload_n 1, 1) := dk_27 (dk_at dksX3_in_0 1 rfl rfl)
theorem dX3_in_2 : decode cX3_in 2 = .ok (.if_icmp .lt 12, 3) := dk_161 0 12 (dk_at dksX3_in_0 2 rfl rfl)
theorem dX3_in_5 : decode cX3_in 5 = .ok (.iload_n 0, 1) := dk_26 (dk_at dksX3_in_0 5 rfl rfl)
theorem dX3_in_6 : decode cX3_in 6 = .ok (.iload_n 2, 1) := dk_28 (dk_at dksX3_in_0 6 rfl rfl)
theorem dX3_in_7 : decode cX3_in 7 = .ok (.if_icmp .gt 7, 3) := dk_163 0 7 (dk_at dksX3_in_0 7 rfl rfl)
theorem dX3_in_10 : decode cX3_in 10 = .ok (.iconst 1, 1) := dk_4 (dk_at dksX3_in_0 10 rfl rfl)
theorem dX3_in_11 : decode cX3_in 11 = .ok (.goto 4, 3) := dk_167 0 4 (dk_at dksX3_in_0 11 rfl rfl)
theorem dX3_in_14 : decode cX3_in 14 = .ok (.iconst 0, 1) := dk_3 (dk_at dksX3_in_0 14 rfl rfl)
theorem dX3_in_15 : decode cX3_in 15 = .ok (.ireturn, 1) := dk_172 (dk_at dksX3_in_0 15 rfl rfl)
abbrev cX3_fit : ByteArray := prog_6_method_10_code
def yX3_fit : MethodName := ⟨RX3, "fit", "(II)I"⟩
def dkwX3_fit_1 : List UInt8 := [180, 0, 53, 154, 0, 12, 42, 27, 28, 182, 0, 69, 167, 0, 4, 3, 172]
abbrev dktX3_fit_1 : List UInt8 := dkwX3_fit_1 ++ []
def dkwX3_fit_0 : List UInt8 := [42, 27, 184, 0, 72, 153, 0, 14, 28, 184, 0, 72, 153, 0, 7, 3, 167, 0, 4, 4, 181, 0, 53, 42]
abbrev dktX3_fit_0 : List UInt8 := dkwX3_fit_0 ++ dktX3_fit_1
theorem dksX3_fit_0 : cX3_fit.data.toList.drop 0 = dktX3_fit_0 := by decide +kernel
theorem dksX3_fit_1 : cX3_fit.data.toList.drop 24 = dktX3_fit_1 := dk_seg dksX3_fit_0 24 rfl rfl
theorem dX3_fit_0 : decode cX3_fit 0 = .ok (.aload_n 0, 1) := dk_42 (dk_at dksX3_fit_0 0 rfl rfl)
theorem dX3_fit_1 : decode cX3_fit 1 = .ok (.iload_n 1, 1) := dk_27 (dk_at dksX3_fit_0 1 rfl rfl)
theorem dX3_fit_2 : decode cX3_fit 2 = .ok (.invokestatic 72, 3) := dk_184 0 72 (dk_at dksX3_fit_0 2 rfl rfl)
theorem dX3_fit_5 : decode cX3_fit 5 = .ok (.ifCond .eq 14, 3) := dk_153 0 14 (dk_at dksX3_fit_0 5 rfl rfl)
theorem dX3_fit_8 : decode cX3_fit 8 = .ok (.iload_n 2, 1) := dk_28 (dk_at dksX3_fit_0 8 rfl rfl)
theorem dX3_fit_9 : decode cX3_fit 9 = .ok (.invokestatic 72, 3) := dk_184 0 72 (dk_at dksX3_fit_0 9 rfl rfl)
theorem dX3_fit_12 : decode cX3_fit 12 = .ok (.ifCond .eq 7, 3) := dk_153 0 7 (dk_at dksX3_fit_0 12 rfl rfl)
theorem dX3_fit_15 : decode cX3_fit 15 = .ok (.iconst 0, 1) := dk_3 (dk_at dksX3_fit_0 15 rfl rfl)
theorem dX3_fit_16 : decode cX3_fit 16 = .ok (.goto 4, 3) := dk_167 0 4 (dk_at dksX3_fit_0 16 rfl rfl)
theorem dX3_fit_19 : decode cX3_fit 19 = .ok (.iconst 1, 1) := dk_4 (dk_at dksX3_fit_0 19 rfl rfl)
theorem dX3_fit_20 : decode cX3_fit 20 = .ok (.putfield 53, 3) := dk_181 0 53 (dk_at dksX3_fit_0 20 rfl rfl)
theorem dX3_fit_23 : decode cX3_fit 23 = .ok (.aload_n 0, 1) := dk_42 (dk_at dksX3_fit_0 23 rfl rfl)
theorem dX3_fit_24 : decode cX3_fit 24 = .ok (.getfield 53, 3) := dk_180 0 53 (dk_at dksX3_fit_1 0 rfl rfl)
theorem dX3_fit_27 : decode cX3_fit 27 = .ok (.ifCond .ne 12, 3) := dk_154 0 12 (dk_at dksX3_fit_1 3 rfl rfl)
theorem dX3_fit_30 : decode cX3_fit 30 = .ok (.aload_n 0, 1) := dk_42 (dk_at dksX3_fit_1 6 rfl rfl)
theorem dX3_fit_31 : decode cX3_fit 31 = .ok (.iload_n 1, 1) := dk_27 (dk_at dksX3_fit_1 7 rfl rfl)
theorem dX3_fit_32 : decode cX3_fit 32 = .ok (.iload_n 2, 1) := dk_28 (dk_at dksX3_fit_1 8 rfl rfl)
theorem dX3_fit_33 : decode cX3_fit 33 = .ok (.invokevirtual 69, 3) := dk_182 0 69 (dk_at dksX3_fit_1 9 rfl rfl)
theorem dX3_fit_36 : decode cX3_fit 36 = .ok (.goto 4, 3) := dk_167 0 4 (dk_at dksX3_fit_1 12 rfl rfl)
theorem dX3_fit_39 : decode cX3_fit 39 = .ok (.iconst 0, 1) := dk_3 (dk_at dksX3_fit_1 15 rfl rfl)
theorem dX3_fit_40 : decode cX3_fit 40 = .ok (.ireturn, 1) := dk_172 (dk_at dksX3_fit_1 16 rfl rfl)
abbrev cX3_isWord : ByteArray := prog_6_method_5_code
def yX3_isWord : MethodName := ⟨RX3, "isWord", "(I)Z"⟩
def dkwX3_isWord_0 : List UInt8 := [26, 3, 17, 0, 255, 184, 0, 57, 172]
abbrev dktX3_isWord_0 : List UInt8 := dkwX3_isWord_0 ++ []
theorem dksX3_isWord_0 : cX3_isWord.data.toList.drop 0 = dktX3_isWord_0 := by decide +kernel
theorem dX3_isWord_0 : decode cX3_isWord 0 = .ok (.iload_n 0, 1) := dk_26 (dk_at dksX3_isWord_0 0 rfl rfl)
theorem dX3_isWord_1 : decode cX3_isWord 1 = .ok (.iconst 0, 1) := dk_3 (dk_at dksX3_isWord_0 1 rfl rfl)
theorem dX3_isWord_2 : decode cX3_isWord 2 = .ok (.sipush 255, 3) := dk_17 0 255 (dk_at dksX3_isWord_0 2 rfl rfl)
theorem dX3_isWord_5 : decode cX3_isWord 5 = .ok (.invokestatic 57, 3) := dk_184 0 57 (dk_at dksX3_isWord_0 5 rfl rfl)
theorem dX3_isWord_8 : decode cX3_isWord 8 = .ok (.ireturn, 1) := dk_172 (dk_at dksX3_isWord_0 8 rfl rfl)
abbrev cX3_fitOf : ByteArray := prog_6_method_8_code
def yX3_fitOf : MethodName := ⟨RX3, "fitOf", "(II)I"⟩
def dkwX3_fitOf_1 : List UInt8 := [28, 21, 4, 184, 0, 65, 96, 46, 96, 62, 132, 4, 1, 167, 255, 224, 29, 172]
abbrev dktX3_fitOf_1 : List UInt8 := dkwX3_fitOf_1 ++ []
def dkwX3_fitOf_0 : List UInt8 := [3, 62, 3, 54, 4, 21, 4, 7, 162, 0, 32, 29, 42, 180, 0, 7, 7, 27, 21, 4, 184, 0, 65, 104]
abbrev dktX3_fitOf_0 : List UInt8 := dkwX3_fitOf_0 ++ dktX3_fitOf_1
theorem dksX3_fitOf_0 : cX3_fitOf.data.toList.drop 0 = dktX3_fitOf_0 := by decide +kernel
theorem dksX3_fitOf_1 : cX3_fitOf.data.toList.drop 24 = dktX3_fitOf_1 := dk_seg dksX3_fitOf_0 24 rfl rfl
theorem dX3_fitOf_0 : decode cX3_fitOf 0 = .ok (.iconst 0, 1) := dk_3 (dk_at dksX3_fitOf_0 0 rfl rfl)
theorem dX3_fitOf_1 : decode cX3_fitOf 1 = .ok (.istore_n 3, 1) := dk_62 (dk_at dksX3_fitOf_0 1 rfl rfl)
theorem dX3_fitOf_2 : decode cX3_fitOf 2 = .ok (.iconst 0, 1) := dk_3 (dk_at dksX3_fitOf_0 2 rfl rfl)
theorem dX3_fitOf_3 : decode cX3_fitOf 3 = .ok (.istore 4, 2) := dk_54 4 (dk_at dksX3_fitOf_0 3 rfl rfl)
theorem dX3_fitOf_5 : decode cX3_fitOf 5 = .ok (.iload 4, 2) := dk_21 4 (dk_at dksX3_fitOf_0 5 rfl rfl)
theorem dX3_fitOf_7 : decode cX3_fitOf 7 = .ok (.iconst 4, 1) := dk_7 (dk_at dksX3_fitOf_0 7 rfl rfl)
theorem dX3_fitOf_8 : decode cX3_fitOf 8 = .ok (.if_icmp .ge 32, 3) := dk_162 0 32 (dk_at dksX3_fitOf_0 8 rfl rfl)
theorem dX3_fitOf_11 : decode cX3_fitOf 11 = .ok (.iload_n 3, 1) := dk_29 (dk_at dksX3_fitOf_0 11 rfl rfl)
theorem dX3_fitOf_12 : decode cX3_fitOf 12 = .ok (.aload_n 0, 1) := dk_42 (dk_at dksX3_fitOf_0 12 rfl rfl)
theorem dX3_fitOf_13 : decode cX3_fitOf 13 = .ok (.getfield 7, 3) := dk_180 0 7 (dk_at dksX3_fitOf_0 13 rfl rfl)
theorem dX3_fitOf_16 : decode cX3_fitOf 16 = .ok (.iconst 4, 1) := dk_7 (dk_at dksX3_fitOf_0 16 rfl rfl)
theorem dX3_fitOf_17 : decode cX3_fitOf 17 = .ok (.iload_n 1, 1) := dk_27 (dk_at dksX3_fitOf_0 17 rfl rfl)
theorem dX3_fitOf_18 : decode cX3_fitOf 18 = .ok (.iload 4, 2) := dk_21 4 (dk_at dksX3_fitOf_0 18 rfl rfl)
theorem dX3_fitOf_20 : decode cX3_fitOf 20 = .ok (.invokestatic 65, 3) := dk_184 0 65 (dk_at dksX3_fitOf_0 20 rfl rfl)
theorem dX3_fitOf_23 : decode cX3_fitOf 23 = .ok (.imul, 1) := dk_104 (dk_at dksX3_fitOf_0 23 rfl rfl)
theorem dX3_fitOf_24 : decode cX3_fitOf 24 = .ok (.iload_n 2, 1) := dk_28 (dk_at dksX3_fitOf_1 0 rfl rfl)
theorem dX3_fitOf_25 : decode cX3_fitOf 25 = .ok (.iload 4, 2) := dk_21 4 (dk_at dksX3_fitOf_1 1 rfl rfl)
theorem dX3_fitOf_27 : decode cX3_fitOf 27 = .ok (.invokestatic 65, 3) := dk_184 0 65 (dk_at dksX3_fitOf_1 3 rfl rfl)
theorem dX3_fitOf_30 : decode cX3_fitOf 30 = .ok (.iadd, 1) := dk_96 (dk_at dksX3_fitOf_1 6 rfl rfl)
theorem dX3_fitOf_31 : decode cX3_fitOf 31 = .ok (.iaload, 1) := dk_46 (dk_at dksX3_fitOf_1 7 rfl rfl)
theorem dX3_fitOf_32 : decode cX3_fitOf 32 = .ok (.iadd, 1) := dk_96 (dk_at dksX3_fitOf_1 8 rfl rfl)
theorem dX3_fitOf_33 : decode cX3_fitOf 33 = .ok (.istore_n 3, 1) := dk_62 (dk_at dksX3_fitOf_1 9 rfl rfl)
theorem dX3_fitOf_34 : decode cX3_fitOf 34 = .ok (.iinc 4 1, 3) := dk_132 4 1 (dk_at dksX3_fitOf_1 10 rfl rfl)
theorem dX3_fitOf_37 : decode cX3_fitOf 37 = .ok (.goto (-32), 3) := dk_167 255 224 (dk_at dksX3_fitOf_1 13 rfl rfl)
theorem dX3_fitOf_40 : decode cX3_fitOf 40 = .ok (.iload_n 3, 1) := dk_29 (dk_at dksX3_fitOf_1 16 rfl rfl)
theorem dX3_fitOf_41 : decode cX3_fitOf 41 = .ok (.ireturn, 1) := dk_172 (dk_at dksX3_fitOf_1 17 rfl rfl)
abbrev cX3_letter : ByteArray := prog_6_method_6_code
def yX3_letter : MethodName := ⟨RX3, "letter", "(II)I"⟩
def dkwX3_letter_0 : List UInt8 := [26, 5, 27, 104, 122, 6, 126, 172]
abbrev dktX3_letter_0 : List UInt8 := dkwX3_letter_0 ++ []
theorem dksX3_letter_0 : cX3_letter.data.toList.drop 0 = dktX3_letter_0 := by decide +kernel
theorem dX3_letter_0 : decode cX3_letter 0 = .ok (.iload_n 0, 1) := dk_26 (dk_at dksX3_letter_0 0 rfl rfl)
theorem dX3_letter_1 : decode cX3_letter 1 = .ok (.iconst 2, 1) := dk_5 (dk_at dksX3_letter_0 1 rfl rfl)
theorem dX3_letter_2 : decode cX3_letter 2 = .ok (.iload_n 1, 1) := dk_27 (dk_at dksX3_letter_0 2 rfl rfl)
theorem dX3_letter_3 : decode cX3_letter 3 = .ok (.imul, 1) := dk_104 (dk_at dksX3_letter_0 3 rfl rfl)
theorem dX3_letter_4 : decode cX3_letter 4 = .ok (.ishr, 1) := dk_122 (dk_at dksX3_letter_0 4 rfl rfl)
theorem dX3_letter_5 : decode cX3_letter 5 = .ok (.iconst 3, 1) := dk_6 (dk_at dksX3_letter_0 5 rfl rfl)
theorem dX3_letter_6 : decode cX3_letter 6 = .ok (.iand, 1) := dk_126 (dk_at dksX3_letter_0 6 rfl rfl)
theorem dX3_letter_7 : decode cX3_letter 7 = .ok (.ireturn, 1) := dk_172 (dk_at dksX3_letter_0 7 rfl rfl)
abbrev cX3_mark : ByteArray := prog_6_method_11_code
def yX3_mark : MethodName := ⟨RX3, "mark", "(II)I"⟩
def dkwX3_mark_4 : List UInt8 := [21, 4, 172]
abbrev dktX3_mark_4 : List UInt8 := dkwX3_mark_4 ++ []
def dkwX3_mark_3 : List UInt8 := [180, 0, 53, 158, 0, 5, 3, 172, 42, 180, 0, 13, 27, 46, 54, 4, 42, 180, 0, 13, 27, 28, 79]
abbrev dktX3_mark_3 : List UInt8 := dkwX3_mark_3 ++ dktX3_mark_4
def dkwX3_mark_2 : List UInt8 := [153, 0, 7, 4, 167, 0, 4, 3, 62, 42, 29, 153, 0, 7, 3, 167, 0, 4, 4, 181, 0, 53, 42]
abbrev dktX3_mark_2 : List UInt8 := dkwX3_mark_2 ++ dktX3_mark_3
def dkwX3_mark_1 : List UInt8 := [162, 0, 8, 16, 36, 167, 0, 16, 27, 6, 160, 0, 9, 17, 39, 15, 167, 0, 5, 16, 99, 184, 0, 57]
abbrev dktX3_mark_1 : List UInt8 := dkwX3_mark_1 ++ dktX3_mark_2
def dkwX3_mark_0 : List UInt8 := [27, 3, 7, 184, 0, 57, 153, 0, 47, 28, 27, 7, 160, 0, 7, 4, 167, 0, 4, 3, 27, 6]
abbrev dktX3_mark_0 : List UInt8 := dkwX3_mark_0 ++ dktX3_mark_1
theorem dksX3_mark_0 : cX3_mark.data.toList.drop 0 = dktX3_mark_0 := by decide +kernel
theorem dksX3_mark_1 : cX3_mark.data.toList.drop 22 = dktX3_mark_1 := dk_seg dksX3_mark_0 22 rfl rfl
theorem dksX3_mark_2 : cX3_mark.data.toList.drop 46 = dktX3_mark_2 := dk_seg dksX3_mark_1 24 rfl rfl
theorem dksX3_mark_3 : cX3_mark.data.toList.drop 69 = dktX3_mark_3 := dk_seg dksX3_mark_2 23 rfl rfl
theorem dksX3_mark_4 : cX3_mark.data.toList.drop 92 = dktX3_mark_4 := dk_seg dksX3_mark_3 23 rfl rfl
theorem dX3_mark_0 : decode cX3_mark 0 = .ok (.iload_n 1, 1) := dk_27 (dk_at dksX3_mark_0 0 rfl rfl)
theorem dX3_mark_1 : decode cX3_mark 1 = .ok (.iconst 0, 1) := dk_3 (dk_at dksX3_mark_0 1 rfl rfl)
theorem dX3_mark_2 : decode cX3_mark 2 = .ok (.iconst 4, 1) := dk_7 (dk_at dksX3_mark_0 2 rfl rfl)
theorem dX3_mark_3 : decode cX3_mark 3 = .ok (.invokestatic 57, 3) := dk_184 0 57 (dk_at dksX3_mark_0 3 rfl rfl)
theorem dX3_mark_6 : decode cX3_mark 6 = .ok (.ifCond .eq 47, 3) := dk_153 0 47 (dk_at dksX3_mark_0 6 rfl rfl)
theorem dX3_mark_9 : decode cX3_mark 9 = .ok (.iload_n 2, 1) := dk_28 (dk_at dksX3_mark_0 9 rfl rfl)
theorem dX3_mark_10 : decode cX3_mark 10 = .ok (.iload_n 1, 1) := dk_27 (dk_at dksX3_mark_0 10 rfl rfl)
theorem dX3_mark_11 : decode cX3_mark 11 = .ok (.iconst 4, 1) := dk_7 (dk_at dksX3_mark_0 11 rfl rfl)
theorem dX3_mark_12 : decode cX3_mark 12 = .ok (.if_icmp .ne 7, 3) := dk_160 0 7 (dk_at dksX3_mark_0 12 rfl rfl)
theorem dX3_mark_15 : decode cX3_mark 15 = .ok (.iconst 1, 1) := dk_4 (dk_at dksX3_mark_0 15 rfl rfl)
theorem dX3_mark_16 : decode cX3_mark 16 = .ok (.goto 4, 3) := dk_167 0 4 (dk_at dksX3_mark_0 16 rfl rfl)
theorem dX3_mark_19 : decode cX3_mark 19 = .ok (.iconst 0, 1) := dk_3 (dk_at dksX3_mark_0 19 rfl rfl)
theorem dX3_mark_20 : decode cX3_mark 20 = .ok (.iload_n 1, 1) := dk_27 (dk_at dksX3_mark_0 20 rfl rfl)
theorem dX3_mark_21 : decode cX3_mark 21 = .ok (.iconst 3, 1) := dk_6 (dk_at dksX3_mark_0 21 rfl rfl)
theorem dX3_mark_22 : decode cX3_mark 22 = .ok (.if_icmp .ge 8, 3) := dk_162 0 8 (dk_at dksX3_mark_1 0 rfl rfl)
theorem dX3_mark_25 : decode cX3_mark 25 = .ok (.bipush 36, 2) := dk_16 36 (dk_at dksX3_mark_1 3 rfl rfl)
theorem dX3_mark_27 : decode cX3_mark 27 = .ok (.goto 16, 3) := dk_167 0 16 (dk_at dksX3_mark_1 5 rfl rfl)
theorem dX3_mark_30 : decode cX3_mark 30 = .ok (.iload_n 1, 1) := dk_27 (dk_at dksX3_mark_1 8 rfl rfl)
theorem dX3_mark_31 : decode cX3_mark 31 = .ok (.iconst 3, 1) := dk_6 (dk_at dksX3_mark_1 9 rfl rfl)
theorem dX3_mark_32 : decode cX3_mark 32 = .ok (.if_icmp .ne 9, 3) := dk_160 0 9 (dk_at dksX3_mark_1 10 rfl rfl)
theorem dX3_mark_35 : decode cX3_mark 35 = .ok (.sipush 9999, 3) := dk_17 39 15 (dk_at dksX3_mark_1 13 rfl rfl)
theorem dX3_mark_38 : decode cX3_mark 38 = .ok (.goto 5, 3) := dk_167 0 5 (dk_at dksX3_mark_1 16 rfl rfl)
theorem dX3_mark_41 : decode cX3_mark 41 = .ok (.bipush 99, 2) := dk_16 99 (dk_at dksX3_mark_1 19 rfl rfl)
theorem dX3_mark_43 : decode cX3_mark 43 = .ok (.invokestatic 57, 3) := dk_184 0 57 (dk_at dksX3_mark_1 21 rfl rfl)
theorem dX3_mark_46 : decode cX3_mark 46 = .ok (.ifCond .eq 7, 3) := dk_153 0 7 (dk_at dksX3_mark_2 0 rfl rfl)
theorem dX3_mark_49 : decode cX3_mark 49 = .ok (.iconst 1, 1) := dk_4 (dk_at dksX3_mark_2 3 rfl rfl)
theorem dX3_mark_50 : decode cX3_mark 50 = .ok (.goto 4, 3) := dk_167 0 4 (dk_at dksX3_mark_2 4 rfl rfl)
theorem dX3_mark_53 : decode cX3_mark 53 = .ok (.iconst 0, 1) := dk_3 (dk_at dksX3_mark_2 7 rfl rfl)
theorem dX3_mark_54 : decode cX3_mark 54 = .ok (.istore_n 3, 1) := dk_62 (dk_at dksX3_mark_2 8 rfl rfl)
theorem dX3_mark_55 : decode cX3_mark 55 = .ok (.aload_n 0, 1) := dk_42 (dk_at dksX3_mark_2 9 rfl rfl)
theorem dX3_mark_56 : decode cX3_mark 56 = .ok (.iload_n 3, 1) := dk_29 (dk_at dksX3_mark_2 10 rfl rfl)
theorem dX3_mark_57 : decode cX3_mark 57 = .ok (.ifCond .eq 7, 3) := dk_153 0 7 (dk_at dksX3_mark_2 11 rfl rfl)
theorem dX3_mark_60 : decode cX3_mark 60 = .ok (.iconst 0, 1) := dk_3 (dk_at dksX3_mark_2 14 rfl rfl)
theorem dX3_mark_61 : decode cX3_mark 61 = .ok (.goto 4, 3) := dk_167 0 4 (dk_at dksX3_mark_2 15 rfl rfl)
theorem dX3_mark_64 : decode cX3_mark 64 = .ok (.iconst 1, 1) := dk_4 (dk_at dksX3_mark_2 18 rfl rfl)
theorem dX3_mark_65 : decode cX3_mark 65 = .ok (.putfield 53, 3) := dk_181 0 53 (dk_at dksX3_mark_2 19 rfl rfl)
theorem dX3_mark_68 : decode cX3_mark 68 = .ok (.aload_n 0, 1) := dk_42 (dk_at dksX3_mark_2 22 rfl rfl)
theorem dX3_mark_69 : decode cX3_mark 69 = .ok (.getfield 53, 3) := dk_180 0 53 (dk_at dksX3_mark_3 0 rfl rfl)
theorem dX3_mark_72 : decode cX3_mark 72 = .ok (.ifCond .le 5, 3) := dk_158 0 5 (dk_at dksX3_mark_3 3 rfl rfl)
theorem dX3_mark_75 : decode cX3_mark 75 = .ok (.iconst 0, 1) := dk_3 (dk_at dksX3_mark_3 6 rfl rfl)
theorem dX3_mark_76 : decode cX3_mark 76 = .ok (.ireturn, 1) := dk_172 (dk_at dksX3_mark_3 7 rfl rfl)
theorem dX3_mark_77 : decode cX3_mark 77 = .ok (.aload_n 0, 1) := dk_42 (dk_at dksX3_mark_3 8 rfl rfl)
theorem dX3_mark_78 : decode cX3_mark 78 = .ok (.getfield 13, 3) := dk_180 0 13 (dk_at dksX3_mark_3 9 rfl rfl)
theorem dX3_mark_81 : decode cX3_mark 81 = .ok (.iload_n 1, 1) := dk_27 (dk_at dksX3_mark_3 12 rfl rfl)
theorem dX3_mark_82 : decode cX3_mark 82 = .ok (.iaload, 1) := dk_46 (dk_at dksX3_mark_3 13 rfl rfl)
theorem dX3_mark_83 : decode cX3_mark 83 = .ok (.istore 4, 2) := dk_54 4 (dk_at dksX3_mark_3 14 rfl rfl)
theorem dX3_mark_85 : decode cX3_mark 85 = .ok (.aload_n 0, 1) := dk_42 (dk_at dksX3_mark_3 16 rfl rfl)
theorem dX3_mark_86 : decode cX3_mark 86 = .ok (.getfield 13, 3) := dk_180 0 13 (dk_at dksX3_mark_3 17 rfl rfl)
theorem dX3_mark_89 : decode cX3_mark 89 = .ok (.iload_n 1, 1) := dk_27 (dk_at dksX3_mark_3 20 rfl rfl)
theorem dX3_mark_90 : decode cX3_mark 90 = .ok (.iload_n 2, 1) := dk_28 (dk_at dksX3_mark_3 21 rfl rfl)
theorem dX3_mark_91 : decode cX3_mark 91 = .ok (.iastore, 1) := dk_79 (dk_at dksX3_mark_3 22 rfl rfl)
theorem dX3_mark_92 : decode cX3_mark 92 = .ok (.iload 4, 2) := dk_21 4 (dk_at dksX3_mark_4 0 rfl rfl)
theorem dX3_mark_94 : decode cX3_mark 94 = .ok (.ireturn, 1) := dk_172 (dk_at dksX3_mark_4 2 rfl rfl)
abbrev cX3_own : ByteArray := prog_6_method_12_code
def yX3_own : MethodName := ⟨RX3, "own", "(I)I"⟩
def dkwX3_own_2 : List UInt8 := [27, 79, 42, 89, 180, 0, 75, 4, 96, 181, 0, 75, 42, 180, 0, 75, 4, 100, 172]
abbrev dktX3_own_2 : List UInt8 := dkwX3_own_2 ++ []
def dkwX3_own_1 : List UInt8 := [167, 0, 4, 3, 181, 0, 53, 42, 180, 0, 53, 158, 0, 5, 3, 172, 42, 180, 0, 16, 42, 180, 0, 75]
abbrev dktX3_own_1 : List UInt8 := dkwX3_own_1 ++ dktX3_own_2
def dkwX3_own_0 : List UInt8 := [42, 27, 184, 0, 72, 154, 0, 7, 4, 167, 0, 17, 42, 180, 0, 75, 16, 8, 160, 0, 7, 5]
abbrev dktX3_own_0 : List UInt8 := dkwX3_own_0 ++ dktX3_own_1
theorem dksX3_own_0 : cX3_own.data.toList.drop 0 = dktX3_own_0 := by decide +kernel
theorem dksX3_own_1 : cX3_own.data.toList.drop 22 = dktX3_own_1 := dk_seg dksX3_own_0 22 rfl rfl
theorem dksX3_own_2 : cX3_own.data.toList.drop 46 = dktX3_own_2 := dk_seg dksX3_own_1 24 rfl rfl
theorem dX3_own_0 : decode cX3_own 0 = .ok (.aload_n 0, 1) := dk_42 (dk_at dksX3_own_0 0 rfl rfl)
theorem dX3_own_1 : decode cX3_own 1 = .ok (.iload_n 1, 1) := dk_27 (dk_at dksX3_own_0 1 rfl rfl)
theorem dX3_own_2 : decode cX3_own 2 = .ok (.invokestatic 72, 3) := dk_184 0 72 (dk_at dksX3_own_0 2 rfl rfl)
theorem dX3_own_5 : decode cX3_own 5 = .ok (.ifCond .ne 7, 3) := dk_154 0 7 (dk_at dksX3_own_0 5 rfl rfl)
theorem dX3_own_8 : decode cX3_own 8 = .ok (.iconst 1, 1) := dk_4 (dk_at dksX3_own_0 8 rfl rfl)
theorem dX3_own_9 : decode cX3_own 9 = .ok (.goto 17, 3) := dk_167 0 17 (dk_at dksX3_own_0 9 rfl rfl)
theorem dX3_own_12 : decode cX3_own 12 = .ok (.aload_n 0, 1) := dk_42 (dk_at dksX3_own_0 12 rfl rfl)
theorem dX3_own_13 : decode cX3_own 13 = .ok (.getfield 75, 3) := dk_180 0 75 (dk_at dksX3_own_0 13 rfl rfl)
theorem dX3_own_16 : decode cX3_own 16 = .ok (.bipush 8, 2) := dk_16 8 (dk_at dksX3_own_0 16 rfl rfl)
theorem dX3_own_18 : decode cX3_own 18 = .ok (.if_icmp .ne 7, 3) := dk_160 0 7 (dk_at dksX3_own_0 18 rfl rfl)
theorem dX3_own_21 : decode cX3_own 21 = .ok (.iconst 2, 1) := dk_5 (dk_at dksX3_own_0 21 rfl rfl)
theorem dX3_own_22 : decode cX3_own 22 = .ok (.goto 4, 3) := dk_167 0 4 (dk_at dksX3_own_1 0 rfl rfl)
theorem dX3_own_25 : decode cX3_own 25 = .ok (.iconst 0, 1) := dk_3 (dk_at dksX3_own_1 3 rfl rfl)
theorem dX3_own_26 : decode cX3_own 26 = .ok (.putfield 53, 3) := dk_181 0 53 (dk_at dksX3_own_1 4 rfl rfl)
theorem dX3_own_29 : decode cX3_own 29 = .ok (.aload_n 0, 1) := dk_42 (dk_at dksX3_own_1 7 rfl rfl)
theorem dX3_own_30 : decode cX3_own 30 = .ok (.getfield 53, 3) := dk_180 0 53 (dk_at dksX3_own_1 8 rfl rfl)
theorem dX3_own_33 : decode cX3_own 33 = .ok (.ifCond .le 5, 3) := dk_158 0 5 (dk_at dksX3_own_1 11 rfl rfl)
theorem dX3_own_36 : decode cX3_own 36 = .ok (.iconst 0, 1) := dk_3 (dk_at dksX3_own_1 14 rfl rfl)
theorem dX3_own_37 : decode cX3_own 37 = .ok (.ireturn, 1) := dk_172 (dk_at dksX3_own_1 15 rfl rfl)
theorem dX3_own_38 : decode cX3_own 38 = .ok (.aload_n 0, 1) := dk_42 (dk_at dksX3_own_1 16 rfl rfl)
theorem dX3_own_39 : decode cX3_own 39 = .ok (.getfield 16, 3) := dk_180 0 16 (dk_at dksX3_own_1 17 rfl rfl)
theorem dX3_own_42 : decode cX3_own 42 = .ok (.aload_n 0, 1) := dk_42 (dk_at dksX3_own_1 20 rfl rfl)
theorem dX3_own_43 : decode cX3_own 43 = .ok (.getfield 75, 3) := dk_180 0 75 (dk_at dksX3_own_1 21 rfl rfl)
theorem dX3_own_46 : decode cX3_own 46 = .ok (.iload_n 1, 1) := dk_27 (dk_at dksX3_own_2 0 rfl rfl)
theorem dX3_own_47 : decode cX3_own 47 = .ok (.iastore, 1) := dk_79 (dk_at dksX3_own_2 1 rfl rfl)
theorem dX3_own_48 : decode cX3_own 48 = .ok (.aload_n 0, 1) := dk_42 (dk_at dksX3_own_2 2 rfl rfl)
theorem dX3_own_49 : decode cX3_own 49 = .ok (.dup, 1) := dk_89 (dk_at dksX3_own_2 3 rfl rfl)
theorem dX3_own_50 : decode cX3_own 50 = .ok (.getfield 75, 3) := dk_180 0 75 (dk_at dksX3_own_2 4 rfl rfl)
theorem dX3_own_53 : decode cX3_own 53 = .ok (.iconst 1, 1) := dk_4 (dk_at dksX3_own_2 7 rfl rfl)
theorem dX3_own_54 : decode cX3_own 54 = .ok (.iadd, 1) := dk_96 (dk_at dksX3_own_2 8 rfl rfl)
theorem dX3_own_55 : decode cX3_own 55 = .ok (.putfield 75, 3) := dk_181 0 75 (dk_at dksX3_own_2 9 rfl rfl)
theorem dX3_own_58 : decode cX3_own 58 = .ok (.aload_n 0, 1) := dk_42 (dk_at dksX3_own_2 12 rfl rfl)
theorem dX3_own_59 : decode cX3_own 59 = .ok (.getfield 75, 3) := dk_180 0 75 (dk_at dksX3_own_2 13 rfl rfl)
theorem dX3_own_62 : decode cX3_own 62 = .ok (.iconst 1, 1) := dk_4 (dk_at dksX3_own_2 16 rfl rfl)
theorem dX3_own_63 : decode cX3_own 63 = .ok (.isub, 1) := dk_100 (dk_at dksX3_own_2 17 rfl rfl)
theorem dX3_own_64 : decode cX3_own 64 = .ok (.ireturn, 1) := dk_172 (dk_at dksX3_own_2 18 rfl rfl)
abbrev cX3_harm : ByteArray := prog_6_method_13_code
def yX3_harm : MethodName := ⟨RX3, "harm", "(I)I"⟩
def dkwX3_harm_1 : List UInt8 := [180, 0, 53, 154, 0, 16, 42, 180, 0, 43, 17, 0, 144, 27, 96, 46, 167, 0, 4, 3, 172]
abbrev dktX3_harm_1 : List UInt8 := dkwX3_harm_1 ++ []
def dkwX3_harm_0 : List UInt8 := [42, 27, 3, 42, 180, 0, 75, 4, 100, 184, 0, 57, 153, 0, 7, 3, 167, 0, 4, 4, 181, 0, 53, 42]
abbrev dktX3_harm_0 : List UInt8 := dkwX3_harm_0 ++ dktX3_harm_1
theorem dksX3_harm_0 : cX3_harm.data.toList.drop 0 = dktX3_harm_0 := by decide +kernel
theorem dksX3_harm_1 : cX3_harm.data.toList.drop 24 = dktX3_harm_1 := dk_seg dksX3_harm_0 24 rfl rfl
theorem dX3_harm_0 : decode cX3_harm 0 = .ok (.aload_n 0, 1) := dk_42 (dk_at dksX3_harm_0 0 rfl rfl)
theorem dX3_harm_1 : decode cX3_harm 1 = .ok (.iload_n 1, 1) := dk_27 (dk_at dksX3_harm_0 1 rfl rfl)
theorem dX3_harm_2 : decode cX3_harm 2 = .ok (.iconst 0, 1) := dk_3 (dk_at dksX3_harm_0 2 rfl rfl)
theorem dX3_harm_3 : decode cX3_harm 3 = .ok (.aload_n 0, 1) := dk_42 (dk_at dksX3_harm_0 3 rfl rfl)
theorem dX3_harm_4 : decode cX3_harm 4 = .ok (.getfield 75, 3) := dk_180 0 75 (dk_at dksX3_harm_0 4 rfl rfl)
theorem dX3_harm_7 : decode cX3_harm 7 = .ok (.iconst 1, 1) := dk_4 (dk_at dksX3_harm_0 7 rfl rfl)
theorem dX3_harm_8 : decode cX3_harm 8 = .ok (.isub, 1) := dk_100 (dk_at dksX3_harm_0 8 rfl rfl)
theorem dX3_harm_9 : decode cX3_harm 9 = .ok (.invokestatic 57, 3) := dk_184 0 57 (dk_at dksX3_harm_0 9 rfl rfl)
theorem dX3_harm_12 : decode cX3_harm 12 = .ok (.ifCond .eq 7, 3) := dk_153 0 7 (dk_at dksX3_harm_0 12 rfl rfl)
theorem dX3_harm_15 : decode cX3_harm 15 = .ok (.iconst 0, 1) := dk_3 (dk_at dksX3_harm_0 15 rfl rfl)
theorem dX3_harm_16 : decode cX3_harm 16 = .ok (.goto 4, 3) := dk_167 0 4 (dk_at dksX3_harm_0 16 rfl rfl)
theorem dX3_harm_19 : decode cX3_harm 19 = .ok (.iconst 1, 1) := dk_4 (dk_at dksX3_harm_0 19 rfl rfl)
theorem dX3_harm_20 : decode cX3_harm 20 = .ok (.putfield 53, 3) := dk_181 0 53 (dk_at dksX3_harm_0 20 rfl rfl)
theorem dX3_harm_23 : decode cX3_harm 23 = .ok (.aload_n 0, 1) := dk_42 (dk_at dksX3_harm_0 23 rfl rfl)
theorem dX3_harm_24 : decode cX3_harm 24 = .ok (.getfield 53, 3) := dk_180 0 53 (dk_at dksX3_harm_1 0 rfl rfl)
theorem dX3_harm_27 : decode cX3_harm 27 = .ok (.ifCond .ne 16, 3) := dk_154 0 16 (dk_at dksX3_harm_1 3 rfl rfl)
theorem dX3_harm_30 : decode cX3_harm 30 = .ok (.aload_n 0, 1) := dk_42 (dk_at dksX3_harm_1 6 rfl rfl)
theorem dX3_harm_31 : decode cX3_harm 31 = .ok (.getfield 43, 3) := dk_180 0 43 (dk_at dksX3_harm_1 7 rfl rfl)
theorem dX3_harm_34 : decode cX3_harm 34 = .ok (.sipush 144, 3) := dk_17 0 144 (dk_at dksX3_harm_1 10 rfl rfl)
theorem dX3_harm_37 : decode cX3_harm 37 = .ok (.iload_n 1, 1) := dk_27 (dk_at dksX3_harm_1 13 rfl rfl)
theorem dX3_harm_38 : decode cX3_harm 38 = .ok (.iadd, 1) := dk_96 (dk_at dksX3_harm_1 14 rfl rfl)
theorem dX3_harm_39 : decode cX3_harm 39 = .ok (.iaload, 1) := dk_46 (dk_at dksX3_harm_1 15 rfl rfl)
theorem dX3_harm_40 : decode cX3_harm 40 = .ok (.goto 4, 3) := dk_167 0 4 (dk_at dksX3_harm_1 16 rfl rfl)
theorem dX3_harm_43 : decode cX3_harm 43 = .ok (.iconst 0, 1) := dk_3 (dk_at dksX3_harm_1 19 rfl rfl)
theorem dX3_harm_44 : decode cX3_harm 44 = .ok (.ireturn, 1) := dk_172 (dk_at dksX3_harm_1 20 rfl rfl)
abbrev cX3_nearness : ByteArray := prog_6_method_15_code
def yX3_nearness : MethodName := ⟨RX3, "nearness", "(I)I"⟩
def dkwX3_nearness_1 : List UInt8 := [27, 182, 0, 78, 167, 0, 4, 3, 172]
abbrev dktX3_nearness_1 : List UInt8 := dkwX3_nearness_1 ++ []
def dkwX3_nearness_0 : List UInt8 := [42, 27, 184, 0, 72, 153, 0, 7, 3, 167, 0, 4, 4, 181, 0, 53, 42, 180, 0, 53, 154, 0, 11, 42]
abbrev dktX3_nearness_0 : List UInt8 := dkwX3_nearness_0 ++ dktX3_nearness_1
theorem dksX3_nearness_0 : cX3_nearness.data.toList.drop 0 = dktX3_nearness_0 := by decide +kernel
theorem dksX3_nearness_1 : cX3_nearness.data.toList.drop 24 = dktX3_nearness_1 := dk_seg dksX3_nearness_0 24 rfl rfl
theorem dX3_nearness_0 : decode cX3_nearness 0 = .ok (.aload_n 0, 1) := dk_42 (dk_at dksX3_nearness_0 0 rfl rfl)
theorem dX3_nearness_1 : decode cX3_nearness 1 = .ok (.iload_n 1, 1) := dk_27 (dk_at dksX3_nearness_0 1 rfl rfl)
theorem dX3_nearness_2 : decode cX3_nearness 2 = .ok (.invokestatic 72, 3) := dk_184 0 72 (dk_at dksX3_nearness_0 2 rfl rfl)
theorem dX3_nearness_5 : decode cX3_nearness 5 = .ok (.ifCond .eq 7, 3) := dk_153 0 7 (dk_at dksX3_nearness_0 5 rfl rfl)
theorem dX3_nearness_8 : decode cX3_nearness 8 = .ok (.iconst 0, 1) := dk_3 (dk_at dksX3_nearness_0 8 rfl rfl)
theorem dX3_nearness_9 : decode cX3_nearness 9 = .ok (.goto 4, 3) := dk_167 0 4 (dk_at dksX3_nearness_0 9 rfl rfl)
theorem dX3_nearness_12 : decode cX3_nearness 12 = .ok (.iconst 1, 1) := dk_4 (dk_at dksX3_nearness_0 12 rfl rfl)
theorem dX3_nearness_13 : decode cX3_nearness 13 = .ok (.putfield 53, 3) := dk_181 0 53 (dk_at dksX3_nearness_0 13 rfl rfl)
theorem dX3_nearness_16 : decode cX3_nearness 16 = .ok (.aload_n 0, 1) := dk_42 (dk_at dksX3_nearness_0 16 rfl rfl)
theorem dX3_nearness_17 : decode cX3_nearness 17 = .ok (.getfield 53, 3) := dk_180 0 53 (dk_at dksX3_nearness_0 17 rfl rfl)
theorem dX3_nearness_20 : decode cX3_nearness 20 = .ok (.ifCond .ne 11, 3) := dk_154 0 11 (dk_at dksX3_nearness_0 20 rfl rfl)
theorem dX3_nearness_23 : decode cX3_nearness 23 = .ok (.aload_n 0, 1) := dk_42 (dk_at dksX3_nearness_0 23 rfl rfl)
theorem dX3_nearness_24 : decode cX3_nearness 24 = .ok (.iload_n 1, 1) := dk_27 (dk_at dksX3_nearness_1 0 rfl rfl)
theorem dX3_nearness_25 : decode cX3_nearness 25 = .ok (.invokevirtual 78, 3) := dk_182 0 78 (dk_at dksX3_nearness_1 1 rfl rfl)
theorem dX3_nearness_28 : decode cX3_nearness 28 = .ok (.goto 4, 3) := dk_167 0 4 (dk_at dksX3_nearness_1 4 rfl rfl)
theorem dX3_nearness_31 : decode cX3_nearness 31 = .ok (.iconst 0, 1) := dk_3 (dk_at dksX3_nearness_1 7 rfl rfl)
theorem dX3_nearness_32 : decode cX3_nearness 32 = .ok (.ireturn, 1) := dk_172 (dk_at dksX3_nearness_1 8 rfl rfl)
abbrev cX3_near : ByteArray := prog_6_method_14_code
def yX3_near : MethodName := ⟨RX3, "near", "(I)I"⟩
def dkwX3_near_1 : List UInt8 := [54, 4, 21, 4, 28, 164, 0, 8, 21, 4, 167, 0, 4, 28, 61, 132, 3, 1, 167, 255, 219, 28, 172]
abbrev dktX3_near_1 : List UInt8 := dkwX3_near_1 ++ []
def dkwX3_near_0 : List UInt8 := [3, 61, 3, 62, 29, 42, 180, 0, 75, 162, 0, 35, 42, 27, 42, 180, 0, 16, 29, 46, 182, 0, 69]
abbrev dktX3_near_0 : List UInt8 := dkwX3_near_0 ++ dktX3_near_1
theorem dksX3_near_0 : cX3_near.data.toList.drop 0 = dktX3_near_0 := by decide +kernel
theorem dksX3_near_1 : cX3_near.data.toList.drop 23 = dktX3_near_1 := dk_seg dksX3_near_0 23 rfl rfl
theorem dX3_near_0 : decode cX3_near 0 = .ok (.iconst 0, 1) := dk_3 (dk_at dksX3_near_0 0 rfl rfl)
theorem dX3_near_1 : decode cX3_near 1 = .ok (.istore_n 2, 1) := dk_61 (dk_at dksX3_near_0 1 rfl rfl)
theorem dX3_near_2 : decode cX3_near 2 = .ok (.iconst 0, 1) := dk_3 (dk_at dksX3_near_0 2 rfl rfl)
theorem dX3_near_3 : decode cX3_near 3 = .ok (.istore_n 3, 1) := dk_62 (dk_at dksX3_near_0 3 rfl rfl)
theorem dX3_near_4 : decode cX3_near 4 = .ok (.iload_n 3, 1) := dk_29 (dk_at dksX3_near_0 4 rfl rfl)
theorem dX3_near_5 : decode cX3_near 5 = .ok (.aload_n 0, 1) := dk_42 (dk_at dksX3_near_0 5 rfl rfl)
theorem dX3_near_6 : decode cX3_near 6 = .ok (.getfield 75, 3) := dk_180 0 75 (dk_at dksX3_near_0 6 rfl rfl)
theorem dX3_near_9 : decode cX3_near 9 = .ok (.if_icmp .ge 35, 3) := dk_162 0 35 (dk_at dksX3_near_0 9 rfl rfl)
theorem dX3_near_12 : decode cX3_near 12 = .ok (.aload_n 0, 1) := dk_42 (dk_at dksX3_near_0 12 rfl rfl)
theorem dX3_near_13 : decode cX3_near 13 = .ok (.iload_n 1, 1) := dk_27 (dk_at dksX3_near_0 13 rfl rfl)
theorem dX3_near_14 : decode cX3_near 14 = .ok (.aload_n 0, 1) := dk_42 (dk_at dksX3_near_0 14 rfl rfl)
theorem dX3_near_15 : decode cX3_near 15 = .ok (.getfield 16, 3) := dk_180 0 16 (dk_at dksX3_near_0 15 rfl rfl)
theorem dX3_near_18 : decode cX3_near 18 = .ok (.iload_n 3, 1) := dk_29 (dk_at dksX3_near_0 18 rfl rfl)
theorem dX3_near_19 : decode cX3_near 19 = .ok (.iaload, 1) := dk_46 (dk_at dksX3_near_0 19 rfl rfl)
theorem dX3_near_20 : decode cX3_near 20 = .ok (.invokevirtual 69, 3) := dk_182 0 69 (dk_at dksX3_near_0 20 rfl rfl)
theorem dX3_near_23 : decode cX3_near 23 = .ok (.istore 4, 2) := dk_54 4 (dk_at dksX3_near_1 0 rfl rfl)
theorem dX3_near_25 : decode cX3_near 25 = .ok (.iload 4, 2) := dk_21 4 (dk_at dksX3_near_1 2 rfl rfl)
theorem dX3_near_27 : decode cX3_near 27 = .ok (.iload_n 2, 1) := dk_28 (dk_at dksX3_near_1 4 rfl rfl)
theorem dX3_near_28 : decode cX3_near 28 = .ok (.if_icmp .le 8, 3) := dk_164 0 8 (dk_at dksX3_near_1 5 rfl rfl)
theorem dX3_near_31 : decode cX3_near 31 = .ok (.iload 4, 2) := dk_21 4 (dk_at dksX3_near_1 8 rfl rfl)
theorem dX3_near_33 : decode cX3_near 33 = .ok (.goto 4, 3) := dk_167 0 4 (dk_at dksX3_near_1 10 rfl rfl)
theorem dX3_near_36 : decode cX3_near 36 = .ok (.iload_n 2, 1) := dk_28 (dk_at dksX3_near_1 13 rfl rfl)
theorem dX3_near_37 : decode cX3_near 37 = .ok (.istore_n 2, 1) := dk_61 (dk_at dksX3_near_1 14 rfl rfl)
theorem dX3_near_38 : decode cX3_near 38 = .ok (.iinc 3 1, 3) := dk_132 3 1 (dk_at dksX3_near_1 15 rfl rfl)
theorem dX3_near_41 : decode cX3_near 41 = .ok (.goto (-37), 3) := dk_167 255 219 (dk_at dksX3_near_1 18 rfl rfl)
theorem dX3_near_44 : decode cX3_near 44 = .ok (.iload_n 2, 1) := dk_28 (dk_at dksX3_near_1 21 rfl rfl)
theorem dX3_near_45 : decode cX3_near 45 = .ok (.ireturn, 1) := dk_172 (dk_at dksX3_near_1 22 rfl rfl)
abbrev cX3_segment : ByteArray := prog_6_method_16_code
def yX3_segment : MethodName := ⟨RX3, "segment", "(II)I"⟩
def dkwX3_segment_3 : List UInt8 := [181, 0, 82, 42, 180, 0, 82, 4, 100, 172]
abbrev dktX3_segment_3 : List UInt8 := dkwX3_segment_3 ++ []
def dkwX3_segment_2 : List UInt8 := [42, 180, 0, 82, 27, 79, 42, 180, 0, 22, 42, 180, 0, 82, 28, 79, 42, 89, 180, 0, 82, 4, 96]
abbrev dktX3_segment_2 : List UInt8 := dkwX3_segment_2 ++ dktX3_segment_3
def dkwX3_segment_1 : List UInt8 := [160, 0, 7, 5, 167, 0, 4, 3, 181, 0, 53, 42, 180, 0, 53, 158, 0, 5, 3, 172, 42, 180, 0, 19]
abbrev dktX3_segment_1 : List UInt8 := dkwX3_segment_1 ++ dktX3_segment_2
def dkwX3_segment_0 : List UInt8 := [42, 27, 184, 0, 61, 153, 0, 10, 28, 184, 0, 61, 154, 0, 7, 4, 167, 0, 16, 42, 180, 0, 82, 7]
abbrev dktX3_segment_0 : List UInt8 := dkwX3_segment_0 ++ dktX3_segment_1
theorem dksX3_segment_0 : cX3_segment.data.toList.drop 0 = dktX3_segment_0 := by decide +kernel
theorem dksX3_segment_1 : cX3_segment.data.toList.drop 24 = dktX3_segment_1 := dk_seg dksX3_segment_0 24 rfl rfl
theorem dksX3_segment_2 : cX3_segment.data.toList.drop 48 = dktX3_segment_2 := dk_seg dksX3_segment_1 24 rfl rfl
theorem dksX3_segment_3 : cX3_segment.data.toList.drop 71 = dktX3_segment_3 := dk_seg dksX3_segment_2 23 rfl rfl
theorem dX3_segment_0 : decode cX3_segment 0 = .ok (.aload_n 0, 1) := dk_42 (dk_at dksX3_segment_0 0 rfl rfl)
theorem dX3_segment_1 : decode cX3_segment 1 = .ok (.iload_n 1, 1) := dk_27 (dk_at dksX3_segment_0 1 rfl rfl)
theorem dX3_segment_2 : decode cX3_segment 2 = .ok (.invokestatic 61, 3) := dk_184 0 61 (dk_at dksX3_segment_0 2 rfl rfl)
theorem dX3_segment_5 : decode cX3_segment 5 = .ok (.ifCond .eq 10, 3) := dk_153 0 10 (dk_at dksX3_segment_0 5 rfl rfl)
theorem dX3_segment_8 : decode cX3_segment 8 = .ok (.iload_n 2, 1) := dk_28 (dk_at dksX3_segment_0 8 rfl rfl)
theorem dX3_segment_9 : decode cX3_segment 9 = .ok (.invokestatic 61, 3) := dk_184 0 61 (dk_at dksX3_segment_0 9 rfl rfl)
theorem dX3_segment_12 : decode cX3_segment 12 = .ok (.ifCond .ne 7, 3) := dk_154 0 7 (dk_at dksX3_segment_0 12 rfl rfl)
theorem dX3_segment_15 : decode cX3_segment 15 = .ok (.iconst 1, 1) := dk_4 (dk_at dksX3_segment_0 15 rfl rfl)
theorem dX3_segment_16 : decode cX3_segment 16 = .ok (.goto 16, 3) := dk_167 0 16 (dk_at dksX3_segment_0 16 rfl rfl)
theorem dX3_segment_19 : decode cX3_segment 19 = .ok (.aload_n 0, 1) := dk_42 (dk_at dksX3_segment_0 19 rfl rfl)
theorem dX3_segment_20 : decode cX3_segment 20 = .ok (.getfield 82, 3) := dk_180 0 82 (dk_at dksX3_segment_0 20 rfl rfl)
theorem dX3_segment_23 : decode cX3_segment 23 = .ok (.iconst 4, 1) := dk_7 (dk_at dksX3_segment_0 23 rfl rfl)
theorem dX3_segment_24 : decode cX3_segment 24 = .ok (.if_icmp .ne 7, 3) := dk_160 0 7 (dk_at dksX3_segment_1 0 rfl rfl)
theorem dX3_segment_27 : decode cX3_segment 27 = .ok (.iconst 2, 1) := dk_5 (dk_at dksX3_segment_1 3 rfl rfl)
theorem dX3_segment_28 : decode cX3_segment 28 = .ok (.goto 4, 3) := dk_167 0 4 (dk_at dksX3_segment_1 4 rfl rfl)
theorem dX3_segment_31 : decode cX3_segment 31 = .ok (.iconst 0, 1) := dk_3 (dk_at dksX3_segment_1 7 rfl rfl)
theorem dX3_segment_32 : decode cX3_segment 32 = .ok (.putfield 53, 3) := dk_181 0 53 (dk_at dksX3_segment_1 8 rfl rfl)
theorem dX3_segment_35 : decode cX3_segment 35 = .ok (.aload_n 0, 1) := dk_42 (dk_at dksX3_segment_1 11 rfl rfl)
theorem dX3_segment_36 : decode cX3_segment 36 = .ok (.getfield 53, 3) := dk_180 0 53 (dk_at dksX3_segment_1 12 rfl rfl)
theorem dX3_segment_39 : decode cX3_segment 39 = .ok (.ifCond .le 5, 3) := dk_158 0 5 (dk_at dksX3_segment_1 15 rfl rfl)
theorem dX3_segment_42 : decode cX3_segment 42 = .ok (.iconst 0, 1) := dk_3 (dk_at dksX3_segment_1 18 rfl rfl)
theorem dX3_segment_43 : decode cX3_segment 43 = .ok (.ireturn, 1) := dk_172 (dk_at dksX3_segment_1 19 rfl rfl)
theorem dX3_segment_44 : decode cX3_segment 44 = .ok (.aload_n 0, 1) := dk_42 (dk_at dksX3_segment_1 20 rfl rfl)
theorem dX3_segment_45 : decode cX3_segment 45 = .ok (.getfield 19, 3) := dk_180 0 19 (dk_at dksX3_segment_1 21 rfl rfl)
theorem dX3_segment_48 : decode cX3_segment 48 = .ok (.aload_n 0, 1) := dk_42 (dk_at dksX3_segment_2 0 rfl rfl)
theorem dX3_segment_49 : decode cX3_segment 49 = .ok (.getfield 82, 3) := dk_180 0 82 (dk_at dksX3_segment_2 1 rfl rfl)
theorem dX3_segment_52 : decode cX3_segment 52 = .ok (.iload_n 1, 1) := dk_27 (dk_at dksX3_segment_2 4 rfl rfl)
theorem dX3_segment_53 : decode cX3_segment 53 = .ok (.iastore, 1) := dk_79 (dk_at dksX3_segment_2 5 rfl rfl)
theorem dX3_segment_54 : decode cX3_segment 54 = .ok (.aload_n 0, 1) := dk_42 (dk_at dksX3_segment_2 6 rfl rfl)
theorem dX3_segment_55 : decode cX3_segment 55 = .ok (.getfield 22, 3) := dk_180 0 22 (dk_at dksX3_segment_2 7 rfl rfl)
theorem dX3_segment_58 : decode cX3_segment 58 = .ok (.aload_n 0, 1) := dk_42 (dk_at dksX3_segment_2 10 rfl rfl)
theorem dX3_segment_59 : decode cX3_segment 59 = .ok (.getfield 82, 3) := dk_180 0 82 (dk_at dksX3_segment_2 11 rfl rfl)
theorem dX3_segment_62 : decode cX3_segment 62 = .ok (.iload_n 2, 1) := dk_28 (dk_at dksX3_segment_2 14 rfl rfl)
theorem dX3_segment_63 : decode cX3_segment 63 = .ok (.iastore, 1) := dk_79 (dk_at dksX3_segment_2 15 rfl rfl)
theorem dX3_segment_64 : decode cX3_segment 64 = .ok (.aload_n 0, 1) := dk_42 (dk_at dksX3_segment_2 16 rfl rfl)
theorem dX3_segment_65 : decode cX3_segment 65 = .ok (.dup, 1) := dk_89 (dk_at dksX3_segment_2 17 rfl rfl)
theorem dX3_segment_66 : decode cX3_segment 66 = .ok (.getfield 82, 3) := dk_180 0 82 (dk_at dksX3_segment_2 18 rfl rfl)
theorem dX3_segment_69 : decode cX3_segment 69 = .ok (.iconst 1, 1) := dk_4 (dk_at dksX3_segment_2 21 rfl rfl)
theorem dX3_segment_70 : decode cX3_segment 70 = .ok (.iadd, 1) := dk_96 (dk_at dksX3_segment_2 22 rfl rfl)
theorem dX3_segment_71 : decode cX3_segment 71 = .ok (.putfield 82, 3) := dk_181 0 82 (dk_at dksX3_segment_3 0 rfl rfl)
theorem dX3_segment_74 : decode cX3_segment 74 = .ok (.aload_n 0, 1) := dk_42 (dk_at dksX3_segment_3 3 rfl rfl)
theorem dX3_segment_75 : decode cX3_segment 75 = .ok (.getfield 82, 3) := dk_180 0 82 (dk_at dksX3_segment_3 4 rfl rfl)
theorem dX3_segment_78 : decode cX3_segment 78 = .ok (.iconst 1, 1) := dk_4 (dk_at dksX3_segment_3 7 rfl rfl)
theorem dX3_segment_79 : decode cX3_segment 79 = .ok (.isub, 1) := dk_100 (dk_at dksX3_segment_3 8 rfl rfl)
theorem dX3_segment_80 : decode cX3_segment 80 = .ok (.ireturn, 1) := dk_172 (dk_at dksX3_segment_3 9 rfl rfl)
abbrev cX3_joint : ByteArray := prog_6_method_17_code
def yX3_joint : MethodName := ⟨RX3, "joint", "(I)I"⟩
def dkwX3_joint_2 : List UInt8 := [89, 180, 0, 85, 4, 96, 181, 0, 85, 42, 180, 0, 85, 4, 100, 172]
abbrev dktX3_joint_2 : List UInt8 := dkwX3_joint_2 ++ []
def dkwX3_joint_1 : List UInt8 := [3, 181, 0, 53, 42, 180, 0, 53, 158, 0, 5, 3, 172, 42, 180, 0, 25, 42, 180, 0, 85, 27, 79, 42]
abbrev dktX3_joint_1 : List UInt8 := dkwX3_joint_1 ++ dktX3_joint_2
def dkwX3_joint_0 : List UInt8 := [42, 27, 184, 0, 61, 154, 0, 7, 4, 167, 0, 16, 42, 180, 0, 85, 7, 160, 0, 7, 5, 167, 0, 4]
abbrev dktX3_joint_0 : List UInt8 := dkwX3_joint_0 ++ dktX3_joint_1
theorem dksX3_joint_0 : cX3_joint.data.toList.drop 0 = dktX3_joint_0 := by decide +kernel
theorem dksX3_joint_1 : cX3_joint.data.toList.drop 24 = dktX3_joint_1 := dk_seg dksX3_joint_0 24 rfl rfl
theorem dksX3_joint_2 : cX3_joint.data.toList.drop 48 = dktX3_joint_2 := dk_seg dksX3_joint_1 24 rfl rfl
theorem dX3_joint_0 : decode cX3_joint 0 = .ok (.aload_n 0, 1) := dk_42 (dk_at dksX3_joint_0 0 rfl rfl)
theorem dX3_joint_1 : decode cX3_joint 1 = .ok (.iload_n 1, 1) := dk_27 (dk_at dksX3_joint_0 1 rfl rfl)
theorem dX3_joint_2 : decode cX3_joint 2 = .ok (.invokestatic 61, 3) := dk_184 0 61 (dk_at dksX3_joint_0 2 rfl rfl)
theorem dX3_joint_5 : decode cX3_joint 5 = .ok (.ifCond .ne 7, 3) := dk_154 0 7 (dk_at dksX3_joint_0 5 rfl rfl)
theorem dX3_joint_8 : decode cX3_joint 8 = .ok (.iconst 1, 1) := dk_4 (dk_at dksX3_joint_0 8 rfl rfl)
theorem dX3_joint_9 : decode cX3_joint 9 = .ok (.goto 16, 3) := dk_167 0 16 (dk_at dksX3_joint_0 9 rfl rfl)
theorem dX3_joint_12 : decode cX3_joint 12 = .ok (.aload_n 0, 1) := dk_42 (dk_at dksX3_joint_0 12 rfl rfl)
theorem dX3_joint_13 : decode cX3_joint 13 = .ok (.getfield 85, 3) := dk_180 0 85 (dk_at dksX3_joint_0 13 rfl rfl)
theorem dX3_joint_16 : decode cX3_joint 16 = .ok (.iconst 4, 1) := dk_7 (dk_at dksX3_joint_0 16 rfl rfl)
theorem dX3_joint_17 : decode cX3_joint 17 = .ok (.if_icmp .ne 7, 3) := dk_160 0 7 (dk_at dksX3_joint_0 17 rfl rfl)
theorem dX3_joint_20 : decode cX3_joint 20 = .ok (.iconst 2, 1) := dk_5 (dk_at dksX3_joint_0 20 rfl rfl)
theorem dX3_joint_21 : decode cX3_joint 21 = .ok (.goto 4, 3) := dk_167 0 4 (dk_at dksX3_joint_0 21 rfl rfl)
theorem dX3_joint_24 : decode cX3_joint 24 = .ok (.iconst 0, 1) := dk_3 (dk_at dksX3_joint_1 0 rfl rfl)
theorem dX3_joint_25 : decode cX3_joint 25 = .ok (.putfield 53, 3) := dk_181 0 53 (dk_at dksX3_joint_1 1 rfl rfl)
theorem dX3_joint_28 : decode cX3_joint 28 = .ok (.aload_n 0, 1) := dk_42 (dk_at dksX3_joint_1 4 rfl rfl)
theorem dX3_joint_29 : decode cX3_joint 29 = .ok (.getfield 53, 3) := dk_180 0 53 (dk_at dksX3_joint_1 5 rfl rfl)
theorem dX3_joint_32 : decode cX3_joint 32 = .ok (.ifCond .le 5, 3) := dk_158 0 5 (dk_at dksX3_joint_1 8 rfl rfl)
theorem dX3_joint_35 : decode cX3_joint 35 = .ok (.iconst 0, 1) := dk_3 (dk_at dksX3_joint_1 11 rfl rfl)
theorem dX3_joint_36 : decode cX3_joint 36 = .ok (.ireturn, 1) := dk_172 (dk_at dksX3_joint_1 12 rfl rfl)
theorem dX3_joint_37 : decode cX3_joint 37 = .ok (.aload_n 0, 1) := dk_42 (dk_at dksX3_joint_1 13 rfl rfl)
theorem dX3_joint_38 : decode cX3_joint 38 = .ok (.getfield 25, 3) := dk_180 0 25 (dk_at dksX3_joint_1 14 rfl rfl)
theorem dX3_joint_41 : decode cX3_joint 41 = .ok (.aload_n 0, 1) := dk_42 (dk_at dksX3_joint_1 17 rfl rfl)
theorem dX3_joint_42 : decode cX3_joint 42 = .ok (.getfield 85, 3) := dk_180 0 85 (dk_at dksX3_joint_1 18 rfl rfl)
theorem dX3_joint_45 : decode cX3_joint 45 = .ok (.iload_n 1, 1) := dk_27 (dk_at dksX3_joint_1 21 rfl rfl)
theorem dX3_joint_46 : decode cX3_joint 46 = .ok (.iastore, 1) := dk_79 (dk_at dksX3_joint_1 22 rfl rfl)
theorem dX3_joint_47 : decode cX3_joint 47 = .ok (.aload_n 0, 1) := dk_42 (dk_at dksX3_joint_1 23 rfl rfl)
theorem dX3_joint_48 : decode cX3_joint 48 = .ok (.dup, 1) := dk_89 (dk_at dksX3_joint_2 0 rfl rfl)
theorem dX3_joint_49 : decode cX3_joint 49 = .ok (.getfield 85, 3) := dk_180 0 85 (dk_at dksX3_joint_2 1 rfl rfl)
theorem dX3_joint_52 : decode cX3_joint 52 = .ok (.iconst 1, 1) := dk_4 (dk_at dksX3_joint_2 4 rfl rfl)
theorem dX3_joint_53 : decode cX3_joint 53 = .ok (.iadd, 1) := dk_96 (dk_at dksX3_joint_2 5 rfl rfl)
theorem dX3_joint_54 : decode cX3_joint 54 = .ok (.putfield 85, 3) := dk_181 0 85 (dk_at dksX3_joint_2 6 rfl rfl)
theorem dX3_joint_57 : decode cX3_joint 57 = .ok (.aload_n 0, 1) := dk_42 (dk_at dksX3_joint_2 9 rfl rfl)
theorem dX3_joint_58 : decode cX3_joint 58 = .ok (.getfield 85, 3) := dk_180 0 85 (dk_at dksX3_joint_2 10 rfl rfl)
theorem dX3_joint_61 : decode cX3_joint 61 = .ok (.iconst 1, 1) := dk_4 (dk_at dksX3_joint_2 13 rfl rfl)
theorem dX3_joint_62 : decode cX3_joint 62 = .ok (.isub, 1) := dk_100 (dk_at dksX3_joint_2 14 rfl rfl)
theorem dX3_joint_63 : decode cX3_joint 63 = .ok (.ireturn, 1) := dk_172 (dk_at dksX3_joint_2 15 rfl rfl)
abbrev cX3_draw : ByteArray := prog_6_method_19_code
def yX3_draw : MethodName := ⟨RX3, "draw", "(IIIZ)I"⟩
def dkwX3_draw_9 : List UInt8 := [2, 182, 0, 91, 172]
abbrev dktX3_draw_9 : List UInt8 := dkwX3_draw_9 ++ []
def dkwX3_draw_8 : List UInt8 := [21, 6, 21, 9, 153, 0, 7, 5, 167, 0, 13, 21, 4, 153, 0, 7, 4, 167, 0, 4, 3, 21, 8, 3]
abbrev dktX3_draw_8 : List UInt8 := dkwX3_draw_8 ++ dktX3_draw_9
def dkwX3_draw_7 : List UInt8 := [160, 0, 20, 21, 7, 42, 180, 0, 13, 4, 46, 5, 100, 161, 0, 7, 4, 167, 0, 4, 3, 54, 9, 42]
abbrev dktX3_draw_7 : List UInt8 := dkwX3_draw_7 ++ dktX3_draw_8
def dkwX3_draw_6 : List UInt8 := [180, 0, 13, 5, 46, 162, 0, 7, 4, 167, 0, 4, 5, 54, 8, 21, 4, 153, 0, 26, 21, 8, 5]
abbrev dktX3_draw_6 : List UInt8 := dkwX3_draw_6 ++ dktX3_draw_7
def dkwX3_draw_5 : List UInt8 := [182, 0, 78, 54, 7, 21, 7, 42, 180, 0, 13, 4, 46, 161, 0, 7, 3, 167, 0, 19, 21, 7, 42]
abbrev dktX3_draw_5 : List UInt8 := dkwX3_draw_5 ++ dktX3_draw_6
def dkwX3_draw_4 : List UInt8 := [46, 104, 96, 16, 16, 42, 180, 0, 25, 28, 46, 104, 96, 16, 64, 29, 104, 96, 54, 6, 42, 21, 6]
abbrev dktX3_draw_4 : List UInt8 := dkwX3_draw_4 ++ dktX3_draw_5
def dkwX3_draw_3 : List UInt8 := [181, 0, 53, 42, 180, 0, 53, 158, 0, 5, 3, 172, 42, 180, 0, 19, 27, 46, 7, 42, 180, 0, 22, 27]
abbrev dktX3_draw_3 : List UInt8 := dkwX3_draw_3 ++ dktX3_draw_4
def dkwX3_draw_2 : List UInt8 := [184, 0, 61, 154, 0, 7, 5, 167, 0, 17, 42, 180, 0, 88, 16, 40, 160, 0, 7, 6, 167, 0, 4, 3]
abbrev dktX3_draw_2 : List UInt8 := dkwX3_draw_2 ++ dktX3_draw_3
def dkwX3_draw_1 : List UInt8 := [184, 0, 57, 153, 0, 7, 4, 167, 0, 4, 3, 54, 5, 42, 21, 5, 154, 0, 7, 4, 167, 0, 28, 29]
abbrev dktX3_draw_1 : List UInt8 := dkwX3_draw_1 ++ dktX3_draw_2
def dkwX3_draw_0 : List UInt8 := [27, 3, 42, 180, 0, 82, 4, 100, 184, 0, 57, 153, 0, 21, 28, 3, 42, 180, 0, 85, 4, 100]
abbrev dktX3_draw_0 : List UInt8 := dkwX3_draw_0 ++ dktX3_draw_1
theorem dksX3_draw_0 : cX3_draw.data.toList.drop 0 = dktX3_draw_0 := by decide +kernel
theorem dksX3_draw_1 : cX3_draw.data.toList.drop 22 = dktX3_draw_1 := dk_seg dksX3_draw_0 22 rfl rfl
theorem dksX3_draw_2 : cX3_draw.data.toList.drop 46 = dktX3_draw_2 := dk_seg dksX3_draw_1 24 rfl rfl
theorem dksX3_draw_3 : cX3_draw.data.toList.drop 70 = dktX3_draw_3 := dk_seg dksX3_draw_2 24 rfl rfl
theorem dksX3_draw_4 : cX3_draw.data.toList.drop 94 = dktX3_draw_4 := dk_seg dksX3_draw_3 24 rfl rfl
theorem dksX3_draw_5 : cX3_draw.data.toList.drop 117 = dktX3_draw_5 := dk_seg dksX3_draw_4 23 rfl rfl
theorem dksX3_draw_6 : cX3_draw.data.toList.drop 140 = dktX3_draw_6 := dk_seg dksX3_draw_5 23 rfl rfl
theorem dksX3_draw_7 : cX3_draw.data.toList.drop 163 = dktX3_draw_7 := dk_seg dksX3_draw_6 23 rfl rfl
theorem dksX3_draw_8 : cX3_draw.data.toList.drop 187 = dktX3_draw_8 := dk_seg dksX3_draw_7 24 rfl rfl
theorem dksX3_draw_9 : cX3_draw.data.toList.drop 211 = dktX3_draw_9 := dk_seg dksX3_draw_8 24 rfl rfl
theorem dX3_draw_0 : decode cX3_draw 0 = .ok (.iload_n 1, 1) := dk_27 (dk_at dksX3_draw_0 0 rfl rfl)
theorem dX3_draw_1 : decode cX3_draw 1 = .ok (.iconst 0, 1) := dk_3 (dk_at dksX3_draw_0 1 rfl rfl)
theorem dX3_draw_2 : decode cX3_draw 2 = .ok (.aload_n 0, 1) := dk_42 (dk_at dksX3_draw_0 2 rfl rfl)
theorem dX3_draw_3 : decode cX3_draw 3 = .ok (.getfield 82, 3) := dk_180 0 82 (dk_at dksX3_draw_0 3 rfl rfl)
theorem dX3_draw_6 : decode cX3_draw 6 = .ok (.iconst 1, 1) := dk_4 (dk_at dksX3_draw_0 6 rfl rfl)
theorem dX3_draw_7 : decode cX3_draw 7 = .ok (.isub, 1) := dk_100 (dk_at dksX3_draw_0 7 rfl rfl)
theorem dX3_draw_8 : decode cX3_draw 8 = .ok (.invokestatic 57, 3) := dk_184 0 57 (dk_at dksX3_draw_0 8 rfl rfl)
theorem dX3_draw_11 : decode cX3_draw 11 = .ok (.ifCond .eq 21, 3) := dk_153 0 21 (dk_at dksX3_draw_0 11 rfl rfl)
theorem dX3_draw_14 : decode cX3_draw 14 = .ok (.iload_n 2, 1) := dk_28 (dk_at dksX3_draw_0 14 rfl rfl)
theorem dX3_draw_15 : decode cX3_draw 15 = .ok (.iconst 0, 1) := dk_3 (dk_at dksX3_draw_0 15 rfl rfl)
theorem dX3_draw_16 : decode cX3_draw 16 = .ok (.aload_n 0, 1) := dk_42 (dk_at dksX3_draw_0 16 rfl rfl)
theorem dX3_draw_17 : decode cX3_draw 17 = .ok (.getfield 85, 3) := dk_180 0 85 (dk_at dksX3_draw_0 17 rfl rfl)
theorem dX3_draw_20 : decode cX3_draw 20 = .ok (.iconst 1, 1) := dk_4 (dk_at dksX3_draw_0 20 rfl rfl)
theorem dX3_draw_21 : decode cX3_draw 21 = .ok (.isub, 1) := dk_100 (dk_at dksX3_draw_0 21 rfl rfl)
theorem dX3_draw_22 : decode cX3_draw 22 = .ok (.invokestatic 57, 3) := dk_184 0 57 (dk_at dksX3_draw_1 0 rfl rfl)
theorem dX3_draw_25 : decode cX3_draw 25 = .ok (.ifCond .eq 7, 3) := dk_153 0 7 (dk_at dksX3_draw_1 3 rfl rfl)
theorem dX3_draw_28 : decode cX3_draw 28 = .ok (.iconst 1, 1) := dk_4 (dk_at dksX3_draw_1 6 rfl rfl)
theorem dX3_draw_29 : decode cX3_draw 29 = .ok (.goto 4, 3) := dk_167 0 4 (dk_at dksX3_draw_1 7 rfl rfl)
theorem dX3_draw_32 : decode cX3_draw 32 = .ok (.iconst 0, 1) := dk_3 (dk_at dksX3_draw_1 10 rfl rfl)
theorem dX3_draw_33 : decode cX3_draw 33 = .ok (.istore 5, 2) := dk_54 5 (dk_at dksX3_draw_1 11 rfl rfl)
theorem dX3_draw_35 : decode cX3_draw 35 = .ok (.aload_n 0, 1) := dk_42 (dk_at dksX3_draw_1 13 rfl rfl)
theorem dX3_draw_36 : decode cX3_draw 36 = .ok (.iload 5, 2) := dk_21 5 (dk_at dksX3_draw_1 14 rfl rfl)
theorem dX3_draw_38 : decode cX3_draw 38 = .ok (.ifCond .ne 7, 3) := dk_154 0 7 (dk_at dksX3_draw_1 16 rfl rfl)
theorem dX3_draw_41 : decode cX3_draw 41 = .ok (.iconst 1, 1) := dk_4 (dk_at dksX3_draw_1 19 rfl rfl)
theorem dX3_draw_42 : decode cX3_draw 42 = .ok (.goto 28, 3) := dk_167 0 28 (dk_at dksX3_draw_1 20 rfl rfl)
theorem dX3_draw_45 : decode cX3_draw 45 = .ok (.iload_n 3, 1) := dk_29 (dk_at dksX3_draw_1 23 rfl rfl)
theorem dX3_draw_46 : decode cX3_draw 46 = .ok (.invokestatic 61, 3) := dk_184 0 61 (dk_at dksX3_draw_2 0 rfl rfl)
theorem dX3_draw_49 : decode cX3_draw 49 = .ok (.ifCond .ne 7, 3) := dk_154 0 7 (dk_at dksX3_draw_2 3 rfl rfl)
theorem dX3_draw_52 : decode cX3_draw 52 = .ok (.iconst 2, 1) := dk_5 (dk_at dksX3_draw_2 6 rfl rfl)
theorem dX3_draw_53 : decode cX3_draw 53 = .ok (.goto 17, 3) := dk_167 0 17 (dk_at dksX3_draw_2 7 rfl rfl)
theorem dX3_draw_56 : decode cX3_draw 56 = .ok (.aload_n 0, 1) := dk_42 (dk_at dksX3_draw_2 10 rfl rfl)
theorem dX3_draw_57 : decode cX3_draw 57 = .ok (.getfield 88, 3) := dk_180 0 88 (dk_at dksX3_draw_2 11 rfl rfl)
theorem dX3_draw_60 : decode cX3_draw 60 = .ok (.bipush 40, 2) := dk_16 40 (dk_at dksX3_draw_2 14 rfl rfl)
theorem dX3_draw_62 : decode cX3_draw 62 = .ok (.if_icmp .ne 7, 3) := dk_160 0 7 (dk_at dksX3_draw_2 16 rfl rfl)
theorem dX3_draw_65 : decode cX3_draw 65 = .ok (.iconst 3, 1) := dk_6 (dk_at dksX3_draw_2 19 rfl rfl)
theorem dX3_draw_66 : decode cX3_draw 66 = .ok (.goto 4, 3) := dk_167 0 4 (dk_at dksX3_draw_2 20 rfl rfl)
theorem dX3_draw_69 : decode cX3_draw 69 = .ok (.iconst 0, 1) := dk_3 (dk_at dksX3_draw_2 23 rfl rfl)
theorem dX3_draw_70 : decode cX3_draw 70 = .ok (.putfield 53, 3) := dk_181 0 53 (dk_at dksX3_draw_3 0 rfl rfl)
theorem dX3_draw_73 : decode cX3_draw 73 = .ok (.aload_n 0, 1) := dk_42 (dk_at dksX3_draw_3 3 rfl rfl)
theorem dX3_draw_74 : decode cX3_draw 74 = .ok (.getfield 53, 3) := dk_180 0 53 (dk_at dksX3_draw_3 4 rfl rfl)
theorem dX3_draw_77 : decode cX3_draw 77 = .ok (.ifCond .le 5, 3) := dk_158 0 5 (dk_at dksX3_draw_3 7 rfl rfl)
theorem dX3_draw_80 : decode cX3_draw 80 = .ok (.iconst 0, 1) := dk_3 (dk_at dksX3_draw_3 10 rfl rfl)
theorem dX3_draw_81 : decode cX3_draw 81 = .ok (.ireturn, 1) := dk_172 (dk_at dksX3_draw_3 11 rfl rfl)
theorem dX3_draw_82 : decode cX3_draw 82 = .ok (.aload_n 0, 1) := dk_42 (dk_at dksX3_draw_3 12 rfl rfl)
theorem dX3_draw_83 : decode cX3_draw 83 = .ok (.getfield 19, 3) := dk_180 0 19 (dk_at dksX3_draw_3 13 rfl rfl)
theorem dX3_draw_86 : decode cX3_draw 86 = .ok (.iload_n 1, 1) := dk_27 (dk_at dksX3_draw_3 16 rfl rfl)
theorem dX3_draw_87 : decode cX3_draw 87 = .ok (.iaload, 1) := dk_46 (dk_at dksX3_draw_3 17 rfl rfl)
theorem dX3_draw_88 : decode cX3_draw 88 = .ok (.iconst 4, 1) := dk_7 (dk_at dksX3_draw_3 18 rfl rfl)
theorem dX3_draw_89 : decode cX3_draw 89 = .ok (.aload_n 0, 1) := dk_42 (dk_at dksX3_draw_3 19 rfl rfl)
theorem dX3_draw_90 : decode cX3_draw 90 = .ok (.getfield 22, 3) := dk_180 0 22 (dk_at dksX3_draw_3 20 rfl rfl)
theorem dX3_draw_93 : decode cX3_draw 93 = .ok (.iload_n 1, 1) := dk_27 (dk_at dksX3_draw_3 23 rfl rfl)
theorem dX3_draw_94 : decode cX3_draw 94 = .ok (.iaload, 1) := dk_46 (dk_at dksX3_draw_4 0 rfl rfl)
theorem dX3_draw_95 : decode cX3_draw 95 = .ok (.imul, 1) := dk_104 (dk_at dksX3_draw_4 1 rfl rfl)
theorem dX3_draw_96 : decode cX3_draw 96 = .ok (.iadd, 1) := dk_96 (dk_at dksX3_draw_4 2 rfl rfl)
theorem dX3_draw_97 : decode cX3_draw 97 = .ok (.bipush 16, 2) := dk_16 16 (dk_at dksX3_draw_4 3 rfl rfl)
theorem dX3_draw_99 : decode cX3_draw 99 = .ok (.aload_n 0, 1) := dk_42 (dk_at dksX3_draw_4 5 rfl rfl)
theorem dX3_draw_100 : decode cX3_draw 100 = .ok (.getfield 25, 3) := dk_180 0 25 (dk_at dksX3_draw_4 6 rfl rfl)
theorem dX3_draw_103 : decode cX3_draw 103 = .ok (.iload_n 2, 1) := dk_28 (dk_at dksX3_draw_4 9 rfl rfl)
theorem dX3_draw_104 : decode cX3_draw 104 = .ok (.iaload, 1) := dk_46 (dk_at dksX3_draw_4 10 rfl rfl)
theorem dX3_draw_105 : decode cX3_draw 105 = .ok (.imul, 1) := dk_104 (dk_at dksX3_draw_4 11 rfl rfl)
theorem dX3_draw_106 : decode cX3_draw 106 = .ok (.iadd, 1) := dk_96 (dk_at dksX3_draw_4 12 rfl rfl)
theorem dX3_draw_107 : decode cX3_draw 107 = .ok (.bipush 64, 2) := dk_16 64 (dk_at dksX3_draw_4 13 rfl rfl)
theorem dX3_draw_109 : decode cX3_draw 109 = .ok (.iload_n 3, 1) := dk_29 (dk_at dksX3_draw_4 15 rfl rfl)
theorem dX3_draw_110 : decode cX3_draw 110 = .ok (.imul, 1) := dk_104 (dk_at dksX3_draw_4 16 rfl rfl)
theorem dX3_draw_111 : decode cX3_draw 111 = .ok (.iadd, 1) := dk_96 (dk_at dksX3_draw_4 17 rfl rfl)
theorem dX3_draw_112 : decode cX3_draw 112 = .ok (.istore 6, 2) := dk_54 6 (dk_at dksX3_draw_4 18 rfl rfl)
theorem dX3_draw_114 : decode cX3_draw 114 = .ok (.aload_n 0, 1) := dk_42 (dk_at dksX3_draw_4 20 rfl rfl)
theorem dX3_draw_115 : decode cX3_draw 115 = .ok (.iload 6, 2) := dk_21 6 (dk_at dksX3_draw_4 21 rfl rfl)
theorem dX3_draw_117 : decode cX3_draw 117 = .ok (.invokevirtual 78, 3) := dk_182 0 78 (dk_at dksX3_draw_5 0 rfl rfl)
theorem dX3_draw_120 : decode cX3_draw 120 = .ok (.istore 7, 2) := dk_54 7 (dk_at dksX3_draw_5 3 rfl rfl)
theorem dX3_draw_122 : decode cX3_draw 122 = .ok (.iload 7, 2) := dk_21 7 (dk_at dksX3_draw_5 5 rfl rfl)
theorem dX3_draw_124 : decode cX3_draw 124 = .ok (.aload_n 0, 1) := dk_42 (dk_at dksX3_draw_5 7 rfl rfl)
theorem dX3_draw_125 : decode cX3_draw 125 = .ok (.getfield 13, 3) := dk_180 0 13 (dk_at dksX3_draw_5 8 rfl rfl)
theorem dX3_draw_128 : decode cX3_draw 128 = .ok (.iconst 1, 1) := dk_4 (dk_at dksX3_draw_5 11 rfl rfl)
theorem dX3_draw_129 : decode cX3_draw 129 = .ok (.iaload, 1) := dk_46 (dk_at dksX3_draw_5 12 rfl rfl)
theorem dX3_draw_130 : decode cX3_draw 130 = .ok (.if_icmp .lt 7, 3) := dk_161 0 7 (dk_at dksX3_draw_5 13 rfl rfl)
theorem dX3_draw_133 : decode cX3_draw 133 = .ok (.iconst 0, 1) := dk_3 (dk_at dksX3_draw_5 16 rfl rfl)
theorem dX3_draw_134 : decode cX3_draw 134 = .ok (.goto 19, 3) := dk_167 0 19 (dk_at dksX3_draw_5 17 rfl rfl)
theorem dX3_draw_137 : decode cX3_draw 137 = .ok (.iload 7, 2) := dk_21 7 (dk_at dksX3_draw_5 20 rfl rfl)
theorem dX3_draw_139 : decode cX3_draw 139 = .ok (.aload_n 0, 1) := dk_42 (dk_at dksX3_draw_5 22 rfl rfl)
theorem dX3_draw_140 : decode cX3_draw 140 = .ok (.getfield 13, 3) := dk_180 0 13 (dk_at dksX3_draw_6 0 rfl rfl)
theorem dX3_draw_143 : decode cX3_draw 143 = .ok (.iconst 2, 1) := dk_5 (dk_at dksX3_draw_6 3 rfl rfl)
theorem dX3_draw_144 : decode cX3_draw 144 = .ok (.iaload, 1) := dk_46 (dk_at dksX3_draw_6 4 rfl rfl)
theorem dX3_draw_145 : decode cX3_draw 145 = .ok (.if_icmp .ge 7, 3) := dk_162 0 7 (dk_at dksX3_draw_6 5 rfl rfl)
theorem dX3_draw_148 : decode cX3_draw 148 = .ok (.iconst 1, 1) := dk_4 (dk_at dksX3_draw_6 8 rfl rfl)
theorem dX3_draw_149 : decode cX3_draw 149 = .ok (.goto 4, 3) := dk_167 0 4 (dk_at dksX3_draw_6 9 rfl rfl)
theorem dX3_draw_152 : decode cX3_draw 152 = .ok (.iconst 2, 1) := dk_5 (dk_at dksX3_draw_6 12 rfl rfl)
theorem dX3_draw_153 : decode cX3_draw 153 = .ok (.istore 8, 2) := dk_54 8 (dk_at dksX3_draw_6 13 rfl rfl)
theorem dX3_draw_155 : decode cX3_draw 155 = .ok (.iload 4, 2) := dk_21 4 (dk_at dksX3_draw_6 15 rfl rfl)
theorem dX3_draw_157 : decode cX3_draw 157 = .ok (.ifCond .eq 26, 3) := dk_153 0 26 (dk_at dksX3_draw_6 17 rfl rfl)
theorem dX3_draw_160 : decode cX3_draw 160 = .ok (.iload 8, 2) := dk_21 8 (dk_at dksX3_draw_6 20 rfl rfl)
theorem dX3_draw_162 : decode cX3_draw 162 = .ok (.iconst 2, 1) := dk_5 (dk_at dksX3_draw_6 22 rfl rfl)
theorem dX3_draw_163 : decode cX3_draw 163 = .ok (.if_icmp .ne 20, 3) := dk_160 0 20 (dk_at dksX3_draw_7 0 rfl rfl)
theorem dX3_draw_166 : decode cX3_draw 166 = .ok (.iload 7, 2) := dk_21 7 (dk_at dksX3_draw_7 3 rfl rfl)
theorem dX3_draw_168 : decode cX3_draw 168 = .ok (.aload_n 0, 1) := dk_42 (dk_at dksX3_draw_7 5 rfl rfl)
theorem dX3_draw_169 : decode cX3_draw 169 = .ok (.getfield 13, 3) := dk_180 0 13 (dk_at dksX3_draw_7 6 rfl rfl)
theorem dX3_draw_172 : decode cX3_draw 172 = .ok (.iconst 1, 1) := dk_4 (dk_at dksX3_draw_7 9 rfl rfl)
theorem dX3_draw_173 : decode cX3_draw 173 = .ok (.iaload, 1) := dk_46 (dk_at dksX3_draw_7 10 rfl rfl)
theorem dX3_draw_174 : decode cX3_draw 174 = .ok (.iconst 2, 1) := dk_5 (dk_at dksX3_draw_7 11 rfl rfl)
theorem dX3_draw_175 : decode cX3_draw 175 = .ok (.isub, 1) := dk_100 (dk_at dksX3_draw_7 12 rfl rfl)
theorem dX3_draw_176 : decode cX3_draw 176 = .ok (.if_icmp .lt 7, 3) := dk_161 0 7 (dk_at dksX3_draw_7 13 rfl rfl)
theorem dX3_draw_179 : decode cX3_draw 179 = .ok (.iconst 1, 1) := dk_4 (dk_at dksX3_draw_7 16 rfl rfl)
theorem dX3_draw_180 : decode cX3_draw 180 = .ok (.goto 4, 3) := dk_167 0 4 (dk_at dksX3_draw_7 17 rfl rfl)
theorem dX3_draw_183 : decode cX3_draw 183 = .ok (.iconst 0, 1) := dk_3 (dk_at dksX3_draw_7 20 rfl rfl)
theorem dX3_draw_184 : decode cX3_draw 184 = .ok (.istore 9, 2) := dk_54 9 (dk_at dksX3_draw_7 21 rfl rfl)
theorem dX3_draw_186 : decode cX3_draw 186 = .ok (.aload_n 0, 1) := dk_42 (dk_at dksX3_draw_7 23 rfl rfl)
theorem dX3_draw_187 : decode cX3_draw 187 = .ok (.iload 6, 2) := dk_21 6 (dk_at dksX3_draw_8 0 rfl rfl)
theorem dX3_draw_189 : decode cX3_draw 189 = .ok (.iload 9, 2) := dk_21 9 (dk_at dksX3_draw_8 2 rfl rfl)
theorem dX3_draw_191 : decode cX3_draw 191 = .ok (.ifCond .eq 7, 3) := dk_153 0 7 (dk_at dksX3_draw_8 4 rfl rfl)
theorem dX3_draw_194 : decode cX3_draw 194 = .ok (.iconst 2, 1) := dk_5 (dk_at dksX3_draw_8 7 rfl rfl)
theorem dX3_draw_195 : decode cX3_draw 195 = .ok (.goto 13, 3) := dk_167 0 13 (dk_at dksX3_draw_8 8 rfl rfl)
theorem dX3_draw_198 : decode cX3_draw 198 = .ok (.iload 4, 2) := dk_21 4 (dk_at dksX3_draw_8 11 rfl rfl)
theorem dX3_draw_200 : decode cX3_draw 200 = .ok (.ifCond .eq 7, 3) := dk_153 0 7 (dk_at dksX3_draw_8 13 rfl rfl)
theorem dX3_draw_203 : decode cX3_draw 203 = .ok (.iconst 1, 1) := dk_4 (dk_at dksX3_draw_8 16 rfl rfl)
theorem dX3_draw_204 : decode cX3_draw 204 = .ok (.goto 4, 3) := dk_167 0 4 (dk_at dksX3_draw_8 17 rfl rfl)
theorem dX3_draw_207 : decode cX3_draw 207 = .ok (.iconst 0, 1) := dk_3 (dk_at dksX3_draw_8 20 rfl rfl)
theorem dX3_draw_208 : decode cX3_draw 208 = .ok (.iload 8, 2) := dk_21 8 (dk_at dksX3_draw_8 21 rfl rfl)
theorem dX3_draw_210 : decode cX3_draw 210 = .ok (.iconst 0, 1) := dk_3 (dk_at dksX3_draw_8 23 rfl rfl)
theorem dX3_draw_211 : decode cX3_draw 211 = .ok (.iconst (-1), 1) := dk_2 (dk_at dksX3_draw_9 0 rfl rfl)
theorem dX3_draw_212 : decode cX3_draw 212 = .ok (.invokevirtual 91, 3) := dk_182 0 91 (dk_at dksX3_draw_9 1 rfl rfl)
theorem dX3_draw_215 : decode cX3_draw 215 = .ok (.ireturn, 1) := dk_172 (dk_at dksX3_draw_9 4 rfl rfl)
abbrev cX3_adds : ByteArray := prog_6_method_18_code
def yX3_adds : MethodName := ⟨RX3, "adds", "(IIIII)I"⟩
def dkwX3_adds_6 : List UInt8 := [42, 180, 0, 88, 4, 100, 172]
abbrev dktX3_adds_6 : List UInt8 := dkwX3_adds_6 ++ []
def dkwX3_adds_5 : List UInt8 := [92, 46, 21, 6, 153, 0, 7, 3, 167, 0, 4, 4, 96, 79, 42, 89, 180, 0, 88, 4, 96, 181, 0, 88]
abbrev dktX3_adds_5 : List UInt8 := dkwX3_adds_5 ++ dktX3_adds_6
def dkwX3_adds_4 : List UInt8 := [167, 0, 4, 3, 79, 42, 180, 0, 43, 17, 0, 152, 92, 46, 4, 96, 79, 42, 180, 0, 43, 17, 0, 153]
abbrev dktX3_adds_4 : List UInt8 := dkwX3_adds_4 ++ dktX3_adds_5
def dkwX3_adds_3 : List UInt8 := [167, 0, 4, 3, 79, 42, 180, 0, 43, 16, 80, 42, 180, 0, 88, 96, 21, 6, 153, 0, 8, 21, 4]
abbrev dktX3_adds_3 : List UInt8 := dkwX3_adds_3 ++ dktX3_adds_4
def dkwX3_adds_2 : List UInt8 := [42, 180, 0, 88, 96, 29, 79, 42, 180, 0, 43, 16, 40, 42, 180, 0, 88, 96, 21, 6, 153, 0, 7, 4]
abbrev dktX3_adds_2 : List UInt8 := dkwX3_adds_2 ++ dktX3_adds_3
def dkwX3_adds_1 : List UInt8 := [42, 180, 0, 88, 21, 5, 79, 29, 4, 164, 0, 7, 4, 167, 0, 4, 3, 54, 6, 42, 180, 0, 43, 3]
abbrev dktX3_adds_1 : List UInt8 := dkwX3_adds_1 ++ dktX3_adds_2
def dkwX3_adds_0 : List UInt8 := [42, 180, 0, 28, 42, 180, 0, 88, 27, 79, 42, 180, 0, 31, 42, 180, 0, 88, 28, 79, 42, 180, 0, 34]
abbrev dktX3_adds_0 : List UInt8 := dkwX3_adds_0 ++ dktX3_adds_1
theorem dksX3_adds_0 : cX3_adds.data.toList.drop 0 = dktX3_adds_0 := by decide +kernel
theorem dksX3_adds_1 : cX3_adds.data.toList.drop 24 = dktX3_adds_1 := dk_seg dksX3_adds_0 24 rfl rfl
theorem dksX3_adds_2 : cX3_adds.data.toList.drop 48 = dktX3_adds_2 := dk_seg dksX3_adds_1 24 rfl rfl
theorem dksX3_adds_3 : cX3_adds.data.toList.drop 72 = dktX3_adds_3 := dk_seg dksX3_adds_2 24 rfl rfl
theorem dksX3_adds_4 : cX3_adds.data.toList.drop 95 = dktX3_adds_4 := dk_seg dksX3_adds_3 23 rfl rfl
theorem dksX3_adds_5 : cX3_adds.data.toList.drop 119 = dktX3_adds_5 := dk_seg dksX3_adds_4 24 rfl rfl
theorem dksX3_adds_6 : cX3_adds.data.toList.drop 143 = dktX3_adds_6 := dk_seg dksX3_adds_5 24 rfl rfl
theorem dX3_adds_0 : decode cX3_adds 0 = .ok (.aload_n 0, 1) := dk_42 (dk_at dksX3_adds_0 0 rfl rfl)
theorem dX3_adds_1 : decode cX3_adds 1 = .ok (.getfield 28, 3) := dk_180 0 28 (dk_at dksX3_adds_0 1 rfl rfl)
theorem dX3_adds_4 : decode cX3_adds 4 = .ok (.aload_n 0, 1) := dk_42 (dk_at dksX3_adds_0 4 rfl rfl)
theorem dX3_adds_5 : decode cX3_adds 5 = .ok (.getfield 88, 3) := dk_180 0 88 (dk_at dksX3_adds_0 5 rfl rfl)
theorem dX3_adds_8 : decode cX3_adds 8 = .ok (.iload_n 1, 1) := dk_27 (dk_at dksX3_adds_0 8 rfl rfl)
theorem dX3_adds_9 : decode cX3_adds 9 = .ok (.iastore, 1) := dk_79 (dk_at dksX3_adds_0 9 rfl rfl)
theorem dX3_adds_10 : decode cX3_adds 10 = .ok (.aload_n 0, 1) := dk_42 (dk_at dksX3_adds_0 10 rfl rfl)
theorem dX3_adds_11 : decode cX3_adds 11 = .ok (.getfield 31, 3) := dk_180 0 31 (dk_at dksX3_adds_0 11 rfl rfl)
theorem dX3_adds_14 : decode cX3_adds 14 = .ok (.aload_n 0, 1) := dk_42 (dk_at dksX3_adds_0 14 rfl rfl)
theorem dX3_adds_15 : decode cX3_adds 15 = .ok (.getfield 88, 3) := dk_180 0 88 (dk_at dksX3_adds_0 15 rfl rfl)
theorem dX3_adds_18 : decode cX3_adds 18 = .ok (.iload_n 2, 1) := dk_28 (dk_at dksX3_adds_0 18 rfl rfl)
theorem dX3_adds_19 : decode cX3_adds 19 = .ok (.iastore, 1) := dk_79 (dk_at dksX3_adds_0 19 rfl rfl)
theorem dX3_adds_20 : decode cX3_adds 20 = .ok (.aload_n 0, 1) := dk_42 (dk_at dksX3_adds_0 20 rfl rfl)
theorem dX3_adds_21 : decode cX3_adds 21 = .ok (.getfield 34, 3) := dk_180 0 34 (dk_at dksX3_adds_0 21 rfl rfl)
theorem dX3_adds_24 : decode cX3_adds 24 = .ok (.aload_n 0, 1) := dk_42 (dk_at dksX3_adds_1 0 rfl rfl)
theorem dX3_adds_25 : decode cX3_adds 25 = .ok (.getfield 88, 3) := dk_180 0 88 (dk_at dksX3_adds_1 1 rfl rfl)
theorem dX3_adds_28 : decode cX3_adds 28 = .ok (.iload 5, 2) := dk_21 5 (dk_at dksX3_adds_1 4 rfl rfl)
theorem dX3_adds_30 : decode cX3_adds 30 = .ok (.iastore, 1) := dk_79 (dk_at dksX3_adds_1 6 rfl rfl)
theorem dX3_adds_31 : decode cX3_adds 31 = .ok (.iload_n 3, 1) := dk_29 (dk_at dksX3_adds_1 7 rfl rfl)
theorem dX3_adds_32 : decode cX3_adds 32 = .ok (.iconst 1, 1) := dk_4 (dk_at dksX3_adds_1 8 rfl rfl)
theorem dX3_adds_33 : decode cX3_adds 33 = .ok (.if_icmp .le 7, 3) := dk_164 0 7 (dk_at dksX3_adds_1 9 rfl rfl)
theorem dX3_adds_36 : decode cX3_adds 36 = .ok (.iconst 1, 1) := dk_4 (dk_at dksX3_adds_1 12 rfl rfl)
theorem dX3_adds_37 : decode cX3_adds 37 = .ok (.goto 4, 3) := dk_167 0 4 (dk_at dksX3_adds_1 13 rfl rfl)
theorem dX3_adds_40 : decode cX3_adds 40 = .ok (.iconst 0, 1) := dk_3 (dk_at dksX3_adds_1 16 rfl rfl)
theorem dX3_adds_41 : decode cX3_adds 41 = .ok (.istore 6, 2) := dk_54 6 (dk_at dksX3_adds_1 17 rfl rfl)
theorem dX3_adds_43 : decode cX3_adds 43 = .ok (.aload_n 0, 1) := dk_42 (dk_at dksX3_adds_1 19 rfl rfl)
theorem dX3_adds_44 : decode cX3_adds 44 = .ok (.getfield 43, 3) := dk_180 0 43 (dk_at dksX3_adds_1 20 rfl rfl)
theorem dX3_adds_47 : decode cX3_adds 47 = .ok (.iconst 0, 1) := dk_3 (dk_at dksX3_adds_1 23 rfl rfl)
theorem dX3_adds_48 : decode cX3_adds 48 = .ok (.aload_n 0, 1) := dk_42 (dk_at dksX3_adds_2 0 rfl rfl)
theorem dX3_adds_49 : decode cX3_adds 49 = .ok (.getfield 88, 3) := dk_180 0 88 (dk_at dksX3_adds_2 1 rfl rfl)
theorem dX3_adds_52 : decode cX3_adds 52 = .ok (.iadd, 1) := dk_96 (dk_at dksX3_adds_2 4 rfl rfl)
theorem dX3_adds_53 : decode cX3_adds 53 = .ok (.iload_n 3, 1) := dk_29 (dk_at dksX3_adds_2 5 rfl rfl)
theorem dX3_adds_54 : decode cX3_adds 54 = .ok (.iastore, 1) := dk_79 (dk_at dksX3_adds_2 6 rfl rfl)
theorem dX3_adds_55 : decode cX3_adds 55 = .ok (.aload_n 0, 1) := dk_42 (dk_at dksX3_adds_2 7 rfl rfl)
theorem dX3_adds_56 : decode cX3_adds 56 = .ok (.getfield 43, 3) := dk_180 0 43 (dk_at dksX3_adds_2 8 rfl rfl)
theorem dX3_adds_59 : decode cX3_adds 59 = .ok (.bipush 40, 2) := dk_16 40 (dk_at dksX3_adds_2 11 rfl rfl)
theorem dX3_adds_61 : decode cX3_adds 61 = .ok (.aload_n 0, 1) := dk_42 (dk_at dksX3_adds_2 13 rfl rfl)
theorem dX3_adds_62 : decode cX3_adds 62 = .ok (.getfield 88, 3) := dk_180 0 88 (dk_at dksX3_adds_2 14 rfl rfl)
theorem dX3_adds_65 : decode cX3_adds 65 = .ok (.iadd, 1) := dk_96 (dk_at dksX3_adds_2 17 rfl rfl)
theorem dX3_adds_66 : decode cX3_adds 66 = .ok (.iload 6, 2) := dk_21 6 (dk_at dksX3_adds_2 18 rfl rfl)
theorem dX3_adds_68 : decode cX3_adds 68 = .ok (.ifCond .eq 7, 3) := dk_153 0 7 (dk_at dksX3_adds_2 20 rfl rfl)
theorem dX3_adds_71 : decode cX3_adds 71 = .ok (.iconst 1, 1) := dk_4 (dk_at dksX3_adds_2 23 rfl rfl)
theorem dX3_adds_72 : decode cX3_adds 72 = .ok (.goto 4, 3) := dk_167 0 4 (dk_at dksX3_adds_3 0 rfl rfl)
theorem dX3_adds_75 : decode cX3_adds 75 = .ok (.iconst 0, 1) := dk_3 (dk_at dksX3_adds_3 3 rfl rfl)
theorem dX3_adds_76 : decode cX3_adds 76 = .ok (.iastore, 1) := dk_79 (dk_at dksX3_adds_3 4 rfl rfl)
theorem dX3_adds_77 : decode cX3_adds 77 = .ok (.aload_n 0, 1) := dk_42 (dk_at dksX3_adds_3 5 rfl rfl)
theorem dX3_adds_78 : decode cX3_adds 78 = .ok (.getfield 43, 3) := dk_180 0 43 (dk_at dksX3_adds_3 6 rfl rfl)
theorem dX3_adds_81 : decode cX3_adds 81 = .ok (.bipush 80, 2) := dk_16 80 (dk_at dksX3_adds_3 9 rfl rfl)
theorem dX3_adds_83 : decode cX3_adds 83 = .ok (.aload_n 0, 1) := dk_42 (dk_at dksX3_adds_3 11 rfl rfl)
theorem dX3_adds_84 : decode cX3_adds 84 = .ok (.getfield 88, 3) := dk_180 0 88 (dk_at dksX3_adds_3 12 rfl rfl)
theorem dX3_adds_87 : decode cX3_adds 87 = .ok (.iadd, 1) := dk_96 (dk_at dksX3_adds_3 15 rfl rfl)
theorem dX3_adds_88 : decode cX3_adds 88 = .ok (.iload 6, 2) := dk_21 6 (dk_at dksX3_adds_3 16 rfl rfl)
theorem dX3_adds_90 : decode cX3_adds 90 = .ok (.ifCond .eq 8, 3) := dk_153 0 8 (dk_at dksX3_adds_3 18 rfl rfl)
theorem dX3_adds_93 : decode cX3_adds 93 = .ok (.iload 4, 2) := dk_21 4 (dk_at dksX3_adds_3 21 rfl rfl)
theorem dX3_adds_95 : decode cX3_adds 95 = .ok (.goto 4, 3) := dk_167 0 4 (dk_at dksX3_adds_4 0 rfl rfl)
theorem dX3_adds_98 : decode cX3_adds 98 = .ok (.iconst 0, 1) := dk_3 (dk_at dksX3_adds_4 3 rfl rfl)
theorem dX3_adds_99 : decode cX3_adds 99 = .ok (.iastore, 1) := dk_79 (dk_at dksX3_adds_4 4 rfl rfl)
theorem dX3_adds_100 : decode cX3_adds 100 = .ok (.aload_n 0, 1) := dk_42 (dk_at dksX3_adds_4 5 rfl rfl)
theorem dX3_adds_101 : decode cX3_adds 101 = .ok (.getfield 43, 3) := dk_180 0 43 (dk_at dksX3_adds_4 6 rfl rfl)
theorem dX3_adds_104 : decode cX3_adds 104 = .ok (.sipush 152, 3) := dk_17 0 152 (dk_at dksX3_adds_4 9 rfl rfl)
theorem dX3_adds_107 : decode cX3_adds 107 = .ok (.dup2, 1) := dk_92 (dk_at dksX3_adds_4 12 rfl rfl)
theorem dX3_adds_108 : decode cX3_adds 108 = .ok (.iaload, 1) := dk_46 (dk_at dksX3_adds_4 13 rfl rfl)
theorem dX3_adds_109 : decode cX3_adds 109 = .ok (.iconst 1, 1) := dk_4 (dk_at dksX3_adds_4 14 rfl rfl)
theorem dX3_adds_110 : decode cX3_adds 110 = .ok (.iadd, 1) := dk_96 (dk_at dksX3_adds_4 15 rfl rfl)
theorem dX3_adds_111 : decode cX3_adds 111 = .ok (.iastore, 1) := dk_79 (dk_at dksX3_adds_4 16 rfl rfl)
theorem dX3_adds_112 : decode cX3_adds 112 = .ok (.aload_n 0, 1) := dk_42 (dk_at dksX3_adds_4 17 rfl rfl)
theorem dX3_adds_113 : decode cX3_adds 113 = .ok (.getfield 43, 3) := dk_180 0 43 (dk_at dksX3_adds_4 18 rfl rfl)
theorem dX3_adds_116 : decode cX3_adds 116 = .ok (.sipush 153, 3) := dk_17 0 153 (dk_at dksX3_adds_4 21 rfl rfl)
theorem dX3_adds_119 : decode cX3_adds 119 = .ok (.dup2, 1) := dk_92 (dk_at dksX3_adds_5 0 rfl rfl)
theorem dX3_adds_120 : decode cX3_adds 120 = .ok (.iaload, 1) := dk_46 (dk_at dksX3_adds_5 1 rfl rfl)
theorem dX3_adds_121 : decode cX3_adds 121 = .ok (.iload 6, 2) := dk_21 6 (dk_at dksX3_adds_5 2 rfl rfl)
theorem dX3_adds_123 : decode cX3_adds 123 = .ok (.ifCond .eq 7, 3) := dk_153 0 7 (dk_at dksX3_adds_5 4 rfl rfl)
theorem dX3_adds_126 : decode cX3_adds 126 = .ok (.iconst 0, 1) := dk_3 (dk_at dksX3_adds_5 7 rfl rfl)
theorem dX3_adds_127 : decode cX3_adds 127 = .ok (.goto 4, 3) := dk_167 0 4 (dk_at dksX3_adds_5 8 rfl rfl)
theorem dX3_adds_130 : decode cX3_adds 130 = .ok (.iconst 1, 1) := dk_4 (dk_at dksX3_adds_5 11 rfl rfl)
theorem dX3_adds_131 : decode cX3_adds 131 = .ok (.iadd, 1) := dk_96 (dk_at dksX3_adds_5 12 rfl rfl)
theorem dX3_adds_132 : decode cX3_adds 132 = .ok (.iastore, 1) := dk_79 (dk_at dksX3_adds_5 13 rfl rfl)
theorem dX3_adds_133 : decode cX3_adds 133 = .ok (.aload_n 0, 1) := dk_42 (dk_at dksX3_adds_5 14 rfl rfl)
theorem dX3_adds_134 : decode cX3_adds 134 = .ok (.dup, 1) := dk_89 (dk_at dksX3_adds_5 15 rfl rfl)
theorem dX3_adds_135 : decode cX3_adds 135 = .ok (.getfield 88, 3) := dk_180 0 88 (dk_at dksX3_adds_5 16 rfl rfl)
theorem dX3_adds_138 : decode cX3_adds 138 = .ok (.iconst 1, 1) := dk_4 (dk_at dksX3_adds_5 19 rfl rfl)
theorem dX3_adds_139 : decode cX3_adds 139 = .ok (.iadd, 1) := dk_96 (dk_at dksX3_adds_5 20 rfl rfl)
theorem dX3_adds_140 : decode cX3_adds 140 = .ok (.putfield 88, 3) := dk_181 0 88 (dk_at dksX3_adds_5 21 rfl rfl)
theorem dX3_adds_143 : decode cX3_adds 143 = .ok (.aload_n 0, 1) := dk_42 (dk_at dksX3_adds_6 0 rfl rfl)
theorem dX3_adds_144 : decode cX3_adds 144 = .ok (.getfield 88, 3) := dk_180 0 88 (dk_at dksX3_adds_6 1 rfl rfl)
theorem dX3_adds_147 : decode cX3_adds 147 = .ok (.iconst 1, 1) := dk_4 (dk_at dksX3_adds_6 4 rfl rfl)
theorem dX3_adds_148 : decode cX3_adds 148 = .ok (.isub, 1) := dk_100 (dk_at dksX3_adds_6 5 rfl rfl)
theorem dX3_adds_149 : decode cX3_adds 149 = .ok (.ireturn, 1) := dk_172 (dk_at dksX3_adds_6 6 rfl rfl)
abbrev cX3_slip : ByteArray := prog_6_method_20_code
def yX3_slip : MethodName := ⟨RX3, "slip", "(III)I"⟩
def dkwX3_slip_7 : List UInt8 := [180, 0, 43, 16, 80, 27, 96, 46, 27, 182, 0, 91, 172]
abbrev dktX3_slip_7 : List UInt8 := dkwX3_slip_7 ++ []
def dkwX3_slip_6 : List UInt8 := [46, 42, 21, 6, 182, 0, 78, 42, 180, 0, 13, 4, 46, 161, 0, 7, 3, 167, 0, 4, 6, 42]
abbrev dktX3_slip_6 : List UInt8 := dkwX3_slip_6 ++ dktX3_slip_7
def dkwX3_slip_5 : List UInt8 := [180, 0, 28, 27, 46, 28, 184, 0, 65, 100, 21, 5, 104, 96, 54, 6, 42, 21, 6, 42, 180, 0, 31, 27]
abbrev dktX3_slip_5 : List UInt8 := dkwX3_slip_5 ++ dktX3_slip_6
def dkwX3_slip_4 : List UInt8 := [180, 0, 53, 158, 0, 5, 3, 172, 4, 5, 28, 104, 120, 54, 5, 42, 180, 0, 28, 27, 46, 29, 42]
abbrev dktX3_slip_4 : List UInt8 := dkwX3_slip_4 ++ dktX3_slip_5
def dkwX3_slip_3 : List UInt8 := [46, 6, 160, 0, 12, 42, 180, 0, 88, 16, 40, 160, 0, 7, 6, 167, 0, 4, 3, 181, 0, 53, 42]
abbrev dktX3_slip_3 : List UInt8 := dkwX3_slip_3 ++ dktX3_slip_4
def dkwX3_slip_2 : List UInt8 := [180, 0, 28, 27, 46, 28, 184, 0, 65, 29, 160, 0, 7, 5, 167, 0, 29, 42, 180, 0, 43, 3, 27, 96]
abbrev dktX3_slip_2 : List UInt8 := dkwX3_slip_2 ++ dktX3_slip_3
def dkwX3_slip_1 : List UInt8 := [167, 0, 4, 3, 54, 4, 42, 21, 4, 154, 0, 7, 4, 167, 0, 54, 29, 184, 0, 61, 153, 0, 17, 42]
abbrev dktX3_slip_1 : List UInt8 := dkwX3_slip_1 ++ dktX3_slip_2
def dkwX3_slip_0 : List UInt8 := [27, 3, 42, 180, 0, 88, 4, 100, 184, 0, 57, 153, 0, 16, 28, 3, 6, 184, 0, 57, 153, 0, 7, 4]
abbrev dktX3_slip_0 : List UInt8 := dkwX3_slip_0 ++ dktX3_slip_1
theorem dksX3_slip_0 : cX3_slip.data.toList.drop 0 = dktX3_slip_0 := by decide +kernel
theorem dksX3_slip_1 : cX3_slip.data.toList.drop 24 = dktX3_slip_1 := dk_seg dksX3_slip_0 24 rfl rfl
theorem dksX3_slip_2 : cX3_slip.data.toList.drop 48 = dktX3_slip_2 := dk_seg dksX3_slip_1 24 rfl rfl
theorem dksX3_slip_3 : cX3_slip.data.toList.drop 72 = dktX3_slip_3 := dk_seg dksX3_slip_2 24 rfl rfl
theorem dksX3_slip_4 : cX3_slip.data.toList.drop 95 = dktX3_slip_4 := dk_seg dksX3_slip_3 23 rfl rfl
theorem dksX3_slip_5 : cX3_slip.data.toList.drop 118 = dktX3_slip_5 := dk_seg dksX3_slip_4 23 rfl rfl
theorem dksX3_slip_6 : cX3_slip.data.toList.drop 142 = dktX3_slip_6 := dk_seg dksX3_slip_5 24 rfl rfl
theorem dksX3_slip_7 : cX3_slip.data.toList.drop 164 = dktX3_slip_7 := dk_seg dksX3_slip_6 22 rfl rfl
theorem dX3_slip_0 : decode cX3_slip 0 = .ok (.iload_n 1, 1) := dk_27 (dk_at dksX3_slip_0 0 rfl rfl)
theorem dX3_slip_1 : decode cX3_slip 1 = .ok (.iconst 0, 1) := dk_3 (dk_at dksX3_slip_0 1 rfl rfl)
theorem dX3_slip_2 : decode cX3_slip 2 = .ok (.aload_n 0, 1) := dk_42 (dk_at dksX3_slip_0 2 rfl rfl)
theorem dX3_slip_3 : decode cX3_slip 3 = .ok (.getfield 88, 3) := dk_180 0 88 (dk_at dksX3_slip_0 3 rfl rfl)
theorem dX3_slip_6 : decode cX3_slip 6 = .ok (.iconst 1, 1) := dk_4 (dk_at dksX3_slip_0 6 rfl rfl)
theorem dX3_slip_7 : decode cX3_slip 7 = .ok (.isub, 1) := dk_100 (dk_at dksX3_slip_0 7 rfl rfl)
theorem dX3_slip_8 : decode cX3_slip 8 = .ok (.invokestatic 57, 3) := dk_184 0 57 (dk_at dksX3_slip_0 8 rfl rfl)
theorem dX3_slip_11 : decode cX3_slip 11 = .ok (.ifCond .eq 16, 3) := dk_153 0 16 (dk_at dksX3_slip_0 11 rfl rfl)
theorem dX3_slip_14 : decode cX3_slip 14 = .ok (.iload_n 2, 1) := dk_28 (dk_at dksX3_slip_0 14 rfl rfl)
theorem dX3_slip_15 : decode cX3_slip 15 = .ok (.iconst 0, 1) := dk_3 (dk_at dksX3_slip_0 15 rfl rfl)
theorem dX3_slip_16 : decode cX3_slip 16 = .ok (.iconst 3, 1) := dk_6 (dk_at dksX3_slip_0 16 rfl rfl)
theorem dX3_slip_17 : decode cX3_slip 17 = .ok (.invokestatic 57, 3) := dk_184 0 57 (dk_at dksX3_slip_0 17 rfl rfl)
theorem dX3_slip_20 : decode cX3_slip 20 = .ok (.ifCond .eq 7, 3) := dk_153 0 7 (dk_at dksX3_slip_0 20 rfl rfl)
theorem dX3_slip_23 : decode cX3_slip 23 = .ok (.iconst 1, 1) := dk_4 (dk_at dksX3_slip_0 23 rfl rfl)
theorem dX3_slip_24 : decode cX3_slip 24 = .ok (.goto 4, 3) := dk_167 0 4 (dk_at dksX3_slip_1 0 rfl rfl)
theorem dX3_slip_27 : decode cX3_slip 27 = .ok (.iconst 0, 1) := dk_3 (dk_at dksX3_slip_1 3 rfl rfl)
theorem dX3_slip_28 : decode cX3_slip 28 = .ok (.istore 4, 2) := dk_54 4 (dk_at dksX3_slip_1 4 rfl rfl)
theorem dX3_slip_30 : decode cX3_slip 30 = .ok (.aload_n 0, 1) := dk_42 (dk_at dksX3_slip_1 6 rfl rfl)
theorem dX3_slip_31 : decode cX3_slip 31 = .ok (.iload 4, 2) := dk_21 4 (dk_at dksX3_slip_1 7 rfl rfl)
theorem dX3_slip_33 : decode cX3_slip 33 = .ok (.ifCond .ne 7, 3) := dk_154 0 7 (dk_at dksX3_slip_1 9 rfl rfl)
theorem dX3_slip_36 : decode cX3_slip 36 = .ok (.iconst 1, 1) := dk_4 (dk_at dksX3_slip_1 12 rfl rfl)
theorem dX3_slip_37 : decode cX3_slip 37 = .ok (.goto 54, 3) := dk_167 0 54 (dk_at dksX3_slip_1 13 rfl rfl)
theorem dX3_slip_40 : decode cX3_slip 40 = .ok (.iload_n 3, 1) := dk_29 (dk_at dksX3_slip_1 16 rfl rfl)
theorem dX3_slip_41 : decode cX3_slip 41 = .ok (.invokestatic 61, 3) := dk_184 0 61 (dk_at dksX3_slip_1 17 rfl rfl)
theorem dX3_slip_44 : decode cX3_slip 44 = .ok (.ifCond .eq 17, 3) := dk_153 0 17 (dk_at dksX3_slip_1 20 rfl rfl)
theorem dX3_slip_47 : decode cX3_slip 47 = .ok (.aload_n 0, 1) := dk_42 (dk_at dksX3_slip_1 23 rfl rfl)
theorem dX3_slip_48 : decode cX3_slip 48 = .ok (.getfield 28, 3) := dk_180 0 28 (dk_at dksX3_slip_2 0 rfl rfl)
theorem dX3_slip_51 : decode cX3_slip 51 = .ok (.iload_n 1, 1) := dk_27 (dk_at dksX3_slip_2 3 rfl rfl)
theorem dX3_slip_52 : decode cX3_slip 52 = .ok (.iaload, 1) := dk_46 (dk_at dksX3_slip_2 4 rfl rfl)
theorem dX3_slip_53 : decode cX3_slip 53 = .ok (.iload_n 2, 1) := dk_28 (dk_at dksX3_slip_2 5 rfl rfl)
theorem dX3_slip_54 : decode cX3_slip 54 = .ok (.invokestatic 65, 3) := dk_184 0 65 (dk_at dksX3_slip_2 6 rfl rfl)
theorem dX3_slip_57 : decode cX3_slip 57 = .ok (.iload_n 3, 1) := dk_29 (dk_at dksX3_slip_2 9 rfl rfl)
theorem dX3_slip_58 : decode cX3_slip 58 = .ok (.if_icmp .ne 7, 3) := dk_160 0 7 (dk_at dksX3_slip_2 10 rfl rfl)
theorem dX3_slip_61 : decode cX3_slip 61 = .ok (.iconst 2, 1) := dk_5 (dk_at dksX3_slip_2 13 rfl rfl)
theorem dX3_slip_62 : decode cX3_slip 62 = .ok (.goto 29, 3) := dk_167 0 29 (dk_at dksX3_slip_2 14 rfl rfl)
theorem dX3_slip_65 : decode cX3_slip 65 = .ok (.aload_n 0, 1) := dk_42 (dk_at dksX3_slip_2 17 rfl rfl)
theorem dX3_slip_66 : decode cX3_slip 66 = .ok (.getfield 43, 3) := dk_180 0 43 (dk_at dksX3_slip_2 18 rfl rfl)
theorem dX3_slip_69 : decode cX3_slip 69 = .ok (.iconst 0, 1) := dk_3 (dk_at dksX3_slip_2 21 rfl rfl)
theorem dX3_slip_70 : decode cX3_slip 70 = .ok (.iload_n 1, 1) := dk_27 (dk_at dksX3_slip_2 22 rfl rfl)
theorem dX3_slip_71 : decode cX3_slip 71 = .ok (.iadd, 1) := dk_96 (dk_at dksX3_slip_2 23 rfl rfl)
theorem dX3_slip_72 : decode cX3_slip 72 = .ok (.iaload, 1) := dk_46 (dk_at dksX3_slip_3 0 rfl rfl)
theorem dX3_slip_73 : decode cX3_slip 73 = .ok (.iconst 3, 1) := dk_6 (dk_at dksX3_slip_3 1 rfl rfl)
theorem dX3_slip_74 : decode cX3_slip 74 = .ok (.if_icmp .ne 12, 3) := dk_160 0 12 (dk_at dksX3_slip_3 2 rfl rfl)
theorem dX3_slip_77 : decode cX3_slip 77 = .ok (.aload_n 0, 1) := dk_42 (dk_at dksX3_slip_3 5 rfl rfl)
theorem dX3_slip_78 : decode cX3_slip 78 = .ok (.getfield 88, 3) := dk_180 0 88 (dk_at dksX3_slip_3 6 rfl rfl)
theorem dX3_slip_81 : decode cX3_slip 81 = .ok (.bipush 40, 2) := dk_16 40 (dk_at dksX3_slip_3 9 rfl rfl)
theorem dX3_slip_83 : decode cX3_slip 83 = .ok (.if_icmp .ne 7, 3) := dk_160 0 7 (dk_at dksX3_slip_3 11 rfl rfl)
theorem dX3_slip_86 : decode cX3_slip 86 = .ok (.iconst 3, 1) := dk_6 (dk_at dksX3_slip_3 14 rfl rfl)
theorem dX3_slip_87 : decode cX3_slip 87 = .ok (.goto 4, 3) := dk_167 0 4 (dk_at dksX3_slip_3 15 rfl rfl)
theorem dX3_slip_90 : decode cX3_slip 90 = .ok (.iconst 0, 1) := dk_3 (dk_at dksX3_slip_3 18 rfl rfl)
theorem dX3_slip_91 : decode cX3_slip 91 = .ok (.putfield 53, 3) := dk_181 0 53 (dk_at dksX3_slip_3 19 rfl rfl)
theorem dX3_slip_94 : decode cX3_slip 94 = .ok (.aload_n 0, 1) := dk_42 (dk_at dksX3_slip_3 22 rfl rfl)
theorem dX3_slip_95 : decode cX3_slip 95 = .ok (.getfield 53, 3) := dk_180 0 53 (dk_at dksX3_slip_4 0 rfl rfl)
theorem dX3_slip_98 : decode cX3_slip 98 = .ok (.ifCond .le 5, 3) := dk_158 0 5 (dk_at dksX3_slip_4 3 rfl rfl)
theorem dX3_slip_101 : decode cX3_slip 101 = .ok (.iconst 0, 1) := dk_3 (dk_at dksX3_slip_4 6 rfl rfl)
theorem dX3_slip_102 : decode cX3_slip 102 = .ok (.ireturn, 1) := dk_172 (dk_at dksX3_slip_4 7 rfl rfl)
theorem dX3_slip_103 : decode cX3_slip 103 = .ok (.iconst 1, 1) := dk_4 (dk_at dksX3_slip_4 8 rfl rfl)
theorem dX3_slip_104 : decode cX3_slip 104 = .ok (.iconst 2, 1) := dk_5 (dk_at dksX3_slip_4 9 rfl rfl)
theorem dX3_slip_105 : decode cX3_slip 105 = .ok (.iload_n 2, 1) := dk_28 (dk_at dksX3_slip_4 10 rfl rfl)
theorem dX3_slip_106 : decode cX3_slip 106 = .ok (.imul, 1) := dk_104 (dk_at dksX3_slip_4 11 rfl rfl)
theorem dX3_slip_107 : decode cX3_slip 107 = .ok (.ishl, 1) := dk_120 (dk_at dksX3_slip_4 12 rfl rfl)
theorem dX3_slip_108 : decode cX3_slip 108 = .ok (.istore 5, 2) := dk_54 5 (dk_at dksX3_slip_4 13 rfl rfl)
theorem dX3_slip_110 : decode cX3_slip 110 = .ok (.aload_n 0, 1) := dk_42 (dk_at dksX3_slip_4 15 rfl rfl)
theorem dX3_slip_111 : decode cX3_slip 111 = .ok (.getfield 28, 3) := dk_180 0 28 (dk_at dksX3_slip_4 16 rfl rfl)
theorem dX3_slip_114 : decode cX3_slip 114 = .ok (.iload_n 1, 1) := dk_27 (dk_at dksX3_slip_4 19 rfl rfl)
theorem dX3_slip_115 : decode cX3_slip 115 = .ok (.iaload, 1) := dk_46 (dk_at dksX3_slip_4 20 rfl rfl)
theorem dX3_slip_116 : decode cX3_slip 116 = .ok (.iload_n 3, 1) := dk_29 (dk_at dksX3_slip_4 21 rfl rfl)
theorem dX3_slip_117 : decode cX3_slip 117 = .ok (.aload_n 0, 1) := dk_42 (dk_at dksX3_slip_4 22 rfl rfl)
theorem dX3_slip_118 : decode cX3_slip 118 = .ok (.getfield 28, 3) := dk_180 0 28 (dk_at dksX3_slip_5 0 rfl rfl)
theorem dX3_slip_121 : decode cX3_slip 121 = .ok (.iload_n 1, 1) := dk_27 (dk_at dksX3_slip_5 3 rfl rfl)
theorem dX3_slip_122 : decode cX3_slip 122 = .ok (.iaload, 1) := dk_46 (dk_at dksX3_slip_5 4 rfl rfl)
theorem dX3_slip_123 : decode cX3_slip 123 = .ok (.iload_n 2, 1) := dk_28 (dk_at dksX3_slip_5 5 rfl rfl)
theorem dX3_slip_124 : decode cX3_slip 124 = .ok (.invokestatic 65, 3) := dk_184 0 65 (dk_at dksX3_slip_5 6 rfl rfl)
theorem dX3_slip_127 : decode cX3_slip 127 = .ok (.isub, 1) := dk_100 (dk_at dksX3_slip_5 9 rfl rfl)
theorem dX3_slip_128 : decode cX3_slip 128 = .ok (.iload 5, 2) := dk_21 5 (dk_at dksX3_slip_5 10 rfl rfl)
theorem dX3_slip_130 : decode cX3_slip 130 = .ok (.imul, 1) := dk_104 (dk_at dksX3_slip_5 12 rfl rfl)
theorem dX3_slip_131 : decode cX3_slip 131 = .ok (.iadd, 1) := dk_96 (dk_at dksX3_slip_5 13 rfl rfl)
theorem dX3_slip_132 : decode cX3_slip 132 = .ok (.istore 6, 2) := dk_54 6 (dk_at dksX3_slip_5 14 rfl rfl)
theorem dX3_slip_134 : decode cX3_slip 134 = .ok (.aload_n 0, 1) := dk_42 (dk_at dksX3_slip_5 16 rfl rfl)
theorem dX3_slip_135 : decode cX3_slip 135 = .ok (.iload 6, 2) := dk_21 6 (dk_at dksX3_slip_5 17 rfl rfl)
theorem dX3_slip_137 : decode cX3_slip 137 = .ok (.aload_n 0, 1) := dk_42 (dk_at dksX3_slip_5 19 rfl rfl)
theorem dX3_slip_138 : decode cX3_slip 138 = .ok (.getfield 31, 3) := dk_180 0 31 (dk_at dksX3_slip_5 20 rfl rfl)
theorem dX3_slip_141 : decode cX3_slip 141 = .ok (.iload_n 1, 1) := dk_27 (dk_at dksX3_slip_5 23 rfl rfl)
theorem dX3_slip_142 : decode cX3_slip 142 = .ok (.iaload, 1) := dk_46 (dk_at dksX3_slip_6 0 rfl rfl)
theorem dX3_slip_143 : decode cX3_slip 143 = .ok (.aload_n 0, 1) := dk_42 (dk_at dksX3_slip_6 1 rfl rfl)
theorem dX3_slip_144 : decode cX3_slip 144 = .ok (.iload 6, 2) := dk_21 6 (dk_at dksX3_slip_6 2 rfl rfl)
theorem dX3_slip_146 : decode cX3_slip 146 = .ok (.invokevirtual 78, 3) := dk_182 0 78 (dk_at dksX3_slip_6 4 rfl rfl)
theorem dX3_slip_149 : decode cX3_slip 149 = .ok (.aload_n 0, 1) := dk_42 (dk_at dksX3_slip_6 7 rfl rfl)
theorem dX3_slip_150 : decode cX3_slip 150 = .ok (.getfield 13, 3) := dk_180 0 13 (dk_at dksX3_slip_6 8 rfl rfl)
theorem dX3_slip_153 : decode cX3_slip 153 = .ok (.iconst 1, 1) := dk_4 (dk_at dksX3_slip_6 11 rfl rfl)
theorem dX3_slip_154 : decode cX3_slip 154 = .ok (.iaload, 1) := dk_46 (dk_at dksX3_slip_6 12 rfl rfl)
theorem dX3_slip_155 : decode cX3_slip 155 = .ok (.if_icmp .lt 7, 3) := dk_161 0 7 (dk_at dksX3_slip_6 13 rfl rfl)
theorem dX3_slip_158 : decode cX3_slip 158 = .ok (.iconst 0, 1) := dk_3 (dk_at dksX3_slip_6 16 rfl rfl)
theorem dX3_slip_159 : decode cX3_slip 159 = .ok (.goto 4, 3) := dk_167 0 4 (dk_at dksX3_slip_6 17 rfl rfl)
theorem dX3_slip_162 : decode cX3_slip 162 = .ok (.iconst 3, 1) := dk_6 (dk_at dksX3_slip_6 20 rfl rfl)
theorem dX3_slip_163 : decode cX3_slip 163 = .ok (.aload_n 0, 1) := dk_42 (dk_at dksX3_slip_6 21 rfl rfl)
theorem dX3_slip_164 : decode cX3_slip 164 = .ok (.getfield 43, 3) := dk_180 0 43 (dk_at dksX3_slip_7 0 rfl rfl)
theorem dX3_slip_167 : decode cX3_slip 167 = .ok (.bipush 80, 2) := dk_16 80 (dk_at dksX3_slip_7 3 rfl rfl)
theorem dX3_slip_169 : decode cX3_slip 169 = .ok (.iload_n 1, 1) := dk_27 (dk_at dksX3_slip_7 5 rfl rfl)
theorem dX3_slip_170 : decode cX3_slip 170 = .ok (.iadd, 1) := dk_96 (dk_at dksX3_slip_7 6 rfl rfl)
theorem dX3_slip_171 : decode cX3_slip 171 = .ok (.iaload, 1) := dk_46 (dk_at dksX3_slip_7 7 rfl rfl)
theorem dX3_slip_172 : decode cX3_slip 172 = .ok (.iload_n 1, 1) := dk_27 (dk_at dksX3_slip_7 8 rfl rfl)
theorem dX3_slip_173 : decode cX3_slip 173 = .ok (.invokevirtual 91, 3) := dk_182 0 91 (dk_at dksX3_slip_7 9 rfl rfl)
theorem dX3_slip_176 : decode cX3_slip 176 = .ok (.ireturn, 1) := dk_172 (dk_at dksX3_slip_7 12 rfl rfl)
abbrev cX3_cellIs : ByteArray := prog_6_method_21_code
def yX3_cellIs : MethodName := ⟨RX3, "cellIs", "(II)I"⟩
def dkwX3_cellIs_5 : List UInt8 := [46, 172]
abbrev dktX3_cellIs_5 : List UInt8 := dkwX3_cellIs_5 ++ []
def dkwX3_cellIs_4 : List UInt8 := [180, 0, 43, 16, 40, 27, 96, 46, 172, 42, 180, 0, 43, 16, 80, 27, 96, 46, 172, 42, 180, 0, 34, 27]
abbrev dktX3_cellIs_4 : List UInt8 := dkwX3_cellIs_4 ++ dktX3_cellIs_5
def dkwX3_cellIs_3 : List UInt8 := [42, 180, 0, 28, 27, 46, 172, 42, 180, 0, 31, 27, 46, 172, 42, 180, 0, 43, 3, 27, 96, 46, 172, 42]
abbrev dktX3_cellIs_3 : List UInt8 := dkwX3_cellIs_3 ++ dktX3_cellIs_4
def dkwX3_cellIs_2 : List UInt8 := [170, 0, 0, 0, 0, 77, 0, 0, 0, 0, 0, 0, 0, 4, 0, 0, 0, 34, 0, 0, 0, 41, 0, 0, 0, 48, 0, 0, 0, 57, 0, 0, 0, 67]
abbrev dktX3_cellIs_2 : List UInt8 := dkwX3_cellIs_2 ++ dktX3_cellIs_3
def dkwX3_cellIs_1 : List UInt8 := [184, 0, 57, 154, 0, 7, 5, 167, 0, 4, 3, 181, 0, 53, 42, 180, 0, 53, 158, 0, 5, 3, 172, 28]
abbrev dktX3_cellIs_1 : List UInt8 := dkwX3_cellIs_1 ++ dktX3_cellIs_2
def dkwX3_cellIs_0 : List UInt8 := [42, 27, 3, 42, 180, 0, 88, 4, 100, 184, 0, 57, 154, 0, 7, 4, 167, 0, 17, 28, 3, 8]
abbrev dktX3_cellIs_0 : List UInt8 := dkwX3_cellIs_0 ++ dktX3_cellIs_1
theorem dksX3_cellIs_0 : cX3_cellIs.data.toList.drop 0 = dktX3_cellIs_0 := by decide +kernel
theorem dksX3_cellIs_1 : cX3_cellIs.data.toList.drop 22 = dktX3_cellIs_1 := dk_seg dksX3_cellIs_0 22 rfl rfl
theorem dksX3_cellIs_2 : cX3_cellIs.data.toList.drop 46 = dktX3_cellIs_2 := dk_seg dksX3_cellIs_1 24 rfl rfl
theorem dksX3_cellIs_3 : cX3_cellIs.data.toList.drop 80 = dktX3_cellIs_3 := dk_seg dksX3_cellIs_2 34 rfl rfl
theorem dksX3_cellIs_4 : cX3_cellIs.data.toList.drop 104 = dktX3_cellIs_4 := dk_seg dksX3_cellIs_3 24 rfl rfl
theorem dksX3_cellIs_5 : cX3_cellIs.data.toList.drop 128 = dktX3_cellIs_5 := dk_seg dksX3_cellIs_4 24 rfl rfl
theorem dX3_cellIs_0 : decode cX3_cellIs 0 = .ok (.aload_n 0, 1) := dk_42 (dk_at dksX3_cellIs_0 0 rfl rfl)
theorem dX3_cellIs_1 : decode cX3_cellIs 1 = .ok (.iload_n 1, 1) := dk_27 (dk_at dksX3_cellIs_0 1 rfl rfl)
theorem dX3_cellIs_2 : decode cX3_cellIs 2 = .ok (.iconst 0, 1) := dk_3 (dk_at dksX3_cellIs_0 2 rfl rfl)
theorem dX3_cellIs_3 : decode cX3_cellIs 3 = .ok (.aload_n 0, 1) := dk_42 (dk_at dksX3_cellIs_0 3 rfl rfl)
theorem dX3_cellIs_4 : decode cX3_cellIs 4 = .ok (.getfield 88, 3) := dk_180 0 88 (dk_at dksX3_cellIs_0 4 rfl rfl)
theorem dX3_cellIs_7 : decode cX3_cellIs 7 = .ok (.iconst 1, 1) := dk_4 (dk_at dksX3_cellIs_0 7 rfl rfl)
theorem dX3_cellIs_8 : decode cX3_cellIs 8 = .ok (.isub, 1) := dk_100 (dk_at dksX3_cellIs_0 8 rfl rfl)
theorem dX3_cellIs_9 : decode cX3_cellIs 9 = .ok (.invokestatic 57, 3) := dk_184 0 57 (dk_at dksX3_cellIs_0 9 rfl rfl)
theorem dX3_cellIs_12 : decode cX3_cellIs 12 = .ok (.ifCond .ne 7, 3) := dk_154 0 7 (dk_at dksX3_cellIs_0 12 rfl rfl)
theorem dX3_cellIs_15 : decode cX3_cellIs 15 = .ok (.iconst 1, 1) := dk_4 (dk_at dksX3_cellIs_0 15 rfl rfl)
theorem dX3_cellIs_16 : decode cX3_cellIs 16 = .ok (.goto 17, 3) := dk_167 0 17 (dk_at dksX3_cellIs_0 16 rfl rfl)
theorem dX3_cellIs_19 : decode cX3_cellIs 19 = .ok (.iload_n 2, 1) := dk_28 (dk_at dksX3_cellIs_0 19 rfl rfl)
theorem dX3_cellIs_20 : decode cX3_cellIs 20 = .ok (.iconst 0, 1) := dk_3 (dk_at dksX3_cellIs_0 20 rfl rfl)
theorem dX3_cellIs_21 : decode cX3_cellIs 21 = .ok (.iconst 5, 1) := dk_8 (dk_at dksX3_cellIs_0 21 rfl rfl)
theorem dX3_cellIs_22 : decode cX3_cellIs 22 = .ok (.invokestatic 57, 3) := dk_184 0 57 (dk_at dksX3_cellIs_1 0 rfl rfl)
theorem dX3_cellIs_25 : decode cX3_cellIs 25 = .ok (.ifCond .ne 7, 3) := dk_154 0 7 (dk_at dksX3_cellIs_1 3 rfl rfl)
theorem dX3_cellIs_28 : decode cX3_cellIs 28 = .ok (.iconst 2, 1) := dk_5 (dk_at dksX3_cellIs_1 6 rfl rfl)
theorem dX3_cellIs_29 : decode cX3_cellIs 29 = .ok (.goto 4, 3) := dk_167 0 4 (dk_at dksX3_cellIs_1 7 rfl rfl)
theorem dX3_cellIs_32 : decode cX3_cellIs 32 = .ok (.iconst 0, 1) := dk_3 (dk_at dksX3_cellIs_1 10 rfl rfl)
theorem dX3_cellIs_33 : decode cX3_cellIs 33 = .ok (.putfield 53, 3) := dk_181 0 53 (dk_at dksX3_cellIs_1 11 rfl rfl)
theorem dX3_cellIs_36 : decode cX3_cellIs 36 = .ok (.aload_n 0, 1) := dk_42 (dk_at dksX3_cellIs_1 14 rfl rfl)
theorem dX3_cellIs_37 : decode cX3_cellIs 37 = .ok (.getfield 53, 3) := dk_180 0 53 (dk_at dksX3_cellIs_1 15 rfl rfl)
theorem dX3_cellIs_40 : decode cX3_cellIs 40 = .ok (.ifCond .le 5, 3) := dk_158 0 5 (dk_at dksX3_cellIs_1 18 rfl rfl)
theorem dX3_cellIs_43 : decode cX3_cellIs 43 = .ok (.iconst 0, 1) := dk_3 (dk_at dksX3_cellIs_1 21 rfl rfl)
theorem dX3_cellIs_44 : decode cX3_cellIs 44 = .ok (.ireturn, 1) := dk_172 (dk_at dksX3_cellIs_1 22 rfl rfl)
theorem dX3_cellIs_45 : decode cX3_cellIs 45 = .ok (.iload_n 2, 1) := dk_28 (dk_at dksX3_cellIs_1 23 rfl rfl)
theorem dX3_cellIs_46 : decode cX3_cellIs 46 = .ok (.tableswitch 77 0 4 #[34, 41, 48, 57, 67], 34) := by decide +kernel
theorem dX3_cellIs_80 : decode cX3_cellIs 80 = .ok (.aload_n 0, 1) := dk_42 (dk_at dksX3_cellIs_3 0 rfl rfl)
theorem dX3_cellIs_81 : decode cX3_cellIs 81 = .ok (.getfield 28, 3) := dk_180 0 28 (dk_at dksX3_cellIs_3 1 rfl rfl)
theorem dX3_cellIs_84 : decode cX3_cellIs 84 = .ok (.iload_n 1, 1) := dk_27 (dk_at dksX3_cellIs_3 4 rfl rfl)
theorem dX3_cellIs_85 : decode cX3_cellIs 85 = .ok (.iaload, 1) := dk_46 (dk_at dksX3_cellIs_3 5 rfl rfl)
theorem dX3_cellIs_86 : decode cX3_cellIs 86 = .ok (.ireturn, 1) := dk_172 (dk_at dksX3_cellIs_3 6 rfl rfl)
theorem dX3_cellIs_87 : decode cX3_cellIs 87 = .ok (.aload_n 0, 1) := dk_42 (dk_at dksX3_cellIs_3 7 rfl rfl)
theorem dX3_cellIs_88 : decode cX3_cellIs 88 = .ok (.getfield 31, 3) := dk_180 0 31 (dk_at dksX3_cellIs_3 8 rfl rfl)
theorem dX3_cellIs_91 : decode cX3_cellIs 91 = .ok (.iload_n 1, 1) := dk_27 (dk_at dksX3_cellIs_3 11 rfl rfl)
theorem dX3_cellIs_92 : decode cX3_cellIs 92 = .ok (.iaload, 1) := dk_46 (dk_at dksX3_cellIs_3 12 rfl rfl)
theorem dX3_cellIs_93 : decode cX3_cellIs 93 = .ok (.ireturn, 1) := dk_172 (dk_at dksX3_cellIs_3 13 rfl rfl)
theorem dX3_cellIs_94 : decode cX3_cellIs 94 = .ok (.aload_n 0, 1) := dk_42 (dk_at dksX3_cellIs_3 14 rfl rfl)
theorem dX3_cellIs_95 : decode cX3_cellIs 95 = .ok (.getfield 43, 3) := dk_180 0 43 (dk_at dksX3_cellIs_3 15 rfl rfl)
theorem dX3_cellIs_98 : decode cX3_cellIs 98 = .ok (.iconst 0, 1) := dk_3 (dk_at dksX3_cellIs_3 18 rfl rfl)
theorem dX3_cellIs_99 : decode cX3_cellIs 99 = .ok (.iload_n 1, 1) := dk_27 (dk_at dksX3_cellIs_3 19 rfl rfl)
theorem dX3_cellIs_100 : decode cX3_cellIs 100 = .ok (.iadd, 1) := dk_96 (dk_at dksX3_cellIs_3 20 rfl rfl)
theorem dX3_cellIs_101 : decode cX3_cellIs 101 = .ok (.iaload, 1) := dk_46 (dk_at dksX3_cellIs_3 21 rfl rfl)
theorem dX3_cellIs_102 : decode cX3_cellIs 102 = .ok (.ireturn, 1) := dk_172 (dk_at dksX3_cellIs_3 22 rfl rfl)
theorem dX3_cellIs_103 : decode cX3_cellIs 103 = .ok (.aload_n 0, 1) := dk_42 (dk_at dksX3_cellIs_3 23 rfl rfl)
theorem dX3_cellIs_104 : decode cX3_cellIs 104 = .ok (.getfield 43, 3) := dk_180 0 43 (dk_at dksX3_cellIs_4 0 rfl rfl)
theorem dX3_cellIs_107 : decode cX3_cellIs 107 = .ok (.bipush 40, 2) := dk_16 40 (dk_at dksX3_cellIs_4 3 rfl rfl)
theorem dX3_cellIs_109 : decode cX3_cellIs 109 = .ok (.iload_n 1, 1) := dk_27 (dk_at dksX3_cellIs_4 5 rfl rfl)
theorem dX3_cellIs_110 : decode cX3_cellIs 110 = .ok (.iadd, 1) := dk_96 (dk_at dksX3_cellIs_4 6 rfl rfl)
theorem dX3_cellIs_111 : decode cX3_cellIs 111 = .ok (.iaload, 1) := dk_46 (dk_at dksX3_cellIs_4 7 rfl rfl)
theorem dX3_cellIs_112 : decode cX3_cellIs 112 = .ok (.ireturn, 1) := dk_172 (dk_at dksX3_cellIs_4 8 rfl rfl)
theorem dX3_cellIs_113 : decode cX3_cellIs 113 = .ok (.aload_n 0, 1) := dk_42 (dk_at dksX3_cellIs_4 9 rfl rfl)
theorem dX3_cellIs_114 : decode cX3_cellIs 114 = .ok (.getfield 43, 3) := dk_180 0 43 (dk_at dksX3_cellIs_4 10 rfl rfl)
theorem dX3_cellIs_117 : decode cX3_cellIs 117 = .ok (.bipush 80, 2) := dk_16 80 (dk_at dksX3_cellIs_4 13 rfl rfl)
theorem dX3_cellIs_119 : decode cX3_cellIs 119 = .ok (.iload_n 1, 1) := dk_27 (dk_at dksX3_cellIs_4 15 rfl rfl)
theorem dX3_cellIs_120 : decode cX3_cellIs 120 = .ok (.iadd, 1) := dk_96 (dk_at dksX3_cellIs_4 16 rfl rfl)
theorem dX3_cellIs_121 : decode cX3_cellIs 121 = .ok (.iaload, 1) := dk_46 (dk_at dksX3_cellIs_4 17 rfl rfl)
theorem dX3_cellIs_122 : decode cX3_cellIs 122 = .ok (.ireturn, 1) := dk_172 (dk_at dksX3_cellIs_4 18 rfl rfl)
theorem dX3_cellIs_123 : decode cX3_cellIs 123 = .ok (.aload_n 0, 1) := dk_42 (dk_at dksX3_cellIs_4 19 rfl rfl)
theorem dX3_cellIs_124 : decode cX3_cellIs 124 = .ok (.getfield 34, 3) := dk_180 0 34 (dk_at dksX3_cellIs_4 20 rfl rfl)
theorem dX3_cellIs_127 : decode cX3_cellIs 127 = .ok (.iload_n 1, 1) := dk_27 (dk_at dksX3_cellIs_4 23 rfl rfl)
theorem dX3_cellIs_128 : decode cX3_cellIs 128 = .ok (.iaload, 1) := dk_46 (dk_at dksX3_cellIs_5 0 rfl rfl)
theorem dX3_cellIs_129 : decode cX3_cellIs 129 = .ok (.ireturn, 1) := dk_172 (dk_at dksX3_cellIs_5 1 rfl rfl)
abbrev cX3_invade : ByteArray := prog_6_method_22_code
def yX3_invade : MethodName := ⟨RX3, "invade", "(III)I"⟩
def dkwX3_invade_5 : List UInt8 := [96, 28, 79, 42, 89, 180, 0, 95, 4, 96, 181, 0, 95, 42, 180, 0, 95, 4, 100, 172]
abbrev dktX3_invade_5 : List UInt8 := dkwX3_invade_5 ++ []
def dkwX3_invade_4 : List UInt8 := [180, 0, 43, 17, 0, 128, 42, 180, 0, 95, 96, 2, 79, 42, 180, 0, 43, 17, 0, 136, 42, 180, 0, 95]
abbrev dktX3_invade_4 : List UInt8 := dkwX3_invade_4 ++ dktX3_invade_5
def dkwX3_invade_3 : List UInt8 := [180, 0, 40, 42, 180, 0, 95, 29, 79, 42, 180, 0, 43, 16, 120, 42, 180, 0, 95, 96, 28, 79, 42]
abbrev dktX3_invade_3 : List UInt8 := dkwX3_invade_3 ++ dktX3_invade_4
def dkwX3_invade_2 : List UInt8 := [181, 0, 53, 42, 180, 0, 53, 158, 0, 5, 3, 172, 42, 180, 0, 37, 42, 180, 0, 95, 27, 79, 42]
abbrev dktX3_invade_2 : List UInt8 := dkwX3_invade_2 ++ dktX3_invade_3
def dkwX3_invade_1 : List UInt8 := [184, 0, 57, 154, 0, 7, 4, 167, 0, 17, 42, 180, 0, 95, 16, 8, 160, 0, 7, 5, 167, 0, 4, 3]
abbrev dktX3_invade_1 : List UInt8 := dkwX3_invade_1 ++ dktX3_invade_2
def dkwX3_invade_0 : List UInt8 := [42, 27, 184, 0, 72, 153, 0, 24, 28, 4, 17, 3, 231, 184, 0, 57, 153, 0, 13, 29, 2, 16, 9]
abbrev dktX3_invade_0 : List UInt8 := dkwX3_invade_0 ++ dktX3_invade_1
theorem dksX3_invade_0 : cX3_invade.data.toList.drop 0 = dktX3_invade_0 := by decide +kernel
theorem dksX3_invade_1 : cX3_invade.data.toList.drop 23 = dktX3_invade_1 := dk_seg dksX3_invade_0 23 rfl rfl
theorem dksX3_invade_2 : cX3_invade.data.toList.drop 47 = dktX3_invade_2 := dk_seg dksX3_invade_1 24 rfl rfl
theorem dksX3_invade_3 : cX3_invade.data.toList.drop 70 = dktX3_invade_3 := dk_seg dksX3_invade_2 23 rfl rfl
theorem dksX3_invade_4 : cX3_invade.data.toList.drop 93 = dktX3_invade_4 := dk_seg dksX3_invade_3 23 rfl rfl
theorem dksX3_invade_5 : cX3_invade.data.toList.drop 117 = dktX3_invade_5 := dk_seg dksX3_invade_4 24 rfl rfl
theorem dX3_invade_0 : decode cX3_invade 0 = .ok (.aload_n 0, 1) := dk_42 (dk_at dksX3_invade_0 0 rfl rfl)
theorem dX3_invade_1 : decode cX3_invade 1 = .ok (.iload_n 1, 1) := dk_27 (dk_at dksX3_invade_0 1 rfl rfl)
theorem dX3_invade_2 : decode cX3_invade 2 = .ok (.invokestatic 72, 3) := dk_184 0 72 (dk_at dksX3_invade_0 2 rfl rfl)
theorem dX3_invade_5 : decode cX3_invade 5 = .ok (.ifCond .eq 24, 3) := dk_153 0 24 (dk_at dksX3_invade_0 5 rfl rfl)
theorem dX3_invade_8 : decode cX3_invade 8 = .ok (.iload_n 2, 1) := dk_28 (dk_at dksX3_invade_0 8 rfl rfl)
theorem dX3_invade_9 : decode cX3_invade 9 = .ok (.iconst 1, 1) := dk_4 (dk_at dksX3_invade_0 9 rfl rfl)
theorem dX3_invade_10 : decode cX3_invade 10 = .ok (.sipush 999, 3) := dk_17 3 231 (dk_at dksX3_invade_0 10 rfl rfl)
theorem dX3_invade_13 : decode cX3_invade 13 = .ok (.invokestatic 57, 3) := dk_184 0 57 (dk_at dksX3_invade_0 13 rfl rfl)
theorem dX3_invade_16 : decode cX3_invade 16 = .ok (.ifCond .eq 13, 3) := dk_153 0 13 (dk_at dksX3_invade_0 16 rfl rfl)
theorem dX3_invade_19 : decode cX3_invade 19 = .ok (.iload_n 3, 1) := dk_29 (dk_at dksX3_invade_0 19 rfl rfl)
theorem dX3_invade_20 : decode cX3_invade 20 = .ok (.iconst (-1), 1) := dk_2 (dk_at dksX3_invade_0 20 rfl rfl)
theorem dX3_invade_21 : decode cX3_invade 21 = .ok (.bipush 9, 2) := dk_16 9 (dk_at dksX3_invade_0 21 rfl rfl)
theorem dX3_invade_23 : decode cX3_invade 23 = .ok (.invokestatic 57, 3) := dk_184 0 57 (dk_at dksX3_invade_1 0 rfl rfl)
theorem dX3_invade_26 : decode cX3_invade 26 = .ok (.ifCond .ne 7, 3) := dk_154 0 7 (dk_at dksX3_invade_1 3 rfl rfl)
theorem dX3_invade_29 : decode cX3_invade 29 = .ok (.iconst 1, 1) := dk_4 (dk_at dksX3_invade_1 6 rfl rfl)
theorem dX3_invade_30 : decode cX3_invade 30 = .ok (.goto 17, 3) := dk_167 0 17 (dk_at dksX3_invade_1 7 rfl rfl)
theorem dX3_invade_33 : decode cX3_invade 33 = .ok (.aload_n 0, 1) := dk_42 (dk_at dksX3_invade_1 10 rfl rfl)
theorem dX3_invade_34 : decode cX3_invade 34 = .ok (.getfield 95, 3) := dk_180 0 95 (dk_at dksX3_invade_1 11 rfl rfl)
theorem dX3_invade_37 : decode cX3_invade 37 = .ok (.bipush 8, 2) := dk_16 8 (dk_at dksX3_invade_1 14 rfl rfl)
theorem dX3_invade_39 : decode cX3_invade 39 = .ok (.if_icmp .ne 7, 3) := dk_160 0 7 (dk_at dksX3_invade_1 16 rfl rfl)
theorem dX3_invade_42 : decode cX3_invade 42 = .ok (.iconst 2, 1) := dk_5 (dk_at dksX3_invade_1 19 rfl rfl)
theorem dX3_invade_43 : decode cX3_invade 43 = .ok (.goto 4, 3) := dk_167 0 4 (dk_at dksX3_invade_1 20 rfl rfl)
theorem dX3_invade_46 : decode cX3_invade 46 = .ok (.iconst 0, 1) := dk_3 (dk_at dksX3_invade_1 23 rfl rfl)
theorem dX3_invade_47 : decode cX3_invade 47 = .ok (.putfield 53, 3) := dk_181 0 53 (dk_at dksX3_invade_2 0 rfl rfl)
theorem dX3_invade_50 : decode cX3_invade 50 = .ok (.aload_n 0, 1) := dk_42 (dk_at dksX3_invade_2 3 rfl rfl)
theorem dX3_invade_51 : decode cX3_invade 51 = .ok (.getfield 53, 3) := dk_180 0 53 (dk_at dksX3_invade_2 4 rfl rfl)
theorem dX3_invade_54 : decode cX3_invade 54 = .ok (.ifCond .le 5, 3) := dk_158 0 5 (dk_at dksX3_invade_2 7 rfl rfl)
theorem dX3_invade_57 : decode cX3_invade 57 = .ok (.iconst 0, 1) := dk_3 (dk_at dksX3_invade_2 10 rfl rfl)
theorem dX3_invade_58 : decode cX3_invade 58 = .ok (.ireturn, 1) := dk_172 (dk_at dksX3_invade_2 11 rfl rfl)
theorem dX3_invade_59 : decode cX3_invade 59 = .ok (.aload_n 0, 1) := dk_42 (dk_at dksX3_invade_2 12 rfl rfl)
theorem dX3_invade_60 : decode cX3_invade 60 = .ok (.getfield 37, 3) := dk_180 0 37 (dk_at dksX3_invade_2 13 rfl rfl)
theorem dX3_invade_63 : decode cX3_invade 63 = .ok (.aload_n 0, 1) := dk_42 (dk_at dksX3_invade_2 16 rfl rfl)
theorem dX3_invade_64 : decode cX3_invade 64 = .ok (.getfield 95, 3) := dk_180 0 95 (dk_at dksX3_invade_2 17 rfl rfl)
theorem dX3_invade_67 : decode cX3_invade 67 = .ok (.iload_n 1, 1) := dk_27 (dk_at dksX3_invade_2 20 rfl rfl)
theorem dX3_invade_68 : decode cX3_invade 68 = .ok (.iastore, 1) := dk_79 (dk_at dksX3_invade_2 21 rfl rfl)
theorem dX3_invade_69 : decode cX3_invade 69 = .ok (.aload_n 0, 1) := dk_42 (dk_at dksX3_invade_2 22 rfl rfl)
theorem dX3_invade_70 : decode cX3_invade 70 = .ok (.getfield 40, 3) := dk_180 0 40 (dk_at dksX3_invade_3 0 rfl rfl)
theorem dX3_invade_73 : decode cX3_invade 73 = .ok (.aload_n 0, 1) := dk_42 (dk_at dksX3_invade_3 3 rfl rfl)
theorem dX3_invade_74 : decode cX3_invade 74 = .ok (.getfield 95, 3) := dk_180 0 95 (dk_at dksX3_invade_3 4 rfl rfl)
theorem dX3_invade_77 : decode cX3_invade 77 = .ok (.iload_n 3, 1) := dk_29 (dk_at dksX3_invade_3 7 rfl rfl)
theorem dX3_invade_78 : decode cX3_invade 78 = .ok (.iastore, 1) := dk_79 (dk_at dksX3_invade_3 8 rfl rfl)
theorem dX3_invade_79 : decode cX3_invade 79 = .ok (.aload_n 0, 1) := dk_42 (dk_at dksX3_invade_3 9 rfl rfl)
theorem dX3_invade_80 : decode cX3_invade 80 = .ok (.getfield 43, 3) := dk_180 0 43 (dk_at dksX3_invade_3 10 rfl rfl)
theorem dX3_invade_83 : decode cX3_invade 83 = .ok (.bipush 120, 2) := dk_16 120 (dk_at dksX3_invade_3 13 rfl rfl)
theorem dX3_invade_85 : decode cX3_invade 85 = .ok (.aload_n 0, 1) := dk_42 (dk_at dksX3_invade_3 15 rfl rfl)
theorem dX3_invade_86 : decode cX3_invade 86 = .ok (.getfield 95, 3) := dk_180 0 95 (dk_at dksX3_invade_3 16 rfl rfl)
theorem dX3_invade_89 : decode cX3_invade 89 = .ok (.iadd, 1) := dk_96 (dk_at dksX3_invade_3 19 rfl rfl)
theorem dX3_invade_90 : decode cX3_invade 90 = .ok (.iload_n 2, 1) := dk_28 (dk_at dksX3_invade_3 20 rfl rfl)
theorem dX3_invade_91 : decode cX3_invade 91 = .ok (.iastore, 1) := dk_79 (dk_at dksX3_invade_3 21 rfl rfl)
theorem dX3_invade_92 : decode cX3_invade 92 = .ok (.aload_n 0, 1) := dk_42 (dk_at dksX3_invade_3 22 rfl rfl)
theorem dX3_invade_93 : decode cX3_invade 93 = .ok (.getfield 43, 3) := dk_180 0 43 (dk_at dksX3_invade_4 0 rfl rfl)
theorem dX3_invade_96 : decode cX3_invade 96 = .ok (.sipush 128, 3) := dk_17 0 128 (dk_at dksX3_invade_4 3 rfl rfl)
theorem dX3_invade_99 : decode cX3_invade 99 = .ok (.aload_n 0, 1) := dk_42 (dk_at dksX3_invade_4 6 rfl rfl)
theorem dX3_invade_100 : decode cX3_invade 100 = .ok (.getfield 95, 3) := dk_180 0 95 (dk_at dksX3_invade_4 7 rfl rfl)
theorem dX3_invade_103 : decode cX3_invade 103 = .ok (.iadd, 1) := dk_96 (dk_at dksX3_invade_4 10 rfl rfl)
theorem dX3_invade_104 : decode cX3_invade 104 = .ok (.iconst (-1), 1) := dk_2 (dk_at dksX3_invade_4 11 rfl rfl)
theorem dX3_invade_105 : decode cX3_invade 105 = .ok (.iastore, 1) := dk_79 (dk_at dksX3_invade_4 12 rfl rfl)
theorem dX3_invade_106 : decode cX3_invade 106 = .ok (.aload_n 0, 1) := dk_42 (dk_at dksX3_invade_4 13 rfl rfl)
theorem dX3_invade_107 : decode cX3_invade 107 = .ok (.getfield 43, 3) := dk_180 0 43 (dk_at dksX3_invade_4 14 rfl rfl)
theorem dX3_invade_110 : decode cX3_invade 110 = .ok (.sipush 136, 3) := dk_17 0 136 (dk_at dksX3_invade_4 17 rfl rfl)
theorem dX3_invade_113 : decode cX3_invade 113 = .ok (.aload_n 0, 1) := dk_42 (dk_at dksX3_invade_4 20 rfl rfl)
theorem dX3_invade_114 : decode cX3_invade 114 = .ok (.getfield 95, 3) := dk_180 0 95 (dk_at dksX3_invade_4 21 rfl rfl)
theorem dX3_invade_117 : decode cX3_invade 117 = .ok (.iadd, 1) := dk_96 (dk_at dksX3_invade_5 0 rfl rfl)
theorem dX3_invade_118 : decode cX3_invade 118 = .ok (.iload_n 2, 1) := dk_28 (dk_at dksX3_invade_5 1 rfl rfl)
theorem dX3_invade_119 : decode cX3_invade 119 = .ok (.iastore, 1) := dk_79 (dk_at dksX3_invade_5 2 rfl rfl)
theorem dX3_invade_120 : decode cX3_invade 120 = .ok (.aload_n 0, 1) := dk_42 (dk_at dksX3_invade_5 3 rfl rfl)
theorem dX3_invade_121 : decode cX3_invade 121 = .ok (.dup, 1) := dk_89 (dk_at dksX3_invade_5 4 rfl rfl)
theorem dX3_invade_122 : decode cX3_invade 122 = .ok (.getfield 95, 3) := dk_180 0 95 (dk_at dksX3_invade_5 5 rfl rfl)
theorem dX3_invade_125 : decode cX3_invade 125 = .ok (.iconst 1, 1) := dk_4 (dk_at dksX3_invade_5 8 rfl rfl)
theorem dX3_invade_126 : decode cX3_invade 126 = .ok (.iadd, 1) := dk_96 (dk_at dksX3_invade_5 9 rfl rfl)
theorem dX3_invade_127 : decode cX3_invade 127 = .ok (.putfield 95, 3) := dk_181 0 95 (dk_at dksX3_invade_5 10 rfl rfl)
theorem dX3_invade_130 : decode cX3_invade 130 = .ok (.aload_n 0, 1) := dk_42 (dk_at dksX3_invade_5 13 rfl rfl)
theorem dX3_invade_131 : decode cX3_invade 131 = .ok (.getfield 95, 3) := dk_180 0 95 (dk_at dksX3_invade_5 14 rfl rfl)
theorem dX3_invade_134 : decode cX3_invade 134 = .ok (.iconst 1, 1) := dk_4 (dk_at dksX3_invade_5 17 rfl rfl)
theorem dX3_invade_135 : decode cX3_invade 135 = .ok (.isub, 1) := dk_100 (dk_at dksX3_invade_5 18 rfl rfl)
theorem dX3_invade_136 : decode cX3_invade 136 = .ok (.ireturn, 1) := dk_172 (dk_at dksX3_invade_5 19 rfl rfl)
abbrev cX3_change : ByteArray := prog_6_method_24_code
def yX3_change : MethodName := ⟨RX3, "change", "(II)I"⟩
def dkwX3_change_2 : List UInt8 := [180, 0, 53, 158, 0, 5, 3, 172, 42, 180, 0, 37, 27, 46, 62, 42, 180, 0, 37, 27, 28, 79, 29, 172]
abbrev dktX3_change_2 : List UInt8 := dkwX3_change_2 ++ []
def dkwX3_change_1 : List UInt8 := [154, 0, 7, 5, 167, 0, 16, 42, 27, 182, 0, 98, 154, 0, 7, 6, 167, 0, 4, 3, 181, 0, 53, 42]
abbrev dktX3_change_1 : List UInt8 := dkwX3_change_1 ++ dktX3_change_2
def dkwX3_change_0 : List UInt8 := [42, 27, 3, 42, 180, 0, 95, 4, 100, 184, 0, 57, 154, 0, 7, 4, 167, 0, 27, 28, 184, 0, 72]
abbrev dktX3_change_0 : List UInt8 := dkwX3_change_0 ++ dktX3_change_1
theorem dksX3_change_0 : cX3_change.data.toList.drop 0 = dktX3_change_0 := by decide +kernel
theorem dksX3_change_1 : cX3_change.data.toList.drop 23 = dktX3_change_1 := dk_seg dksX3_change_0 23 rfl rfl
theorem dksX3_change_2 : cX3_change.data.toList.drop 47 = dktX3_change_2 := dk_seg dksX3_change_1 24 rfl rfl
theorem dX3_change_0 : decode cX3_change 0 = .ok (.aload_n 0, 1) := dk_42 (dk_at dksX3_change_0 0 rfl rfl)
theorem dX3_change_1 : decode cX3_change 1 = .ok (.iload_n 1, 1) := dk_27 (dk_at dksX3_change_0 1 rfl rfl)
theorem dX3_change_2 : decode cX3_change 2 = .ok (.iconst 0, 1) := dk_3 (dk_at dksX3_change_0 2 rfl rfl)
theorem dX3_change_3 : decode cX3_change 3 = .ok (.aload_n 0, 1) := dk_42 (dk_at dksX3_change_0 3 rfl rfl)
theorem dX3_change_4 : decode cX3_change 4 = .ok (.getfield 95, 3) := dk_180 0 95 (dk_at dksX3_change_0 4 rfl rfl)
theorem dX3_change_7 : decode cX3_change 7 = .ok (.iconst 1, 1) := dk_4 (dk_at dksX3_change_0 7 rfl rfl)
theorem dX3_change_8 : decode cX3_change 8 = .ok (.isub, 1) := dk_100 (dk_at dksX3_change_0 8 rfl rfl)
theorem dX3_change_9 : decode cX3_change 9 = .ok (.invokestatic 57, 3) := dk_184 0 57 (dk_at dksX3_change_0 9 rfl rfl)
theorem dX3_change_12 : decode cX3_change 12 = .ok (.ifCond .ne 7, 3) := dk_154 0 7 (dk_at dksX3_change_0 12 rfl rfl)
theorem dX3_change_15 : decode cX3_change 15 = .ok (.iconst 1, 1) := dk_4 (dk_at dksX3_change_0 15 rfl rfl)
theorem dX3_change_16 : decode cX3_change 16 = .ok (.goto 27, 3) := dk_167 0 27 (dk_at dksX3_change_0 16 rfl rfl)
theorem dX3_change_19 : decode cX3_change 19 = .ok (.iload_n 2, 1) := dk_28 (dk_at dksX3_change_0 19 rfl rfl)
theorem dX3_change_20 : decode cX3_change 20 = .ok (.invokestatic 72, 3) := dk_184 0 72 (dk_at dksX3_change_0 20 rfl rfl)
theorem dX3_change_23 : decode cX3_change 23 = .ok (.ifCond .ne 7, 3) := dk_154 0 7 (dk_at dksX3_change_1 0 rfl rfl)
theorem dX3_change_26 : decode cX3_change 26 = .ok (.iconst 2, 1) := dk_5 (dk_at dksX3_change_1 3 rfl rfl)
theorem dX3_change_27 : decode cX3_change 27 = .ok (.goto 16, 3) := dk_167 0 16 (dk_at dksX3_change_1 4 rfl rfl)
theorem dX3_change_30 : decode cX3_change 30 = .ok (.aload_n 0, 1) := dk_42 (dk_at dksX3_change_1 7 rfl rfl)
theorem dX3_change_31 : decode cX3_change 31 = .ok (.iload_n 1, 1) := dk_27 (dk_at dksX3_change_1 8 rfl rfl)
theorem dX3_change_32 : decode cX3_change 32 = .ok (.invokevirtual 98, 3) := dk_182 0 98 (dk_at dksX3_change_1 9 rfl rfl)
theorem dX3_change_35 : decode cX3_change 35 = .ok (.ifCond .ne 7, 3) := dk_154 0 7 (dk_at dksX3_change_1 12 rfl rfl)
theorem dX3_change_38 : decode cX3_change 38 = .ok (.iconst 3, 1) := dk_6 (dk_at dksX3_change_1 15 rfl rfl)
theorem dX3_change_39 : decode cX3_change 39 = .ok (.goto 4, 3) := dk_167 0 4 (dk_at dksX3_change_1 16 rfl rfl)
theorem dX3_change_42 : decode cX3_change 42 = .ok (.iconst 0, 1) := dk_3 (dk_at dksX3_change_1 19 rfl rfl)
theorem dX3_change_43 : decode cX3_change 43 = .ok (.putfield 53, 3) := dk_181 0 53 (dk_at dksX3_change_1 20 rfl rfl)
theorem dX3_change_46 : decode cX3_change 46 = .ok (.aload_n 0, 1) := dk_42 (dk_at dksX3_change_1 23 rfl rfl)
theorem dX3_change_47 : decode cX3_change 47 = .ok (.getfield 53, 3) := dk_180 0 53 (dk_at dksX3_change_2 0 rfl rfl)
theorem dX3_change_50 : decode cX3_change 50 = .ok (.ifCond .le 5, 3) := dk_158 0 5 (dk_at dksX3_change_2 3 rfl rfl)
theorem dX3_change_53 : decode cX3_change 53 = .ok (.iconst 0, 1) := dk_3 (dk_at dksX3_change_2 6 rfl rfl)
theorem dX3_change_54 : decode cX3_change 54 = .ok (.ireturn, 1) := dk_172 (dk_at dksX3_change_2 7 rfl rfl)
theorem dX3_change_55 : decode cX3_change 55 = .ok (.aload_n 0, 1) := dk_42 (dk_at dksX3_change_2 8 rfl rfl)
theorem dX3_change_56 : decode cX3_change 56 = .ok (.getfield 37, 3) := dk_180 0 37 (dk_at dksX3_change_2 9 rfl rfl)
theorem dX3_change_59 : decode cX3_change 59 = .ok (.iload_n 1, 1) := dk_27 (dk_at dksX3_change_2 12 rfl rfl)
theorem dX3_change_60 : decode cX3_change 60 = .ok (.iaload, 1) := dk_46 (dk_at dksX3_change_2 13 rfl rfl)
theorem dX3_change_61 : decode cX3_change 61 = .ok (.istore_n 3, 1) := dk_62 (dk_at dksX3_change_2 14 rfl rfl)
theorem dX3_change_62 : decode cX3_change 62 = .ok (.aload_n 0, 1) := dk_42 (dk_at dksX3_change_2 15 rfl rfl)
theorem dX3_change_63 : decode cX3_change 63 = .ok (.getfield 37, 3) := dk_180 0 37 (dk_at dksX3_change_2 16 rfl rfl)
theorem dX3_change_66 : decode cX3_change 66 = .ok (.iload_n 1, 1) := dk_27 (dk_at dksX3_change_2 19 rfl rfl)
theorem dX3_change_67 : decode cX3_change 67 = .ok (.iload_n 2, 1) := dk_28 (dk_at dksX3_change_2 20 rfl rfl)
theorem dX3_change_68 : decode cX3_change 68 = .ok (.iastore, 1) := dk_79 (dk_at dksX3_change_2 21 rfl rfl)
theorem dX3_change_69 : decode cX3_change 69 = .ok (.iload_n 3, 1) := dk_29 (dk_at dksX3_change_2 22 rfl rfl)
theorem dX3_change_70 : decode cX3_change 70 = .ok (.ireturn, 1) := dk_172 (dk_at dksX3_change_2 23 rfl rfl)
abbrev cX3_isAlive : ByteArray := prog_6_method_23_code
def yX3_isAlive : MethodName := ⟨RX3, "isAlive", "(I)Z"⟩
def dkwX3_isAlive_0 : List UInt8 := [42, 180, 0, 43, 16, 120, 27, 96, 46, 158, 0, 7, 4, 167, 0, 4, 3, 172]
abbrev dktX3_isAlive_0 : List UInt8 := dkwX3_isAlive_0 ++ []
theorem dksX3_isAlive_0 : cX3_isAlive.data.toList.drop 0 = dktX3_isAlive_0 := by decide +kernel
theorem dX3_isAlive_0 : decode cX3_isAlive 0 = .ok (.aload_n 0, 1) := dk_42 (dk_at dksX3_isAlive_0 0 rfl rfl)
theorem dX3_isAlive_1 : decode cX3_isAlive 1 = .ok (.getfield 43, 3) := dk_180 0 43 (dk_at dksX3_isAlive_0 1 rfl rfl)
theorem dX3_isAlive_4 : decode cX3_isAlive 4 = .ok (.bipush 120, 2) := dk_16 120 (dk_at dksX3_isAlive_0 4 rfl rfl)
theorem dX3_isAlive_6 : decode cX3_isAlive 6 = .ok (.iload_n 1, 1) := dk_27 (dk_at dksX3_isAlive_0 6 rfl rfl)
theorem dX3_isAlive_7 : decode cX3_isAlive 7 = .ok (.iadd, 1) := dk_96 (dk_at dksX3_isAlive_0 7 rfl rfl)
theorem dX3_isAlive_8 : decode cX3_isAlive 8 = .ok (.iaload, 1) := dk_46 (dk_at dksX3_isAlive_0 8 rfl rfl)
theorem dX3_isAlive_9 : decode cX3_isAlive 9 = .ok (.ifCond .le 7, 3) := dk_158 0 7 (dk_at dksX3_isAlive_0 9 rfl rfl)
theorem dX3_isAlive_12 : decode cX3_isAlive 12 = .ok (.iconst 1, 1) := dk_4 (dk_at dksX3_isAlive_0 12 rfl rfl)
theorem dX3_isAlive_13 : decode cX3_isAlive 13 = .ok (.goto 4, 3) := dk_167 0 4 (dk_at dksX3_isAlive_0 13 rfl rfl)
theorem dX3_isAlive_16 : decode cX3_isAlive 16 = .ok (.iconst 0, 1) := dk_3 (dk_at dksX3_isAlive_0 16 rfl rfl)
theorem dX3_isAlive_17 : decode cX3_isAlive 17 = .ok (.ireturn, 1) := dk_172 (dk_at dksX3_isAlive_0 17 rfl rfl)
abbrev cX3_invaderIs : ByteArray := prog_6_method_25_code
def yX3_invaderIs : MethodName := ⟨RX3, "invaderIs", "(II)I"⟩
def dkwX3_invaderIs_4 : List UInt8 := [42, 180, 0, 43, 17, 0, 128, 27, 96, 46, 172, 42, 180, 0, 43, 17, 0, 136, 27, 96, 46, 172]
abbrev dktX3_invaderIs_4 : List UInt8 := dkwX3_invaderIs_4 ++ []
def dkwX3_invaderIs_3 : List UInt8 := [42, 180, 0, 37, 27, 46, 172, 42, 180, 0, 43, 16, 120, 27, 96, 46, 172, 42, 180, 0, 40, 27, 46, 172]
abbrev dktX3_invaderIs_3 : List UInt8 := dkwX3_invaderIs_3 ++ dktX3_invaderIs_4
def dkwX3_invaderIs_2 : List UInt8 := [170, 0, 0, 0, 0, 65, 0, 0, 0, 0, 0, 0, 0, 3, 0, 0, 0, 30, 0, 0, 0, 37, 0, 0, 0, 47, 0, 0, 0, 54]
abbrev dktX3_invaderIs_2 : List UInt8 := dkwX3_invaderIs_2 ++ dktX3_invaderIs_3
def dkwX3_invaderIs_1 : List UInt8 := [184, 0, 57, 154, 0, 7, 5, 167, 0, 4, 3, 181, 0, 53, 42, 180, 0, 53, 158, 0, 5, 3, 172, 28]
abbrev dktX3_invaderIs_1 : List UInt8 := dkwX3_invaderIs_1 ++ dktX3_invaderIs_2
def dkwX3_invaderIs_0 : List UInt8 := [42, 27, 3, 42, 180, 0, 95, 4, 100, 184, 0, 57, 154, 0, 7, 4, 167, 0, 17, 28, 3, 7]
abbrev dktX3_invaderIs_0 : List UInt8 := dkwX3_invaderIs_0 ++ dktX3_invaderIs_1
theorem dksX3_invaderIs_0 : cX3_invaderIs.data.toList.drop 0 = dktX3_invaderIs_0 := by decide +kernel
theorem dksX3_invaderIs_1 : cX3_invaderIs.data.toList.drop 22 = dktX3_invaderIs_1 := dk_seg dksX3_invaderIs_0 22 rfl rfl
theorem dksX3_invaderIs_2 : cX3_invaderIs.data.toList.drop 46 = dktX3_invaderIs_2 := dk_seg dksX3_invaderIs_1 24 rfl rfl
theorem dksX3_invaderIs_3 : cX3_invaderIs.data.toList.drop 76 = dktX3_invaderIs_3 := dk_seg dksX3_invaderIs_2 30 rfl rfl
theorem dksX3_invaderIs_4 : cX3_invaderIs.data.toList.drop 100 = dktX3_invaderIs_4 := dk_seg dksX3_invaderIs_3 24 rfl rfl
theorem dX3_invaderIs_0 : decode cX3_invaderIs 0 = .ok (.aload_n 0, 1) := dk_42 (dk_at dksX3_invaderIs_0 0 rfl rfl)
theorem dX3_invaderIs_1 : decode cX3_invaderIs 1 = .ok (.iload_n 1, 1) := dk_27 (dk_at dksX3_invaderIs_0 1 rfl rfl)
theorem dX3_invaderIs_2 : decode cX3_invaderIs 2 = .ok (.iconst 0, 1) := dk_3 (dk_at dksX3_invaderIs_0 2 rfl rfl)
theorem dX3_invaderIs_3 : decode cX3_invaderIs 3 = .ok (.aload_n 0, 1) := dk_42 (dk_at dksX3_invaderIs_0 3 rfl rfl)
theorem dX3_invaderIs_4 : decode cX3_invaderIs 4 = .ok (.getfield 95, 3) := dk_180 0 95 (dk_at dksX3_invaderIs_0 4 rfl rfl)
theorem dX3_invaderIs_7 : decode cX3_invaderIs 7 = .ok (.iconst 1, 1) := dk_4 (dk_at dksX3_invaderIs_0 7 rfl rfl)
theorem dX3_invaderIs_8 : decode cX3_invaderIs 8 = .ok (.isub, 1) := dk_100 (dk_at dksX3_invaderIs_0 8 rfl rfl)
theorem dX3_invaderIs_9 : decode cX3_invaderIs 9 = .ok (.invokestatic 57, 3) := dk_184 0 57 (dk_at dksX3_invaderIs_0 9 rfl rfl)
theorem dX3_invaderIs_12 : decode cX3_invaderIs 12 = .ok (.ifCond .ne 7, 3) := dk_154 0 7 (dk_at dksX3_invaderIs_0 12 rfl rfl)
theorem dX3_invaderIs_15 : decode cX3_invaderIs 15 = .ok (.iconst 1, 1) := dk_4 (dk_at dksX3_invaderIs_0 15 rfl rfl)
theorem dX3_invaderIs_16 : decode cX3_invaderIs 16 = .ok (.goto 17, 3) := dk_167 0 17 (dk_at dksX3_invaderIs_0 16 rfl rfl)
theorem dX3_invaderIs_19 : decode cX3_invaderIs 19 = .ok (.iload_n 2, 1) := dk_28 (dk_at dksX3_invaderIs_0 19 rfl rfl)
theorem dX3_invaderIs_20 : decode cX3_invaderIs 20 = .ok (.iconst 0, 1) := dk_3 (dk_at dksX3_invaderIs_0 20 rfl rfl)
theorem dX3_invaderIs_21 : decode cX3_invaderIs 21 = .ok (.iconst 4, 1) := dk_7 (dk_at dksX3_invaderIs_0 21 rfl rfl)
theorem dX3_invaderIs_22 : decode cX3_invaderIs 22 = .ok (.invokestatic 57, 3) := dk_184 0 57 (dk_at dksX3_invaderIs_1 0 rfl rfl)
theorem dX3_invaderIs_25 : decode cX3_invaderIs 25 = .ok (.ifCond .ne 7, 3) := dk_154 0 7 (dk_at dksX3_invaderIs_1 3 rfl rfl)
theorem dX3_invaderIs_28 : decode cX3_invaderIs 28 = .ok (.iconst 2, 1) := dk_5 (dk_at dksX3_invaderIs_1 6 rfl rfl)
theorem dX3_invaderIs_29 : decode cX3_invaderIs 29 = .ok (.goto 4, 3) := dk_167 0 4 (dk_at dksX3_invaderIs_1 7 rfl rfl)
theorem dX3_invaderIs_32 : decode cX3_invaderIs 32 = .ok (.iconst 0, 1) := dk_3 (dk_at dksX3_invaderIs_1 10 rfl rfl)
theorem dX3_invaderIs_33 : decode cX3_invaderIs 33 = .ok (.putfield 53, 3) := dk_181 0 53 (dk_at dksX3_invaderIs_1 11 rfl rfl)
theorem dX3_invaderIs_36 : decode cX3_invaderIs 36 = .ok (.aload_n 0, 1) := dk_42 (dk_at dksX3_invaderIs_1 14 rfl rfl)
theorem dX3_invaderIs_37 : decode cX3_invaderIs 37 = .ok (.getfield 53, 3) := dk_180 0 53 (dk_at dksX3_invaderIs_1 15 rfl rfl)
theorem dX3_invaderIs_40 : decode cX3_invaderIs 40 = .ok (.ifCond .le 5, 3) := dk_158 0 5 (dk_at dksX3_invaderIs_1 18 rfl rfl)
theorem dX3_invaderIs_43 : decode cX3_invaderIs 43 = .ok (.iconst 0, 1) := dk_3 (dk_at dksX3_invaderIs_1 21 rfl rfl)
theorem dX3_invaderIs_44 : decode cX3_invaderIs 44 = .ok (.ireturn, 1) := dk_172 (dk_at dksX3_invaderIs_1 22 rfl rfl)
theorem dX3_invaderIs_45 : decode cX3_invaderIs 45 = .ok (.iload_n 2, 1) := dk_28 (dk_at dksX3_invaderIs_1 23 rfl rfl)
theorem dX3_invaderIs_46 : decode cX3_invaderIs 46 = .ok (.tableswitch 65 0 3 #[30, 37, 47, 54], 30) := by decide +kernel
theorem dX3_invaderIs_76 : decode cX3_invaderIs 76 = .ok (.aload_n 0, 1) := dk_42 (dk_at dksX3_invaderIs_3 0 rfl rfl)
theorem dX3_invaderIs_77 : decode cX3_invaderIs 77 = .ok (.getfield 37, 3) := dk_180 0 37 (dk_at dksX3_invaderIs_3 1 rfl rfl)
theorem dX3_invaderIs_80 : decode cX3_invaderIs 80 = .ok (.iload_n 1, 1) := dk_27 (dk_at dksX3_invaderIs_3 4 rfl rfl)
theorem dX3_invaderIs_81 : decode cX3_invaderIs 81 = .ok (.iaload, 1) := dk_46 (dk_at dksX3_invaderIs_3 5 rfl rfl)
theorem dX3_invaderIs_82 : decode cX3_invaderIs 82 = .ok (.ireturn, 1) := dk_172 (dk_at dksX3_invaderIs_3 6 rfl rfl)
theorem dX3_invaderIs_83 : decode cX3_invaderIs 83 = .ok (.aload_n 0, 1) := dk_42 (dk_at dksX3_invaderIs_3 7 rfl rfl)
theorem dX3_invaderIs_84 : decode cX3_invaderIs 84 = .ok (.getfield 43, 3) := dk_180 0 43 (dk_at dksX3_invaderIs_3 8 rfl rfl)
theorem dX3_invaderIs_87 : decode cX3_invaderIs 87 = .ok (.bipush 120, 2) := dk_16 120 (dk_at dksX3_invaderIs_3 11 rfl rfl)
theorem dX3_invaderIs_89 : decode cX3_invaderIs 89 = .ok (.iload_n 1, 1) := dk_27 (dk_at dksX3_invaderIs_3 13 rfl rfl)
theorem dX3_invaderIs_90 : decode cX3_invaderIs 90 = .ok (.iadd, 1) := dk_96 (dk_at dksX3_invaderIs_3 14 rfl rfl)
theorem dX3_invaderIs_91 : decode cX3_invaderIs 91 = .ok (.iaload, 1) := dk_46 (dk_at dksX3_invaderIs_3 15 rfl rfl)
theorem dX3_invaderIs_92 : decode cX3_invaderIs 92 = .ok (.ireturn, 1) := dk_172 (dk_at dksX3_invaderIs_3 16 rfl rfl)
theorem dX3_invaderIs_93 : decode cX3_invaderIs 93 = .ok (.aload_n 0, 1) := dk_42 (dk_at dksX3_invaderIs_3 17 rfl rfl)
theorem dX3_invaderIs_94 : decode cX3_invaderIs 94 = .ok (.getfield 40, 3) := dk_180 0 40 (dk_at dksX3_invaderIs_3 18 rfl rfl)
theorem dX3_invaderIs_97 : decode cX3_invaderIs 97 = .ok (.iload_n 1, 1) := dk_27 (dk_at dksX3_invaderIs_3 21 rfl rfl)
theorem dX3_invaderIs_98 : decode cX3_invaderIs 98 = .ok (.iaload, 1) := dk_46 (dk_at dksX3_invaderIs_3 22 rfl rfl)
theorem dX3_invaderIs_99 : decode cX3_invaderIs 99 = .ok (.ireturn, 1) := dk_172 (dk_at dksX3_invaderIs_3 23 rfl rfl)
theorem dX3_invaderIs_100 : decode cX3_invaderIs 100 = .ok (.aload_n 0, 1) := dk_42 (dk_at dksX3_invaderIs_4 0 rfl rfl)
theorem dX3_invaderIs_101 : decode cX3_invaderIs 101 = .ok (.getfield 43, 3) := dk_180 0 43 (dk_at dksX3_invaderIs_4 1 rfl rfl)
theorem dX3_invaderIs_104 : decode cX3_invaderIs 104 = .ok (.sipush 128, 3) := dk_17 0 128 (dk_at dksX3_invaderIs_4 4 rfl rfl)
theorem dX3_invaderIs_107 : decode cX3_invaderIs 107 = .ok (.iload_n 1, 1) := dk_27 (dk_at dksX3_invaderIs_4 7 rfl rfl)
theorem dX3_invaderIs_108 : decode cX3_invaderIs 108 = .ok (.iadd, 1) := dk_96 (dk_at dksX3_invaderIs_4 8 rfl rfl)
theorem dX3_invaderIs_109 : decode cX3_invaderIs 109 = .ok (.iaload, 1) := dk_46 (dk_at dksX3_invaderIs_4 9 rfl rfl)
theorem dX3_invaderIs_110 : decode cX3_invaderIs 110 = .ok (.ireturn, 1) := dk_172 (dk_at dksX3_invaderIs_4 10 rfl rfl)
theorem dX3_invaderIs_111 : decode cX3_invaderIs 111 = .ok (.aload_n 0, 1) := dk_42 (dk_at dksX3_invaderIs_4 11 rfl rfl)
theorem dX3_invaderIs_112 : decode cX3_invaderIs 112 = .ok (.getfield 43, 3) := dk_180 0 43 (dk_at dksX3_invaderIs_4 12 rfl rfl)
theorem dX3_invaderIs_115 : decode cX3_invaderIs 115 = .ok (.sipush 136, 3) := dk_17 0 136 (dk_at dksX3_invaderIs_4 15 rfl rfl)
theorem dX3_invaderIs_118 : decode cX3_invaderIs 118 = .ok (.iload_n 1, 1) := dk_27 (dk_at dksX3_invaderIs_4 18 rfl rfl)
theorem dX3_invaderIs_119 : decode cX3_invaderIs 119 = .ok (.iadd, 1) := dk_96 (dk_at dksX3_invaderIs_4 19 rfl rfl)
theorem dX3_invaderIs_120 : decode cX3_invaderIs 120 = .ok (.iaload, 1) := dk_46 (dk_at dksX3_invaderIs_4 20 rfl rfl)
theorem dX3_invaderIs_121 : decode cX3_invaderIs 121 = .ok (.ireturn, 1) := dk_172 (dk_at dksX3_invaderIs_4 21 rfl rfl)
abbrev cX3_why : ByteArray := prog_6_method_26_code
def yX3_why : MethodName := ⟨RX3, "why", "(I)I"⟩
def dkwX3_why_9 : List UInt8 := [154, 0, 7, 8, 167, 0, 14, 21, 6, 154, 0, 8, 16, 6, 167, 0, 4, 3, 172]
abbrev dktX3_why_9 : List UInt8 := dkwX3_why_9 ++ []
def dkwX3_why_8 : List UInt8 := [29, 160, 0, 7, 6, 167, 0, 35, 28, 29, 21, 4, 96, 160, 0, 7, 7, 167, 0, 23, 21, 5]
abbrev dktX3_why_8 : List UInt8 := dkwX3_why_8 ++ dktX3_why_9
def dkwX3_why_7 : List UInt8 := [167, 255, 138, 42, 27, 182, 0, 98, 154, 0, 7, 4, 167, 0, 52, 28, 154, 0, 7, 5, 167, 0, 44, 28]
abbrev dktX3_why_7 : List UInt8 := dkwX3_why_7 ++ dktX3_why_8
def dkwX3_why_6 : List UInt8 := [160, 0, 17, 42, 180, 0, 31, 21, 7, 46, 154, 0, 7, 4, 167, 0, 4, 3, 96, 54, 6, 132, 7, 1]
abbrev dktX3_why_6 : List UInt8 := dkwX3_why_6 ++ dktX3_why_7
def dkwX3_why_5 : List UInt8 := [54, 4, 21, 5, 21, 8, 6, 160, 0, 7, 4, 167, 0, 4, 3, 96, 54, 5, 21, 6, 21, 8, 6]
abbrev dktX3_why_5 : List UInt8 := dkwX3_why_5 ++ dktX3_why_6
def dkwX3_why_4 : List UInt8 := [163, 0, 7, 4, 167, 0, 4, 3, 96, 62, 21, 4, 21, 8, 7, 160, 0, 7, 4, 167, 0, 4, 3, 96]
abbrev dktX3_why_4 : List UInt8 := dkwX3_why_4 ++ dktX3_why_5
def dkwX3_why_3 : List UInt8 := [182, 0, 101, 153, 0, 89, 42, 180, 0, 43, 3, 21, 7, 96, 46, 54, 8, 132, 2, 1, 29, 21, 8, 4]
abbrev dktX3_why_3 : List UInt8 := dkwX3_why_3 ++ dktX3_why_4
def dkwX3_why_2 : List UInt8 := [21, 7, 42, 180, 0, 88, 162, 0, 115, 42, 42, 180, 0, 28, 21, 7, 46, 42, 180, 0, 37, 27, 46]
abbrev dktX3_why_2 : List UInt8 := dkwX3_why_2 ++ dktX3_why_3
def dkwX3_why_1 : List UInt8 := [180, 0, 53, 158, 0, 5, 3, 172, 3, 61, 3, 62, 3, 54, 4, 3, 54, 5, 3, 54, 6, 3, 54, 7]
abbrev dktX3_why_1 : List UInt8 := dkwX3_why_1 ++ dktX3_why_2
def dkwX3_why_0 : List UInt8 := [42, 27, 3, 42, 180, 0, 95, 4, 100, 184, 0, 57, 153, 0, 7, 3, 167, 0, 4, 4, 181, 0, 53, 42]
abbrev dktX3_why_0 : List UInt8 := dkwX3_why_0 ++ dktX3_why_1
theorem dksX3_why_0 : cX3_why.data.toList.drop 0 = dktX3_why_0 := by decide +kernel
theorem dksX3_why_1 : cX3_why.data.toList.drop 24 = dktX3_why_1 := dk_seg dksX3_why_0 24 rfl rfl
theorem dksX3_why_2 : cX3_why.data.toList.drop 48 = dktX3_why_2 := dk_seg dksX3_why_1 24 rfl rfl
theorem dksX3_why_3 : cX3_why.data.toList.drop 71 = dktX3_why_3 := dk_seg dksX3_why_2 23 rfl rfl
theorem dksX3_why_4 : cX3_why.data.toList.drop 95 = dktX3_why_4 := dk_seg dksX3_why_3 24 rfl rfl
theorem dksX3_why_5 : cX3_why.data.toList.drop 119 = dktX3_why_5 := dk_seg dksX3_why_4 24 rfl rfl
theorem dksX3_why_6 : cX3_why.data.toList.drop 142 = dktX3_why_6 := dk_seg dksX3_why_5 23 rfl rfl
theorem dksX3_why_7 : cX3_why.data.toList.drop 166 = dktX3_why_7 := dk_seg dksX3_why_6 24 rfl rfl
theorem dksX3_why_8 : cX3_why.data.toList.drop 190 = dktX3_why_8 := dk_seg dksX3_why_7 24 rfl rfl
theorem dksX3_why_9 : cX3_why.data.toList.drop 212 = dktX3_why_9 := dk_seg dksX3_why_8 22 rfl rfl
theorem dX3_why_0 : decode cX3_why 0 = .ok (.aload_n 0, 1) := dk_42 (dk_at dksX3_why_0 0 rfl rfl)
theorem dX3_why_1 : decode cX3_why 1 = .ok (.iload_n 1, 1) := dk_27 (dk_at dksX3_why_0 1 rfl rfl)
theorem dX3_why_2 : decode cX3_why 2 = .ok (.iconst 0, 1) := dk_3 (dk_at dksX3_why_0 2 rfl rfl)
theorem dX3_why_3 : decode cX3_why 3 = .ok (.aload_n 0, 1) := dk_42 (dk_at dksX3_why_0 3 rfl rfl)
theorem dX3_why_4 : decode cX3_why 4 = .ok (.getfield 95, 3) := dk_180 0 95 (dk_at dksX3_why_0 4 rfl rfl)
theorem dX3_why_7 : decode cX3_why 7 = .ok (.iconst 1, 1) := dk_4 (dk_at dksX3_why_0 7 rfl rfl)
theorem dX3_why_8 : decode cX3_why 8 = .ok (.isub, 1) := dk_100 (dk_at dksX3_why_0 8 rfl rfl)
theorem dX3_why_9 : decode cX3_why 9 = .ok (.invokestatic 57, 3) := dk_184 0 57 (dk_at dksX3_why_0 9 rfl rfl)
theorem dX3_why_12 : decode cX3_why 12 = .ok (.ifCond .eq 7, 3) := dk_153 0 7 (dk_at dksX3_why_0 12 rfl rfl)
theorem dX3_why_15 : decode cX3_why 15 = .ok (.iconst 0, 1) := dk_3 (dk_at dksX3_why_0 15 rfl rfl)
theorem dX3_why_16 : decode cX3_why 16 = .ok (.goto 4, 3) := dk_167 0 4 (dk_at dksX3_why_0 16 rfl rfl)
theorem dX3_why_19 : decode cX3_why 19 = .ok (.iconst 1, 1) := dk_4 (dk_at dksX3_why_0 19 rfl rfl)
theorem dX3_why_20 : decode cX3_why 20 = .ok (.putfield 53, 3) := dk_181 0 53 (dk_at dksX3_why_0 20 rfl rfl)
theorem dX3_why_23 : decode cX3_why 23 = .ok (.aload_n 0, 1) := dk_42 (dk_at dksX3_why_0 23 rfl rfl)
theorem dX3_why_24 : decode cX3_why 24 = .ok (.getfield 53, 3) := dk_180 0 53 (dk_at dksX3_why_1 0 rfl rfl)
theorem dX3_why_27 : decode cX3_why 27 = .ok (.ifCond .le 5, 3) := dk_158 0 5 (dk_at dksX3_why_1 3 rfl rfl)
theorem dX3_why_30 : decode cX3_why 30 = .ok (.iconst 0, 1) := dk_3 (dk_at dksX3_why_1 6 rfl rfl)
theorem dX3_why_31 : decode cX3_why 31 = .ok (.ireturn, 1) := dk_172 (dk_at dksX3_why_1 7 rfl rfl)
theorem dX3_why_32 : decode cX3_why 32 = .ok (.iconst 0, 1) := dk_3 (dk_at dksX3_why_1 8 rfl rfl)
theorem dX3_why_33 : decode cX3_why 33 = .ok (.istore_n 2, 1) := dk_61 (dk_at dksX3_why_1 9 rfl rfl)
theorem dX3_why_34 : decode cX3_why 34 = .ok (.iconst 0, 1) := dk_3 (dk_at dksX3_why_1 10 rfl rfl)
theorem dX3_why_35 : decode cX3_why 35 = .ok (.istore_n 3, 1) := dk_62 (dk_at dksX3_why_1 11 rfl rfl)
theorem dX3_why_36 : decode cX3_why 36 = .ok (.iconst 0, 1) := dk_3 (dk_at dksX3_why_1 12 rfl rfl)
theorem dX3_why_37 : decode cX3_why 37 = .ok (.istore 4, 2) := dk_54 4 (dk_at dksX3_why_1 13 rfl rfl)
theorem dX3_why_39 : decode cX3_why 39 = .ok (.iconst 0, 1) := dk_3 (dk_at dksX3_why_1 15 rfl rfl)
theorem dX3_why_40 : decode cX3_why 40 = .ok (.istore 5, 2) := dk_54 5 (dk_at dksX3_why_1 16 rfl rfl)
theorem dX3_why_42 : decode cX3_why 42 = .ok (.iconst 0, 1) := dk_3 (dk_at dksX3_why_1 18 rfl rfl)
theorem dX3_why_43 : decode cX3_why 43 = .ok (.istore 6, 2) := dk_54 6 (dk_at dksX3_why_1 19 rfl rfl)
theorem dX3_why_45 : decode cX3_why 45 = .ok (.iconst 0, 1) := dk_3 (dk_at dksX3_why_1 21 rfl rfl)
theorem dX3_why_46 : decode cX3_why 46 = .ok (.istore 7, 2) := dk_54 7 (dk_at dksX3_why_1 22 rfl rfl)
theorem dX3_why_48 : decode cX3_why 48 = .ok (.iload 7, 2) := dk_21 7 (dk_at dksX3_why_2 0 rfl rfl)
theorem dX3_why_50 : decode cX3_why 50 = .ok (.aload_n 0, 1) := dk_42 (dk_at dksX3_why_2 2 rfl rfl)
theorem dX3_why_51 : decode cX3_why 51 = .ok (.getfield 88, 3) := dk_180 0 88 (dk_at dksX3_why_2 3 rfl rfl)
theorem dX3_why_54 : decode cX3_why 54 = .ok (.if_icmp .ge 115, 3) := dk_162 0 115 (dk_at dksX3_why_2 6 rfl rfl)
theorem dX3_why_57 : decode cX3_why 57 = .ok (.aload_n 0, 1) := dk_42 (dk_at dksX3_why_2 9 rfl rfl)
theorem dX3_why_58 : decode cX3_why 58 = .ok (.aload_n 0, 1) := dk_42 (dk_at dksX3_why_2 10 rfl rfl)
theorem dX3_why_59 : decode cX3_why 59 = .ok (.getfield 28, 3) := dk_180 0 28 (dk_at dksX3_why_2 11 rfl rfl)
theorem dX3_why_62 : decode cX3_why 62 = .ok (.iload 7, 2) := dk_21 7 (dk_at dksX3_why_2 14 rfl rfl)
theorem dX3_why_64 : decode cX3_why 64 = .ok (.iaload, 1) := dk_46 (dk_at dksX3_why_2 16 rfl rfl)
theorem dX3_why_65 : decode cX3_why 65 = .ok (.aload_n 0, 1) := dk_42 (dk_at dksX3_why_2 17 rfl rfl)
theorem dX3_why_66 : decode cX3_why 66 = .ok (.getfield 37, 3) := dk_180 0 37 (dk_at dksX3_why_2 18 rfl rfl)
theorem dX3_why_69 : decode cX3_why 69 = .ok (.iload_n 1, 1) := dk_27 (dk_at dksX3_why_2 21 rfl rfl)
theorem dX3_why_70 : decode cX3_why 70 = .ok (.iaload, 1) := dk_46 (dk_at dksX3_why_2 22 rfl rfl)
theorem dX3_why_71 : decode cX3_why 71 = .ok (.invokevirtual 101, 3) := dk_182 0 101 (dk_at dksX3_why_3 0 rfl rfl)
theorem dX3_why_74 : decode cX3_why 74 = .ok (.ifCond .eq 89, 3) := dk_153 0 89 (dk_at dksX3_why_3 3 rfl rfl)
theorem dX3_why_77 : decode cX3_why 77 = .ok (.aload_n 0, 1) := dk_42 (dk_at dksX3_why_3 6 rfl rfl)
theorem dX3_why_78 : decode cX3_why 78 = .ok (.getfield 43, 3) := dk_180 0 43 (dk_at dksX3_why_3 7 rfl rfl)
theorem dX3_why_81 : decode cX3_why 81 = .ok (.iconst 0, 1) := dk_3 (dk_at dksX3_why_3 10 rfl rfl)
theorem dX3_why_82 : decode cX3_why 82 = .ok (.iload 7, 2) := dk_21 7 (dk_at dksX3_why_3 11 rfl rfl)
theorem dX3_why_84 : decode cX3_why 84 = .ok (.iadd, 1) := dk_96 (dk_at dksX3_why_3 13 rfl rfl)
theorem dX3_why_85 : decode cX3_why 85 = .ok (.iaload, 1) := dk_46 (dk_at dksX3_why_3 14 rfl rfl)
theorem dX3_why_86 : decode cX3_why 86 = .ok (.istore 8, 2) := dk_54 8 (dk_at dksX3_why_3 15 rfl rfl)
theorem dX3_why_88 : decode cX3_why 88 = .ok (.iinc 2 1, 3) := dk_132 2 1 (dk_at dksX3_why_3 17 rfl rfl)
theorem dX3_why_91 : decode cX3_why 91 = .ok (.iload_n 3, 1) := dk_29 (dk_at dksX3_why_3 20 rfl rfl)
theorem dX3_why_92 : decode cX3_why 92 = .ok (.iload 8, 2) := dk_21 8 (dk_at dksX3_why_3 21 rfl rfl)
theorem dX3_why_94 : decode cX3_why 94 = .ok (.iconst 1, 1) := dk_4 (dk_at dksX3_why_3 23 rfl rfl)
theorem dX3_why_95 : decode cX3_why 95 = .ok (.if_icmp .gt 7, 3) := dk_163 0 7 (dk_at dksX3_why_4 0 rfl rfl)
theorem dX3_why_98 : decode cX3_why 98 = .ok (.iconst 1, 1) := dk_4 (dk_at dksX3_why_4 3 rfl rfl)
theorem dX3_why_99 : decode cX3_why 99 = .ok (.goto 4, 3) := dk_167 0 4 (dk_at dksX3_why_4 4 rfl rfl)
theorem dX3_why_102 : decode cX3_why 102 = .ok (.iconst 0, 1) := dk_3 (dk_at dksX3_why_4 7 rfl rfl)
theorem dX3_why_103 : decode cX3_why 103 = .ok (.iadd, 1) := dk_96 (dk_at dksX3_why_4 8 rfl rfl)
theorem dX3_why_104 : decode cX3_why 104 = .ok (.istore_n 3, 1) := dk_62 (dk_at dksX3_why_4 9 rfl rfl)
theorem dX3_why_105 : decode cX3_why 105 = .ok (.iload 4, 2) := dk_21 4 (dk_at dksX3_why_4 10 rfl rfl)
theorem dX3_why_107 : decode cX3_why 107 = .ok (.iload 8, 2) := dk_21 8 (dk_at dksX3_why_4 12 rfl rfl)
theorem dX3_why_109 : decode cX3_why 109 = .ok (.iconst 4, 1) := dk_7 (dk_at dksX3_why_4 14 rfl rfl)
theorem dX3_why_110 : decode cX3_why 110 = .ok (.if_icmp .ne 7, 3) := dk_160 0 7 (dk_at dksX3_why_4 15 rfl rfl)
theorem dX3_why_113 : decode cX3_why 113 = .ok (.iconst 1, 1) := dk_4 (dk_at dksX3_why_4 18 rfl rfl)
theorem dX3_why_114 : decode cX3_why 114 = .ok (.goto 4, 3) := dk_167 0 4 (dk_at dksX3_why_4 19 rfl rfl)
theorem dX3_why_117 : decode cX3_why 117 = .ok (.iconst 0, 1) := dk_3 (dk_at dksX3_why_4 22 rfl rfl)
theorem dX3_why_118 : decode cX3_why 118 = .ok (.iadd, 1) := dk_96 (dk_at dksX3_why_4 23 rfl rfl)
theorem dX3_why_119 : decode cX3_why 119 = .ok (.istore 4, 2) := dk_54 4 (dk_at dksX3_why_5 0 rfl rfl)
theorem dX3_why_121 : decode cX3_why 121 = .ok (.iload 5, 2) := dk_21 5 (dk_at dksX3_why_5 2 rfl rfl)
theorem dX3_why_123 : decode cX3_why 123 = .ok (.iload 8, 2) := dk_21 8 (dk_at dksX3_why_5 4 rfl rfl)
theorem dX3_why_125 : decode cX3_why 125 = .ok (.iconst 3, 1) := dk_6 (dk_at dksX3_why_5 6 rfl rfl)
theorem dX3_why_126 : decode cX3_why 126 = .ok (.if_icmp .ne 7, 3) := dk_160 0 7 (dk_at dksX3_why_5 7 rfl rfl)
theorem dX3_why_129 : decode cX3_why 129 = .ok (.iconst 1, 1) := dk_4 (dk_at dksX3_why_5 10 rfl rfl)
theorem dX3_why_130 : decode cX3_why 130 = .ok (.goto 4, 3) := dk_167 0 4 (dk_at dksX3_why_5 11 rfl rfl)
theorem dX3_why_133 : decode cX3_why 133 = .ok (.iconst 0, 1) := dk_3 (dk_at dksX3_why_5 14 rfl rfl)
theorem dX3_why_134 : decode cX3_why 134 = .ok (.iadd, 1) := dk_96 (dk_at dksX3_why_5 15 rfl rfl)
theorem dX3_why_135 : decode cX3_why 135 = .ok (.istore 5, 2) := dk_54 5 (dk_at dksX3_why_5 16 rfl rfl)
theorem dX3_why_137 : decode cX3_why 137 = .ok (.iload 6, 2) := dk_21 6 (dk_at dksX3_why_5 18 rfl rfl)
theorem dX3_why_139 : decode cX3_why 139 = .ok (.iload 8, 2) := dk_21 8 (dk_at dksX3_why_5 20 rfl rfl)
theorem dX3_why_141 : decode cX3_why 141 = .ok (.iconst 3, 1) := dk_6 (dk_at dksX3_why_5 22 rfl rfl)
theorem dX3_why_142 : decode cX3_why 142 = .ok (.if_icmp .ne 17, 3) := dk_160 0 17 (dk_at dksX3_why_6 0 rfl rfl)
theorem dX3_why_145 : decode cX3_why 145 = .ok (.aload_n 0, 1) := dk_42 (dk_at dksX3_why_6 3 rfl rfl)
theorem dX3_why_146 : decode cX3_why 146 = .ok (.getfield 31, 3) := dk_180 0 31 (dk_at dksX3_why_6 4 rfl rfl)
theorem dX3_why_149 : decode cX3_why 149 = .ok (.iload 7, 2) := dk_21 7 (dk_at dksX3_why_6 7 rfl rfl)
theorem dX3_why_151 : decode cX3_why 151 = .ok (.iaload, 1) := dk_46 (dk_at dksX3_why_6 9 rfl rfl)
theorem dX3_why_152 : decode cX3_why 152 = .ok (.ifCond .ne 7, 3) := dk_154 0 7 (dk_at dksX3_why_6 10 rfl rfl)
theorem dX3_why_155 : decode cX3_why 155 = .ok (.iconst 1, 1) := dk_4 (dk_at dksX3_why_6 13 rfl rfl)
theorem dX3_why_156 : decode cX3_why 156 = .ok (.goto 4, 3) := dk_167 0 4 (dk_at dksX3_why_6 14 rfl rfl)
theorem dX3_why_159 : decode cX3_why 159 = .ok (.iconst 0, 1) := dk_3 (dk_at dksX3_why_6 17 rfl rfl)
theorem dX3_why_160 : decode cX3_why 160 = .ok (.iadd, 1) := dk_96 (dk_at dksX3_why_6 18 rfl rfl)
theorem dX3_why_161 : decode cX3_why 161 = .ok (.istore 6, 2) := dk_54 6 (dk_at dksX3_why_6 19 rfl rfl)
theorem dX3_why_163 : decode cX3_why 163 = .ok (.iinc 7 1, 3) := dk_132 7 1 (dk_at dksX3_why_6 21 rfl rfl)
theorem dX3_why_166 : decode cX3_why 166 = .ok (.goto (-118), 3) := dk_167 255 138 (dk_at dksX3_why_7 0 rfl rfl)
theorem dX3_why_169 : decode cX3_why 169 = .ok (.aload_n 0, 1) := dk_42 (dk_at dksX3_why_7 3 rfl rfl)
theorem dX3_why_170 : decode cX3_why 170 = .ok (.iload_n 1, 1) := dk_27 (dk_at dksX3_why_7 4 rfl rfl)
theorem dX3_why_171 : decode cX3_why 171 = .ok (.invokevirtual 98, 3) := dk_182 0 98 (dk_at dksX3_why_7 5 rfl rfl)
theorem dX3_why_174 : decode cX3_why 174 = .ok (.ifCond .ne 7, 3) := dk_154 0 7 (dk_at dksX3_why_7 8 rfl rfl)
theorem dX3_why_177 : decode cX3_why 177 = .ok (.iconst 1, 1) := dk_4 (dk_at dksX3_why_7 11 rfl rfl)
theorem dX3_why_178 : decode cX3_why 178 = .ok (.goto 52, 3) := dk_167 0 52 (dk_at dksX3_why_7 12 rfl rfl)
theorem dX3_why_181 : decode cX3_why 181 = .ok (.iload_n 2, 1) := dk_28 (dk_at dksX3_why_7 15 rfl rfl)
theorem dX3_why_182 : decode cX3_why 182 = .ok (.ifCond .ne 7, 3) := dk_154 0 7 (dk_at dksX3_why_7 16 rfl rfl)
theorem dX3_why_185 : decode cX3_why 185 = .ok (.iconst 2, 1) := dk_5 (dk_at dksX3_why_7 19 rfl rfl)
theorem dX3_why_186 : decode cX3_why 186 = .ok (.goto 44, 3) := dk_167 0 44 (dk_at dksX3_why_7 20 rfl rfl)
theorem dX3_why_189 : decode cX3_why 189 = .ok (.iload_n 2, 1) := dk_28 (dk_at dksX3_why_7 23 rfl rfl)
theorem dX3_why_190 : decode cX3_why 190 = .ok (.iload_n 3, 1) := dk_29 (dk_at dksX3_why_8 0 rfl rfl)
theorem dX3_why_191 : decode cX3_why 191 = .ok (.if_icmp .ne 7, 3) := dk_160 0 7 (dk_at dksX3_why_8 1 rfl rfl)
theorem dX3_why_194 : decode cX3_why 194 = .ok (.iconst 3, 1) := dk_6 (dk_at dksX3_why_8 4 rfl rfl)
theorem dX3_why_195 : decode cX3_why 195 = .ok (.goto 35, 3) := dk_167 0 35 (dk_at dksX3_why_8 5 rfl rfl)
theorem dX3_why_198 : decode cX3_why 198 = .ok (.iload_n 2, 1) := dk_28 (dk_at dksX3_why_8 8 rfl rfl)
theorem dX3_why_199 : decode cX3_why 199 = .ok (.iload_n 3, 1) := dk_29 (dk_at dksX3_why_8 9 rfl rfl)
theorem dX3_why_200 : decode cX3_why 200 = .ok (.iload 4, 2) := dk_21 4 (dk_at dksX3_why_8 10 rfl rfl)
theorem dX3_why_202 : decode cX3_why 202 = .ok (.iadd, 1) := dk_96 (dk_at dksX3_why_8 12 rfl rfl)
theorem dX3_why_203 : decode cX3_why 203 = .ok (.if_icmp .ne 7, 3) := dk_160 0 7 (dk_at dksX3_why_8 13 rfl rfl)
theorem dX3_why_206 : decode cX3_why 206 = .ok (.iconst 4, 1) := dk_7 (dk_at dksX3_why_8 16 rfl rfl)
theorem dX3_why_207 : decode cX3_why 207 = .ok (.goto 23, 3) := dk_167 0 23 (dk_at dksX3_why_8 17 rfl rfl)
theorem dX3_why_210 : decode cX3_why 210 = .ok (.iload 5, 2) := dk_21 5 (dk_at dksX3_why_8 20 rfl rfl)
theorem dX3_why_212 : decode cX3_why 212 = .ok (.ifCond .ne 7, 3) := dk_154 0 7 (dk_at dksX3_why_9 0 rfl rfl)
theorem dX3_why_215 : decode cX3_why 215 = .ok (.iconst 5, 1) := dk_8 (dk_at dksX3_why_9 3 rfl rfl)
theorem dX3_why_216 : decode cX3_why 216 = .ok (.goto 14, 3) := dk_167 0 14 (dk_at dksX3_why_9 4 rfl rfl)
theorem dX3_why_219 : decode cX3_why 219 = .ok (.iload 6, 2) := dk_21 6 (dk_at dksX3_why_9 7 rfl rfl)
theorem dX3_why_221 : decode cX3_why 221 = .ok (.ifCond .ne 8, 3) := dk_154 0 8 (dk_at dksX3_why_9 9 rfl rfl)
theorem dX3_why_224 : decode cX3_why 224 = .ok (.bipush 6, 2) := dk_16 6 (dk_at dksX3_why_9 12 rfl rfl)
theorem dX3_why_226 : decode cX3_why 226 = .ok (.goto 4, 3) := dk_167 0 4 (dk_at dksX3_why_9 14 rfl rfl)
theorem dX3_why_229 : decode cX3_why 229 = .ok (.iconst 0, 1) := dk_3 (dk_at dksX3_why_9 17 rfl rfl)
theorem dX3_why_230 : decode cX3_why 230 = .ok (.ireturn, 1) := dk_172 (dk_at dksX3_why_9 18 rfl rfl)
abbrev cX3_touches : ByteArray := prog_6_method_9_code
def yX3_touches : MethodName := ⟨RX3, "touches", "(II)Z"⟩
def dkwX3_touches_0 : List UInt8 := [42, 27, 28, 182, 0, 69, 42, 180, 0, 13, 3, 46, 161, 0, 7, 4, 167, 0, 4, 3, 172]
abbrev dktX3_touches_0 : List UInt8 := dkwX3_touches_0 ++ []
theorem dksX3_touches_0 : cX3_touches.data.toList.drop 0 = dktX3_touches_0 := by decide +kernel
theorem dX3_touches_0 : decode cX3_touches 0 = .ok (.aload_n 0, 1) := dk_42 (dk_at dksX3_touches_0 0 rfl rfl)
theorem dX3_touches_1 : decode cX3_touches 1 = .ok (.iload_n 1, 1) := dk_27 (dk_at dksX3_touches_0 1 rfl rfl)
theorem dX3_touches_2 : decode cX3_touches 2 = .ok (.iload_n 2, 1) := dk_28 (dk_at dksX3_touches_0 2 rfl rfl)
theorem dX3_touches_3 : decode cX3_touches 3 = .ok (.invokevirtual 69, 3) := dk_182 0 69 (dk_at dksX3_touches_0 3 rfl rfl)
theorem dX3_touches_6 : decode cX3_touches 6 = .ok (.aload_n 0, 1) := dk_42 (dk_at dksX3_touches_0 6 rfl rfl)
theorem dX3_touches_7 : decode cX3_touches 7 = .ok (.getfield 13, 3) := dk_180 0 13 (dk_at dksX3_touches_0 7 rfl rfl)
theorem dX3_touches_10 : decode cX3_touches 10 = .ok (.iconst 0, 1) := dk_3 (dk_at dksX3_touches_0 10 rfl rfl)
theorem dX3_touches_11 : decode cX3_touches 11 = .ok (.iaload, 1) := dk_46 (dk_at dksX3_touches_0 11 rfl rfl)
theorem dX3_touches_12 : decode cX3_touches 12 = .ok (.if_icmp .lt 7, 3) := dk_161 0 7 (dk_at dksX3_touches_0 12 rfl rfl)
theorem dX3_touches_15 : decode cX3_touches 15 = .ok (.iconst 1, 1) := dk_4 (dk_at dksX3_touches_0 15 rfl rfl)
theorem dX3_touches_16 : decode cX3_touches 16 = .ok (.goto 4, 3) := dk_167 0 4 (dk_at dksX3_touches_0 16 rfl rfl)
theorem dX3_touches_19 : decode cX3_touches 19 = .ok (.iconst 0, 1) := dk_3 (dk_at dksX3_touches_0 19 rfl rfl)
theorem dX3_touches_20 : decode cX3_touches 20 = .ok (.ireturn, 1) := dk_172 (dk_at dksX3_touches_0 20 rfl rfl)
abbrev cX3_pass : ByteArray := prog_6_method_40_code
def yX3_pass : MethodName := ⟨RX3, "pass", "(I)I"⟩
def dkwX3_pass_3 : List UInt8 := [180, 0, 43, 17, 0, 154, 46, 167, 0, 4, 3, 172]
abbrev dktX3_pass_3 : List UInt8 := dkwX3_pass_3 ++ []
def dkwX3_pass_2 : List UInt8 := [180, 0, 53, 154, 0, 13, 42, 182, 0, 144, 132, 2, 1, 167, 255, 237, 42, 180, 0, 53, 154, 0, 14, 42]
abbrev dktX3_pass_2 : List UInt8 := dkwX3_pass_2 ++ dktX3_pass_3
def dkwX3_pass_1 : List UInt8 := [96, 17, 39, 15, 164, 0, 7, 5, 167, 0, 4, 3, 181, 0, 53, 3, 61, 28, 27, 162, 0, 20, 42]
abbrev dktX3_pass_1 : List UInt8 := dkwX3_pass_1 ++ dktX3_pass_2
def dkwX3_pass_0 : List UInt8 := [42, 27, 4, 16, 48, 184, 0, 57, 154, 0, 7, 4, 167, 0, 24, 42, 180, 0, 43, 17, 0, 154, 46, 27]
abbrev dktX3_pass_0 : List UInt8 := dkwX3_pass_0 ++ dktX3_pass_1
theorem dksX3_pass_0 : cX3_pass.data.toList.drop 0 = dktX3_pass_0 := by decide +kernel
theorem dksX3_pass_1 : cX3_pass.data.toList.drop 24 = dktX3_pass_1 := dk_seg dksX3_pass_0 24 rfl rfl
theorem dksX3_pass_2 : cX3_pass.data.toList.drop 47 = dktX3_pass_2 := dk_seg dksX3_pass_1 23 rfl rfl
theorem dksX3_pass_3 : cX3_pass.data.toList.drop 71 = dktX3_pass_3 := dk_seg dksX3_pass_2 24 rfl rfl
theorem dX3_pass_0 : decode cX3_pass 0 = .ok (.aload_n 0, 1) := dk_42 (dk_at dksX3_pass_0 0 rfl rfl)
theorem dX3_pass_1 : decode cX3_pass 1 = .ok (.iload_n 1, 1) := dk_27 (dk_at dksX3_pass_0 1 rfl rfl)
theorem dX3_pass_2 : decode cX3_pass 2 = .ok (.iconst 1, 1) := dk_4 (dk_at dksX3_pass_0 2 rfl rfl)
theorem dX3_pass_3 : decode cX3_pass 3 = .ok (.bipush 48, 2) := dk_16 48 (dk_at dksX3_pass_0 3 rfl rfl)
theorem dX3_pass_5 : decode cX3_pass 5 = .ok (.invokestatic 57, 3) := dk_184 0 57 (dk_at dksX3_pass_0 5 rfl rfl)
theorem dX3_pass_8 : decode cX3_pass 8 = .ok (.ifCond .ne 7, 3) := dk_154 0 7 (dk_at dksX3_pass_0 8 rfl rfl)
theorem dX3_pass_11 : decode cX3_pass 11 = .ok (.iconst 1, 1) := dk_4 (dk_at dksX3_pass_0 11 rfl rfl)
theorem dX3_pass_12 : decode cX3_pass 12 = .ok (.goto 24, 3) := dk_167 0 24 (dk_at dksX3_pass_0 12 rfl rfl)
theorem dX3_pass_15 : decode cX3_pass 15 = .ok (.aload_n 0, 1) := dk_42 (dk_at dksX3_pass_0 15 rfl rfl)
theorem dX3_pass_16 : decode cX3_pass 16 = .ok (.getfield 43, 3) := dk_180 0 43 (dk_at dksX3_pass_0 16 rfl rfl)
theorem dX3_pass_19 : decode cX3_pass 19 = .ok (.sipush 154, 3) := dk_17 0 154 (dk_at dksX3_pass_0 19 rfl rfl)
theorem dX3_pass_22 : decode cX3_pass 22 = .ok (.iaload, 1) := dk_46 (dk_at dksX3_pass_0 22 rfl rfl)
theorem dX3_pass_23 : decode cX3_pass 23 = .ok (.iload_n 1, 1) := dk_27 (dk_at dksX3_pass_0 23 rfl rfl)
theorem dX3_pass_24 : decode cX3_pass 24 = .ok (.iadd, 1) := dk_96 (dk_at dksX3_pass_1 0 rfl rfl)
theorem dX3_pass_25 : decode cX3_pass 25 = .ok (.sipush 9999, 3) := dk_17 39 15 (dk_at dksX3_pass_1 1 rfl rfl)
theorem dX3_pass_28 : decode cX3_pass 28 = .ok (.if_icmp .le 7, 3) := dk_164 0 7 (dk_at dksX3_pass_1 4 rfl rfl)
theorem dX3_pass_31 : decode cX3_pass 31 = .ok (.iconst 2, 1) := dk_5 (dk_at dksX3_pass_1 7 rfl rfl)
theorem dX3_pass_32 : decode cX3_pass 32 = .ok (.goto 4, 3) := dk_167 0 4 (dk_at dksX3_pass_1 8 rfl rfl)
theorem dX3_pass_35 : decode cX3_pass 35 = .ok (.iconst 0, 1) := dk_3 (dk_at dksX3_pass_1 11 rfl rfl)
theorem dX3_pass_36 : decode cX3_pass 36 = .ok (.putfield 53, 3) := dk_181 0 53 (dk_at dksX3_pass_1 12 rfl rfl)
theorem dX3_pass_39 : decode cX3_pass 39 = .ok (.iconst 0, 1) := dk_3 (dk_at dksX3_pass_1 15 rfl rfl)
theorem dX3_pass_40 : decode cX3_pass 40 = .ok (.istore_n 2, 1) := dk_61 (dk_at dksX3_pass_1 16 rfl rfl)
theorem dX3_pass_41 : decode cX3_pass 41 = .ok (.iload_n 2, 1) := dk_28 (dk_at dksX3_pass_1 17 rfl rfl)
theorem dX3_pass_42 : decode cX3_pass 42 = .ok (.iload_n 1, 1) := dk_27 (dk_at dksX3_pass_1 18 rfl rfl)
theorem dX3_pass_43 : decode cX3_pass 43 = .ok (.if_icmp .ge 20, 3) := dk_162 0 20 (dk_at dksX3_pass_1 19 rfl rfl)
theorem dX3_pass_46 : decode cX3_pass 46 = .ok (.aload_n 0, 1) := dk_42 (dk_at dksX3_pass_1 22 rfl rfl)
theorem dX3_pass_47 : decode cX3_pass 47 = .ok (.getfield 53, 3) := dk_180 0 53 (dk_at dksX3_pass_2 0 rfl rfl)
theorem dX3_pass_50 : decode cX3_pass 50 = .ok (.ifCond .ne 13, 3) := dk_154 0 13 (dk_at dksX3_pass_2 3 rfl rfl)
theorem dX3_pass_53 : decode cX3_pass 53 = .ok (.aload_n 0, 1) := dk_42 (dk_at dksX3_pass_2 6 rfl rfl)
theorem dX3_pass_54 : decode cX3_pass 54 = .ok (.invokevirtual 144, 3) := dk_182 0 144 (dk_at dksX3_pass_2 7 rfl rfl)
theorem dX3_pass_57 : decode cX3_pass 57 = .ok (.iinc 2 1, 3) := dk_132 2 1 (dk_at dksX3_pass_2 10 rfl rfl)
theorem dX3_pass_60 : decode cX3_pass 60 = .ok (.goto (-19), 3) := dk_167 255 237 (dk_at dksX3_pass_2 13 rfl rfl)
theorem dX3_pass_63 : decode cX3_pass 63 = .ok (.aload_n 0, 1) := dk_42 (dk_at dksX3_pass_2 16 rfl rfl)
theorem dX3_pass_64 : decode cX3_pass 64 = .ok (.getfield 53, 3) := dk_180 0 53 (dk_at dksX3_pass_2 17 rfl rfl)
theorem dX3_pass_67 : decode cX3_pass 67 = .ok (.ifCond .ne 14, 3) := dk_154 0 14 (dk_at dksX3_pass_2 20 rfl rfl)
theorem dX3_pass_70 : decode cX3_pass 70 = .ok (.aload_n 0, 1) := dk_42 (dk_at dksX3_pass_2 23 rfl rfl)
theorem dX3_pass_71 : decode cX3_pass 71 = .ok (.getfield 43, 3) := dk_180 0 43 (dk_at dksX3_pass_3 0 rfl rfl)
theorem dX3_pass_74 : decode cX3_pass 74 = .ok (.sipush 154, 3) := dk_17 0 154 (dk_at dksX3_pass_3 3 rfl rfl)
theorem dX3_pass_77 : decode cX3_pass 77 = .ok (.iaload, 1) := dk_46 (dk_at dksX3_pass_3 6 rfl rfl)
theorem dX3_pass_78 : decode cX3_pass 78 = .ok (.goto 4, 3) := dk_167 0 4 (dk_at dksX3_pass_3 7 rfl rfl)
theorem dX3_pass_81 : decode cX3_pass 81 = .ok (.iconst 0, 1) := dk_3 (dk_at dksX3_pass_3 10 rfl rfl)
theorem dX3_pass_82 : decode cX3_pass 82 = .ok (.ireturn, 1) := dk_172 (dk_at dksX3_pass_3 11 rfl rfl)
abbrev cX3_hour : ByteArray := prog_6_method_39_code
def yX3_hour : MethodName := ⟨RX3, "hour", "()V"⟩
def dkwX3_hour_5 : List UInt8 := [132, 1, 1, 167, 255, 197, 42, 180, 0, 43, 17, 0, 154, 92, 46, 4, 96, 79, 177]
abbrev dktX3_hour_5 : List UInt8 := dkwX3_hour_5 ++ []
def dkwX3_hour_4 : List UInt8 := [17, 0, 136, 27, 96, 46, 164, 0, 7, 28, 167, 0, 13, 42, 180, 0, 43, 17, 0, 136, 27, 96, 46, 79]
abbrev dktX3_hour_4 : List UInt8 := dkwX3_hour_4 ++ dktX3_hour_5
def dkwX3_hour_3 : List UInt8 := [42, 180, 0, 43, 16, 120, 27, 96, 46, 61, 42, 180, 0, 43, 17, 0, 136, 27, 96, 28, 42, 180, 0, 43]
abbrev dktX3_hour_3 : List UInt8 := dkwX3_hour_3 ++ dktX3_hour_4
def dkwX3_hour_2 : List UInt8 := [154, 0, 8, 42, 27, 182, 0, 119, 132, 1, 1, 167, 255, 220, 3, 60, 27, 42, 180, 0, 95, 162, 0, 57]
abbrev dktX3_hour_2 : List UInt8 := dkwX3_hour_2 ++ dktX3_hour_3
def dkwX3_hour_1 : List UInt8 := [180, 0, 88, 162, 0, 34, 42, 180, 0, 43, 3, 27, 96, 46, 7, 160, 0, 16, 42, 27, 182, 0, 116]
abbrev dktX3_hour_1 : List UInt8 := dkwX3_hour_1 ++ dktX3_hour_2
def dkwX3_hour_0 : List UInt8 := [42, 182, 0, 129, 42, 182, 0, 132, 42, 182, 0, 135, 42, 182, 0, 138, 42, 182, 0, 141, 3, 60, 27, 42]
abbrev dktX3_hour_0 : List UInt8 := dkwX3_hour_0 ++ dktX3_hour_1
theorem dksX3_hour_0 : cX3_hour.data.toList.drop 0 = dktX3_hour_0 := by decide +kernel
theorem dksX3_hour_1 : cX3_hour.data.toList.drop 24 = dktX3_hour_1 := dk_seg dksX3_hour_0 24 rfl rfl
theorem dksX3_hour_2 : cX3_hour.data.toList.drop 47 = dktX3_hour_2 := dk_seg dksX3_hour_1 23 rfl rfl
theorem dksX3_hour_3 : cX3_hour.data.toList.drop 71 = dktX3_hour_3 := dk_seg dksX3_hour_2 24 rfl rfl
theorem dksX3_hour_4 : cX3_hour.data.toList.drop 95 = dktX3_hour_4 := dk_seg dksX3_hour_3 24 rfl rfl
theorem dksX3_hour_5 : cX3_hour.data.toList.drop 119 = dktX3_hour_5 := dk_seg dksX3_hour_4 24 rfl rfl
theorem dX3_hour_0 : decode cX3_hour 0 = .ok (.aload_n 0, 1) := dk_42 (dk_at dksX3_hour_0 0 rfl rfl)
theorem dX3_hour_1 : decode cX3_hour 1 = .ok (.invokevirtual 129, 3) := dk_182 0 129 (dk_at dksX3_hour_0 1 rfl rfl)
theorem dX3_hour_4 : decode cX3_hour 4 = .ok (.aload_n 0, 1) := dk_42 (dk_at dksX3_hour_0 4 rfl rfl)
theorem dX3_hour_5 : decode cX3_hour 5 = .ok (.invokevirtual 132, 3) := dk_182 0 132 (dk_at dksX3_hour_0 5 rfl rfl)
theorem dX3_hour_8 : decode cX3_hour 8 = .ok (.aload_n 0, 1) := dk_42 (dk_at dksX3_hour_0 8 rfl rfl)
theorem dX3_hour_9 : decode cX3_hour 9 = .ok (.invokevirtual 135, 3) := dk_182 0 135 (dk_at dksX3_hour_0 9 rfl rfl)
theorem dX3_hour_12 : decode cX3_hour 12 = .ok (.aload_n 0, 1) := dk_42 (dk_at dksX3_hour_0 12 rfl rfl)
theorem dX3_hour_13 : decode cX3_hour 13 = .ok (.invokevirtual 138, 3) := dk_182 0 138 (dk_at dksX3_hour_0 13 rfl rfl)
theorem dX3_hour_16 : decode cX3_hour 16 = .ok (.aload_n 0, 1) := dk_42 (dk_at dksX3_hour_0 16 rfl rfl)
theorem dX3_hour_17 : decode cX3_hour 17 = .ok (.invokevirtual 141, 3) := dk_182 0 141 (dk_at dksX3_hour_0 17 rfl rfl)
theorem dX3_hour_20 : decode cX3_hour 20 = .ok (.iconst 0, 1) := dk_3 (dk_at dksX3_hour_0 20 rfl rfl)
theorem dX3_hour_21 : decode cX3_hour 21 = .ok (.istore_n 1, 1) := dk_60 (dk_at dksX3_hour_0 21 rfl rfl)
theorem dX3_hour_22 : decode cX3_hour 22 = .ok (.iload_n 1, 1) := dk_27 (dk_at dksX3_hour_0 22 rfl rfl)
theorem dX3_hour_23 : decode cX3_hour 23 = .ok (.aload_n 0, 1) := dk_42 (dk_at dksX3_hour_0 23 rfl rfl)
theorem dX3_hour_24 : decode cX3_hour 24 = .ok (.getfield 88, 3) := dk_180 0 88 (dk_at dksX3_hour_1 0 rfl rfl)
theorem dX3_hour_27 : decode cX3_hour 27 = .ok (.if_icmp .ge 34, 3) := dk_162 0 34 (dk_at dksX3_hour_1 3 rfl rfl)
theorem dX3_hour_30 : decode cX3_hour 30 = .ok (.aload_n 0, 1) := dk_42 (dk_at dksX3_hour_1 6 rfl rfl)
theorem dX3_hour_31 : decode cX3_hour 31 = .ok (.getfield 43, 3) := dk_180 0 43 (dk_at dksX3_hour_1 7 rfl rfl)
theorem dX3_hour_34 : decode cX3_hour 34 = .ok (.iconst 0, 1) := dk_3 (dk_at dksX3_hour_1 10 rfl rfl)
theorem dX3_hour_35 : decode cX3_hour 35 = .ok (.iload_n 1, 1) := dk_27 (dk_at dksX3_hour_1 11 rfl rfl)
theorem dX3_hour_36 : decode cX3_hour 36 = .ok (.iadd, 1) := dk_96 (dk_at dksX3_hour_1 12 rfl rfl)
theorem dX3_hour_37 : decode cX3_hour 37 = .ok (.iaload, 1) := dk_46 (dk_at dksX3_hour_1 13 rfl rfl)
theorem dX3_hour_38 : decode cX3_hour 38 = .ok (.iconst 4, 1) := dk_7 (dk_at dksX3_hour_1 14 rfl rfl)
theorem dX3_hour_39 : decode cX3_hour 39 = .ok (.if_icmp .ne 16, 3) := dk_160 0 16 (dk_at dksX3_hour_1 15 rfl rfl)
theorem dX3_hour_42 : decode cX3_hour 42 = .ok (.aload_n 0, 1) := dk_42 (dk_at dksX3_hour_1 18 rfl rfl)
theorem dX3_hour_43 : decode cX3_hour 43 = .ok (.iload_n 1, 1) := dk_27 (dk_at dksX3_hour_1 19 rfl rfl)
theorem dX3_hour_44 : decode cX3_hour 44 = .ok (.invokevirtual 116, 3) := dk_182 0 116 (dk_at dksX3_hour_1 20 rfl rfl)
theorem dX3_hour_47 : decode cX3_hour 47 = .ok (.ifCond .ne 8, 3) := dk_154 0 8 (dk_at dksX3_hour_2 0 rfl rfl)
theorem dX3_hour_50 : decode cX3_hour 50 = .ok (.aload_n 0, 1) := dk_42 (dk_at dksX3_hour_2 3 rfl rfl)
theorem dX3_hour_51 : decode cX3_hour 51 = .ok (.iload_n 1, 1) := dk_27 (dk_at dksX3_hour_2 4 rfl rfl)
theorem dX3_hour_52 : decode cX3_hour 52 = .ok (.invokevirtual 119, 3) := dk_182 0 119 (dk_at dksX3_hour_2 5 rfl rfl)
theorem dX3_hour_55 : decode cX3_hour 55 = .ok (.iinc 1 1, 3) := dk_132 1 1 (dk_at dksX3_hour_2 8 rfl rfl)
theorem dX3_hour_58 : decode cX3_hour 58 = .ok (.goto (-36), 3) := dk_167 255 220 (dk_at dksX3_hour_2 11 rfl rfl)
theorem dX3_hour_61 : decode cX3_hour 61 = .ok (.iconst 0, 1) := dk_3 (dk_at dksX3_hour_2 14 rfl rfl)
theorem dX3_hour_62 : decode cX3_hour 62 = .ok (.istore_n 1, 1) := dk_60 (dk_at dksX3_hour_2 15 rfl rfl)
theorem dX3_hour_63 : decode cX3_hour 63 = .ok (.iload_n 1, 1) := dk_27 (dk_at dksX3_hour_2 16 rfl rfl)
theorem dX3_hour_64 : decode cX3_hour 64 = .ok (.aload_n 0, 1) := dk_42 (dk_at dksX3_hour_2 17 rfl rfl)
theorem dX3_hour_65 : decode cX3_hour 65 = .ok (.getfield 95, 3) := dk_180 0 95 (dk_at dksX3_hour_2 18 rfl rfl)
theorem dX3_hour_68 : decode cX3_hour 68 = .ok (.if_icmp .ge 57, 3) := dk_162 0 57 (dk_at dksX3_hour_2 21 rfl rfl)
theorem dX3_hour_71 : decode cX3_hour 71 = .ok (.aload_n 0, 1) := dk_42 (dk_at dksX3_hour_3 0 rfl rfl)
theorem dX3_hour_72 : decode cX3_hour 72 = .ok (.getfield 43, 3) := dk_180 0 43 (dk_at dksX3_hour_3 1 rfl rfl)
theorem dX3_hour_75 : decode cX3_hour 75 = .ok (.bipush 120, 2) := dk_16 120 (dk_at dksX3_hour_3 4 rfl rfl)
theorem dX3_hour_77 : decode cX3_hour 77 = .ok (.iload_n 1, 1) := dk_27 (dk_at dksX3_hour_3 6 rfl rfl)
theorem dX3_hour_78 : decode cX3_hour 78 = .ok (.iadd, 1) := dk_96 (dk_at dksX3_hour_3 7 rfl rfl)
theorem dX3_hour_79 : decode cX3_hour 79 = .ok (.iaload, 1) := dk_46 (dk_at dksX3_hour_3 8 rfl rfl)
theorem dX3_hour_80 : decode cX3_hour 80 = .ok (.istore_n 2, 1) := dk_61 (dk_at dksX3_hour_3 9 rfl rfl)
theorem dX3_hour_81 : decode cX3_hour 81 = .ok (.aload_n 0, 1) := dk_42 (dk_at dksX3_hour_3 10 rfl rfl)
theorem dX3_hour_82 : decode cX3_hour 82 = .ok (.getfield 43, 3) := dk_180 0 43 (dk_at dksX3_hour_3 11 rfl rfl)
theorem dX3_hour_85 : decode cX3_hour 85 = .ok (.sipush 136, 3) := dk_17 0 136 (dk_at dksX3_hour_3 14 rfl rfl)
theorem dX3_hour_88 : decode cX3_hour 88 = .ok (.iload_n 1, 1) := dk_27 (dk_at dksX3_hour_3 17 rfl rfl)
theorem dX3_hour_89 : decode cX3_hour 89 = .ok (.iadd, 1) := dk_96 (dk_at dksX3_hour_3 18 rfl rfl)
theorem dX3_hour_90 : decode cX3_hour 90 = .ok (.iload_n 2, 1) := dk_28 (dk_at dksX3_hour_3 19 rfl rfl)
theorem dX3_hour_91 : decode cX3_hour 91 = .ok (.aload_n 0, 1) := dk_42 (dk_at dksX3_hour_3 20 rfl rfl)
theorem dX3_hour_92 : decode cX3_hour 92 = .ok (.getfield 43, 3) := dk_180 0 43 (dk_at dksX3_hour_3 21 rfl rfl)
theorem dX3_hour_95 : decode cX3_hour 95 = .ok (.sipush 136, 3) := dk_17 0 136 (dk_at dksX3_hour_4 0 rfl rfl)
theorem dX3_hour_98 : decode cX3_hour 98 = .ok (.iload_n 1, 1) := dk_27 (dk_at dksX3_hour_4 3 rfl rfl)
theorem dX3_hour_99 : decode cX3_hour 99 = .ok (.iadd, 1) := dk_96 (dk_at dksX3_hour_4 4 rfl rfl)
theorem dX3_hour_100 : decode cX3_hour 100 = .ok (.iaload, 1) := dk_46 (dk_at dksX3_hour_4 5 rfl rfl)
theorem dX3_hour_101 : decode cX3_hour 101 = .ok (.if_icmp .le 7, 3) := dk_164 0 7 (dk_at dksX3_hour_4 6 rfl rfl)
theorem dX3_hour_104 : decode cX3_hour 104 = .ok (.iload_n 2, 1) := dk_28 (dk_at dksX3_hour_4 9 rfl rfl)
theorem dX3_hour_105 : decode cX3_hour 105 = .ok (.goto 13, 3) := dk_167 0 13 (dk_at dksX3_hour_4 10 rfl rfl)
theorem dX3_hour_108 : decode cX3_hour 108 = .ok (.aload_n 0, 1) := dk_42 (dk_at dksX3_hour_4 13 rfl rfl)
theorem dX3_hour_109 : decode cX3_hour 109 = .ok (.getfield 43, 3) := dk_180 0 43 (dk_at dksX3_hour_4 14 rfl rfl)
theorem dX3_hour_112 : decode cX3_hour 112 = .ok (.sipush 136, 3) := dk_17 0 136 (dk_at dksX3_hour_4 17 rfl rfl)
theorem dX3_hour_115 : decode cX3_hour 115 = .ok (.iload_n 1, 1) := dk_27 (dk_at dksX3_hour_4 20 rfl rfl)
theorem dX3_hour_116 : decode cX3_hour 116 = .ok (.iadd, 1) := dk_96 (dk_at dksX3_hour_4 21 rfl rfl)
theorem dX3_hour_117 : decode cX3_hour 117 = .ok (.iaload, 1) := dk_46 (dk_at dksX3_hour_4 22 rfl rfl)
theorem dX3_hour_118 : decode cX3_hour 118 = .ok (.iastore, 1) := dk_79 (dk_at dksX3_hour_4 23 rfl rfl)
theorem dX3_hour_119 : decode cX3_hour 119 = .ok (.iinc 1 1, 3) := dk_132 1 1 (dk_at dksX3_hour_5 0 rfl rfl)
theorem dX3_hour_122 : decode cX3_hour 122 = .ok (.goto (-59), 3) := dk_167 255 197 (dk_at dksX3_hour_5 3 rfl rfl)
theorem dX3_hour_125 : decode cX3_hour 125 = .ok (.aload_n 0, 1) := dk_42 (dk_at dksX3_hour_5 6 rfl rfl)
theorem dX3_hour_126 : decode cX3_hour 126 = .ok (.getfield 43, 3) := dk_180 0 43 (dk_at dksX3_hour_5 7 rfl rfl)
theorem dX3_hour_129 : decode cX3_hour 129 = .ok (.sipush 154, 3) := dk_17 0 154 (dk_at dksX3_hour_5 10 rfl rfl)
theorem dX3_hour_132 : decode cX3_hour 132 = .ok (.dup2, 1) := dk_92 (dk_at dksX3_hour_5 13 rfl rfl)
theorem dX3_hour_133 : decode cX3_hour 133 = .ok (.iaload, 1) := dk_46 (dk_at dksX3_hour_5 14 rfl rfl)
theorem dX3_hour_134 : decode cX3_hour 134 = .ok (.iconst 1, 1) := dk_4 (dk_at dksX3_hour_5 15 rfl rfl)
theorem dX3_hour_135 : decode cX3_hour 135 = .ok (.iadd, 1) := dk_96 (dk_at dksX3_hour_5 16 rfl rfl)
theorem dX3_hour_136 : decode cX3_hour 136 = .ok (.iastore, 1) := dk_79 (dk_at dksX3_hour_5 17 rfl rfl)
theorem dX3_hour_137 : decode cX3_hour 137 = .ok (.return_, 1) := dk_177 (dk_at dksX3_hour_5 18 rfl rfl)
abbrev cX3_grow : ByteArray := prog_6_method_31_code
def yX3_grow : MethodName := ⟨RX3, "grow", "()V"⟩
def dkwX3_grow_3 : List UInt8 := [27, 96, 28, 17, 39, 15, 164, 0, 9, 17, 39, 15, 167, 0, 4, 28, 79, 132, 1, 1, 167, 255, 166, 177]
abbrev dktX3_grow_3 : List UInt8 := dkwX3_grow_3 ++ []
def dkwX3_grow_2 : List UInt8 := [61, 42, 180, 0, 40, 27, 46, 156, 0, 9, 28, 5, 108, 167, 0, 4, 28, 61, 42, 180, 0, 43, 16, 120]
abbrev dktX3_grow_2 : List UInt8 := dkwX3_grow_2 ++ dktX3_grow_3
def dkwX3_grow_1 : List UInt8 := [42, 180, 0, 40, 27, 46, 158, 0, 19, 28, 28, 42, 180, 0, 40, 27, 46, 104, 16, 10, 108, 4, 96, 96]
abbrev dktX3_grow_1 : List UInt8 := dkwX3_grow_1 ++ dktX3_grow_2
def dkwX3_grow_0 : List UInt8 := [3, 60, 27, 42, 180, 0, 95, 162, 0, 88, 42, 180, 0, 43, 16, 120, 27, 96, 46, 61, 28, 158, 0, 28]
abbrev dktX3_grow_0 : List UInt8 := dkwX3_grow_0 ++ dktX3_grow_1
theorem dksX3_grow_0 : cX3_grow.data.toList.drop 0 = dktX3_grow_0 := by decide +kernel
theorem dksX3_grow_1 : cX3_grow.data.toList.drop 24 = dktX3_grow_1 := dk_seg dksX3_grow_0 24 rfl rfl
theorem dksX3_grow_2 : cX3_grow.data.toList.drop 48 = dktX3_grow_2 := dk_seg dksX3_grow_1 24 rfl rfl
theorem dksX3_grow_3 : cX3_grow.data.toList.drop 72 = dktX3_grow_3 := dk_seg dksX3_grow_2 24 rfl rfl
theorem dX3_grow_0 : decode cX3_grow 0 = .ok (.iconst 0, 1) := dk_3 (dk_at dksX3_grow_0 0 rfl rfl)
theorem dX3_grow_1 : decode cX3_grow 1 = .ok (.istore_n 1, 1) := dk_60 (dk_at dksX3_grow_0 1 rfl rfl)
theorem dX3_grow_2 : decode cX3_grow 2 = .ok (.iload_n 1, 1) := dk_27 (dk_at dksX3_grow_0 2 rfl rfl)
theorem dX3_grow_3 : decode cX3_grow 3 = .ok (.aload_n 0, 1) := dk_42 (dk_at dksX3_grow_0 3 rfl rfl)
theorem dX3_grow_4 : decode cX3_grow 4 = .ok (.getfield 95, 3) := dk_180 0 95 (dk_at dksX3_grow_0 4 rfl rfl)
theorem dX3_grow_7 : decode cX3_grow 7 = .ok (.if_icmp .ge 88, 3) := dk_162 0 88 (dk_at dksX3_grow_0 7 rfl rfl)
theorem dX3_grow_10 : decode cX3_grow 10 = .ok (.aload_n 0, 1) := dk_42 (dk_at dksX3_grow_0 10 rfl rfl)
theorem dX3_grow_11 : decode cX3_grow 11 = .ok (.getfield 43, 3) := dk_180 0 43 (dk_at dksX3_grow_0 11 rfl rfl)
theorem dX3_grow_14 : decode cX3_grow 14 = .ok (.bipush 120, 2) := dk_16 120 (dk_at dksX3_grow_0 14 rfl rfl)
theorem dX3_grow_16 : decode cX3_grow 16 = .ok (.iload_n 1, 1) := dk_27 (dk_at dksX3_grow_0 16 rfl rfl)
theorem dX3_grow_17 : decode cX3_grow 17 = .ok (.iadd, 1) := dk_96 (dk_at dksX3_grow_0 17 rfl rfl)
theorem dX3_grow_18 : decode cX3_grow 18 = .ok (.iaload, 1) := dk_46 (dk_at dksX3_grow_0 18 rfl rfl)
theorem dX3_grow_19 : decode cX3_grow 19 = .ok (.istore_n 2, 1) := dk_61 (dk_at dksX3_grow_0 19 rfl rfl)
theorem dX3_grow_20 : decode cX3_grow 20 = .ok (.iload_n 2, 1) := dk_28 (dk_at dksX3_grow_0 20 rfl rfl)
theorem dX3_grow_21 : decode cX3_grow 21 = .ok (.ifCond .le 28, 3) := dk_158 0 28 (dk_at dksX3_grow_0 21 rfl rfl)
theorem dX3_grow_24 : decode cX3_grow 24 = .ok (.aload_n 0, 1) := dk_42 (dk_at dksX3_grow_1 0 rfl rfl)
theorem dX3_grow_25 : decode cX3_grow 25 = .ok (.getfield 40, 3) := dk_180 0 40 (dk_at dksX3_grow_1 1 rfl rfl)
theorem dX3_grow_28 : decode cX3_grow 28 = .ok (.iload_n 1, 1) := dk_27 (dk_at dksX3_grow_1 4 rfl rfl)
theorem dX3_grow_29 : decode cX3_grow 29 = .ok (.iaload, 1) := dk_46 (dk_at dksX3_grow_1 5 rfl rfl)
theorem dX3_grow_30 : decode cX3_grow 30 = .ok (.ifCond .le 19, 3) := dk_158 0 19 (dk_at dksX3_grow_1 6 rfl rfl)
theorem dX3_grow_33 : decode cX3_grow 33 = .ok (.iload_n 2, 1) := dk_28 (dk_at dksX3_grow_1 9 rfl rfl)
theorem dX3_grow_34 : decode cX3_grow 34 = .ok (.iload_n 2, 1) := dk_28 (dk_at dksX3_grow_1 10 rfl rfl)
theorem dX3_grow_35 : decode cX3_grow 35 = .ok (.aload_n 0, 1) := dk_42 (dk_at dksX3_grow_1 11 rfl rfl)
theorem dX3_grow_36 : decode cX3_grow 36 = .ok (.getfield 40, 3) := dk_180 0 40 (dk_at dksX3_grow_1 12 rfl rfl)
theorem dX3_grow_39 : decode cX3_grow 39 = .ok (.iload_n 1, 1) := dk_27 (dk_at dksX3_grow_1 15 rfl rfl)
theorem dX3_grow_40 : decode cX3_grow 40 = .ok (.iaload, 1) := dk_46 (dk_at dksX3_grow_1 16 rfl rfl)
theorem dX3_grow_41 : decode cX3_grow 41 = .ok (.imul, 1) := dk_104 (dk_at dksX3_grow_1 17 rfl rfl)
theorem dX3_grow_42 : decode cX3_grow 42 = .ok (.bipush 10, 2) := dk_16 10 (dk_at dksX3_grow_1 18 rfl rfl)
theorem dX3_grow_44 : decode cX3_grow 44 = .ok (.idiv, 1) := dk_108 (dk_at dksX3_grow_1 20 rfl rfl)
theorem dX3_grow_45 : decode cX3_grow 45 = .ok (.iconst 1, 1) := dk_4 (dk_at dksX3_grow_1 21 rfl rfl)
theorem dX3_grow_46 : decode cX3_grow 46 = .ok (.iadd, 1) := dk_96 (dk_at dksX3_grow_1 22 rfl rfl)
theorem dX3_grow_47 : decode cX3_grow 47 = .ok (.iadd, 1) := dk_96 (dk_at dksX3_grow_1 23 rfl rfl)
theorem dX3_grow_48 : decode cX3_grow 48 = .ok (.istore_n 2, 1) := dk_61 (dk_at dksX3_grow_2 0 rfl rfl)
theorem dX3_grow_49 : decode cX3_grow 49 = .ok (.aload_n 0, 1) := dk_42 (dk_at dksX3_grow_2 1 rfl rfl)
theorem dX3_grow_50 : decode cX3_grow 50 = .ok (.getfield 40, 3) := dk_180 0 40 (dk_at dksX3_grow_2 2 rfl rfl)
theorem dX3_grow_53 : decode cX3_grow 53 = .ok (.iload_n 1, 1) := dk_27 (dk_at dksX3_grow_2 5 rfl rfl)
theorem dX3_grow_54 : decode cX3_grow 54 = .ok (.iaload, 1) := dk_46 (dk_at dksX3_grow_2 6 rfl rfl)
theorem dX3_grow_55 : decode cX3_grow 55 = .ok (.ifCond .ge 9, 3) := dk_156 0 9 (dk_at dksX3_grow_2 7 rfl rfl)
theorem dX3_grow_58 : decode cX3_grow 58 = .ok (.iload_n 2, 1) := dk_28 (dk_at dksX3_grow_2 10 rfl rfl)
theorem dX3_grow_59 : decode cX3_grow 59 = .ok (.iconst 2, 1) := dk_5 (dk_at dksX3_grow_2 11 rfl rfl)
theorem dX3_grow_60 : decode cX3_grow 60 = .ok (.idiv, 1) := dk_108 (dk_at dksX3_grow_2 12 rfl rfl)
theorem dX3_grow_61 : decode cX3_grow 61 = .ok (.goto 4, 3) := dk_167 0 4 (dk_at dksX3_grow_2 13 rfl rfl)
theorem dX3_grow_64 : decode cX3_grow 64 = .ok (.iload_n 2, 1) := dk_28 (dk_at dksX3_grow_2 16 rfl rfl)
theorem dX3_grow_65 : decode cX3_grow 65 = .ok (.istore_n 2, 1) := dk_61 (dk_at dksX3_grow_2 17 rfl rfl)
theorem dX3_grow_66 : decode cX3_grow 66 = .ok (.aload_n 0, 1) := dk_42 (dk_at dksX3_grow_2 18 rfl rfl)
theorem dX3_grow_67 : decode cX3_grow 67 = .ok (.getfield 43, 3) := dk_180 0 43 (dk_at dksX3_grow_2 19 rfl rfl)
theorem dX3_grow_70 : decode cX3_grow 70 = .ok (.bipush 120, 2) := dk_16 120 (dk_at dksX3_grow_2 22 rfl rfl)
theorem dX3_grow_72 : decode cX3_grow 72 = .ok (.iload_n 1, 1) := dk_27 (dk_at dksX3_grow_3 0 rfl rfl)
theorem dX3_grow_73 : decode cX3_grow 73 = .ok (.iadd, 1) := dk_96 (dk_at dksX3_grow_3 1 rfl rfl)
theorem dX3_grow_74 : decode cX3_grow 74 = .ok (.iload_n 2, 1) := dk_28 (dk_at dksX3_grow_3 2 rfl rfl)
theorem dX3_grow_75 : decode cX3_grow 75 = .ok (.sipush 9999, 3) := dk_17 39 15 (dk_at dksX3_grow_3 3 rfl rfl)
theorem dX3_grow_78 : decode cX3_grow 78 = .ok (.if_icmp .le 9, 3) := dk_164 0 9 (dk_at dksX3_grow_3 6 rfl rfl)
theorem dX3_grow_81 : decode cX3_grow 81 = .ok (.sipush 9999, 3) := dk_17 39 15 (dk_at dksX3_grow_3 9 rfl rfl)
theorem dX3_grow_84 : decode cX3_grow 84 = .ok (.goto 4, 3) := dk_167 0 4 (dk_at dksX3_grow_3 12 rfl rfl)
theorem dX3_grow_87 : decode cX3_grow 87 = .ok (.iload_n 2, 1) := dk_28 (dk_at dksX3_grow_3 15 rfl rfl)
theorem dX3_grow_88 : decode cX3_grow 88 = .ok (.iastore, 1) := dk_79 (dk_at dksX3_grow_3 16 rfl rfl)
theorem dX3_grow_89 : decode cX3_grow 89 = .ok (.iinc 1 1, 3) := dk_132 1 1 (dk_at dksX3_grow_3 17 rfl rfl)
theorem dX3_grow_92 : decode cX3_grow 92 = .ok (.goto (-90), 3) := dk_167 255 166 (dk_at dksX3_grow_3 20 rfl rfl)
theorem dX3_grow_95 : decode cX3_grow 95 = .ok (.return_, 1) := dk_177 (dk_at dksX3_grow_3 23 rfl rfl)
abbrev cX3_wake : ByteArray := prog_6_method_33_code
def yX3_wake : MethodName := ⟨RX3, "wake", "()V"⟩
def dkwX3_wake_4 : List UInt8 := [180, 0, 43, 16, 80, 28, 96, 3, 79, 132, 2, 1, 167, 255, 170, 177]
abbrev dktX3_wake_4 : List UInt8 := dkwX3_wake_4 ++ []
def dkwX3_wake_3 : List UInt8 := [3, 62, 29, 153, 0, 30, 42, 28, 182, 0, 116, 153, 0, 22, 42, 180, 0, 43, 3, 28, 96, 6, 79, 42]
abbrev dktX3_wake_3 : List UInt8 := dkwX3_wake_3 ++ dktX3_wake_4
def dkwX3_wake_2 : List UInt8 := [5, 160, 0, 7, 27, 154, 0, 15, 42, 180, 0, 43, 3, 28, 96, 46, 8, 160, 0, 7, 4, 167, 0, 4]
abbrev dktX3_wake_2 : List UInt8 := dkwX3_wake_2 ++ dktX3_wake_3
def dkwX3_wake_1 : List UInt8 := [180, 0, 88, 162, 0, 84, 42, 180, 0, 31, 28, 46, 5, 159, 0, 35, 42, 180, 0, 43, 3, 28, 96, 46]
abbrev dktX3_wake_1 : List UInt8 := dkwX3_wake_1 ++ dktX3_wake_2
def dkwX3_wake_0 : List UInt8 := [42, 182, 0, 112, 42, 180, 0, 13, 6, 46, 161, 0, 7, 4, 167, 0, 4, 3, 60, 3, 61, 28, 42]
abbrev dktX3_wake_0 : List UInt8 := dkwX3_wake_0 ++ dktX3_wake_1
theorem dksX3_wake_0 : cX3_wake.data.toList.drop 0 = dktX3_wake_0 := by decide +kernel
theorem dksX3_wake_1 : cX3_wake.data.toList.drop 23 = dktX3_wake_1 := dk_seg dksX3_wake_0 23 rfl rfl
theorem dksX3_wake_2 : cX3_wake.data.toList.drop 47 = dktX3_wake_2 := dk_seg dksX3_wake_1 24 rfl rfl
theorem dksX3_wake_3 : cX3_wake.data.toList.drop 71 = dktX3_wake_3 := dk_seg dksX3_wake_2 24 rfl rfl
theorem dksX3_wake_4 : cX3_wake.data.toList.drop 95 = dktX3_wake_4 := dk_seg dksX3_wake_3 24 rfl rfl
theorem dX3_wake_0 : decode cX3_wake 0 = .ok (.aload_n 0, 1) := dk_42 (dk_at dksX3_wake_0 0 rfl rfl)
theorem dX3_wake_1 : decode cX3_wake 1 = .ok (.invokevirtual 112, 3) := dk_182 0 112 (dk_at dksX3_wake_0 1 rfl rfl)
theorem dX3_wake_4 : decode cX3_wake 4 = .ok (.aload_n 0, 1) := dk_42 (dk_at dksX3_wake_0 4 rfl rfl)
theorem dX3_wake_5 : decode cX3_wake 5 = .ok (.getfield 13, 3) := dk_180 0 13 (dk_at dksX3_wake_0 5 rfl rfl)
theorem dX3_wake_8 : decode cX3_wake 8 = .ok (.iconst 3, 1) := dk_6 (dk_at dksX3_wake_0 8 rfl rfl)
theorem dX3_wake_9 : decode cX3_wake 9 = .ok (.iaload, 1) := dk_46 (dk_at dksX3_wake_0 9 rfl rfl)
theorem dX3_wake_10 : decode cX3_wake 10 = .ok (.if_icmp .lt 7, 3) := dk_161 0 7 (dk_at dksX3_wake_0 10 rfl rfl)
theorem dX3_wake_13 : decode cX3_wake 13 = .ok (.iconst 1, 1) := dk_4 (dk_at dksX3_wake_0 13 rfl rfl)
theorem dX3_wake_14 : decode cX3_wake 14 = .ok (.goto 4, 3) := dk_167 0 4 (dk_at dksX3_wake_0 14 rfl rfl)
theorem dX3_wake_17 : decode cX3_wake 17 = .ok (.iconst 0, 1) := dk_3 (dk_at dksX3_wake_0 17 rfl rfl)
theorem dX3_wake_18 : decode cX3_wake 18 = .ok (.istore_n 1, 1) := dk_60 (dk_at dksX3_wake_0 18 rfl rfl)
theorem dX3_wake_19 : decode cX3_wake 19 = .ok (.iconst 0, 1) := dk_3 (dk_at dksX3_wake_0 19 rfl rfl)
theorem dX3_wake_20 : decode cX3_wake 20 = .ok (.istore_n 2, 1) := dk_61 (dk_at dksX3_wake_0 20 rfl rfl)
theorem dX3_wake_21 : decode cX3_wake 21 = .ok (.iload_n 2, 1) := dk_28 (dk_at dksX3_wake_0 21 rfl rfl)
theorem dX3_wake_22 : decode cX3_wake 22 = .ok (.aload_n 0, 1) := dk_42 (dk_at dksX3_wake_0 22 rfl rfl)
theorem dX3_wake_23 : decode cX3_wake 23 = .ok (.getfield 88, 3) := dk_180 0 88 (dk_at dksX3_wake_1 0 rfl rfl)
theorem dX3_wake_26 : decode cX3_wake 26 = .ok (.if_icmp .ge 84, 3) := dk_162 0 84 (dk_at dksX3_wake_1 3 rfl rfl)
theorem dX3_wake_29 : decode cX3_wake 29 = .ok (.aload_n 0, 1) := dk_42 (dk_at dksX3_wake_1 6 rfl rfl)
theorem dX3_wake_30 : decode cX3_wake 30 = .ok (.getfield 31, 3) := dk_180 0 31 (dk_at dksX3_wake_1 7 rfl rfl)
theorem dX3_wake_33 : decode cX3_wake 33 = .ok (.iload_n 2, 1) := dk_28 (dk_at dksX3_wake_1 10 rfl rfl)
theorem dX3_wake_34 : decode cX3_wake 34 = .ok (.iaload, 1) := dk_46 (dk_at dksX3_wake_1 11 rfl rfl)
theorem dX3_wake_35 : decode cX3_wake 35 = .ok (.iconst 2, 1) := dk_5 (dk_at dksX3_wake_1 12 rfl rfl)
theorem dX3_wake_36 : decode cX3_wake 36 = .ok (.if_icmp .eq 35, 3) := dk_159 0 35 (dk_at dksX3_wake_1 13 rfl rfl)
theorem dX3_wake_39 : decode cX3_wake 39 = .ok (.aload_n 0, 1) := dk_42 (dk_at dksX3_wake_1 16 rfl rfl)
theorem dX3_wake_40 : decode cX3_wake 40 = .ok (.getfield 43, 3) := dk_180 0 43 (dk_at dksX3_wake_1 17 rfl rfl)
theorem dX3_wake_43 : decode cX3_wake 43 = .ok (.iconst 0, 1) := dk_3 (dk_at dksX3_wake_1 20 rfl rfl)
theorem dX3_wake_44 : decode cX3_wake 44 = .ok (.iload_n 2, 1) := dk_28 (dk_at dksX3_wake_1 21 rfl rfl)
theorem dX3_wake_45 : decode cX3_wake 45 = .ok (.iadd, 1) := dk_96 (dk_at dksX3_wake_1 22 rfl rfl)
theorem dX3_wake_46 : decode cX3_wake 46 = .ok (.iaload, 1) := dk_46 (dk_at dksX3_wake_1 23 rfl rfl)
theorem dX3_wake_47 : decode cX3_wake 47 = .ok (.iconst 2, 1) := dk_5 (dk_at dksX3_wake_2 0 rfl rfl)
theorem dX3_wake_48 : decode cX3_wake 48 = .ok (.if_icmp .ne 7, 3) := dk_160 0 7 (dk_at dksX3_wake_2 1 rfl rfl)
theorem dX3_wake_51 : decode cX3_wake 51 = .ok (.iload_n 1, 1) := dk_27 (dk_at dksX3_wake_2 4 rfl rfl)
theorem dX3_wake_52 : decode cX3_wake 52 = .ok (.ifCond .ne 15, 3) := dk_154 0 15 (dk_at dksX3_wake_2 5 rfl rfl)
theorem dX3_wake_55 : decode cX3_wake 55 = .ok (.aload_n 0, 1) := dk_42 (dk_at dksX3_wake_2 8 rfl rfl)
theorem dX3_wake_56 : decode cX3_wake 56 = .ok (.getfield 43, 3) := dk_180 0 43 (dk_at dksX3_wake_2 9 rfl rfl)
theorem dX3_wake_59 : decode cX3_wake 59 = .ok (.iconst 0, 1) := dk_3 (dk_at dksX3_wake_2 12 rfl rfl)
theorem dX3_wake_60 : decode cX3_wake 60 = .ok (.iload_n 2, 1) := dk_28 (dk_at dksX3_wake_2 13 rfl rfl)
theorem dX3_wake_61 : decode cX3_wake 61 = .ok (.iadd, 1) := dk_96 (dk_at dksX3_wake_2 14 rfl rfl)
theorem dX3_wake_62 : decode cX3_wake 62 = .ok (.iaload, 1) := dk_46 (dk_at dksX3_wake_2 15 rfl rfl)
theorem dX3_wake_63 : decode cX3_wake 63 = .ok (.iconst 5, 1) := dk_8 (dk_at dksX3_wake_2 16 rfl rfl)
theorem dX3_wake_64 : decode cX3_wake 64 = .ok (.if_icmp .ne 7, 3) := dk_160 0 7 (dk_at dksX3_wake_2 17 rfl rfl)
theorem dX3_wake_67 : decode cX3_wake 67 = .ok (.iconst 1, 1) := dk_4 (dk_at dksX3_wake_2 20 rfl rfl)
theorem dX3_wake_68 : decode cX3_wake 68 = .ok (.goto 4, 3) := dk_167 0 4 (dk_at dksX3_wake_2 21 rfl rfl)
theorem dX3_wake_71 : decode cX3_wake 71 = .ok (.iconst 0, 1) := dk_3 (dk_at dksX3_wake_3 0 rfl rfl)
theorem dX3_wake_72 : decode cX3_wake 72 = .ok (.istore_n 3, 1) := dk_62 (dk_at dksX3_wake_3 1 rfl rfl)
theorem dX3_wake_73 : decode cX3_wake 73 = .ok (.iload_n 3, 1) := dk_29 (dk_at dksX3_wake_3 2 rfl rfl)
theorem dX3_wake_74 : decode cX3_wake 74 = .ok (.ifCond .eq 30, 3) := dk_153 0 30 (dk_at dksX3_wake_3 3 rfl rfl)
theorem dX3_wake_77 : decode cX3_wake 77 = .ok (.aload_n 0, 1) := dk_42 (dk_at dksX3_wake_3 6 rfl rfl)
theorem dX3_wake_78 : decode cX3_wake 78 = .ok (.iload_n 2, 1) := dk_28 (dk_at dksX3_wake_3 7 rfl rfl)
theorem dX3_wake_79 : decode cX3_wake 79 = .ok (.invokevirtual 116, 3) := dk_182 0 116 (dk_at dksX3_wake_3 8 rfl rfl)
theorem dX3_wake_82 : decode cX3_wake 82 = .ok (.ifCond .eq 22, 3) := dk_153 0 22 (dk_at dksX3_wake_3 11 rfl rfl)
theorem dX3_wake_85 : decode cX3_wake 85 = .ok (.aload_n 0, 1) := dk_42 (dk_at dksX3_wake_3 14 rfl rfl)
theorem dX3_wake_86 : decode cX3_wake 86 = .ok (.getfield 43, 3) := dk_180 0 43 (dk_at dksX3_wake_3 15 rfl rfl)
theorem dX3_wake_89 : decode cX3_wake 89 = .ok (.iconst 0, 1) := dk_3 (dk_at dksX3_wake_3 18 rfl rfl)
theorem dX3_wake_90 : decode cX3_wake 90 = .ok (.iload_n 2, 1) := dk_28 (dk_at dksX3_wake_3 19 rfl rfl)
theorem dX3_wake_91 : decode cX3_wake 91 = .ok (.iadd, 1) := dk_96 (dk_at dksX3_wake_3 20 rfl rfl)
theorem dX3_wake_92 : decode cX3_wake 92 = .ok (.iconst 3, 1) := dk_6 (dk_at dksX3_wake_3 21 rfl rfl)
theorem dX3_wake_93 : decode cX3_wake 93 = .ok (.iastore, 1) := dk_79 (dk_at dksX3_wake_3 22 rfl rfl)
theorem dX3_wake_94 : decode cX3_wake 94 = .ok (.aload_n 0, 1) := dk_42 (dk_at dksX3_wake_3 23 rfl rfl)
theorem dX3_wake_95 : decode cX3_wake 95 = .ok (.getfield 43, 3) := dk_180 0 43 (dk_at dksX3_wake_4 0 rfl rfl)
theorem dX3_wake_98 : decode cX3_wake 98 = .ok (.bipush 80, 2) := dk_16 80 (dk_at dksX3_wake_4 3 rfl rfl)
theorem dX3_wake_100 : decode cX3_wake 100 = .ok (.iload_n 2, 1) := dk_28 (dk_at dksX3_wake_4 5 rfl rfl)
theorem dX3_wake_101 : decode cX3_wake 101 = .ok (.iadd, 1) := dk_96 (dk_at dksX3_wake_4 6 rfl rfl)
theorem dX3_wake_102 : decode cX3_wake 102 = .ok (.iconst 0, 1) := dk_3 (dk_at dksX3_wake_4 7 rfl rfl)
theorem dX3_wake_103 : decode cX3_wake 103 = .ok (.iastore, 1) := dk_79 (dk_at dksX3_wake_4 8 rfl rfl)
theorem dX3_wake_104 : decode cX3_wake 104 = .ok (.iinc 2 1, 3) := dk_132 2 1 (dk_at dksX3_wake_4 9 rfl rfl)
theorem dX3_wake_107 : decode cX3_wake 107 = .ok (.goto (-86), 3) := dk_167 255 170 (dk_at dksX3_wake_4 12 rfl rfl)
theorem dX3_wake_110 : decode cX3_wake 110 = .ok (.return_, 1) := dk_177 (dk_at dksX3_wake_4 15 rfl rfl)
abbrev cX3_allInvaders : ByteArray := prog_6_method_32_code
def yX3_allInvaders : MethodName := ⟨RX3, "allInvaders", "()I"⟩
def dkwX3_allInvaders_1 : List UInt8 := [132, 2, 1, 167, 255, 233, 27, 172]
abbrev dktX3_allInvaders_1 : List UInt8 := dkwX3_allInvaders_1 ++ []
def dkwX3_allInvaders_0 : List UInt8 := [3, 60, 3, 61, 28, 42, 180, 0, 95, 162, 0, 21, 27, 42, 180, 0, 43, 16, 120, 28, 96, 46, 96, 60]
abbrev dktX3_allInvaders_0 : List UInt8 := dkwX3_allInvaders_0 ++ dktX3_allInvaders_1
theorem dksX3_allInvaders_0 : cX3_allInvaders.data.toList.drop 0 = dktX3_allInvaders_0 := by decide +kernel
theorem dksX3_allInvaders_1 : cX3_allInvaders.data.toList.drop 24 = dktX3_allInvaders_1 := dk_seg dksX3_allInvaders_0 24 rfl rfl
theorem dX3_allInvaders_0 : decode cX3_allInvaders 0 = .ok (.iconst 0, 1) := dk_3 (dk_at dksX3_allInvaders_0 0 rfl rfl)
theorem dX3_allInvaders_1 : decode cX3_allInvaders 1 = .ok (.istore_n 1, 1) := dk_60 (dk_at dksX3_allInvaders_0 1 rfl rfl)
theorem dX3_allInvaders_2 : decode cX3_allInvaders 2 = .ok (.iconst 0, 1) := dk_3 (dk_at dksX3_allInvaders_0 2 rfl rfl)
theorem dX3_allInvaders_3 : decode cX3_allInvaders 3 = .ok (.istore_n 2, 1) := dk_61 (dk_at dksX3_allInvaders_0 3 rfl rfl)
theorem dX3_allInvaders_4 : decode cX3_allInvaders 4 = .ok (.iload_n 2, 1) := dk_28 (dk_at dksX3_allInvaders_0 4 rfl rfl)
theorem dX3_allInvaders_5 : decode cX3_allInvaders 5 = .ok (.aload_n 0, 1) := dk_42 (dk_at dksX3_allInvaders_0 5 rfl rfl)
theorem dX3_allInvaders_6 : decode cX3_allInvaders 6 = .ok (.getfield 95, 3) := dk_180 0 95 (dk_at dksX3_allInvaders_0 6 rfl rfl)
theorem dX3_allInvaders_9 : decode cX3_allInvaders 9 = .ok (.if_icmp .ge 21, 3) := dk_162 0 21 (dk_at dksX3_allInvaders_0 9 rfl rfl)
theorem dX3_allInvaders_12 : decode cX3_allInvaders 12 = .ok (.iload_n 1, 1) := dk_27 (dk_at dksX3_allInvaders_0 12 rfl rfl)
theorem dX3_allInvaders_13 : decode cX3_allInvaders 13 = .ok (.aload_n 0, 1) := dk_42 (dk_at dksX3_allInvaders_0 13 rfl rfl)
theorem dX3_allInvaders_14 : decode cX3_allInvaders 14 = .ok (.getfield 43, 3) := dk_180 0 43 (dk_at dksX3_allInvaders_0 14 rfl rfl)
theorem dX3_allInvaders_17 : decode cX3_allInvaders 17 = .ok (.bipush 120, 2) := dk_16 120 (dk_at dksX3_allInvaders_0 17 rfl rfl)
theorem dX3_allInvaders_19 : decode cX3_allInvaders 19 = .ok (.iload_n 2, 1) := dk_28 (dk_at dksX3_allInvaders_0 19 rfl rfl)
theorem dX3_allInvaders_20 : decode cX3_allInvaders 20 = .ok (.iadd, 1) := dk_96 (dk_at dksX3_allInvaders_0 20 rfl rfl)
theorem dX3_allInvaders_21 : decode cX3_allInvaders 21 = .ok (.iaload, 1) := dk_46 (dk_at dksX3_allInvaders_0 21 rfl rfl)
theorem dX3_allInvaders_22 : decode cX3_allInvaders 22 = .ok (.iadd, 1) := dk_96 (dk_at dksX3_allInvaders_0 22 rfl rfl)
theorem dX3_allInvaders_23 : decode cX3_allInvaders 23 = .ok (.istore_n 1, 1) := dk_60 (dk_at dksX3_allInvaders_0 23 rfl rfl)
theorem dX3_allInvaders_24 : decode cX3_allInvaders 24 = .ok (.iinc 2 1, 3) := dk_132 2 1 (dk_at dksX3_allInvaders_1 0 rfl rfl)
theorem dX3_allInvaders_27 : decode cX3_allInvaders 27 = .ok (.goto (-23), 3) := dk_167 255 233 (dk_at dksX3_allInvaders_1 3 rfl rfl)
theorem dX3_allInvaders_30 : decode cX3_allInvaders 30 = .ok (.iload_n 1, 1) := dk_27 (dk_at dksX3_allInvaders_1 6 rfl rfl)
theorem dX3_allInvaders_31 : decode cX3_allInvaders 31 = .ok (.ireturn, 1) := dk_172 (dk_at dksX3_allInvaders_1 7 rfl rfl)
abbrev cX3_meets : ByteArray := prog_6_method_28_code
def yX3_meets : MethodName := ⟨RX3, "meets", "(I)Z"⟩
def dkwX3_meets_0 : List UInt8 := [42, 27, 182, 0, 105, 2, 159, 0, 7, 4, 167, 0, 4, 3, 172]
abbrev dktX3_meets_0 : List UInt8 := dkwX3_meets_0 ++ []
theorem dksX3_meets_0 : cX3_meets.data.toList.drop 0 = dktX3_meets_0 := by decide +kernel
theorem dX3_meets_0 : decode cX3_meets 0 = .ok (.aload_n 0, 1) := dk_42 (dk_at dksX3_meets_0 0 rfl rfl)
theorem dX3_meets_1 : decode cX3_meets 1 = .ok (.iload_n 1, 1) := dk_27 (dk_at dksX3_meets_0 1 rfl rfl)
theorem dX3_meets_2 : decode cX3_meets 2 = .ok (.invokevirtual 105, 3) := dk_182 0 105 (dk_at dksX3_meets_0 2 rfl rfl)
theorem dX3_meets_5 : decode cX3_meets 5 = .ok (.iconst (-1), 1) := dk_2 (dk_at dksX3_meets_0 5 rfl rfl)
theorem dX3_meets_6 : decode cX3_meets 6 = .ok (.if_icmp .eq 7, 3) := dk_159 0 7 (dk_at dksX3_meets_0 6 rfl rfl)
theorem dX3_meets_9 : decode cX3_meets 9 = .ok (.iconst 1, 1) := dk_4 (dk_at dksX3_meets_0 9 rfl rfl)
theorem dX3_meets_10 : decode cX3_meets 10 = .ok (.goto 4, 3) := dk_167 0 4 (dk_at dksX3_meets_0 10 rfl rfl)
theorem dX3_meets_13 : decode cX3_meets 13 = .ok (.iconst 0, 1) := dk_3 (dk_at dksX3_meets_0 13 rfl rfl)
theorem dX3_meets_14 : decode cX3_meets 14 = .ok (.ireturn, 1) := dk_172 (dk_at dksX3_meets_0 14 rfl rfl)
abbrev cX3_met : ByteArray := prog_6_method_27_code
def yX3_met : MethodName := ⟨RX3, "met", "(I)I"⟩
def dkwX3_met_4 : List UInt8 := [167, 0, 4, 28, 61, 132, 3, 1, 167, 255, 160, 28, 172]
abbrev dktX3_met_4 : List UInt8 := dkwX3_met_4 ++ []
def dkwX3_met_3 : List UInt8 := [182, 0, 69, 42, 42, 180, 0, 28, 27, 46, 42, 180, 0, 37, 28, 46, 182, 0, 69, 164, 0, 7, 29]
abbrev dktX3_met_3 : List UInt8 := dkwX3_met_3 ++ dktX3_met_4
def dkwX3_met_2 : List UInt8 := [21, 4, 153, 0, 47, 28, 2, 159, 0, 38, 42, 42, 180, 0, 28, 27, 46, 42, 180, 0, 37, 29, 46]
abbrev dktX3_met_2 : List UInt8 := dkwX3_met_2 ++ dktX3_met_3
def dkwX3_met_1 : List UInt8 := [180, 0, 28, 27, 46, 42, 180, 0, 37, 29, 46, 182, 0, 101, 153, 0, 7, 4, 167, 0, 4, 3, 54, 4]
abbrev dktX3_met_1 : List UInt8 := dkwX3_met_1 ++ dktX3_met_2
def dkwX3_met_0 : List UInt8 := [2, 61, 3, 62, 29, 42, 180, 0, 95, 162, 0, 94, 42, 29, 182, 0, 98, 153, 0, 26, 42, 42]
abbrev dktX3_met_0 : List UInt8 := dkwX3_met_0 ++ dktX3_met_1
theorem dksX3_met_0 : cX3_met.data.toList.drop 0 = dktX3_met_0 := by decide +kernel
theorem dksX3_met_1 : cX3_met.data.toList.drop 22 = dktX3_met_1 := dk_seg dksX3_met_0 22 rfl rfl
theorem dksX3_met_2 : cX3_met.data.toList.drop 46 = dktX3_met_2 := dk_seg dksX3_met_1 24 rfl rfl
theorem dksX3_met_3 : cX3_met.data.toList.drop 69 = dktX3_met_3 := dk_seg dksX3_met_2 23 rfl rfl
theorem dksX3_met_4 : cX3_met.data.toList.drop 92 = dktX3_met_4 := dk_seg dksX3_met_3 23 rfl rfl
theorem dX3_met_0 : decode cX3_met 0 = .ok (.iconst (-1), 1) := dk_2 (dk_at dksX3_met_0 0 rfl rfl)
theorem dX3_met_1 : decode cX3_met 1 = .ok (.istore_n 2, 1) := dk_61 (dk_at dksX3_met_0 1 rfl rfl)
theorem dX3_met_2 : decode cX3_met 2 = .ok (.iconst 0, 1) := dk_3 (dk_at dksX3_met_0 2 rfl rfl)
theorem dX3_met_3 : decode cX3_met 3 = .ok (.istore_n 3, 1) := dk_62 (dk_at dksX3_met_0 3 rfl rfl)
theorem dX3_met_4 : decode cX3_met 4 = .ok (.iload_n 3, 1) := dk_29 (dk_at dksX3_met_0 4 rfl rfl)
theorem dX3_met_5 : decode cX3_met 5 = .ok (.aload_n 0, 1) := dk_42 (dk_at dksX3_met_0 5 rfl rfl)
theorem dX3_met_6 : decode cX3_met 6 = .ok (.getfield 95, 3) := dk_180 0 95 (dk_at dksX3_met_0 6 rfl rfl)
theorem dX3_met_9 : decode cX3_met 9 = .ok (.if_icmp .ge 94, 3) := dk_162 0 94 (dk_at dksX3_met_0 9 rfl rfl)
theorem dX3_met_12 : decode cX3_met 12 = .ok (.aload_n 0, 1) := dk_42 (dk_at dksX3_met_0 12 rfl rfl)
theorem dX3_met_13 : decode cX3_met 13 = .ok (.iload_n 3, 1) := dk_29 (dk_at dksX3_met_0 13 rfl rfl)
theorem dX3_met_14 : decode cX3_met 14 = .ok (.invokevirtual 98, 3) := dk_182 0 98 (dk_at dksX3_met_0 14 rfl rfl)
theorem dX3_met_17 : decode cX3_met 17 = .ok (.ifCond .eq 26, 3) := dk_153 0 26 (dk_at dksX3_met_0 17 rfl rfl)
theorem dX3_met_20 : decode cX3_met 20 = .ok (.aload_n 0, 1) := dk_42 (dk_at dksX3_met_0 20 rfl rfl)
theorem dX3_met_21 : decode cX3_met 21 = .ok (.aload_n 0, 1) := dk_42 (dk_at dksX3_met_0 21 rfl rfl)
theorem dX3_met_22 : decode cX3_met 22 = .ok (.getfield 28, 3) := dk_180 0 28 (dk_at dksX3_met_1 0 rfl rfl)
theorem dX3_met_25 : decode cX3_met 25 = .ok (.iload_n 1, 1) := dk_27 (dk_at dksX3_met_1 3 rfl rfl)
theorem dX3_met_26 : decode cX3_met 26 = .ok (.iaload, 1) := dk_46 (dk_at dksX3_met_1 4 rfl rfl)
theorem dX3_met_27 : decode cX3_met 27 = .ok (.aload_n 0, 1) := dk_42 (dk_at dksX3_met_1 5 rfl rfl)
theorem dX3_met_28 : decode cX3_met 28 = .ok (.getfield 37, 3) := dk_180 0 37 (dk_at dksX3_met_1 6 rfl rfl)
theorem dX3_met_31 : decode cX3_met 31 = .ok (.iload_n 3, 1) := dk_29 (dk_at dksX3_met_1 9 rfl rfl)
theorem dX3_met_32 : decode cX3_met 32 = .ok (.iaload, 1) := dk_46 (dk_at dksX3_met_1 10 rfl rfl)
theorem dX3_met_33 : decode cX3_met 33 = .ok (.invokevirtual 101, 3) := dk_182 0 101 (dk_at dksX3_met_1 11 rfl rfl)
theorem dX3_met_36 : decode cX3_met 36 = .ok (.ifCond .eq 7, 3) := dk_153 0 7 (dk_at dksX3_met_1 14 rfl rfl)
theorem dX3_met_39 : decode cX3_met 39 = .ok (.iconst 1, 1) := dk_4 (dk_at dksX3_met_1 17 rfl rfl)
theorem dX3_met_40 : decode cX3_met 40 = .ok (.goto 4, 3) := dk_167 0 4 (dk_at dksX3_met_1 18 rfl rfl)
theorem dX3_met_43 : decode cX3_met 43 = .ok (.iconst 0, 1) := dk_3 (dk_at dksX3_met_1 21 rfl rfl)
theorem dX3_met_44 : decode cX3_met 44 = .ok (.istore 4, 2) := dk_54 4 (dk_at dksX3_met_1 22 rfl rfl)
theorem dX3_met_46 : decode cX3_met 46 = .ok (.iload 4, 2) := dk_21 4 (dk_at dksX3_met_2 0 rfl rfl)
theorem dX3_met_48 : decode cX3_met 48 = .ok (.ifCond .eq 47, 3) := dk_153 0 47 (dk_at dksX3_met_2 2 rfl rfl)
theorem dX3_met_51 : decode cX3_met 51 = .ok (.iload_n 2, 1) := dk_28 (dk_at dksX3_met_2 5 rfl rfl)
theorem dX3_met_52 : decode cX3_met 52 = .ok (.iconst (-1), 1) := dk_2 (dk_at dksX3_met_2 6 rfl rfl)
theorem dX3_met_53 : decode cX3_met 53 = .ok (.if_icmp .eq 38, 3) := dk_159 0 38 (dk_at dksX3_met_2 7 rfl rfl)
theorem dX3_met_56 : decode cX3_met 56 = .ok (.aload_n 0, 1) := dk_42 (dk_at dksX3_met_2 10 rfl rfl)
theorem dX3_met_57 : decode cX3_met 57 = .ok (.aload_n 0, 1) := dk_42 (dk_at dksX3_met_2 11 rfl rfl)
theorem dX3_met_58 : decode cX3_met 58 = .ok (.getfield 28, 3) := dk_180 0 28 (dk_at dksX3_met_2 12 rfl rfl)
theorem dX3_met_61 : decode cX3_met 61 = .ok (.iload_n 1, 1) := dk_27 (dk_at dksX3_met_2 15 rfl rfl)
theorem dX3_met_62 : decode cX3_met 62 = .ok (.iaload, 1) := dk_46 (dk_at dksX3_met_2 16 rfl rfl)
theorem dX3_met_63 : decode cX3_met 63 = .ok (.aload_n 0, 1) := dk_42 (dk_at dksX3_met_2 17 rfl rfl)
theorem dX3_met_64 : decode cX3_met 64 = .ok (.getfield 37, 3) := dk_180 0 37 (dk_at dksX3_met_2 18 rfl rfl)
theorem dX3_met_67 : decode cX3_met 67 = .ok (.iload_n 3, 1) := dk_29 (dk_at dksX3_met_2 21 rfl rfl)
theorem dX3_met_68 : decode cX3_met 68 = .ok (.iaload, 1) := dk_46 (dk_at dksX3_met_2 22 rfl rfl)
theorem dX3_met_69 : decode cX3_met 69 = .ok (.invokevirtual 69, 3) := dk_182 0 69 (dk_at dksX3_met_3 0 rfl rfl)
theorem dX3_met_72 : decode cX3_met 72 = .ok (.aload_n 0, 1) := dk_42 (dk_at dksX3_met_3 3 rfl rfl)
theorem dX3_met_73 : decode cX3_met 73 = .ok (.aload_n 0, 1) := dk_42 (dk_at dksX3_met_3 4 rfl rfl)
theorem dX3_met_74 : decode cX3_met 74 = .ok (.getfield 28, 3) := dk_180 0 28 (dk_at dksX3_met_3 5 rfl rfl)
theorem dX3_met_77 : decode cX3_met 77 = .ok (.iload_n 1, 1) := dk_27 (dk_at dksX3_met_3 8 rfl rfl)
theorem dX3_met_78 : decode cX3_met 78 = .ok (.iaload, 1) := dk_46 (dk_at dksX3_met_3 9 rfl rfl)
theorem dX3_met_79 : decode cX3_met 79 = .ok (.aload_n 0, 1) := dk_42 (dk_at dksX3_met_3 10 rfl rfl)
theorem dX3_met_80 : decode cX3_met 80 = .ok (.getfield 37, 3) := dk_180 0 37 (dk_at dksX3_met_3 11 rfl rfl)
theorem dX3_met_83 : decode cX3_met 83 = .ok (.iload_n 2, 1) := dk_28 (dk_at dksX3_met_3 14 rfl rfl)
theorem dX3_met_84 : decode cX3_met 84 = .ok (.iaload, 1) := dk_46 (dk_at dksX3_met_3 15 rfl rfl)
theorem dX3_met_85 : decode cX3_met 85 = .ok (.invokevirtual 69, 3) := dk_182 0 69 (dk_at dksX3_met_3 16 rfl rfl)
theorem dX3_met_88 : decode cX3_met 88 = .ok (.if_icmp .le 7, 3) := dk_164 0 7 (dk_at dksX3_met_3 19 rfl rfl)
theorem dX3_met_91 : decode cX3_met 91 = .ok (.iload_n 3, 1) := dk_29 (dk_at dksX3_met_3 22 rfl rfl)
theorem dX3_met_92 : decode cX3_met 92 = .ok (.goto 4, 3) := dk_167 0 4 (dk_at dksX3_met_4 0 rfl rfl)
theorem dX3_met_95 : decode cX3_met 95 = .ok (.iload_n 2, 1) := dk_28 (dk_at dksX3_met_4 3 rfl rfl)
theorem dX3_met_96 : decode cX3_met 96 = .ok (.istore_n 2, 1) := dk_61 (dk_at dksX3_met_4 4 rfl rfl)
theorem dX3_met_97 : decode cX3_met 97 = .ok (.iinc 3 1, 3) := dk_132 3 1 (dk_at dksX3_met_4 5 rfl rfl)
theorem dX3_met_100 : decode cX3_met 100 = .ok (.goto (-96), 3) := dk_167 255 160 (dk_at dksX3_met_4 8 rfl rfl)
theorem dX3_met_103 : decode cX3_met 103 = .ok (.iload_n 2, 1) := dk_28 (dk_at dksX3_met_4 11 rfl rfl)
theorem dX3_met_104 : decode cX3_met 104 = .ok (.ireturn, 1) := dk_172 (dk_at dksX3_met_4 12 rfl rfl)
abbrev cX3_work : ByteArray := prog_6_method_34_code
def yX3_work : MethodName := ⟨RX3, "work", "()V"⟩
def dkwX3_work_10 : List UInt8 := [17, 3, 231, 164, 0, 9, 17, 3, 231, 167, 0, 5, 21, 7, 182, 0, 108, 132, 4, 1, 167, 255, 70, 177]
abbrev dktX3_work_10 : List UInt8 := dkwX3_work_10 ++ []
def dkwX3_work_9 : List UInt8 := [79, 167, 0, 40, 21, 6, 153, 0, 7, 6, 167, 0, 4, 5, 21, 5, 104, 54, 7, 42, 21, 4, 21, 7]
abbrev dktX3_work_9 : List UInt8 := dkwX3_work_9 ++ dktX3_work_10
def dkwX3_work_8 : List UInt8 := [16, 80, 21, 4, 96, 46, 42, 180, 0, 13, 7, 46, 164, 0, 16, 42, 180, 0, 43, 3, 21, 4, 96, 7]
abbrev dktX3_work_8 : List UInt8 := dkwX3_work_8 ++ dktX3_work_9
def dkwX3_work_7 : List UInt8 := [10, 148, 154, 0, 7, 4, 167, 0, 4, 3, 164, 0, 7, 4, 167, 0, 4, 3, 54, 6, 42, 180, 0, 43]
abbrev dktX3_work_7 : List UInt8 := dkwX3_work_7 ++ dktX3_work_8
def dkwX3_work_6 : List UInt8 := [167, 0, 113, 42, 180, 0, 43, 16, 80, 21, 4, 96, 92, 46, 4, 96, 79, 27, 32, 21, 4, 123, 10, 127]
abbrev dktX3_work_6 : List UInt8 := dkwX3_work_6 ++ dktX3_work_7
def dkwX3_work_5 : List UInt8 := [162, 0, 12, 42, 21, 4, 182, 0, 119, 167, 0, 126, 42, 21, 4, 21, 5, 5, 108, 182, 0, 108]
abbrev dktX3_work_5 : List UInt8 := dkwX3_work_5 ++ dktX3_work_6
def dkwX3_work_4 : List UInt8 := [16, 40, 21, 4, 96, 46, 54, 5, 42, 21, 4, 182, 0, 116, 154, 0, 33, 21, 5, 5, 108, 5]
abbrev dktX3_work_4 : List UInt8 := dkwX3_work_4 ++ dktX3_work_5
def dkwX3_work_3 : List UInt8 := [42, 180, 0, 88, 162, 0, 183, 42, 180, 0, 43, 3, 21, 4, 96, 46, 6, 160, 0, 164, 42, 180, 0, 43]
abbrev dktX3_work_3 : List UInt8 := dkwX3_work_3 ++ dktX3_work_4
def dkwX3_work_2 : List UInt8 := [153, 0, 13, 132, 1, 1, 32, 10, 21, 4, 121, 129, 65, 132, 4, 1, 167, 255, 201, 3, 54, 4, 21, 4]
abbrev dktX3_work_2 : List UInt8 := dkwX3_work_2 ++ dktX3_work_3
def dkwX3_work_1 : List UInt8 := [46, 6, 160, 0, 33, 42, 180, 0, 31, 21, 4, 46, 4, 160, 0, 22, 42, 21, 4, 182, 0, 116]
abbrev dktX3_work_1 : List UInt8 := dkwX3_work_1 ++ dktX3_work_2
def dkwX3_work_0 : List UInt8 := [3, 60, 9, 65, 3, 54, 4, 21, 4, 42, 180, 0, 88, 162, 0, 52, 42, 180, 0, 43, 3, 21, 4, 96]
abbrev dktX3_work_0 : List UInt8 := dkwX3_work_0 ++ dktX3_work_1
theorem dksX3_work_0 : cX3_work.data.toList.drop 0 = dktX3_work_0 := by decide +kernel
theorem dksX3_work_1 : cX3_work.data.toList.drop 24 = dktX3_work_1 := dk_seg dksX3_work_0 24 rfl rfl
theorem dksX3_work_2 : cX3_work.data.toList.drop 46 = dktX3_work_2 := dk_seg dksX3_work_1 22 rfl rfl
theorem dksX3_work_3 : cX3_work.data.toList.drop 70 = dktX3_work_3 := dk_seg dksX3_work_2 24 rfl rfl
theorem dksX3_work_4 : cX3_work.data.toList.drop 94 = dktX3_work_4 := dk_seg dksX3_work_3 24 rfl rfl
theorem dksX3_work_5 : cX3_work.data.toList.drop 116 = dktX3_work_5 := dk_seg dksX3_work_4 22 rfl rfl
theorem dksX3_work_6 : cX3_work.data.toList.drop 138 = dktX3_work_6 := dk_seg dksX3_work_5 22 rfl rfl
theorem dksX3_work_7 : cX3_work.data.toList.drop 162 = dktX3_work_7 := dk_seg dksX3_work_6 24 rfl rfl
theorem dksX3_work_8 : cX3_work.data.toList.drop 186 = dktX3_work_8 := dk_seg dksX3_work_7 24 rfl rfl
theorem dksX3_work_9 : cX3_work.data.toList.drop 210 = dktX3_work_9 := dk_seg dksX3_work_8 24 rfl rfl
theorem dksX3_work_10 : cX3_work.data.toList.drop 234 = dktX3_work_10 := dk_seg dksX3_work_9 24 rfl rfl
theorem dX3_work_0 : decode cX3_work 0 = .ok (.iconst 0, 1) := dk_3 (dk_at dksX3_work_0 0 rfl rfl)
theorem dX3_work_1 : decode cX3_work 1 = .ok (.istore_n 1, 1) := dk_60 (dk_at dksX3_work_0 1 rfl rfl)
theorem dX3_work_2 : decode cX3_work 2 = .ok (.lconst 0, 1) := dk_9 (dk_at dksX3_work_0 2 rfl rfl)
theorem dX3_work_3 : decode cX3_work 3 = .ok (.lstore_n 2, 1) := dk_65 (dk_at dksX3_work_0 3 rfl rfl)
theorem dX3_work_4 : decode cX3_work 4 = .ok (.iconst 0, 1) := dk_3 (dk_at dksX3_work_0 4 rfl rfl)
theorem dX3_work_5 : decode cX3_work 5 = .ok (.istore 4, 2) := dk_54 4 (dk_at dksX3_work_0 5 rfl rfl)
theorem dX3_work_7 : decode cX3_work 7 = .ok (.iload 4, 2) := dk_21 4 (dk_at dksX3_work_0 7 rfl rfl)
theorem dX3_work_9 : decode cX3_work 9 = .ok (.aload_n 0, 1) := dk_42 (dk_at dksX3_work_0 9 rfl rfl)
theorem dX3_work_10 : decode cX3_work 10 = .ok (.getfield 88, 3) := dk_180 0 88 (dk_at dksX3_work_0 10 rfl rfl)
theorem dX3_work_13 : decode cX3_work 13 = .ok (.if_icmp .ge 52, 3) := dk_162 0 52 (dk_at dksX3_work_0 13 rfl rfl)
theorem dX3_work_16 : decode cX3_work 16 = .ok (.aload_n 0, 1) := dk_42 (dk_at dksX3_work_0 16 rfl rfl)
theorem dX3_work_17 : decode cX3_work 17 = .ok (.getfield 43, 3) := dk_180 0 43 (dk_at dksX3_work_0 17 rfl rfl)
theorem dX3_work_20 : decode cX3_work 20 = .ok (.iconst 0, 1) := dk_3 (dk_at dksX3_work_0 20 rfl rfl)
theorem dX3_work_21 : decode cX3_work 21 = .ok (.iload 4, 2) := dk_21 4 (dk_at dksX3_work_0 21 rfl rfl)
theorem dX3_work_23 : decode cX3_work 23 = .ok (.iadd, 1) := dk_96 (dk_at dksX3_work_0 23 rfl rfl)
theorem dX3_work_24 : decode cX3_work 24 = .ok (.iaload, 1) := dk_46 (dk_at dksX3_work_1 0 rfl rfl)
theorem dX3_work_25 : decode cX3_work 25 = .ok (.iconst 3, 1) := dk_6 (dk_at dksX3_work_1 1 rfl rfl)
theorem dX3_work_26 : decode cX3_work 26 = .ok (.if_icmp .ne 33, 3) := dk_160 0 33 (dk_at dksX3_work_1 2 rfl rfl)
theorem dX3_work_29 : decode cX3_work 29 = .ok (.aload_n 0, 1) := dk_42 (dk_at dksX3_work_1 5 rfl rfl)
theorem dX3_work_30 : decode cX3_work 30 = .ok (.getfield 31, 3) := dk_180 0 31 (dk_at dksX3_work_1 6 rfl rfl)
theorem dX3_work_33 : decode cX3_work 33 = .ok (.iload 4, 2) := dk_21 4 (dk_at dksX3_work_1 9 rfl rfl)
theorem dX3_work_35 : decode cX3_work 35 = .ok (.iaload, 1) := dk_46 (dk_at dksX3_work_1 11 rfl rfl)
theorem dX3_work_36 : decode cX3_work 36 = .ok (.iconst 1, 1) := dk_4 (dk_at dksX3_work_1 12 rfl rfl)
theorem dX3_work_37 : decode cX3_work 37 = .ok (.if_icmp .ne 22, 3) := dk_160 0 22 (dk_at dksX3_work_1 13 rfl rfl)
theorem dX3_work_40 : decode cX3_work 40 = .ok (.aload_n 0, 1) := dk_42 (dk_at dksX3_work_1 16 rfl rfl)
theorem dX3_work_41 : decode cX3_work 41 = .ok (.iload 4, 2) := dk_21 4 (dk_at dksX3_work_1 17 rfl rfl)
theorem dX3_work_43 : decode cX3_work 43 = .ok (.invokevirtual 116, 3) := dk_182 0 116 (dk_at dksX3_work_1 19 rfl rfl)
theorem dX3_work_46 : decode cX3_work 46 = .ok (.ifCond .eq 13, 3) := dk_153 0 13 (dk_at dksX3_work_2 0 rfl rfl)
theorem dX3_work_49 : decode cX3_work 49 = .ok (.iinc 1 1, 3) := dk_132 1 1 (dk_at dksX3_work_2 3 rfl rfl)
theorem dX3_work_52 : decode cX3_work 52 = .ok (.lload_n 2, 1) := dk_32 (dk_at dksX3_work_2 6 rfl rfl)
theorem dX3_work_53 : decode cX3_work 53 = .ok (.lconst 1, 1) := dk_10 (dk_at dksX3_work_2 7 rfl rfl)
theorem dX3_work_54 : decode cX3_work 54 = .ok (.iload 4, 2) := dk_21 4 (dk_at dksX3_work_2 8 rfl rfl)
theorem dX3_work_56 : decode cX3_work 56 = .ok (.lshl, 1) := dk_121 (dk_at dksX3_work_2 10 rfl rfl)
theorem dX3_work_57 : decode cX3_work 57 = .ok (.lor, 1) := dk_129 (dk_at dksX3_work_2 11 rfl rfl)
theorem dX3_work_58 : decode cX3_work 58 = .ok (.lstore_n 2, 1) := dk_65 (dk_at dksX3_work_2 12 rfl rfl)
theorem dX3_work_59 : decode cX3_work 59 = .ok (.iinc 4 1, 3) := dk_132 4 1 (dk_at dksX3_work_2 13 rfl rfl)
theorem dX3_work_62 : decode cX3_work 62 = .ok (.goto (-55), 3) := dk_167 255 201 (dk_at dksX3_work_2 16 rfl rfl)
theorem dX3_work_65 : decode cX3_work 65 = .ok (.iconst 0, 1) := dk_3 (dk_at dksX3_work_2 19 rfl rfl)
theorem dX3_work_66 : decode cX3_work 66 = .ok (.istore 4, 2) := dk_54 4 (dk_at dksX3_work_2 20 rfl rfl)
theorem dX3_work_68 : decode cX3_work 68 = .ok (.iload 4, 2) := dk_21 4 (dk_at dksX3_work_2 22 rfl rfl)
theorem dX3_work_70 : decode cX3_work 70 = .ok (.aload_n 0, 1) := dk_42 (dk_at dksX3_work_3 0 rfl rfl)
theorem dX3_work_71 : decode cX3_work 71 = .ok (.getfield 88, 3) := dk_180 0 88 (dk_at dksX3_work_3 1 rfl rfl)
theorem dX3_work_74 : decode cX3_work 74 = .ok (.if_icmp .ge 183, 3) := dk_162 0 183 (dk_at dksX3_work_3 4 rfl rfl)
theorem dX3_work_77 : decode cX3_work 77 = .ok (.aload_n 0, 1) := dk_42 (dk_at dksX3_work_3 7 rfl rfl)
theorem dX3_work_78 : decode cX3_work 78 = .ok (.getfield 43, 3) := dk_180 0 43 (dk_at dksX3_work_3 8 rfl rfl)
theorem dX3_work_81 : decode cX3_work 81 = .ok (.iconst 0, 1) := dk_3 (dk_at dksX3_work_3 11 rfl rfl)
theorem dX3_work_82 : decode cX3_work 82 = .ok (.iload 4, 2) := dk_21 4 (dk_at dksX3_work_3 12 rfl rfl)
theorem dX3_work_84 : decode cX3_work 84 = .ok (.iadd, 1) := dk_96 (dk_at dksX3_work_3 14 rfl rfl)
theorem dX3_work_85 : decode cX3_work 85 = .ok (.iaload, 1) := dk_46 (dk_at dksX3_work_3 15 rfl rfl)
theorem dX3_work_86 : decode cX3_work 86 = .ok (.iconst 3, 1) := dk_6 (dk_at dksX3_work_3 16 rfl rfl)
theorem dX3_work_87 : decode cX3_work 87 = .ok (.if_icmp .ne 164, 3) := dk_160 0 164 (dk_at dksX3_work_3 17 rfl rfl)
theorem dX3_work_90 : decode cX3_work 90 = .ok (.aload_n 0, 1) := dk_42 (dk_at dksX3_work_3 20 rfl rfl)
theorem dX3_work_91 : decode cX3_work 91 = .ok (.getfield 43, 3) := dk_180 0 43 (dk_at dksX3_work_3 21 rfl rfl)
theorem dX3_work_94 : decode cX3_work 94 = .ok (.bipush 40, 2) := dk_16 40 (dk_at dksX3_work_4 0 rfl rfl)
theorem dX3_work_96 : decode cX3_work 96 = .ok (.iload 4, 2) := dk_21 4 (dk_at dksX3_work_4 2 rfl rfl)
theorem dX3_work_98 : decode cX3_work 98 = .ok (.iadd, 1) := dk_96 (dk_at dksX3_work_4 4 rfl rfl)
theorem dX3_work_99 : decode cX3_work 99 = .ok (.iaload, 1) := dk_46 (dk_at dksX3_work_4 5 rfl rfl)
theorem dX3_work_100 : decode cX3_work 100 = .ok (.istore 5, 2) := dk_54 5 (dk_at dksX3_work_4 6 rfl rfl)
theorem dX3_work_102 : decode cX3_work 102 = .ok (.aload_n 0, 1) := dk_42 (dk_at dksX3_work_4 8 rfl rfl)
theorem dX3_work_103 : decode cX3_work 103 = .ok (.iload 4, 2) := dk_21 4 (dk_at dksX3_work_4 9 rfl rfl)
theorem dX3_work_105 : decode cX3_work 105 = .ok (.invokevirtual 116, 3) := dk_182 0 116 (dk_at dksX3_work_4 11 rfl rfl)
theorem dX3_work_108 : decode cX3_work 108 = .ok (.ifCond .ne 33, 3) := dk_154 0 33 (dk_at dksX3_work_4 14 rfl rfl)
theorem dX3_work_111 : decode cX3_work 111 = .ok (.iload 5, 2) := dk_21 5 (dk_at dksX3_work_4 17 rfl rfl)
theorem dX3_work_113 : decode cX3_work 113 = .ok (.iconst 2, 1) := dk_5 (dk_at dksX3_work_4 19 rfl rfl)
theorem dX3_work_114 : decode cX3_work 114 = .ok (.idiv, 1) := dk_108 (dk_at dksX3_work_4 20 rfl rfl)
theorem dX3_work_115 : decode cX3_work 115 = .ok (.iconst 2, 1) := dk_5 (dk_at dksX3_work_4 21 rfl rfl)
theorem dX3_work_116 : decode cX3_work 116 = .ok (.if_icmp .ge 12, 3) := dk_162 0 12 (dk_at dksX3_work_5 0 rfl rfl)
theorem dX3_work_119 : decode cX3_work 119 = .ok (.aload_n 0, 1) := dk_42 (dk_at dksX3_work_5 3 rfl rfl)
theorem dX3_work_120 : decode cX3_work 120 = .ok (.iload 4, 2) := dk_21 4 (dk_at dksX3_work_5 4 rfl rfl)
theorem dX3_work_122 : decode cX3_work 122 = .ok (.invokevirtual 119, 3) := dk_182 0 119 (dk_at dksX3_work_5 6 rfl rfl)
theorem dX3_work_125 : decode cX3_work 125 = .ok (.goto 126, 3) := dk_167 0 126 (dk_at dksX3_work_5 9 rfl rfl)
theorem dX3_work_128 : decode cX3_work 128 = .ok (.aload_n 0, 1) := dk_42 (dk_at dksX3_work_5 12 rfl rfl)
theorem dX3_work_129 : decode cX3_work 129 = .ok (.iload 4, 2) := dk_21 4 (dk_at dksX3_work_5 13 rfl rfl)
theorem dX3_work_131 : decode cX3_work 131 = .ok (.iload 5, 2) := dk_21 5 (dk_at dksX3_work_5 15 rfl rfl)
theorem dX3_work_133 : decode cX3_work 133 = .ok (.iconst 2, 1) := dk_5 (dk_at dksX3_work_5 17 rfl rfl)
theorem dX3_work_134 : decode cX3_work 134 = .ok (.idiv, 1) := dk_108 (dk_at dksX3_work_5 18 rfl rfl)
theorem dX3_work_135 : decode cX3_work 135 = .ok (.invokevirtual 108, 3) := dk_182 0 108 (dk_at dksX3_work_5 19 rfl rfl)
theorem dX3_work_138 : decode cX3_work 138 = .ok (.goto 113, 3) := dk_167 0 113 (dk_at dksX3_work_6 0 rfl rfl)
theorem dX3_work_141 : decode cX3_work 141 = .ok (.aload_n 0, 1) := dk_42 (dk_at dksX3_work_6 3 rfl rfl)
theorem dX3_work_142 : decode cX3_work 142 = .ok (.getfield 43, 3) := dk_180 0 43 (dk_at dksX3_work_6 4 rfl rfl)
theorem dX3_work_145 : decode cX3_work 145 = .ok (.bipush 80, 2) := dk_16 80 (dk_at dksX3_work_6 7 rfl rfl)
theorem dX3_work_147 : decode cX3_work 147 = .ok (.iload 4, 2) := dk_21 4 (dk_at dksX3_work_6 9 rfl rfl)
theorem dX3_work_149 : decode cX3_work 149 = .ok (.iadd, 1) := dk_96 (dk_at dksX3_work_6 11 rfl rfl)
theorem dX3_work_150 : decode cX3_work 150 = .ok (.dup2, 1) := dk_92 (dk_at dksX3_work_6 12 rfl rfl)
theorem dX3_work_151 : decode cX3_work 151 = .ok (.iaload, 1) := dk_46 (dk_at dksX3_work_6 13 rfl rfl)
theorem dX3_work_152 : decode cX3_work 152 = .ok (.iconst 1, 1) := dk_4 (dk_at dksX3_work_6 14 rfl rfl)
theorem dX3_work_153 : decode cX3_work 153 = .ok (.iadd, 1) := dk_96 (dk_at dksX3_work_6 15 rfl rfl)
theorem dX3_work_154 : decode cX3_work 154 = .ok (.iastore, 1) := dk_79 (dk_at dksX3_work_6 16 rfl rfl)
theorem dX3_work_155 : decode cX3_work 155 = .ok (.iload_n 1, 1) := dk_27 (dk_at dksX3_work_6 17 rfl rfl)
theorem dX3_work_156 : decode cX3_work 156 = .ok (.lload_n 2, 1) := dk_32 (dk_at dksX3_work_6 18 rfl rfl)
theorem dX3_work_157 : decode cX3_work 157 = .ok (.iload 4, 2) := dk_21 4 (dk_at dksX3_work_6 19 rfl rfl)
theorem dX3_work_159 : decode cX3_work 159 = .ok (.lshr, 1) := dk_123 (dk_at dksX3_work_6 21 rfl rfl)
theorem dX3_work_160 : decode cX3_work 160 = .ok (.lconst 1, 1) := dk_10 (dk_at dksX3_work_6 22 rfl rfl)
theorem dX3_work_161 : decode cX3_work 161 = .ok (.land, 1) := dk_127 (dk_at dksX3_work_6 23 rfl rfl)
theorem dX3_work_162 : decode cX3_work 162 = .ok (.lconst 1, 1) := dk_10 (dk_at dksX3_work_7 0 rfl rfl)
theorem dX3_work_163 : decode cX3_work 163 = .ok (.lcmp, 1) := dk_148 (dk_at dksX3_work_7 1 rfl rfl)
theorem dX3_work_164 : decode cX3_work 164 = .ok (.ifCond .ne 7, 3) := dk_154 0 7 (dk_at dksX3_work_7 2 rfl rfl)
theorem dX3_work_167 : decode cX3_work 167 = .ok (.iconst 1, 1) := dk_4 (dk_at dksX3_work_7 5 rfl rfl)
theorem dX3_work_168 : decode cX3_work 168 = .ok (.goto 4, 3) := dk_167 0 4 (dk_at dksX3_work_7 6 rfl rfl)
theorem dX3_work_171 : decode cX3_work 171 = .ok (.iconst 0, 1) := dk_3 (dk_at dksX3_work_7 9 rfl rfl)
theorem dX3_work_172 : decode cX3_work 172 = .ok (.if_icmp .le 7, 3) := dk_164 0 7 (dk_at dksX3_work_7 10 rfl rfl)
theorem dX3_work_175 : decode cX3_work 175 = .ok (.iconst 1, 1) := dk_4 (dk_at dksX3_work_7 13 rfl rfl)
theorem dX3_work_176 : decode cX3_work 176 = .ok (.goto 4, 3) := dk_167 0 4 (dk_at dksX3_work_7 14 rfl rfl)
theorem dX3_work_179 : decode cX3_work 179 = .ok (.iconst 0, 1) := dk_3 (dk_at dksX3_work_7 17 rfl rfl)
theorem dX3_work_180 : decode cX3_work 180 = .ok (.istore 6, 2) := dk_54 6 (dk_at dksX3_work_7 18 rfl rfl)
theorem dX3_work_182 : decode cX3_work 182 = .ok (.aload_n 0, 1) := dk_42 (dk_at dksX3_work_7 20 rfl rfl)
theorem dX3_work_183 : decode cX3_work 183 = .ok (.getfield 43, 3) := dk_180 0 43 (dk_at dksX3_work_7 21 rfl rfl)
theorem dX3_work_186 : decode cX3_work 186 = .ok (.bipush 80, 2) := dk_16 80 (dk_at dksX3_work_8 0 rfl rfl)
theorem dX3_work_188 : decode cX3_work 188 = .ok (.iload 4, 2) := dk_21 4 (dk_at dksX3_work_8 2 rfl rfl)
theorem dX3_work_190 : decode cX3_work 190 = .ok (.iadd, 1) := dk_96 (dk_at dksX3_work_8 4 rfl rfl)
theorem dX3_work_191 : decode cX3_work 191 = .ok (.iaload, 1) := dk_46 (dk_at dksX3_work_8 5 rfl rfl)
theorem dX3_work_192 : decode cX3_work 192 = .ok (.aload_n 0, 1) := dk_42 (dk_at dksX3_work_8 6 rfl rfl)
theorem dX3_work_193 : decode cX3_work 193 = .ok (.getfield 13, 3) := dk_180 0 13 (dk_at dksX3_work_8 7 rfl rfl)
theorem dX3_work_196 : decode cX3_work 196 = .ok (.iconst 4, 1) := dk_7 (dk_at dksX3_work_8 10 rfl rfl)
theorem dX3_work_197 : decode cX3_work 197 = .ok (.iaload, 1) := dk_46 (dk_at dksX3_work_8 11 rfl rfl)
theorem dX3_work_198 : decode cX3_work 198 = .ok (.if_icmp .le 16, 3) := dk_164 0 16 (dk_at dksX3_work_8 12 rfl rfl)
theorem dX3_work_201 : decode cX3_work 201 = .ok (.aload_n 0, 1) := dk_42 (dk_at dksX3_work_8 15 rfl rfl)
theorem dX3_work_202 : decode cX3_work 202 = .ok (.getfield 43, 3) := dk_180 0 43 (dk_at dksX3_work_8 16 rfl rfl)
theorem dX3_work_205 : decode cX3_work 205 = .ok (.iconst 0, 1) := dk_3 (dk_at dksX3_work_8 19 rfl rfl)
theorem dX3_work_206 : decode cX3_work 206 = .ok (.iload 4, 2) := dk_21 4 (dk_at dksX3_work_8 20 rfl rfl)
theorem dX3_work_208 : decode cX3_work 208 = .ok (.iadd, 1) := dk_96 (dk_at dksX3_work_8 22 rfl rfl)
theorem dX3_work_209 : decode cX3_work 209 = .ok (.iconst 4, 1) := dk_7 (dk_at dksX3_work_8 23 rfl rfl)
theorem dX3_work_210 : decode cX3_work 210 = .ok (.iastore, 1) := dk_79 (dk_at dksX3_work_9 0 rfl rfl)
theorem dX3_work_211 : decode cX3_work 211 = .ok (.goto 40, 3) := dk_167 0 40 (dk_at dksX3_work_9 1 rfl rfl)
theorem dX3_work_214 : decode cX3_work 214 = .ok (.iload 6, 2) := dk_21 6 (dk_at dksX3_work_9 4 rfl rfl)
theorem dX3_work_216 : decode cX3_work 216 = .ok (.ifCond .eq 7, 3) := dk_153 0 7 (dk_at dksX3_work_9 6 rfl rfl)
theorem dX3_work_219 : decode cX3_work 219 = .ok (.iconst 3, 1) := dk_6 (dk_at dksX3_work_9 9 rfl rfl)
theorem dX3_work_220 : decode cX3_work 220 = .ok (.goto 4, 3) := dk_167 0 4 (dk_at dksX3_work_9 10 rfl rfl)
theorem dX3_work_223 : decode cX3_work 223 = .ok (.iconst 2, 1) := dk_5 (dk_at dksX3_work_9 13 rfl rfl)
theorem dX3_work_224 : decode cX3_work 224 = .ok (.iload 5, 2) := dk_21 5 (dk_at dksX3_work_9 14 rfl rfl)
theorem dX3_work_226 : decode cX3_work 226 = .ok (.imul, 1) := dk_104 (dk_at dksX3_work_9 16 rfl rfl)
theorem dX3_work_227 : decode cX3_work 227 = .ok (.istore 7, 2) := dk_54 7 (dk_at dksX3_work_9 17 rfl rfl)
theorem dX3_work_229 : decode cX3_work 229 = .ok (.aload_n 0, 1) := dk_42 (dk_at dksX3_work_9 19 rfl rfl)
theorem dX3_work_230 : decode cX3_work 230 = .ok (.iload 4, 2) := dk_21 4 (dk_at dksX3_work_9 20 rfl rfl)
theorem dX3_work_232 : decode cX3_work 232 = .ok (.iload 7, 2) := dk_21 7 (dk_at dksX3_work_9 22 rfl rfl)
theorem dX3_work_234 : decode cX3_work 234 = .ok (.sipush 999, 3) := dk_17 3 231 (dk_at dksX3_work_10 0 rfl rfl)
theorem dX3_work_237 : decode cX3_work 237 = .ok (.if_icmp .le 9, 3) := dk_164 0 9 (dk_at dksX3_work_10 3 rfl rfl)
theorem dX3_work_240 : decode cX3_work 240 = .ok (.sipush 999, 3) := dk_17 3 231 (dk_at dksX3_work_10 6 rfl rfl)
theorem dX3_work_243 : decode cX3_work 243 = .ok (.goto 5, 3) := dk_167 0 5 (dk_at dksX3_work_10 9 rfl rfl)
theorem dX3_work_246 : decode cX3_work 246 = .ok (.iload 7, 2) := dk_21 7 (dk_at dksX3_work_10 12 rfl rfl)
theorem dX3_work_248 : decode cX3_work 248 = .ok (.invokevirtual 108, 3) := dk_182 0 108 (dk_at dksX3_work_10 14 rfl rfl)
theorem dX3_work_251 : decode cX3_work 251 = .ok (.iinc 4 1, 3) := dk_132 4 1 (dk_at dksX3_work_10 17 rfl rfl)
theorem dX3_work_254 : decode cX3_work 254 = .ok (.goto (-186), 3) := dk_167 255 70 (dk_at dksX3_work_10 20 rfl rfl)
theorem dX3_work_257 : decode cX3_work 257 = .ok (.return_, 1) := dk_177 (dk_at dksX3_work_10 23 rfl rfl)
abbrev cX3_remembers : ByteArray := prog_6_method_30_code
def yX3_remembers : MethodName := ⟨RX3, "remembers", "(I)V"⟩
def dkwX3_remembers_0 : List UInt8 := [42, 180, 0, 43, 3, 27, 96, 8, 79, 42, 27, 4, 182, 0, 108, 177]
abbrev dktX3_remembers_0 : List UInt8 := dkwX3_remembers_0 ++ []
theorem dksX3_remembers_0 : cX3_remembers.data.toList.drop 0 = dktX3_remembers_0 := by decide +kernel
theorem dX3_remembers_0 : decode cX3_remembers 0 = .ok (.aload_n 0, 1) := dk_42 (dk_at dksX3_remembers_0 0 rfl rfl)
theorem dX3_remembers_1 : decode cX3_remembers 1 = .ok (.getfield 43, 3) := dk_180 0 43 (dk_at dksX3_remembers_0 1 rfl rfl)
theorem dX3_remembers_4 : decode cX3_remembers 4 = .ok (.iconst 0, 1) := dk_3 (dk_at dksX3_remembers_0 4 rfl rfl)
theorem dX3_remembers_5 : decode cX3_remembers 5 = .ok (.iload_n 1, 1) := dk_27 (dk_at dksX3_remembers_0 5 rfl rfl)
theorem dX3_remembers_6 : decode cX3_remembers 6 = .ok (.iadd, 1) := dk_96 (dk_at dksX3_remembers_0 6 rfl rfl)
theorem dX3_remembers_7 : decode cX3_remembers 7 = .ok (.iconst 5, 1) := dk_8 (dk_at dksX3_remembers_0 7 rfl rfl)
theorem dX3_remembers_8 : decode cX3_remembers 8 = .ok (.iastore, 1) := dk_79 (dk_at dksX3_remembers_0 8 rfl rfl)
theorem dX3_remembers_9 : decode cX3_remembers 9 = .ok (.aload_n 0, 1) := dk_42 (dk_at dksX3_remembers_0 9 rfl rfl)
theorem dX3_remembers_10 : decode cX3_remembers 10 = .ok (.iload_n 1, 1) := dk_27 (dk_at dksX3_remembers_0 10 rfl rfl)
theorem dX3_remembers_11 : decode cX3_remembers 11 = .ok (.iconst 1, 1) := dk_4 (dk_at dksX3_remembers_0 11 rfl rfl)
theorem dX3_remembers_12 : decode cX3_remembers 12 = .ok (.invokevirtual 108, 3) := dk_182 0 108 (dk_at dksX3_remembers_0 12 rfl rfl)
theorem dX3_remembers_15 : decode cX3_remembers 15 = .ok (.return_, 1) := dk_177 (dk_at dksX3_remembers_0 15 rfl rfl)
abbrev cX3_sizes : ByteArray := prog_6_method_29_code
def yX3_sizes : MethodName := ⟨RX3, "sizes", "(II)V"⟩
def dkwX3_sizes_2 : List UInt8 := [167, 0, 4, 3, 100, 79, 42, 180, 0, 43, 16, 40, 27, 96, 28, 79, 177]
abbrev dktX3_sizes_2 : List UInt8 := dkwX3_sizes_2 ++ []
def dkwX3_sizes_1 : List UInt8 := [158, 0, 7, 29, 167, 0, 4, 3, 96, 79, 42, 180, 0, 43, 17, 0, 153, 92, 46, 29, 156, 0, 7, 29]
abbrev dktX3_sizes_1 : List UInt8 := dkwX3_sizes_1 ++ dktX3_sizes_2
def dkwX3_sizes_0 : List UInt8 := [28, 42, 180, 0, 43, 16, 40, 27, 96, 46, 100, 62, 42, 180, 0, 43, 17, 0, 152, 92, 46, 29]
abbrev dktX3_sizes_0 : List UInt8 := dkwX3_sizes_0 ++ dktX3_sizes_1
theorem dksX3_sizes_0 : cX3_sizes.data.toList.drop 0 = dktX3_sizes_0 := by decide +kernel
theorem dksX3_sizes_1 : cX3_sizes.data.toList.drop 22 = dktX3_sizes_1 := dk_seg dksX3_sizes_0 22 rfl rfl
theorem dksX3_sizes_2 : cX3_sizes.data.toList.drop 46 = dktX3_sizes_2 := dk_seg dksX3_sizes_1 24 rfl rfl
theorem dX3_sizes_0 : decode cX3_sizes 0 = .ok (.iload_n 2, 1) := dk_28 (dk_at dksX3_sizes_0 0 rfl rfl)
theorem dX3_sizes_1 : decode cX3_sizes 1 = .ok (.aload_n 0, 1) := dk_42 (dk_at dksX3_sizes_0 1 rfl rfl)
theorem dX3_sizes_2 : decode cX3_sizes 2 = .ok (.getfield 43, 3) := dk_180 0 43 (dk_at dksX3_sizes_0 2 rfl rfl)
theorem dX3_sizes_5 : decode cX3_sizes 5 = .ok (.bipush 40, 2) := dk_16 40 (dk_at dksX3_sizes_0 5 rfl rfl)
theorem dX3_sizes_7 : decode cX3_sizes 7 = .ok (.iload_n 1, 1) := dk_27 (dk_at dksX3_sizes_0 7 rfl rfl)
theorem dX3_sizes_8 : decode cX3_sizes 8 = .ok (.iadd, 1) := dk_96 (dk_at dksX3_sizes_0 8 rfl rfl)
theorem dX3_sizes_9 : decode cX3_sizes 9 = .ok (.iaload, 1) := dk_46 (dk_at dksX3_sizes_0 9 rfl rfl)
theorem dX3_sizes_10 : decode cX3_sizes 10 = .ok (.isub, 1) := dk_100 (dk_at dksX3_sizes_0 10 rfl rfl)
theorem dX3_sizes_11 : decode cX3_sizes 11 = .ok (.istore_n 3, 1) := dk_62 (dk_at dksX3_sizes_0 11 rfl rfl)
theorem dX3_sizes_12 : decode cX3_sizes 12 = .ok (.aload_n 0, 1) := dk_42 (dk_at dksX3_sizes_0 12 rfl rfl)
theorem dX3_sizes_13 : decode cX3_sizes 13 = .ok (.getfield 43, 3) := dk_180 0 43 (dk_at dksX3_sizes_0 13 rfl rfl)
theorem dX3_sizes_16 : decode cX3_sizes 16 = .ok (.sipush 152, 3) := dk_17 0 152 (dk_at dksX3_sizes_0 16 rfl rfl)
theorem dX3_sizes_19 : decode cX3_sizes 19 = .ok (.dup2, 1) := dk_92 (dk_at dksX3_sizes_0 19 rfl rfl)
theorem dX3_sizes_20 : decode cX3_sizes 20 = .ok (.iaload, 1) := dk_46 (dk_at dksX3_sizes_0 20 rfl rfl)
theorem dX3_sizes_21 : decode cX3_sizes 21 = .ok (.iload_n 3, 1) := dk_29 (dk_at dksX3_sizes_0 21 rfl rfl)
theorem dX3_sizes_22 : decode cX3_sizes 22 = .ok (.ifCond .le 7, 3) := dk_158 0 7 (dk_at dksX3_sizes_1 0 rfl rfl)
theorem dX3_sizes_25 : decode cX3_sizes 25 = .ok (.iload_n 3, 1) := dk_29 (dk_at dksX3_sizes_1 3 rfl rfl)
theorem dX3_sizes_26 : decode cX3_sizes 26 = .ok (.goto 4, 3) := dk_167 0 4 (dk_at dksX3_sizes_1 4 rfl rfl)
theorem dX3_sizes_29 : decode cX3_sizes 29 = .ok (.iconst 0, 1) := dk_3 (dk_at dksX3_sizes_1 7 rfl rfl)
theorem dX3_sizes_30 : decode cX3_sizes 30 = .ok (.iadd, 1) := dk_96 (dk_at dksX3_sizes_1 8 rfl rfl)
theorem dX3_sizes_31 : decode cX3_sizes 31 = .ok (.iastore, 1) := dk_79 (dk_at dksX3_sizes_1 9 rfl rfl)
theorem dX3_sizes_32 : decode cX3_sizes 32 = .ok (.aload_n 0, 1) := dk_42 (dk_at dksX3_sizes_1 10 rfl rfl)
theorem dX3_sizes_33 : decode cX3_sizes 33 = .ok (.getfield 43, 3) := dk_180 0 43 (dk_at dksX3_sizes_1 11 rfl rfl)
theorem dX3_sizes_36 : decode cX3_sizes 36 = .ok (.sipush 153, 3) := dk_17 0 153 (dk_at dksX3_sizes_1 14 rfl rfl)
theorem dX3_sizes_39 : decode cX3_sizes 39 = .ok (.dup2, 1) := dk_92 (dk_at dksX3_sizes_1 17 rfl rfl)
theorem dX3_sizes_40 : decode cX3_sizes 40 = .ok (.iaload, 1) := dk_46 (dk_at dksX3_sizes_1 18 rfl rfl)
theorem dX3_sizes_41 : decode cX3_sizes 41 = .ok (.iload_n 3, 1) := dk_29 (dk_at dksX3_sizes_1 19 rfl rfl)
theorem dX3_sizes_42 : decode cX3_sizes 42 = .ok (.ifCond .ge 7, 3) := dk_156 0 7 (dk_at dksX3_sizes_1 20 rfl rfl)
theorem dX3_sizes_45 : decode cX3_sizes 45 = .ok (.iload_n 3, 1) := dk_29 (dk_at dksX3_sizes_1 23 rfl rfl)
theorem dX3_sizes_46 : decode cX3_sizes 46 = .ok (.goto 4, 3) := dk_167 0 4 (dk_at dksX3_sizes_2 0 rfl rfl)
theorem dX3_sizes_49 : decode cX3_sizes 49 = .ok (.iconst 0, 1) := dk_3 (dk_at dksX3_sizes_2 3 rfl rfl)
theorem dX3_sizes_50 : decode cX3_sizes 50 = .ok (.isub, 1) := dk_100 (dk_at dksX3_sizes_2 4 rfl rfl)
theorem dX3_sizes_51 : decode cX3_sizes 51 = .ok (.iastore, 1) := dk_79 (dk_at dksX3_sizes_2 5 rfl rfl)
theorem dX3_sizes_52 : decode cX3_sizes 52 = .ok (.aload_n 0, 1) := dk_42 (dk_at dksX3_sizes_2 6 rfl rfl)
theorem dX3_sizes_53 : decode cX3_sizes 53 = .ok (.getfield 43, 3) := dk_180 0 43 (dk_at dksX3_sizes_2 7 rfl rfl)
theorem dX3_sizes_56 : decode cX3_sizes 56 = .ok (.bipush 40, 2) := dk_16 40 (dk_at dksX3_sizes_2 10 rfl rfl)
theorem dX3_sizes_58 : decode cX3_sizes 58 = .ok (.iload_n 1, 1) := dk_27 (dk_at dksX3_sizes_2 12 rfl rfl)
theorem dX3_sizes_59 : decode cX3_sizes 59 = .ok (.iadd, 1) := dk_96 (dk_at dksX3_sizes_2 13 rfl rfl)
theorem dX3_sizes_60 : decode cX3_sizes 60 = .ok (.iload_n 2, 1) := dk_28 (dk_at dksX3_sizes_2 14 rfl rfl)
theorem dX3_sizes_61 : decode cX3_sizes 61 = .ok (.iastore, 1) := dk_79 (dk_at dksX3_sizes_2 15 rfl rfl)
theorem dX3_sizes_62 : decode cX3_sizes 62 = .ok (.return_, 1) := dk_177 (dk_at dksX3_sizes_2 16 rfl rfl)
abbrev cX3_strike : ByteArray := prog_6_method_36_code
def yX3_strike : MethodName := ⟨RX3, "strike", "()V"⟩
def dkwX3_strike_4 : List UInt8 := [17, 0, 128, 28, 96, 46, 79, 132, 1, 1, 167, 255, 156, 177]
abbrev dktX3_strike_4 : List UInt8 := dkwX3_strike_4 ++ []
def dkwX3_strike_3 : List UInt8 := [79, 42, 180, 0, 43, 17, 0, 128, 28, 96, 29, 157, 0, 7, 27, 167, 0, 13, 42, 180, 0, 43]
abbrev dktX3_strike_3 : List UInt8 := dkwX3_strike_3 ++ dktX3_strike_4
def dkwX3_strike_2 : List UInt8 := [16, 40, 27, 96, 46, 100, 62, 42, 180, 0, 43, 16, 120, 28, 96, 29, 156, 0, 7, 3, 167, 0, 4, 29]
abbrev dktX3_strike_2 : List UInt8 := dkwX3_strike_2 ++ dktX3_strike_3
def dkwX3_strike_1 : List UInt8 := [167, 0, 4, 2, 61, 28, 2, 159, 0, 69, 42, 180, 0, 43, 16, 120, 28, 96, 46, 42, 180, 0, 43]
abbrev dktX3_strike_1 : List UInt8 := dkwX3_strike_1 ++ dktX3_strike_2
def dkwX3_strike_0 : List UInt8 := [3, 60, 27, 42, 180, 0, 88, 162, 0, 98, 42, 27, 182, 0, 123, 153, 0, 11, 42, 27, 182, 0, 105]
abbrev dktX3_strike_0 : List UInt8 := dkwX3_strike_0 ++ dktX3_strike_1
theorem dksX3_strike_0 : cX3_strike.data.toList.drop 0 = dktX3_strike_0 := by decide +kernel
theorem dksX3_strike_1 : cX3_strike.data.toList.drop 23 = dktX3_strike_1 := dk_seg dksX3_strike_0 23 rfl rfl
theorem dksX3_strike_2 : cX3_strike.data.toList.drop 46 = dktX3_strike_2 := dk_seg dksX3_strike_1 23 rfl rfl
theorem dksX3_strike_3 : cX3_strike.data.toList.drop 70 = dktX3_strike_3 := dk_seg dksX3_strike_2 24 rfl rfl
theorem dksX3_strike_4 : cX3_strike.data.toList.drop 92 = dktX3_strike_4 := dk_seg dksX3_strike_3 22 rfl rfl
theorem dX3_strike_0 : decode cX3_strike 0 = .ok (.iconst 0, 1) := dk_3 (dk_at dksX3_strike_0 0 rfl rfl)
theorem dX3_strike_1 : decode cX3_strike 1 = .ok (.istore_n 1, 1) := dk_60 (dk_at dksX3_strike_0 1 rfl rfl)
theorem dX3_strike_2 : decode cX3_strike 2 = .ok (.iload_n 1, 1) := dk_27 (dk_at dksX3_strike_0 2 rfl rfl)
theorem dX3_strike_3 : decode cX3_strike 3 = .ok (.aload_n 0, 1) := dk_42 (dk_at dksX3_strike_0 3 rfl rfl)
theorem dX3_strike_4 : decode cX3_strike 4 = .ok (.getfield 88, 3) := dk_180 0 88 (dk_at dksX3_strike_0 4 rfl rfl)
theorem dX3_strike_7 : decode cX3_strike 7 = .ok (.if_icmp .ge 98, 3) := dk_162 0 98 (dk_at dksX3_strike_0 7 rfl rfl)
theorem dX3_strike_10 : decode cX3_strike 10 = .ok (.aload_n 0, 1) := dk_42 (dk_at dksX3_strike_0 10 rfl rfl)
theorem dX3_strike_11 : decode cX3_strike 11 = .ok (.iload_n 1, 1) := dk_27 (dk_at dksX3_strike_0 11 rfl rfl)
theorem dX3_strike_12 : decode cX3_strike 12 = .ok (.invokevirtual 123, 3) := dk_182 0 123 (dk_at dksX3_strike_0 12 rfl rfl)
theorem dX3_strike_15 : decode cX3_strike 15 = .ok (.ifCond .eq 11, 3) := dk_153 0 11 (dk_at dksX3_strike_0 15 rfl rfl)
theorem dX3_strike_18 : decode cX3_strike 18 = .ok (.aload_n 0, 1) := dk_42 (dk_at dksX3_strike_0 18 rfl rfl)
theorem dX3_strike_19 : decode cX3_strike 19 = .ok (.iload_n 1, 1) := dk_27 (dk_at dksX3_strike_0 19 rfl rfl)
theorem dX3_strike_20 : decode cX3_strike 20 = .ok (.invokevirtual 105, 3) := dk_182 0 105 (dk_at dksX3_strike_0 20 rfl rfl)
theorem dX3_strike_23 : decode cX3_strike 23 = .ok (.goto 4, 3) := dk_167 0 4 (dk_at dksX3_strike_1 0 rfl rfl)
theorem dX3_strike_26 : decode cX3_strike 26 = .ok (.iconst (-1), 1) := dk_2 (dk_at dksX3_strike_1 3 rfl rfl)
theorem dX3_strike_27 : decode cX3_strike 27 = .ok (.istore_n 2, 1) := dk_61 (dk_at dksX3_strike_1 4 rfl rfl)
theorem dX3_strike_28 : decode cX3_strike 28 = .ok (.iload_n 2, 1) := dk_28 (dk_at dksX3_strike_1 5 rfl rfl)
theorem dX3_strike_29 : decode cX3_strike 29 = .ok (.iconst (-1), 1) := dk_2 (dk_at dksX3_strike_1 6 rfl rfl)
theorem dX3_strike_30 : decode cX3_strike 30 = .ok (.if_icmp .eq 69, 3) := dk_159 0 69 (dk_at dksX3_strike_1 7 rfl rfl)
theorem dX3_strike_33 : decode cX3_strike 33 = .ok (.aload_n 0, 1) := dk_42 (dk_at dksX3_strike_1 10 rfl rfl)
theorem dX3_strike_34 : decode cX3_strike 34 = .ok (.getfield 43, 3) := dk_180 0 43 (dk_at dksX3_strike_1 11 rfl rfl)
theorem dX3_strike_37 : decode cX3_strike 37 = .ok (.bipush 120, 2) := dk_16 120 (dk_at dksX3_strike_1 14 rfl rfl)
theorem dX3_strike_39 : decode cX3_strike 39 = .ok (.iload_n 2, 1) := dk_28 (dk_at dksX3_strike_1 16 rfl rfl)
theorem dX3_strike_40 : decode cX3_strike 40 = .ok (.iadd, 1) := dk_96 (dk_at dksX3_strike_1 17 rfl rfl)
theorem dX3_strike_41 : decode cX3_strike 41 = .ok (.iaload, 1) := dk_46 (dk_at dksX3_strike_1 18 rfl rfl)
theorem dX3_strike_42 : decode cX3_strike 42 = .ok (.aload_n 0, 1) := dk_42 (dk_at dksX3_strike_1 19 rfl rfl)
theorem dX3_strike_43 : decode cX3_strike 43 = .ok (.getfield 43, 3) := dk_180 0 43 (dk_at dksX3_strike_1 20 rfl rfl)
theorem dX3_strike_46 : decode cX3_strike 46 = .ok (.bipush 40, 2) := dk_16 40 (dk_at dksX3_strike_2 0 rfl rfl)
theorem dX3_strike_48 : decode cX3_strike 48 = .ok (.iload_n 1, 1) := dk_27 (dk_at dksX3_strike_2 2 rfl rfl)
theorem dX3_strike_49 : decode cX3_strike 49 = .ok (.iadd, 1) := dk_96 (dk_at dksX3_strike_2 3 rfl rfl)
theorem dX3_strike_50 : decode cX3_strike 50 = .ok (.iaload, 1) := dk_46 (dk_at dksX3_strike_2 4 rfl rfl)
theorem dX3_strike_51 : decode cX3_strike 51 = .ok (.isub, 1) := dk_100 (dk_at dksX3_strike_2 5 rfl rfl)
theorem dX3_strike_52 : decode cX3_strike 52 = .ok (.istore_n 3, 1) := dk_62 (dk_at dksX3_strike_2 6 rfl rfl)
theorem dX3_strike_53 : decode cX3_strike 53 = .ok (.aload_n 0, 1) := dk_42 (dk_at dksX3_strike_2 7 rfl rfl)
theorem dX3_strike_54 : decode cX3_strike 54 = .ok (.getfield 43, 3) := dk_180 0 43 (dk_at dksX3_strike_2 8 rfl rfl)
theorem dX3_strike_57 : decode cX3_strike 57 = .ok (.bipush 120, 2) := dk_16 120 (dk_at dksX3_strike_2 11 rfl rfl)
theorem dX3_strike_59 : decode cX3_strike 59 = .ok (.iload_n 2, 1) := dk_28 (dk_at dksX3_strike_2 13 rfl rfl)
theorem dX3_strike_60 : decode cX3_strike 60 = .ok (.iadd, 1) := dk_96 (dk_at dksX3_strike_2 14 rfl rfl)
theorem dX3_strike_61 : decode cX3_strike 61 = .ok (.iload_n 3, 1) := dk_29 (dk_at dksX3_strike_2 15 rfl rfl)
theorem dX3_strike_62 : decode cX3_strike 62 = .ok (.ifCond .ge 7, 3) := dk_156 0 7 (dk_at dksX3_strike_2 16 rfl rfl)
theorem dX3_strike_65 : decode cX3_strike 65 = .ok (.iconst 0, 1) := dk_3 (dk_at dksX3_strike_2 19 rfl rfl)
theorem dX3_strike_66 : decode cX3_strike 66 = .ok (.goto 4, 3) := dk_167 0 4 (dk_at dksX3_strike_2 20 rfl rfl)
theorem dX3_strike_69 : decode cX3_strike 69 = .ok (.iload_n 3, 1) := dk_29 (dk_at dksX3_strike_2 23 rfl rfl)
theorem dX3_strike_70 : decode cX3_strike 70 = .ok (.iastore, 1) := dk_79 (dk_at dksX3_strike_3 0 rfl rfl)
theorem dX3_strike_71 : decode cX3_strike 71 = .ok (.aload_n 0, 1) := dk_42 (dk_at dksX3_strike_3 1 rfl rfl)
theorem dX3_strike_72 : decode cX3_strike 72 = .ok (.getfield 43, 3) := dk_180 0 43 (dk_at dksX3_strike_3 2 rfl rfl)
theorem dX3_strike_75 : decode cX3_strike 75 = .ok (.sipush 128, 3) := dk_17 0 128 (dk_at dksX3_strike_3 5 rfl rfl)
theorem dX3_strike_78 : decode cX3_strike 78 = .ok (.iload_n 2, 1) := dk_28 (dk_at dksX3_strike_3 8 rfl rfl)
theorem dX3_strike_79 : decode cX3_strike 79 = .ok (.iadd, 1) := dk_96 (dk_at dksX3_strike_3 9 rfl rfl)
theorem dX3_strike_80 : decode cX3_strike 80 = .ok (.iload_n 3, 1) := dk_29 (dk_at dksX3_strike_3 10 rfl rfl)
theorem dX3_strike_81 : decode cX3_strike 81 = .ok (.ifCond .gt 7, 3) := dk_157 0 7 (dk_at dksX3_strike_3 11 rfl rfl)
theorem dX3_strike_84 : decode cX3_strike 84 = .ok (.iload_n 1, 1) := dk_27 (dk_at dksX3_strike_3 14 rfl rfl)
theorem dX3_strike_85 : decode cX3_strike 85 = .ok (.goto 13, 3) := dk_167 0 13 (dk_at dksX3_strike_3 15 rfl rfl)
theorem dX3_strike_88 : decode cX3_strike 88 = .ok (.aload_n 0, 1) := dk_42 (dk_at dksX3_strike_3 18 rfl rfl)
theorem dX3_strike_89 : decode cX3_strike 89 = .ok (.getfield 43, 3) := dk_180 0 43 (dk_at dksX3_strike_3 19 rfl rfl)
theorem dX3_strike_92 : decode cX3_strike 92 = .ok (.sipush 128, 3) := dk_17 0 128 (dk_at dksX3_strike_4 0 rfl rfl)
theorem dX3_strike_95 : decode cX3_strike 95 = .ok (.iload_n 2, 1) := dk_28 (dk_at dksX3_strike_4 3 rfl rfl)
theorem dX3_strike_96 : decode cX3_strike 96 = .ok (.iadd, 1) := dk_96 (dk_at dksX3_strike_4 4 rfl rfl)
theorem dX3_strike_97 : decode cX3_strike 97 = .ok (.iaload, 1) := dk_46 (dk_at dksX3_strike_4 5 rfl rfl)
theorem dX3_strike_98 : decode cX3_strike 98 = .ok (.iastore, 1) := dk_79 (dk_at dksX3_strike_4 6 rfl rfl)
theorem dX3_strike_99 : decode cX3_strike 99 = .ok (.iinc 1 1, 3) := dk_132 1 1 (dk_at dksX3_strike_4 7 rfl rfl)
theorem dX3_strike_102 : decode cX3_strike 102 = .ok (.goto (-100), 3) := dk_167 255 156 (dk_at dksX3_strike_4 10 rfl rfl)
theorem dX3_strike_105 : decode cX3_strike 105 = .ok (.return_, 1) := dk_177 (dk_at dksX3_strike_4 13 rfl rfl)
abbrev cX3_strikes : ByteArray := prog_6_method_35_code
def yX3_strikes : MethodName := ⟨RX3, "strikes", "(I)Z"⟩
def dkwX3_strikes_1 : List UInt8 := [167, 0, 4, 3, 172]
abbrev dktX3_strikes_1 : List UInt8 := dkwX3_strikes_1 ++ []
def dkwX3_strikes_0 : List UInt8 := [42, 180, 0, 43, 3, 27, 96, 46, 6, 160, 0, 16, 42, 180, 0, 31, 27, 46, 154, 0, 7, 4]
abbrev dktX3_strikes_0 : List UInt8 := dkwX3_strikes_0 ++ dktX3_strikes_1
theorem dksX3_strikes_0 : cX3_strikes.data.toList.drop 0 = dktX3_strikes_0 := by decide +kernel
theorem dksX3_strikes_1 : cX3_strikes.data.toList.drop 22 = dktX3_strikes_1 := dk_seg dksX3_strikes_0 22 rfl rfl
theorem dX3_strikes_0 : decode cX3_strikes 0 = .ok (.aload_n 0, 1) := dk_42 (dk_at dksX3_strikes_0 0 rfl rfl)
theorem dX3_strikes_1 : decode cX3_strikes 1 = .ok (.getfield 43, 3) := dk_180 0 43 (dk_at dksX3_strikes_0 1 rfl rfl)
theorem dX3_strikes_4 : decode cX3_strikes 4 = .ok (.iconst 0, 1) := dk_3 (dk_at dksX3_strikes_0 4 rfl rfl)
theorem dX3_strikes_5 : decode cX3_strikes 5 = .ok (.iload_n 1, 1) := dk_27 (dk_at dksX3_strikes_0 5 rfl rfl)
theorem dX3_strikes_6 : decode cX3_strikes 6 = .ok (.iadd, 1) := dk_96 (dk_at dksX3_strikes_0 6 rfl rfl)
theorem dX3_strikes_7 : decode cX3_strikes 7 = .ok (.iaload, 1) := dk_46 (dk_at dksX3_strikes_0 7 rfl rfl)
theorem dX3_strikes_8 : decode cX3_strikes 8 = .ok (.iconst 3, 1) := dk_6 (dk_at dksX3_strikes_0 8 rfl rfl)
theorem dX3_strikes_9 : decode cX3_strikes 9 = .ok (.if_icmp .ne 16, 3) := dk_160 0 16 (dk_at dksX3_strikes_0 9 rfl rfl)
theorem dX3_strikes_12 : decode cX3_strikes 12 = .ok (.aload_n 0, 1) := dk_42 (dk_at dksX3_strikes_0 12 rfl rfl)
theorem dX3_strikes_13 : decode cX3_strikes 13 = .ok (.getfield 31, 3) := dk_180 0 31 (dk_at dksX3_strikes_0 13 rfl rfl)
theorem dX3_strikes_16 : decode cX3_strikes 16 = .ok (.iload_n 1, 1) := dk_27 (dk_at dksX3_strikes_0 16 rfl rfl)
theorem dX3_strikes_17 : decode cX3_strikes 17 = .ok (.iaload, 1) := dk_46 (dk_at dksX3_strikes_0 17 rfl rfl)
theorem dX3_strikes_18 : decode cX3_strikes 18 = .ok (.ifCond .ne 7, 3) := dk_154 0 7 (dk_at dksX3_strikes_0 18 rfl rfl)
theorem dX3_strikes_21 : decode cX3_strikes 21 = .ok (.iconst 1, 1) := dk_4 (dk_at dksX3_strikes_0 21 rfl rfl)
theorem dX3_strikes_22 : decode cX3_strikes 22 = .ok (.goto 4, 3) := dk_167 0 4 (dk_at dksX3_strikes_1 0 rfl rfl)
theorem dX3_strikes_25 : decode cX3_strikes 25 = .ok (.iconst 0, 1) := dk_3 (dk_at dksX3_strikes_1 3 rfl rfl)
theorem dX3_strikes_26 : decode cX3_strikes 26 = .ok (.ireturn, 1) := dk_172 (dk_at dksX3_strikes_1 4 rfl rfl)
abbrev cX3_harms : ByteArray := prog_6_method_38_code
def yX3_harms : MethodName := ⟨RX3, "harms", "()V"⟩
def dkwX3_harms_6 : List UInt8 := [96, 46, 96, 79, 132, 1, 1, 167, 255, 110, 177]
abbrev dktX3_harms_6 : List UInt8 := dkwX3_harms_6 ++ []
def dkwX3_harms_5 : List UInt8 := [182, 0, 126, 154, 0, 25, 42, 180, 0, 43, 17, 0, 144, 28, 96, 92, 46, 42, 180, 0, 43, 16, 40, 27]
abbrev dktX3_harms_5 : List UInt8 := dkwX3_harms_5 ++ dktX3_harms_6
def dkwX3_harms_4 : List UInt8 := [167, 0, 4, 28, 61, 132, 3, 1, 167, 255, 168, 28, 2, 159, 0, 38, 42, 42, 180, 0, 16, 28, 46]
abbrev dktX3_harms_4 : List UInt8 := dkwX3_harms_4 ++ dktX3_harms_5
def dkwX3_harms_3 : List UInt8 := [182, 0, 69, 42, 42, 180, 0, 28, 27, 46, 42, 180, 0, 16, 28, 46, 182, 0, 69, 164, 0, 7, 29]
abbrev dktX3_harms_3 : List UInt8 := dkwX3_harms_3 ++ dktX3_harms_4
def dkwX3_harms_2 : List UInt8 := [21, 4, 153, 0, 47, 28, 2, 159, 0, 38, 42, 42, 180, 0, 28, 27, 46, 42, 180, 0, 16, 29, 46]
abbrev dktX3_harms_2 : List UInt8 := dkwX3_harms_2 ++ dktX3_harms_3
def dkwX3_harms_1 : List UInt8 := [182, 0, 123, 153, 0, 78, 42, 42, 180, 0, 28, 27, 46, 42, 180, 0, 16, 29, 46, 182, 0, 101, 54, 4]
abbrev dktX3_harms_1 : List UInt8 := dkwX3_harms_1 ++ dktX3_harms_2
def dkwX3_harms_0 : List UInt8 := [3, 60, 27, 42, 180, 0, 88, 162, 0, 144, 2, 61, 3, 62, 29, 42, 180, 0, 75, 162, 0, 86, 42, 27]
abbrev dktX3_harms_0 : List UInt8 := dkwX3_harms_0 ++ dktX3_harms_1
theorem dksX3_harms_0 : cX3_harms.data.toList.drop 0 = dktX3_harms_0 := by decide +kernel
theorem dksX3_harms_1 : cX3_harms.data.toList.drop 24 = dktX3_harms_1 := dk_seg dksX3_harms_0 24 rfl rfl
theorem dksX3_harms_2 : cX3_harms.data.toList.drop 48 = dktX3_harms_2 := dk_seg dksX3_harms_1 24 rfl rfl
theorem dksX3_harms_3 : cX3_harms.data.toList.drop 71 = dktX3_harms_3 := dk_seg dksX3_harms_2 23 rfl rfl
theorem dksX3_harms_4 : cX3_harms.data.toList.drop 94 = dktX3_harms_4 := dk_seg dksX3_harms_3 23 rfl rfl
theorem dksX3_harms_5 : cX3_harms.data.toList.drop 117 = dktX3_harms_5 := dk_seg dksX3_harms_4 23 rfl rfl
theorem dksX3_harms_6 : cX3_harms.data.toList.drop 141 = dktX3_harms_6 := dk_seg dksX3_harms_5 24 rfl rfl
theorem dX3_harms_0 : decode cX3_harms 0 = .ok (.iconst 0, 1) := dk_3 (dk_at dksX3_harms_0 0 rfl rfl)
theorem dX3_harms_1 : decode cX3_harms 1 = .ok (.istore_n 1, 1) := dk_60 (dk_at dksX3_harms_0 1 rfl rfl)
theorem dX3_harms_2 : decode cX3_harms 2 = .ok (.iload_n 1, 1) := dk_27 (dk_at dksX3_harms_0 2 rfl rfl)
theorem dX3_harms_3 : decode cX3_harms 3 = .ok (.aload_n 0, 1) := dk_42 (dk_at dksX3_harms_0 3 rfl rfl)
theorem dX3_harms_4 : decode cX3_harms 4 = .ok (.getfield 88, 3) := dk_180 0 88 (dk_at dksX3_harms_0 4 rfl rfl)
theorem dX3_harms_7 : decode cX3_harms 7 = .ok (.if_icmp .ge 144, 3) := dk_162 0 144 (dk_at dksX3_harms_0 7 rfl rfl)
theorem dX3_harms_10 : decode cX3_harms 10 = .ok (.iconst (-1), 1) := dk_2 (dk_at dksX3_harms_0 10 rfl rfl)
theorem dX3_harms_11 : decode cX3_harms 11 = .ok (.istore_n 2, 1) := dk_61 (dk_at dksX3_harms_0 11 rfl rfl)
theorem dX3_harms_12 : decode cX3_harms 12 = .ok (.iconst 0, 1) := dk_3 (dk_at dksX3_harms_0 12 rfl rfl)
theorem dX3_harms_13 : decode cX3_harms 13 = .ok (.istore_n 3, 1) := dk_62 (dk_at dksX3_harms_0 13 rfl rfl)
theorem dX3_harms_14 : decode cX3_harms 14 = .ok (.iload_n 3, 1) := dk_29 (dk_at dksX3_harms_0 14 rfl rfl)
theorem dX3_harms_15 : decode cX3_harms 15 = .ok (.aload_n 0, 1) := dk_42 (dk_at dksX3_harms_0 15 rfl rfl)
theorem dX3_harms_16 : decode cX3_harms 16 = .ok (.getfield 75, 3) := dk_180 0 75 (dk_at dksX3_harms_0 16 rfl rfl)
theorem dX3_harms_19 : decode cX3_harms 19 = .ok (.if_icmp .ge 86, 3) := dk_162 0 86 (dk_at dksX3_harms_0 19 rfl rfl)
theorem dX3_harms_22 : decode cX3_harms 22 = .ok (.aload_n 0, 1) := dk_42 (dk_at dksX3_harms_0 22 rfl rfl)
theorem dX3_harms_23 : decode cX3_harms 23 = .ok (.iload_n 1, 1) := dk_27 (dk_at dksX3_harms_0 23 rfl rfl)
theorem dX3_harms_24 : decode cX3_harms 24 = .ok (.invokevirtual 123, 3) := dk_182 0 123 (dk_at dksX3_harms_1 0 rfl rfl)
theorem dX3_harms_27 : decode cX3_harms 27 = .ok (.ifCond .eq 78, 3) := dk_153 0 78 (dk_at dksX3_harms_1 3 rfl rfl)
theorem dX3_harms_30 : decode cX3_harms 30 = .ok (.aload_n 0, 1) := dk_42 (dk_at dksX3_harms_1 6 rfl rfl)
theorem dX3_harms_31 : decode cX3_harms 31 = .ok (.aload_n 0, 1) := dk_42 (dk_at dksX3_harms_1 7 rfl rfl)
theorem dX3_harms_32 : decode cX3_harms 32 = .ok (.getfield 28, 3) := dk_180 0 28 (dk_at dksX3_harms_1 8 rfl rfl)
theorem dX3_harms_35 : decode cX3_harms 35 = .ok (.iload_n 1, 1) := dk_27 (dk_at dksX3_harms_1 11 rfl rfl)
theorem dX3_harms_36 : decode cX3_harms 36 = .ok (.iaload, 1) := dk_46 (dk_at dksX3_harms_1 12 rfl rfl)
theorem dX3_harms_37 : decode cX3_harms 37 = .ok (.aload_n 0, 1) := dk_42 (dk_at dksX3_harms_1 13 rfl rfl)
theorem dX3_harms_38 : decode cX3_harms 38 = .ok (.getfield 16, 3) := dk_180 0 16 (dk_at dksX3_harms_1 14 rfl rfl)
theorem dX3_harms_41 : decode cX3_harms 41 = .ok (.iload_n 3, 1) := dk_29 (dk_at dksX3_harms_1 17 rfl rfl)
theorem dX3_harms_42 : decode cX3_harms 42 = .ok (.iaload, 1) := dk_46 (dk_at dksX3_harms_1 18 rfl rfl)
theorem dX3_harms_43 : decode cX3_harms 43 = .ok (.invokevirtual 101, 3) := dk_182 0 101 (dk_at dksX3_harms_1 19 rfl rfl)
theorem dX3_harms_46 : decode cX3_harms 46 = .ok (.istore 4, 2) := dk_54 4 (dk_at dksX3_harms_1 22 rfl rfl)
theorem dX3_harms_48 : decode cX3_harms 48 = .ok (.iload 4, 2) := dk_21 4 (dk_at dksX3_harms_2 0 rfl rfl)
theorem dX3_harms_50 : decode cX3_harms 50 = .ok (.ifCond .eq 47, 3) := dk_153 0 47 (dk_at dksX3_harms_2 2 rfl rfl)
theorem dX3_harms_53 : decode cX3_harms 53 = .ok (.iload_n 2, 1) := dk_28 (dk_at dksX3_harms_2 5 rfl rfl)
theorem dX3_harms_54 : decode cX3_harms 54 = .ok (.iconst (-1), 1) := dk_2 (dk_at dksX3_harms_2 6 rfl rfl)
theorem dX3_harms_55 : decode cX3_harms 55 = .ok (.if_icmp .eq 38, 3) := dk_159 0 38 (dk_at dksX3_harms_2 7 rfl rfl)
theorem dX3_harms_58 : decode cX3_harms 58 = .ok (.aload_n 0, 1) := dk_42 (dk_at dksX3_harms_2 10 rfl rfl)
theorem dX3_harms_59 : decode cX3_harms 59 = .ok (.aload_n 0, 1) := dk_42 (dk_at dksX3_harms_2 11 rfl rfl)
theorem dX3_harms_60 : decode cX3_harms 60 = .ok (.getfield 28, 3) := dk_180 0 28 (dk_at dksX3_harms_2 12 rfl rfl)
theorem dX3_harms_63 : decode cX3_harms 63 = .ok (.iload_n 1, 1) := dk_27 (dk_at dksX3_harms_2 15 rfl rfl)
theorem dX3_harms_64 : decode cX3_harms 64 = .ok (.iaload, 1) := dk_46 (dk_at dksX3_harms_2 16 rfl rfl)
theorem dX3_harms_65 : decode cX3_harms 65 = .ok (.aload_n 0, 1) := dk_42 (dk_at dksX3_harms_2 17 rfl rfl)
theorem dX3_harms_66 : decode cX3_harms 66 = .ok (.getfield 16, 3) := dk_180 0 16 (dk_at dksX3_harms_2 18 rfl rfl)
theorem dX3_harms_69 : decode cX3_harms 69 = .ok (.iload_n 3, 1) := dk_29 (dk_at dksX3_harms_2 21 rfl rfl)
theorem dX3_harms_70 : decode cX3_harms 70 = .ok (.iaload, 1) := dk_46 (dk_at dksX3_harms_2 22 rfl rfl)
theorem dX3_harms_71 : decode cX3_harms 71 = .ok (.invokevirtual 69, 3) := dk_182 0 69 (dk_at dksX3_harms_3 0 rfl rfl)
theorem dX3_harms_74 : decode cX3_harms 74 = .ok (.aload_n 0, 1) := dk_42 (dk_at dksX3_harms_3 3 rfl rfl)
theorem dX3_harms_75 : decode cX3_harms 75 = .ok (.aload_n 0, 1) := dk_42 (dk_at dksX3_harms_3 4 rfl rfl)
theorem dX3_harms_76 : decode cX3_harms 76 = .ok (.getfield 28, 3) := dk_180 0 28 (dk_at dksX3_harms_3 5 rfl rfl)
theorem dX3_harms_79 : decode cX3_harms 79 = .ok (.iload_n 1, 1) := dk_27 (dk_at dksX3_harms_3 8 rfl rfl)
theorem dX3_harms_80 : decode cX3_harms 80 = .ok (.iaload, 1) := dk_46 (dk_at dksX3_harms_3 9 rfl rfl)
theorem dX3_harms_81 : decode cX3_harms 81 = .ok (.aload_n 0, 1) := dk_42 (dk_at dksX3_harms_3 10 rfl rfl)
theorem dX3_harms_82 : decode cX3_harms 82 = .ok (.getfield 16, 3) := dk_180 0 16 (dk_at dksX3_harms_3 11 rfl rfl)
theorem dX3_harms_85 : decode cX3_harms 85 = .ok (.iload_n 2, 1) := dk_28 (dk_at dksX3_harms_3 14 rfl rfl)
theorem dX3_harms_86 : decode cX3_harms 86 = .ok (.iaload, 1) := dk_46 (dk_at dksX3_harms_3 15 rfl rfl)
theorem dX3_harms_87 : decode cX3_harms 87 = .ok (.invokevirtual 69, 3) := dk_182 0 69 (dk_at dksX3_harms_3 16 rfl rfl)
theorem dX3_harms_90 : decode cX3_harms 90 = .ok (.if_icmp .le 7, 3) := dk_164 0 7 (dk_at dksX3_harms_3 19 rfl rfl)
theorem dX3_harms_93 : decode cX3_harms 93 = .ok (.iload_n 3, 1) := dk_29 (dk_at dksX3_harms_3 22 rfl rfl)
theorem dX3_harms_94 : decode cX3_harms 94 = .ok (.goto 4, 3) := dk_167 0 4 (dk_at dksX3_harms_4 0 rfl rfl)
theorem dX3_harms_97 : decode cX3_harms 97 = .ok (.iload_n 2, 1) := dk_28 (dk_at dksX3_harms_4 3 rfl rfl)
theorem dX3_harms_98 : decode cX3_harms 98 = .ok (.istore_n 2, 1) := dk_61 (dk_at dksX3_harms_4 4 rfl rfl)
theorem dX3_harms_99 : decode cX3_harms 99 = .ok (.iinc 3 1, 3) := dk_132 3 1 (dk_at dksX3_harms_4 5 rfl rfl)
theorem dX3_harms_102 : decode cX3_harms 102 = .ok (.goto (-88), 3) := dk_167 255 168 (dk_at dksX3_harms_4 8 rfl rfl)
theorem dX3_harms_105 : decode cX3_harms 105 = .ok (.iload_n 2, 1) := dk_28 (dk_at dksX3_harms_4 11 rfl rfl)
theorem dX3_harms_106 : decode cX3_harms 106 = .ok (.iconst (-1), 1) := dk_2 (dk_at dksX3_harms_4 12 rfl rfl)
theorem dX3_harms_107 : decode cX3_harms 107 = .ok (.if_icmp .eq 38, 3) := dk_159 0 38 (dk_at dksX3_harms_4 13 rfl rfl)
theorem dX3_harms_110 : decode cX3_harms 110 = .ok (.aload_n 0, 1) := dk_42 (dk_at dksX3_harms_4 16 rfl rfl)
theorem dX3_harms_111 : decode cX3_harms 111 = .ok (.aload_n 0, 1) := dk_42 (dk_at dksX3_harms_4 17 rfl rfl)
theorem dX3_harms_112 : decode cX3_harms 112 = .ok (.getfield 16, 3) := dk_180 0 16 (dk_at dksX3_harms_4 18 rfl rfl)
theorem dX3_harms_115 : decode cX3_harms 115 = .ok (.iload_n 2, 1) := dk_28 (dk_at dksX3_harms_4 21 rfl rfl)
theorem dX3_harms_116 : decode cX3_harms 116 = .ok (.iaload, 1) := dk_46 (dk_at dksX3_harms_4 22 rfl rfl)
theorem dX3_harms_117 : decode cX3_harms 117 = .ok (.invokevirtual 126, 3) := dk_182 0 126 (dk_at dksX3_harms_5 0 rfl rfl)
theorem dX3_harms_120 : decode cX3_harms 120 = .ok (.ifCond .ne 25, 3) := dk_154 0 25 (dk_at dksX3_harms_5 3 rfl rfl)
theorem dX3_harms_123 : decode cX3_harms 123 = .ok (.aload_n 0, 1) := dk_42 (dk_at dksX3_harms_5 6 rfl rfl)
theorem dX3_harms_124 : decode cX3_harms 124 = .ok (.getfield 43, 3) := dk_180 0 43 (dk_at dksX3_harms_5 7 rfl rfl)
theorem dX3_harms_127 : decode cX3_harms 127 = .ok (.sipush 144, 3) := dk_17 0 144 (dk_at dksX3_harms_5 10 rfl rfl)
theorem dX3_harms_130 : decode cX3_harms 130 = .ok (.iload_n 2, 1) := dk_28 (dk_at dksX3_harms_5 13 rfl rfl)
theorem dX3_harms_131 : decode cX3_harms 131 = .ok (.iadd, 1) := dk_96 (dk_at dksX3_harms_5 14 rfl rfl)
theorem dX3_harms_132 : decode cX3_harms 132 = .ok (.dup2, 1) := dk_92 (dk_at dksX3_harms_5 15 rfl rfl)
theorem dX3_harms_133 : decode cX3_harms 133 = .ok (.iaload, 1) := dk_46 (dk_at dksX3_harms_5 16 rfl rfl)
theorem dX3_harms_134 : decode cX3_harms 134 = .ok (.aload_n 0, 1) := dk_42 (dk_at dksX3_harms_5 17 rfl rfl)
theorem dX3_harms_135 : decode cX3_harms 135 = .ok (.getfield 43, 3) := dk_180 0 43 (dk_at dksX3_harms_5 18 rfl rfl)
theorem dX3_harms_138 : decode cX3_harms 138 = .ok (.bipush 40, 2) := dk_16 40 (dk_at dksX3_harms_5 21 rfl rfl)
theorem dX3_harms_140 : decode cX3_harms 140 = .ok (.iload_n 1, 1) := dk_27 (dk_at dksX3_harms_5 23 rfl rfl)
theorem dX3_harms_141 : decode cX3_harms 141 = .ok (.iadd, 1) := dk_96 (dk_at dksX3_harms_6 0 rfl rfl)
theorem dX3_harms_142 : decode cX3_harms 142 = .ok (.iaload, 1) := dk_46 (dk_at dksX3_harms_6 1 rfl rfl)
theorem dX3_harms_143 : decode cX3_harms 143 = .ok (.iadd, 1) := dk_96 (dk_at dksX3_harms_6 2 rfl rfl)
theorem dX3_harms_144 : decode cX3_harms 144 = .ok (.iastore, 1) := dk_79 (dk_at dksX3_harms_6 3 rfl rfl)
theorem dX3_harms_145 : decode cX3_harms 145 = .ok (.iinc 1 1, 3) := dk_132 1 1 (dk_at dksX3_harms_6 4 rfl rfl)
theorem dX3_harms_148 : decode cX3_harms 148 = .ok (.goto (-146), 3) := dk_167 255 110 (dk_at dksX3_harms_6 7 rfl rfl)
theorem dX3_harms_151 : decode cX3_harms 151 = .ok (.return_, 1) := dk_177 (dk_at dksX3_harms_6 10 rfl rfl)
abbrev cX3_isCalmed : ByteArray := prog_6_method_37_code
def yX3_isCalmed : MethodName := ⟨RX3, "isCalmed", "(I)Z"⟩
def dkwX3_isCalmed_2 : List UInt8 := [132, 3, 1, 167, 255, 211, 28, 172]
abbrev dktX3_isCalmed_2 : List UInt8 := dkwX3_isCalmed_2 ++ []
def dkwX3_isCalmed_1 : List UInt8 := [160, 0, 21, 42, 42, 180, 0, 28, 29, 46, 27, 182, 0, 101, 153, 0, 7, 4, 167, 0, 4, 3, 61]
abbrev dktX3_isCalmed_1 : List UInt8 := dkwX3_isCalmed_1 ++ dktX3_isCalmed_2
def dkwX3_isCalmed_0 : List UInt8 := [3, 61, 3, 62, 29, 42, 180, 0, 88, 162, 0, 43, 28, 154, 0, 27, 42, 180, 0, 31, 29, 46, 5]
abbrev dktX3_isCalmed_0 : List UInt8 := dkwX3_isCalmed_0 ++ dktX3_isCalmed_1
theorem dksX3_isCalmed_0 : cX3_isCalmed.data.toList.drop 0 = dktX3_isCalmed_0 := by decide +kernel
theorem dksX3_isCalmed_1 : cX3_isCalmed.data.toList.drop 23 = dktX3_isCalmed_1 := dk_seg dksX3_isCalmed_0 23 rfl rfl
theorem dksX3_isCalmed_2 : cX3_isCalmed.data.toList.drop 46 = dktX3_isCalmed_2 := dk_seg dksX3_isCalmed_1 23 rfl rfl
theorem dX3_isCalmed_0 : decode cX3_isCalmed 0 = .ok (.iconst 0, 1) := dk_3 (dk_at dksX3_isCalmed_0 0 rfl rfl)
theorem dX3_isCalmed_1 : decode cX3_isCalmed 1 = .ok (.istore_n 2, 1) := dk_61 (dk_at dksX3_isCalmed_0 1 rfl rfl)
theorem dX3_isCalmed_2 : decode cX3_isCalmed 2 = .ok (.iconst 0, 1) := dk_3 (dk_at dksX3_isCalmed_0 2 rfl rfl)
theorem dX3_isCalmed_3 : decode cX3_isCalmed 3 = .ok (.istore_n 3, 1) := dk_62 (dk_at dksX3_isCalmed_0 3 rfl rfl)
theorem dX3_isCalmed_4 : decode cX3_isCalmed 4 = .ok (.iload_n 3, 1) := dk_29 (dk_at dksX3_isCalmed_0 4 rfl rfl)
theorem dX3_isCalmed_5 : decode cX3_isCalmed 5 = .ok (.aload_n 0, 1) := dk_42 (dk_at dksX3_isCalmed_0 5 rfl rfl)
theorem dX3_isCalmed_6 : decode cX3_isCalmed 6 = .ok (.getfield 88, 3) := dk_180 0 88 (dk_at dksX3_isCalmed_0 6 rfl rfl)
theorem dX3_isCalmed_9 : decode cX3_isCalmed 9 = .ok (.if_icmp .ge 43, 3) := dk_162 0 43 (dk_at dksX3_isCalmed_0 9 rfl rfl)
theorem dX3_isCalmed_12 : decode cX3_isCalmed 12 = .ok (.iload_n 2, 1) := dk_28 (dk_at dksX3_isCalmed_0 12 rfl rfl)
theorem dX3_isCalmed_13 : decode cX3_isCalmed 13 = .ok (.ifCond .ne 27, 3) := dk_154 0 27 (dk_at dksX3_isCalmed_0 13 rfl rfl)
theorem dX3_isCalmed_16 : decode cX3_isCalmed 16 = .ok (.aload_n 0, 1) := dk_42 (dk_at dksX3_isCalmed_0 16 rfl rfl)
theorem dX3_isCalmed_17 : decode cX3_isCalmed 17 = .ok (.getfield 31, 3) := dk_180 0 31 (dk_at dksX3_isCalmed_0 17 rfl rfl)
theorem dX3_isCalmed_20 : decode cX3_isCalmed 20 = .ok (.iload_n 3, 1) := dk_29 (dk_at dksX3_isCalmed_0 20 rfl rfl)
theorem dX3_isCalmed_21 : decode cX3_isCalmed 21 = .ok (.iaload, 1) := dk_46 (dk_at dksX3_isCalmed_0 21 rfl rfl)
theorem dX3_isCalmed_22 : decode cX3_isCalmed 22 = .ok (.iconst 2, 1) := dk_5 (dk_at dksX3_isCalmed_0 22 rfl rfl)
theorem dX3_isCalmed_23 : decode cX3_isCalmed 23 = .ok (.if_icmp .ne 21, 3) := dk_160 0 21 (dk_at dksX3_isCalmed_1 0 rfl rfl)
theorem dX3_isCalmed_26 : decode cX3_isCalmed 26 = .ok (.aload_n 0, 1) := dk_42 (dk_at dksX3_isCalmed_1 3 rfl rfl)
theorem dX3_isCalmed_27 : decode cX3_isCalmed 27 = .ok (.aload_n 0, 1) := dk_42 (dk_at dksX3_isCalmed_1 4 rfl rfl)
theorem dX3_isCalmed_28 : decode cX3_isCalmed 28 = .ok (.getfield 28, 3) := dk_180 0 28 (dk_at dksX3_isCalmed_1 5 rfl rfl)
theorem dX3_isCalmed_31 : decode cX3_isCalmed 31 = .ok (.iload_n 3, 1) := dk_29 (dk_at dksX3_isCalmed_1 8 rfl rfl)
theorem dX3_isCalmed_32 : decode cX3_isCalmed 32 = .ok (.iaload, 1) := dk_46 (dk_at dksX3_isCalmed_1 9 rfl rfl)
theorem dX3_isCalmed_33 : decode cX3_isCalmed 33 = .ok (.iload_n 1, 1) := dk_27 (dk_at dksX3_isCalmed_1 10 rfl rfl)
theorem dX3_isCalmed_34 : decode cX3_isCalmed 34 = .ok (.invokevirtual 101, 3) := dk_182 0 101 (dk_at dksX3_isCalmed_1 11 rfl rfl)
theorem dX3_isCalmed_37 : decode cX3_isCalmed 37 = .ok (.ifCond .eq 7, 3) := dk_153 0 7 (dk_at dksX3_isCalmed_1 14 rfl rfl)
theorem dX3_isCalmed_40 : decode cX3_isCalmed 40 = .ok (.iconst 1, 1) := dk_4 (dk_at dksX3_isCalmed_1 17 rfl rfl)
theorem dX3_isCalmed_41 : decode cX3_isCalmed 41 = .ok (.goto 4, 3) := dk_167 0 4 (dk_at dksX3_isCalmed_1 18 rfl rfl)
theorem dX3_isCalmed_44 : decode cX3_isCalmed 44 = .ok (.iconst 0, 1) := dk_3 (dk_at dksX3_isCalmed_1 21 rfl rfl)
theorem dX3_isCalmed_45 : decode cX3_isCalmed 45 = .ok (.istore_n 2, 1) := dk_61 (dk_at dksX3_isCalmed_1 22 rfl rfl)
theorem dX3_isCalmed_46 : decode cX3_isCalmed 46 = .ok (.iinc 3 1, 3) := dk_132 3 1 (dk_at dksX3_isCalmed_2 0 rfl rfl)
theorem dX3_isCalmed_49 : decode cX3_isCalmed 49 = .ok (.goto (-45), 3) := dk_167 255 211 (dk_at dksX3_isCalmed_2 3 rfl rfl)
theorem dX3_isCalmed_52 : decode cX3_isCalmed 52 = .ok (.iload_n 2, 1) := dk_28 (dk_at dksX3_isCalmed_2 6 rfl rfl)
theorem dX3_isCalmed_53 : decode cX3_isCalmed 53 = .ok (.ireturn, 1) := dk_172 (dk_at dksX3_isCalmed_2 7 rfl rfl)
abbrev cX3_ahead : ByteArray := prog_6_method_42_code
def yX3_ahead : MethodName := ⟨RX3, "ahead", "(II)I"⟩
def dkwX3_ahead_4 : List UInt8 := [180, 0, 46, 181, 0, 43, 42, 25, 4, 181, 0, 46, 29, 172]
abbrev dktX3_ahead_4 : List UInt8 := dkwX3_ahead_4 ++ []
def dkwX3_ahead_3 : List UInt8 := [42, 182, 0, 144, 132, 3, 1, 167, 255, 244, 42, 28, 182, 0, 147, 62, 42, 180, 0, 43, 58, 4, 42, 42]
abbrev dktX3_ahead_3 : List UInt8 := dkwX3_ahead_3 ++ dktX3_ahead_4
def dkwX3_ahead_2 : List UInt8 := [180, 0, 46, 29, 42, 180, 0, 43, 29, 46, 79, 132, 3, 1, 167, 255, 234, 3, 62, 29, 27, 162, 0, 13]
abbrev dktX3_ahead_2 : List UInt8 := dkwX3_ahead_2 ++ dktX3_ahead_3
def dkwX3_ahead_1 : List UInt8 := [4, 181, 0, 53, 42, 180, 0, 53, 158, 0, 5, 3, 172, 3, 62, 29, 17, 0, 155, 162, 0, 21, 42]
abbrev dktX3_ahead_1 : List UInt8 := dkwX3_ahead_1 ++ dktX3_ahead_2
def dkwX3_ahead_0 : List UInt8 := [42, 27, 4, 16, 48, 184, 0, 57, 153, 0, 16, 28, 3, 8, 184, 0, 57, 153, 0, 7, 3, 167, 0, 4]
abbrev dktX3_ahead_0 : List UInt8 := dkwX3_ahead_0 ++ dktX3_ahead_1
theorem dksX3_ahead_0 : cX3_ahead.data.toList.drop 0 = dktX3_ahead_0 := by decide +kernel
theorem dksX3_ahead_1 : cX3_ahead.data.toList.drop 24 = dktX3_ahead_1 := dk_seg dksX3_ahead_0 24 rfl rfl
theorem dksX3_ahead_2 : cX3_ahead.data.toList.drop 47 = dktX3_ahead_2 := dk_seg dksX3_ahead_1 23 rfl rfl
theorem dksX3_ahead_3 : cX3_ahead.data.toList.drop 71 = dktX3_ahead_3 := dk_seg dksX3_ahead_2 24 rfl rfl
theorem dksX3_ahead_4 : cX3_ahead.data.toList.drop 95 = dktX3_ahead_4 := dk_seg dksX3_ahead_3 24 rfl rfl
theorem dX3_ahead_0 : decode cX3_ahead 0 = .ok (.aload_n 0, 1) := dk_42 (dk_at dksX3_ahead_0 0 rfl rfl)
theorem dX3_ahead_1 : decode cX3_ahead 1 = .ok (.iload_n 1, 1) := dk_27 (dk_at dksX3_ahead_0 1 rfl rfl)
theorem dX3_ahead_2 : decode cX3_ahead 2 = .ok (.iconst 1, 1) := dk_4 (dk_at dksX3_ahead_0 2 rfl rfl)
theorem dX3_ahead_3 : decode cX3_ahead 3 = .ok (.bipush 48, 2) := dk_16 48 (dk_at dksX3_ahead_0 3 rfl rfl)
theorem dX3_ahead_5 : decode cX3_ahead 5 = .ok (.invokestatic 57, 3) := dk_184 0 57 (dk_at dksX3_ahead_0 5 rfl rfl)
theorem dX3_ahead_8 : decode cX3_ahead 8 = .ok (.ifCond .eq 16, 3) := dk_153 0 16 (dk_at dksX3_ahead_0 8 rfl rfl)
theorem dX3_ahead_11 : decode cX3_ahead 11 = .ok (.iload_n 2, 1) := dk_28 (dk_at dksX3_ahead_0 11 rfl rfl)
theorem dX3_ahead_12 : decode cX3_ahead 12 = .ok (.iconst 0, 1) := dk_3 (dk_at dksX3_ahead_0 12 rfl rfl)
theorem dX3_ahead_13 : decode cX3_ahead 13 = .ok (.iconst 5, 1) := dk_8 (dk_at dksX3_ahead_0 13 rfl rfl)
theorem dX3_ahead_14 : decode cX3_ahead 14 = .ok (.invokestatic 57, 3) := dk_184 0 57 (dk_at dksX3_ahead_0 14 rfl rfl)
theorem dX3_ahead_17 : decode cX3_ahead 17 = .ok (.ifCond .eq 7, 3) := dk_153 0 7 (dk_at dksX3_ahead_0 17 rfl rfl)
theorem dX3_ahead_20 : decode cX3_ahead 20 = .ok (.iconst 0, 1) := dk_3 (dk_at dksX3_ahead_0 20 rfl rfl)
theorem dX3_ahead_21 : decode cX3_ahead 21 = .ok (.goto 4, 3) := dk_167 0 4 (dk_at dksX3_ahead_0 21 rfl rfl)
theorem dX3_ahead_24 : decode cX3_ahead 24 = .ok (.iconst 1, 1) := dk_4 (dk_at dksX3_ahead_1 0 rfl rfl)
theorem dX3_ahead_25 : decode cX3_ahead 25 = .ok (.putfield 53, 3) := dk_181 0 53 (dk_at dksX3_ahead_1 1 rfl rfl)
theorem dX3_ahead_28 : decode cX3_ahead 28 = .ok (.aload_n 0, 1) := dk_42 (dk_at dksX3_ahead_1 4 rfl rfl)
theorem dX3_ahead_29 : decode cX3_ahead 29 = .ok (.getfield 53, 3) := dk_180 0 53 (dk_at dksX3_ahead_1 5 rfl rfl)
theorem dX3_ahead_32 : decode cX3_ahead 32 = .ok (.ifCond .le 5, 3) := dk_158 0 5 (dk_at dksX3_ahead_1 8 rfl rfl)
theorem dX3_ahead_35 : decode cX3_ahead 35 = .ok (.iconst 0, 1) := dk_3 (dk_at dksX3_ahead_1 11 rfl rfl)
theorem dX3_ahead_36 : decode cX3_ahead 36 = .ok (.ireturn, 1) := dk_172 (dk_at dksX3_ahead_1 12 rfl rfl)
theorem dX3_ahead_37 : decode cX3_ahead 37 = .ok (.iconst 0, 1) := dk_3 (dk_at dksX3_ahead_1 13 rfl rfl)
theorem dX3_ahead_38 : decode cX3_ahead 38 = .ok (.istore_n 3, 1) := dk_62 (dk_at dksX3_ahead_1 14 rfl rfl)
theorem dX3_ahead_39 : decode cX3_ahead 39 = .ok (.iload_n 3, 1) := dk_29 (dk_at dksX3_ahead_1 15 rfl rfl)
theorem dX3_ahead_40 : decode cX3_ahead 40 = .ok (.sipush 155, 3) := dk_17 0 155 (dk_at dksX3_ahead_1 16 rfl rfl)
theorem dX3_ahead_43 : decode cX3_ahead 43 = .ok (.if_icmp .ge 21, 3) := dk_162 0 21 (dk_at dksX3_ahead_1 19 rfl rfl)
theorem dX3_ahead_46 : decode cX3_ahead 46 = .ok (.aload_n 0, 1) := dk_42 (dk_at dksX3_ahead_1 22 rfl rfl)
theorem dX3_ahead_47 : decode cX3_ahead 47 = .ok (.getfield 46, 3) := dk_180 0 46 (dk_at dksX3_ahead_2 0 rfl rfl)
theorem dX3_ahead_50 : decode cX3_ahead 50 = .ok (.iload_n 3, 1) := dk_29 (dk_at dksX3_ahead_2 3 rfl rfl)
theorem dX3_ahead_51 : decode cX3_ahead 51 = .ok (.aload_n 0, 1) := dk_42 (dk_at dksX3_ahead_2 4 rfl rfl)
theorem dX3_ahead_52 : decode cX3_ahead 52 = .ok (.getfield 43, 3) := dk_180 0 43 (dk_at dksX3_ahead_2 5 rfl rfl)
theorem dX3_ahead_55 : decode cX3_ahead 55 = .ok (.iload_n 3, 1) := dk_29 (dk_at dksX3_ahead_2 8 rfl rfl)
theorem dX3_ahead_56 : decode cX3_ahead 56 = .ok (.iaload, 1) := dk_46 (dk_at dksX3_ahead_2 9 rfl rfl)
theorem dX3_ahead_57 : decode cX3_ahead 57 = .ok (.iastore, 1) := dk_79 (dk_at dksX3_ahead_2 10 rfl rfl)
theorem dX3_ahead_58 : decode cX3_ahead 58 = .ok (.iinc 3 1, 3) := dk_132 3 1 (dk_at dksX3_ahead_2 11 rfl rfl)
theorem dX3_ahead_61 : decode cX3_ahead 61 = .ok (.goto (-22), 3) := dk_167 255 234 (dk_at dksX3_ahead_2 14 rfl rfl)
theorem dX3_ahead_64 : decode cX3_ahead 64 = .ok (.iconst 0, 1) := dk_3 (dk_at dksX3_ahead_2 17 rfl rfl)
theorem dX3_ahead_65 : decode cX3_ahead 65 = .ok (.istore_n 3, 1) := dk_62 (dk_at dksX3_ahead_2 18 rfl rfl)
theorem dX3_ahead_66 : decode cX3_ahead 66 = .ok (.iload_n 3, 1) := dk_29 (dk_at dksX3_ahead_2 19 rfl rfl)
theorem dX3_ahead_67 : decode cX3_ahead 67 = .ok (.iload_n 1, 1) := dk_27 (dk_at dksX3_ahead_2 20 rfl rfl)
theorem dX3_ahead_68 : decode cX3_ahead 68 = .ok (.if_icmp .ge 13, 3) := dk_162 0 13 (dk_at dksX3_ahead_2 21 rfl rfl)
theorem dX3_ahead_71 : decode cX3_ahead 71 = .ok (.aload_n 0, 1) := dk_42 (dk_at dksX3_ahead_3 0 rfl rfl)
theorem dX3_ahead_72 : decode cX3_ahead 72 = .ok (.invokevirtual 144, 3) := dk_182 0 144 (dk_at dksX3_ahead_3 1 rfl rfl)
theorem dX3_ahead_75 : decode cX3_ahead 75 = .ok (.iinc 3 1, 3) := dk_132 3 1 (dk_at dksX3_ahead_3 4 rfl rfl)
theorem dX3_ahead_78 : decode cX3_ahead 78 = .ok (.goto (-12), 3) := dk_167 255 244 (dk_at dksX3_ahead_3 7 rfl rfl)
theorem dX3_ahead_81 : decode cX3_ahead 81 = .ok (.aload_n 0, 1) := dk_42 (dk_at dksX3_ahead_3 10 rfl rfl)
theorem dX3_ahead_82 : decode cX3_ahead 82 = .ok (.iload_n 2, 1) := dk_28 (dk_at dksX3_ahead_3 11 rfl rfl)
theorem dX3_ahead_83 : decode cX3_ahead 83 = .ok (.invokevirtual 147, 3) := dk_182 0 147 (dk_at dksX3_ahead_3 12 rfl rfl)
theorem dX3_ahead_86 : decode cX3_ahead 86 = .ok (.istore_n 3, 1) := dk_62 (dk_at dksX3_ahead_3 15 rfl rfl)
theorem dX3_ahead_87 : decode cX3_ahead 87 = .ok (.aload_n 0, 1) := dk_42 (dk_at dksX3_ahead_3 16 rfl rfl)
theorem dX3_ahead_88 : decode cX3_ahead 88 = .ok (.getfield 43, 3) := dk_180 0 43 (dk_at dksX3_ahead_3 17 rfl rfl)
theorem dX3_ahead_91 : decode cX3_ahead 91 = .ok (.astore 4, 2) := dk_58 4 (dk_at dksX3_ahead_3 20 rfl rfl)
theorem dX3_ahead_93 : decode cX3_ahead 93 = .ok (.aload_n 0, 1) := dk_42 (dk_at dksX3_ahead_3 22 rfl rfl)
theorem dX3_ahead_94 : decode cX3_ahead 94 = .ok (.aload_n 0, 1) := dk_42 (dk_at dksX3_ahead_3 23 rfl rfl)
theorem dX3_ahead_95 : decode cX3_ahead 95 = .ok (.getfield 46, 3) := dk_180 0 46 (dk_at dksX3_ahead_4 0 rfl rfl)
theorem dX3_ahead_98 : decode cX3_ahead 98 = .ok (.putfield 43, 3) := dk_181 0 43 (dk_at dksX3_ahead_4 3 rfl rfl)
theorem dX3_ahead_101 : decode cX3_ahead 101 = .ok (.aload_n 0, 1) := dk_42 (dk_at dksX3_ahead_4 6 rfl rfl)
theorem dX3_ahead_102 : decode cX3_ahead 102 = .ok (.aload 4, 2) := dk_25 4 (dk_at dksX3_ahead_4 7 rfl rfl)
theorem dX3_ahead_104 : decode cX3_ahead 104 = .ok (.putfield 46, 3) := dk_181 0 46 (dk_at dksX3_ahead_4 9 rfl rfl)
theorem dX3_ahead_107 : decode cX3_ahead 107 = .ok (.iload_n 3, 1) := dk_29 (dk_at dksX3_ahead_4 12 rfl rfl)
theorem dX3_ahead_108 : decode cX3_ahead 108 = .ok (.ireturn, 1) := dk_172 (dk_at dksX3_ahead_4 13 rfl rfl)
abbrev cX3_sumOf : ByteArray := prog_6_method_41_code
def yX3_sumOf : MethodName := ⟨RX3, "sumOf", "(I)I"⟩
def dkwX3_sumOf_5 : List UInt8 := [167, 0, 4, 28, 172]
abbrev dktX3_sumOf_5 : List UInt8 := dkwX3_sumOf_5 ++ []
def dkwX3_sumOf_4 : List UInt8 := [160, 0, 10, 42, 182, 0, 112, 167, 0, 20, 27, 8, 160, 0, 14, 42, 180, 0, 43, 17, 0, 154, 46]
abbrev dktX3_sumOf_4 : List UInt8 := dkwX3_sumOf_4 ++ dktX3_sumOf_5
def dkwX3_sumOf_3 : List UInt8 := [46, 167, 0, 48, 27, 4, 160, 0, 14, 42, 180, 0, 43, 17, 0, 153, 46, 167, 0, 32, 27, 6]
abbrev dktX3_sumOf_3 : List UInt8 := dkwX3_sumOf_3 ++ dktX3_sumOf_4
def dkwX3_sumOf_2 : List UInt8 := [46, 167, 0, 4, 3, 96, 61, 132, 3, 1, 167, 255, 202, 27, 154, 0, 14, 42, 180, 0, 43, 17, 0, 152]
abbrev dktX3_sumOf_2 : List UInt8 := dkwX3_sumOf_2 ++ dktX3_sumOf_3
def dkwX3_sumOf_1 : List UInt8 := [46, 167, 0, 28, 27, 7, 160, 0, 22, 29, 16, 8, 162, 0, 16, 42, 180, 0, 43, 17, 0, 144, 29, 96]
abbrev dktX3_sumOf_1 : List UInt8 := dkwX3_sumOf_1 ++ dktX3_sumOf_2
def dkwX3_sumOf_0 : List UInt8 := [3, 61, 3, 62, 29, 16, 40, 162, 0, 54, 28, 27, 5, 160, 0, 15, 42, 180, 0, 43, 16, 40, 29, 96]
abbrev dktX3_sumOf_0 : List UInt8 := dkwX3_sumOf_0 ++ dktX3_sumOf_1
theorem dksX3_sumOf_0 : cX3_sumOf.data.toList.drop 0 = dktX3_sumOf_0 := by decide +kernel
theorem dksX3_sumOf_1 : cX3_sumOf.data.toList.drop 24 = dktX3_sumOf_1 := dk_seg dksX3_sumOf_0 24 rfl rfl
theorem dksX3_sumOf_2 : cX3_sumOf.data.toList.drop 48 = dktX3_sumOf_2 := dk_seg dksX3_sumOf_1 24 rfl rfl
theorem dksX3_sumOf_3 : cX3_sumOf.data.toList.drop 72 = dktX3_sumOf_3 := dk_seg dksX3_sumOf_2 24 rfl rfl
theorem dksX3_sumOf_4 : cX3_sumOf.data.toList.drop 94 = dktX3_sumOf_4 := dk_seg dksX3_sumOf_3 22 rfl rfl
theorem dksX3_sumOf_5 : cX3_sumOf.data.toList.drop 117 = dktX3_sumOf_5 := dk_seg dksX3_sumOf_4 23 rfl rfl
theorem dX3_sumOf_0 : decode cX3_sumOf 0 = .ok (.iconst 0, 1) := dk_3 (dk_at dksX3_sumOf_0 0 rfl rfl)
theorem dX3_sumOf_1 : decode cX3_sumOf 1 = .ok (.istore_n 2, 1) := dk_61 (dk_at dksX3_sumOf_0 1 rfl rfl)
theorem dX3_sumOf_2 : decode cX3_sumOf 2 = .ok (.iconst 0, 1) := dk_3 (dk_at dksX3_sumOf_0 2 rfl rfl)
theorem dX3_sumOf_3 : decode cX3_sumOf 3 = .ok (.istore_n 3, 1) := dk_62 (dk_at dksX3_sumOf_0 3 rfl rfl)
theorem dX3_sumOf_4 : decode cX3_sumOf 4 = .ok (.iload_n 3, 1) := dk_29 (dk_at dksX3_sumOf_0 4 rfl rfl)
theorem dX3_sumOf_5 : decode cX3_sumOf 5 = .ok (.bipush 40, 2) := dk_16 40 (dk_at dksX3_sumOf_0 5 rfl rfl)
theorem dX3_sumOf_7 : decode cX3_sumOf 7 = .ok (.if_icmp .ge 54, 3) := dk_162 0 54 (dk_at dksX3_sumOf_0 7 rfl rfl)
theorem dX3_sumOf_10 : decode cX3_sumOf 10 = .ok (.iload_n 2, 1) := dk_28 (dk_at dksX3_sumOf_0 10 rfl rfl)
theorem dX3_sumOf_11 : decode cX3_sumOf 11 = .ok (.iload_n 1, 1) := dk_27 (dk_at dksX3_sumOf_0 11 rfl rfl)
theorem dX3_sumOf_12 : decode cX3_sumOf 12 = .ok (.iconst 2, 1) := dk_5 (dk_at dksX3_sumOf_0 12 rfl rfl)
theorem dX3_sumOf_13 : decode cX3_sumOf 13 = .ok (.if_icmp .ne 15, 3) := dk_160 0 15 (dk_at dksX3_sumOf_0 13 rfl rfl)
theorem dX3_sumOf_16 : decode cX3_sumOf 16 = .ok (.aload_n 0, 1) := dk_42 (dk_at dksX3_sumOf_0 16 rfl rfl)
theorem dX3_sumOf_17 : decode cX3_sumOf 17 = .ok (.getfield 43, 3) := dk_180 0 43 (dk_at dksX3_sumOf_0 17 rfl rfl)
theorem dX3_sumOf_20 : decode cX3_sumOf 20 = .ok (.bipush 40, 2) := dk_16 40 (dk_at dksX3_sumOf_0 20 rfl rfl)
theorem dX3_sumOf_22 : decode cX3_sumOf 22 = .ok (.iload_n 3, 1) := dk_29 (dk_at dksX3_sumOf_0 22 rfl rfl)
theorem dX3_sumOf_23 : decode cX3_sumOf 23 = .ok (.iadd, 1) := dk_96 (dk_at dksX3_sumOf_0 23 rfl rfl)
theorem dX3_sumOf_24 : decode cX3_sumOf 24 = .ok (.iaload, 1) := dk_46 (dk_at dksX3_sumOf_1 0 rfl rfl)
theorem dX3_sumOf_25 : decode cX3_sumOf 25 = .ok (.goto 28, 3) := dk_167 0 28 (dk_at dksX3_sumOf_1 1 rfl rfl)
theorem dX3_sumOf_28 : decode cX3_sumOf 28 = .ok (.iload_n 1, 1) := dk_27 (dk_at dksX3_sumOf_1 4 rfl rfl)
theorem dX3_sumOf_29 : decode cX3_sumOf 29 = .ok (.iconst 4, 1) := dk_7 (dk_at dksX3_sumOf_1 5 rfl rfl)
theorem dX3_sumOf_30 : decode cX3_sumOf 30 = .ok (.if_icmp .ne 22, 3) := dk_160 0 22 (dk_at dksX3_sumOf_1 6 rfl rfl)
theorem dX3_sumOf_33 : decode cX3_sumOf 33 = .ok (.iload_n 3, 1) := dk_29 (dk_at dksX3_sumOf_1 9 rfl rfl)
theorem dX3_sumOf_34 : decode cX3_sumOf 34 = .ok (.bipush 8, 2) := dk_16 8 (dk_at dksX3_sumOf_1 10 rfl rfl)
theorem dX3_sumOf_36 : decode cX3_sumOf 36 = .ok (.if_icmp .ge 16, 3) := dk_162 0 16 (dk_at dksX3_sumOf_1 12 rfl rfl)
theorem dX3_sumOf_39 : decode cX3_sumOf 39 = .ok (.aload_n 0, 1) := dk_42 (dk_at dksX3_sumOf_1 15 rfl rfl)
theorem dX3_sumOf_40 : decode cX3_sumOf 40 = .ok (.getfield 43, 3) := dk_180 0 43 (dk_at dksX3_sumOf_1 16 rfl rfl)
theorem dX3_sumOf_43 : decode cX3_sumOf 43 = .ok (.sipush 144, 3) := dk_17 0 144 (dk_at dksX3_sumOf_1 19 rfl rfl)
theorem dX3_sumOf_46 : decode cX3_sumOf 46 = .ok (.iload_n 3, 1) := dk_29 (dk_at dksX3_sumOf_1 22 rfl rfl)
theorem dX3_sumOf_47 : decode cX3_sumOf 47 = .ok (.iadd, 1) := dk_96 (dk_at dksX3_sumOf_1 23 rfl rfl)
theorem dX3_sumOf_48 : decode cX3_sumOf 48 = .ok (.iaload, 1) := dk_46 (dk_at dksX3_sumOf_2 0 rfl rfl)
theorem dX3_sumOf_49 : decode cX3_sumOf 49 = .ok (.goto 4, 3) := dk_167 0 4 (dk_at dksX3_sumOf_2 1 rfl rfl)
theorem dX3_sumOf_52 : decode cX3_sumOf 52 = .ok (.iconst 0, 1) := dk_3 (dk_at dksX3_sumOf_2 4 rfl rfl)
theorem dX3_sumOf_53 : decode cX3_sumOf 53 = .ok (.iadd, 1) := dk_96 (dk_at dksX3_sumOf_2 5 rfl rfl)
theorem dX3_sumOf_54 : decode cX3_sumOf 54 = .ok (.istore_n 2, 1) := dk_61 (dk_at dksX3_sumOf_2 6 rfl rfl)
theorem dX3_sumOf_55 : decode cX3_sumOf 55 = .ok (.iinc 3 1, 3) := dk_132 3 1 (dk_at dksX3_sumOf_2 7 rfl rfl)
theorem dX3_sumOf_58 : decode cX3_sumOf 58 = .ok (.goto (-54), 3) := dk_167 255 202 (dk_at dksX3_sumOf_2 10 rfl rfl)
theorem dX3_sumOf_61 : decode cX3_sumOf 61 = .ok (.iload_n 1, 1) := dk_27 (dk_at dksX3_sumOf_2 13 rfl rfl)
theorem dX3_sumOf_62 : decode cX3_sumOf 62 = .ok (.ifCond .ne 14, 3) := dk_154 0 14 (dk_at dksX3_sumOf_2 14 rfl rfl)
theorem dX3_sumOf_65 : decode cX3_sumOf 65 = .ok (.aload_n 0, 1) := dk_42 (dk_at dksX3_sumOf_2 17 rfl rfl)
theorem dX3_sumOf_66 : decode cX3_sumOf 66 = .ok (.getfield 43, 3) := dk_180 0 43 (dk_at dksX3_sumOf_2 18 rfl rfl)
theorem dX3_sumOf_69 : decode cX3_sumOf 69 = .ok (.sipush 152, 3) := dk_17 0 152 (dk_at dksX3_sumOf_2 21 rfl rfl)
theorem dX3_sumOf_72 : decode cX3_sumOf 72 = .ok (.iaload, 1) := dk_46 (dk_at dksX3_sumOf_3 0 rfl rfl)
theorem dX3_sumOf_73 : decode cX3_sumOf 73 = .ok (.goto 48, 3) := dk_167 0 48 (dk_at dksX3_sumOf_3 1 rfl rfl)
theorem dX3_sumOf_76 : decode cX3_sumOf 76 = .ok (.iload_n 1, 1) := dk_27 (dk_at dksX3_sumOf_3 4 rfl rfl)
theorem dX3_sumOf_77 : decode cX3_sumOf 77 = .ok (.iconst 1, 1) := dk_4 (dk_at dksX3_sumOf_3 5 rfl rfl)
theorem dX3_sumOf_78 : decode cX3_sumOf 78 = .ok (.if_icmp .ne 14, 3) := dk_160 0 14 (dk_at dksX3_sumOf_3 6 rfl rfl)
theorem dX3_sumOf_81 : decode cX3_sumOf 81 = .ok (.aload_n 0, 1) := dk_42 (dk_at dksX3_sumOf_3 9 rfl rfl)
theorem dX3_sumOf_82 : decode cX3_sumOf 82 = .ok (.getfield 43, 3) := dk_180 0 43 (dk_at dksX3_sumOf_3 10 rfl rfl)
theorem dX3_sumOf_85 : decode cX3_sumOf 85 = .ok (.sipush 153, 3) := dk_17 0 153 (dk_at dksX3_sumOf_3 13 rfl rfl)
theorem dX3_sumOf_88 : decode cX3_sumOf 88 = .ok (.iaload, 1) := dk_46 (dk_at dksX3_sumOf_3 16 rfl rfl)
theorem dX3_sumOf_89 : decode cX3_sumOf 89 = .ok (.goto 32, 3) := dk_167 0 32 (dk_at dksX3_sumOf_3 17 rfl rfl)
theorem dX3_sumOf_92 : decode cX3_sumOf 92 = .ok (.iload_n 1, 1) := dk_27 (dk_at dksX3_sumOf_3 20 rfl rfl)
theorem dX3_sumOf_93 : decode cX3_sumOf 93 = .ok (.iconst 3, 1) := dk_6 (dk_at dksX3_sumOf_3 21 rfl rfl)
theorem dX3_sumOf_94 : decode cX3_sumOf 94 = .ok (.if_icmp .ne 10, 3) := dk_160 0 10 (dk_at dksX3_sumOf_4 0 rfl rfl)
theorem dX3_sumOf_97 : decode cX3_sumOf 97 = .ok (.aload_n 0, 1) := dk_42 (dk_at dksX3_sumOf_4 3 rfl rfl)
theorem dX3_sumOf_98 : decode cX3_sumOf 98 = .ok (.invokevirtual 112, 3) := dk_182 0 112 (dk_at dksX3_sumOf_4 4 rfl rfl)
theorem dX3_sumOf_101 : decode cX3_sumOf 101 = .ok (.goto 20, 3) := dk_167 0 20 (dk_at dksX3_sumOf_4 7 rfl rfl)
theorem dX3_sumOf_104 : decode cX3_sumOf 104 = .ok (.iload_n 1, 1) := dk_27 (dk_at dksX3_sumOf_4 10 rfl rfl)
theorem dX3_sumOf_105 : decode cX3_sumOf 105 = .ok (.iconst 5, 1) := dk_8 (dk_at dksX3_sumOf_4 11 rfl rfl)
theorem dX3_sumOf_106 : decode cX3_sumOf 106 = .ok (.if_icmp .ne 14, 3) := dk_160 0 14 (dk_at dksX3_sumOf_4 12 rfl rfl)
theorem dX3_sumOf_109 : decode cX3_sumOf 109 = .ok (.aload_n 0, 1) := dk_42 (dk_at dksX3_sumOf_4 15 rfl rfl)
theorem dX3_sumOf_110 : decode cX3_sumOf 110 = .ok (.getfield 43, 3) := dk_180 0 43 (dk_at dksX3_sumOf_4 16 rfl rfl)
theorem dX3_sumOf_113 : decode cX3_sumOf 113 = .ok (.sipush 154, 3) := dk_17 0 154 (dk_at dksX3_sumOf_4 19 rfl rfl)
theorem dX3_sumOf_116 : decode cX3_sumOf 116 = .ok (.iaload, 1) := dk_46 (dk_at dksX3_sumOf_4 22 rfl rfl)
theorem dX3_sumOf_117 : decode cX3_sumOf 117 = .ok (.goto 4, 3) := dk_167 0 4 (dk_at dksX3_sumOf_5 0 rfl rfl)
theorem dX3_sumOf_120 : decode cX3_sumOf 120 = .ok (.iload_n 2, 1) := dk_28 (dk_at dksX3_sumOf_5 3 rfl rfl)
theorem dX3_sumOf_121 : decode cX3_sumOf 121 = .ok (.ireturn, 1) := dk_172 (dk_at dksX3_sumOf_5 4 rfl rfl)
abbrev cX3_sum : ByteArray := prog_6_method_43_code
def yX3_sum : MethodName := ⟨RX3, "sum", "(I)I"⟩
def dkwX3_sum_1 : List UInt8 := [154, 0, 11, 42, 27, 182, 0, 147, 167, 0, 4, 3, 172]
abbrev dktX3_sum_1 : List UInt8 := dkwX3_sum_1 ++ []
def dkwX3_sum_0 : List UInt8 := [42, 27, 3, 8, 184, 0, 57, 153, 0, 7, 3, 167, 0, 4, 4, 181, 0, 53, 42, 180, 0, 53]
abbrev dktX3_sum_0 : List UInt8 := dkwX3_sum_0 ++ dktX3_sum_1
theorem dksX3_sum_0 : cX3_sum.data.toList.drop 0 = dktX3_sum_0 := by decide +kernel
theorem dksX3_sum_1 : cX3_sum.data.toList.drop 22 = dktX3_sum_1 := dk_seg dksX3_sum_0 22 rfl rfl
theorem dX3_sum_0 : decode cX3_sum 0 = .ok (.aload_n 0, 1) := dk_42 (dk_at dksX3_sum_0 0 rfl rfl)
theorem dX3_sum_1 : decode cX3_sum 1 = .ok (.iload_n 1, 1) := dk_27 (dk_at dksX3_sum_0 1 rfl rfl)
theorem dX3_sum_2 : decode cX3_sum 2 = .ok (.iconst 0, 1) := dk_3 (dk_at dksX3_sum_0 2 rfl rfl)
theorem dX3_sum_3 : decode cX3_sum 3 = .ok (.iconst 5, 1) := dk_8 (dk_at dksX3_sum_0 3 rfl rfl)
theorem dX3_sum_4 : decode cX3_sum 4 = .ok (.invokestatic 57, 3) := dk_184 0 57 (dk_at dksX3_sum_0 4 rfl rfl)
theorem dX3_sum_7 : decode cX3_sum 7 = .ok (.ifCond .eq 7, 3) := dk_153 0 7 (dk_at dksX3_sum_0 7 rfl rfl)
theorem dX3_sum_10 : decode cX3_sum 10 = .ok (.iconst 0, 1) := dk_3 (dk_at dksX3_sum_0 10 rfl rfl)
theorem dX3_sum_11 : decode cX3_sum 11 = .ok (.goto 4, 3) := dk_167 0 4 (dk_at dksX3_sum_0 11 rfl rfl)
theorem dX3_sum_14 : decode cX3_sum 14 = .ok (.iconst 1, 1) := dk_4 (dk_at dksX3_sum_0 14 rfl rfl)
theorem dX3_sum_15 : decode cX3_sum 15 = .ok (.putfield 53, 3) := dk_181 0 53 (dk_at dksX3_sum_0 15 rfl rfl)
theorem dX3_sum_18 : decode cX3_sum 18 = .ok (.aload_n 0, 1) := dk_42 (dk_at dksX3_sum_0 18 rfl rfl)
theorem dX3_sum_19 : decode cX3_sum 19 = .ok (.getfield 53, 3) := dk_180 0 53 (dk_at dksX3_sum_0 19 rfl rfl)
theorem dX3_sum_22 : decode cX3_sum 22 = .ok (.ifCond .ne 11, 3) := dk_154 0 11 (dk_at dksX3_sum_1 0 rfl rfl)
theorem dX3_sum_25 : decode cX3_sum 25 = .ok (.aload_n 0, 1) := dk_42 (dk_at dksX3_sum_1 3 rfl rfl)
theorem dX3_sum_26 : decode cX3_sum 26 = .ok (.iload_n 1, 1) := dk_27 (dk_at dksX3_sum_1 4 rfl rfl)
theorem dX3_sum_27 : decode cX3_sum 27 = .ok (.invokevirtual 147, 3) := dk_182 0 147 (dk_at dksX3_sum_1 5 rfl rfl)
theorem dX3_sum_30 : decode cX3_sum 30 = .ok (.goto 4, 3) := dk_167 0 4 (dk_at dksX3_sum_1 8 rfl rfl)
theorem dX3_sum_33 : decode cX3_sum 33 = .ok (.iconst 0, 1) := dk_3 (dk_at dksX3_sum_1 11 rfl rfl)
theorem dX3_sum_34 : decode cX3_sum 34 = .ok (.ireturn, 1) := dk_172 (dk_at dksX3_sum_1 12 rfl rfl)
abbrev cX3_isHole : ByteArray := prog_6_method_46_code
def yX3_isHole : MethodName := ⟨RX3, "isHole", "(I)Z"⟩
def dkwX3_isHole_1 : List UInt8 := [27, 182, 0, 153, 154, 0, 7, 4, 167, 0, 4, 3, 172]
abbrev dktX3_isHole_1 : List UInt8 := dkwX3_isHole_1 ++ []
def dkwX3_isHole_0 : List UInt8 := [42, 27, 184, 0, 72, 153, 0, 7, 3, 167, 0, 4, 4, 181, 0, 53, 42, 180, 0, 53, 154, 0, 15, 42]
abbrev dktX3_isHole_0 : List UInt8 := dkwX3_isHole_0 ++ dktX3_isHole_1
theorem dksX3_isHole_0 : cX3_isHole.data.toList.drop 0 = dktX3_isHole_0 := by decide +kernel
theorem dksX3_isHole_1 : cX3_isHole.data.toList.drop 24 = dktX3_isHole_1 := dk_seg dksX3_isHole_0 24 rfl rfl
theorem dX3_isHole_0 : decode cX3_isHole 0 = .ok (.aload_n 0, 1) := dk_42 (dk_at dksX3_isHole_0 0 rfl rfl)
theorem dX3_isHole_1 : decode cX3_isHole 1 = .ok (.iload_n 1, 1) := dk_27 (dk_at dksX3_isHole_0 1 rfl rfl)
theorem dX3_isHole_2 : decode cX3_isHole 2 = .ok (.invokestatic 72, 3) := dk_184 0 72 (dk_at dksX3_isHole_0 2 rfl rfl)
theorem dX3_isHole_5 : decode cX3_isHole 5 = .ok (.ifCond .eq 7, 3) := dk_153 0 7 (dk_at dksX3_isHole_0 5 rfl rfl)
theorem dX3_isHole_8 : decode cX3_isHole 8 = .ok (.iconst 0, 1) := dk_3 (dk_at dksX3_isHole_0 8 rfl rfl)
theorem dX3_isHole_9 : decode cX3_isHole 9 = .ok (.goto 4, 3) := dk_167 0 4 (dk_at dksX3_isHole_0 9 rfl rfl)
theorem dX3_isHole_12 : decode cX3_isHole 12 = .ok (.iconst 1, 1) := dk_4 (dk_at dksX3_isHole_0 12 rfl rfl)
theorem dX3_isHole_13 : decode cX3_isHole 13 = .ok (.putfield 53, 3) := dk_181 0 53 (dk_at dksX3_isHole_0 13 rfl rfl)
theorem dX3_isHole_16 : decode cX3_isHole 16 = .ok (.aload_n 0, 1) := dk_42 (dk_at dksX3_isHole_0 16 rfl rfl)
theorem dX3_isHole_17 : decode cX3_isHole 17 = .ok (.getfield 53, 3) := dk_180 0 53 (dk_at dksX3_isHole_0 17 rfl rfl)
theorem dX3_isHole_20 : decode cX3_isHole 20 = .ok (.ifCond .ne 15, 3) := dk_154 0 15 (dk_at dksX3_isHole_0 20 rfl rfl)
theorem dX3_isHole_23 : decode cX3_isHole 23 = .ok (.aload_n 0, 1) := dk_42 (dk_at dksX3_isHole_0 23 rfl rfl)
theorem dX3_isHole_24 : decode cX3_isHole 24 = .ok (.iload_n 1, 1) := dk_27 (dk_at dksX3_isHole_1 0 rfl rfl)
theorem dX3_isHole_25 : decode cX3_isHole 25 = .ok (.invokevirtual 153, 3) := dk_182 0 153 (dk_at dksX3_isHole_1 1 rfl rfl)
theorem dX3_isHole_28 : decode cX3_isHole 28 = .ok (.ifCond .ne 7, 3) := dk_154 0 7 (dk_at dksX3_isHole_1 4 rfl rfl)
theorem dX3_isHole_31 : decode cX3_isHole 31 = .ok (.iconst 1, 1) := dk_4 (dk_at dksX3_isHole_1 7 rfl rfl)
theorem dX3_isHole_32 : decode cX3_isHole 32 = .ok (.goto 4, 3) := dk_167 0 4 (dk_at dksX3_isHole_1 8 rfl rfl)
theorem dX3_isHole_35 : decode cX3_isHole 35 = .ok (.iconst 0, 1) := dk_3 (dk_at dksX3_isHole_1 11 rfl rfl)
theorem dX3_isHole_36 : decode cX3_isHole 36 = .ok (.ireturn, 1) := dk_172 (dk_at dksX3_isHole_1 12 rfl rfl)
abbrev cX3_isTouched : ByteArray := prog_6_method_45_code
def yX3_isTouched : MethodName := ⟨RX3, "isTouched", "(I)Z"⟩
def dkwX3_isTouched_4 : List UInt8 := [172]
abbrev dktX3_isTouched_4 : List UInt8 := dkwX3_isTouched_4 ++ []
def dkwX3_isTouched_3 : List UInt8 := [182, 0, 101, 153, 0, 14, 42, 21, 4, 182, 0, 150, 153, 0, 5, 4, 172, 132, 2, 1, 167, 255, 167, 3]
abbrev dktX3_isTouched_3 : List UInt8 := dkwX3_isTouched_3 ++ dktX3_isTouched_4
def dkwX3_isTouched_2 : List UInt8 := [7, 108, 42, 180, 0, 85, 112, 46, 104, 96, 16, 64, 28, 7, 112, 104, 96, 54, 4, 42, 21, 4, 27]
abbrev dktX3_isTouched_2 : List UInt8 := dkwX3_isTouched_2 ++ dktX3_isTouched_3
def dkwX3_isTouched_1 : List UInt8 := [108, 62, 42, 180, 0, 19, 29, 46, 7, 42, 180, 0, 22, 29, 46, 104, 96, 16, 16, 42, 180, 0, 25, 28]
abbrev dktX3_isTouched_1 : List UInt8 := dkwX3_isTouched_1 ++ dktX3_isTouched_2
def dkwX3_isTouched_0 : List UInt8 := [3, 61, 28, 7, 42, 180, 0, 82, 104, 42, 180, 0, 85, 104, 162, 0, 80, 28, 7, 108, 42, 180, 0, 85]
abbrev dktX3_isTouched_0 : List UInt8 := dkwX3_isTouched_0 ++ dktX3_isTouched_1
theorem dksX3_isTouched_0 : cX3_isTouched.data.toList.drop 0 = dktX3_isTouched_0 := by decide +kernel
theorem dksX3_isTouched_1 : cX3_isTouched.data.toList.drop 24 = dktX3_isTouched_1 := dk_seg dksX3_isTouched_0 24 rfl rfl
theorem dksX3_isTouched_2 : cX3_isTouched.data.toList.drop 48 = dktX3_isTouched_2 := dk_seg dksX3_isTouched_1 24 rfl rfl
theorem dksX3_isTouched_3 : cX3_isTouched.data.toList.drop 71 = dktX3_isTouched_3 := dk_seg dksX3_isTouched_2 23 rfl rfl
theorem dksX3_isTouched_4 : cX3_isTouched.data.toList.drop 95 = dktX3_isTouched_4 := dk_seg dksX3_isTouched_3 24 rfl rfl
theorem dX3_isTouched_0 : decode cX3_isTouched 0 = .ok (.iconst 0, 1) := dk_3 (dk_at dksX3_isTouched_0 0 rfl rfl)
theorem dX3_isTouched_1 : decode cX3_isTouched 1 = .ok (.istore_n 2, 1) := dk_61 (dk_at dksX3_isTouched_0 1 rfl rfl)
theorem dX3_isTouched_2 : decode cX3_isTouched 2 = .ok (.iload_n 2, 1) := dk_28 (dk_at dksX3_isTouched_0 2 rfl rfl)
theorem dX3_isTouched_3 : decode cX3_isTouched 3 = .ok (.iconst 4, 1) := dk_7 (dk_at dksX3_isTouched_0 3 rfl rfl)
theorem dX3_isTouched_4 : decode cX3_isTouched 4 = .ok (.aload_n 0, 1) := dk_42 (dk_at dksX3_isTouched_0 4 rfl rfl)
theorem dX3_isTouched_5 : decode cX3_isTouched 5 = .ok (.getfield 82, 3) := dk_180 0 82 (dk_at dksX3_isTouched_0 5 rfl rfl)
theorem dX3_isTouched_8 : decode cX3_isTouched 8 = .ok (.imul, 1) := dk_104 (dk_at dksX3_isTouched_0 8 rfl rfl)
theorem dX3_isTouched_9 : decode cX3_isTouched 9 = .ok (.aload_n 0, 1) := dk_42 (dk_at dksX3_isTouched_0 9 rfl rfl)
theorem dX3_isTouched_10 : decode cX3_isTouched 10 = .ok (.getfield 85, 3) := dk_180 0 85 (dk_at dksX3_isTouched_0 10 rfl rfl)
theorem dX3_isTouched_13 : decode cX3_isTouched 13 = .ok (.imul, 1) := dk_104 (dk_at dksX3_isTouched_0 13 rfl rfl)
theorem dX3_isTouched_14 : decode cX3_isTouched 14 = .ok (.if_icmp .ge 80, 3) := dk_162 0 80 (dk_at dksX3_isTouched_0 14 rfl rfl)
theorem dX3_isTouched_17 : decode cX3_isTouched 17 = .ok (.iload_n 2, 1) := dk_28 (dk_at dksX3_isTouched_0 17 rfl rfl)
theorem dX3_isTouched_18 : decode cX3_isTouched 18 = .ok (.iconst 4, 1) := dk_7 (dk_at dksX3_isTouched_0 18 rfl rfl)
theorem dX3_isTouched_19 : decode cX3_isTouched 19 = .ok (.idiv, 1) := dk_108 (dk_at dksX3_isTouched_0 19 rfl rfl)
theorem dX3_isTouched_20 : decode cX3_isTouched 20 = .ok (.aload_n 0, 1) := dk_42 (dk_at dksX3_isTouched_0 20 rfl rfl)
theorem dX3_isTouched_21 : decode cX3_isTouched 21 = .ok (.getfield 85, 3) := dk_180 0 85 (dk_at dksX3_isTouched_0 21 rfl rfl)
theorem dX3_isTouched_24 : decode cX3_isTouched 24 = .ok (.idiv, 1) := dk_108 (dk_at dksX3_isTouched_1 0 rfl rfl)
theorem dX3_isTouched_25 : decode cX3_isTouched 25 = .ok (.istore_n 3, 1) := dk_62 (dk_at dksX3_isTouched_1 1 rfl rfl)
theorem dX3_isTouched_26 : decode cX3_isTouched 26 = .ok (.aload_n 0, 1) := dk_42 (dk_at dksX3_isTouched_1 2 rfl rfl)
theorem dX3_isTouched_27 : decode cX3_isTouched 27 = .ok (.getfield 19, 3) := dk_180 0 19 (dk_at dksX3_isTouched_1 3 rfl rfl)
theorem dX3_isTouched_30 : decode cX3_isTouched 30 = .ok (.iload_n 3, 1) := dk_29 (dk_at dksX3_isTouched_1 6 rfl rfl)
theorem dX3_isTouched_31 : decode cX3_isTouched 31 = .ok (.iaload, 1) := dk_46 (dk_at dksX3_isTouched_1 7 rfl rfl)
theorem dX3_isTouched_32 : decode cX3_isTouched 32 = .ok (.iconst 4, 1) := dk_7 (dk_at dksX3_isTouched_1 8 rfl rfl)
theorem dX3_isTouched_33 : decode cX3_isTouched 33 = .ok (.aload_n 0, 1) := dk_42 (dk_at dksX3_isTouched_1 9 rfl rfl)
theorem dX3_isTouched_34 : decode cX3_isTouched 34 = .ok (.getfield 22, 3) := dk_180 0 22 (dk_at dksX3_isTouched_1 10 rfl rfl)
theorem dX3_isTouched_37 : decode cX3_isTouched 37 = .ok (.iload_n 3, 1) := dk_29 (dk_at dksX3_isTouched_1 13 rfl rfl)
theorem dX3_isTouched_38 : decode cX3_isTouched 38 = .ok (.iaload, 1) := dk_46 (dk_at dksX3_isTouched_1 14 rfl rfl)
theorem dX3_isTouched_39 : decode cX3_isTouched 39 = .ok (.imul, 1) := dk_104 (dk_at dksX3_isTouched_1 15 rfl rfl)
theorem dX3_isTouched_40 : decode cX3_isTouched 40 = .ok (.iadd, 1) := dk_96 (dk_at dksX3_isTouched_1 16 rfl rfl)
theorem dX3_isTouched_41 : decode cX3_isTouched 41 = .ok (.bipush 16, 2) := dk_16 16 (dk_at dksX3_isTouched_1 17 rfl rfl)
theorem dX3_isTouched_43 : decode cX3_isTouched 43 = .ok (.aload_n 0, 1) := dk_42 (dk_at dksX3_isTouched_1 19 rfl rfl)
theorem dX3_isTouched_44 : decode cX3_isTouched 44 = .ok (.getfield 25, 3) := dk_180 0 25 (dk_at dksX3_isTouched_1 20 rfl rfl)
theorem dX3_isTouched_47 : decode cX3_isTouched 47 = .ok (.iload_n 2, 1) := dk_28 (dk_at dksX3_isTouched_1 23 rfl rfl)
theorem dX3_isTouched_48 : decode cX3_isTouched 48 = .ok (.iconst 4, 1) := dk_7 (dk_at dksX3_isTouched_2 0 rfl rfl)
theorem dX3_isTouched_49 : decode cX3_isTouched 49 = .ok (.idiv, 1) := dk_108 (dk_at dksX3_isTouched_2 1 rfl rfl)
theorem dX3_isTouched_50 : decode cX3_isTouched 50 = .ok (.aload_n 0, 1) := dk_42 (dk_at dksX3_isTouched_2 2 rfl rfl)
theorem dX3_isTouched_51 : decode cX3_isTouched 51 = .ok (.getfield 85, 3) := dk_180 0 85 (dk_at dksX3_isTouched_2 3 rfl rfl)
theorem dX3_isTouched_54 : decode cX3_isTouched 54 = .ok (.irem, 1) := dk_112 (dk_at dksX3_isTouched_2 6 rfl rfl)
theorem dX3_isTouched_55 : decode cX3_isTouched 55 = .ok (.iaload, 1) := dk_46 (dk_at dksX3_isTouched_2 7 rfl rfl)
theorem dX3_isTouched_56 : decode cX3_isTouched 56 = .ok (.imul, 1) := dk_104 (dk_at dksX3_isTouched_2 8 rfl rfl)
theorem dX3_isTouched_57 : decode cX3_isTouched 57 = .ok (.iadd, 1) := dk_96 (dk_at dksX3_isTouched_2 9 rfl rfl)
theorem dX3_isTouched_58 : decode cX3_isTouched 58 = .ok (.bipush 64, 2) := dk_16 64 (dk_at dksX3_isTouched_2 10 rfl rfl)
theorem dX3_isTouched_60 : decode cX3_isTouched 60 = .ok (.iload_n 2, 1) := dk_28 (dk_at dksX3_isTouched_2 12 rfl rfl)
theorem dX3_isTouched_61 : decode cX3_isTouched 61 = .ok (.iconst 4, 1) := dk_7 (dk_at dksX3_isTouched_2 13 rfl rfl)
theorem dX3_isTouched_62 : decode cX3_isTouched 62 = .ok (.irem, 1) := dk_112 (dk_at dksX3_isTouched_2 14 rfl rfl)
theorem dX3_isTouched_63 : decode cX3_isTouched 63 = .ok (.imul, 1) := dk_104 (dk_at dksX3_isTouched_2 15 rfl rfl)
theorem dX3_isTouched_64 : decode cX3_isTouched 64 = .ok (.iadd, 1) := dk_96 (dk_at dksX3_isTouched_2 16 rfl rfl)
theorem dX3_isTouched_65 : decode cX3_isTouched 65 = .ok (.istore 4, 2) := dk_54 4 (dk_at dksX3_isTouched_2 17 rfl rfl)
theorem dX3_isTouched_67 : decode cX3_isTouched 67 = .ok (.aload_n 0, 1) := dk_42 (dk_at dksX3_isTouched_2 19 rfl rfl)
theorem dX3_isTouched_68 : decode cX3_isTouched 68 = .ok (.iload 4, 2) := dk_21 4 (dk_at dksX3_isTouched_2 20 rfl rfl)
theorem dX3_isTouched_70 : decode cX3_isTouched 70 = .ok (.iload_n 1, 1) := dk_27 (dk_at dksX3_isTouched_2 22 rfl rfl)
theorem dX3_isTouched_71 : decode cX3_isTouched 71 = .ok (.invokevirtual 101, 3) := dk_182 0 101 (dk_at dksX3_isTouched_3 0 rfl rfl)
theorem dX3_isTouched_74 : decode cX3_isTouched 74 = .ok (.ifCond .eq 14, 3) := dk_153 0 14 (dk_at dksX3_isTouched_3 3 rfl rfl)
theorem dX3_isTouched_77 : decode cX3_isTouched 77 = .ok (.aload_n 0, 1) := dk_42 (dk_at dksX3_isTouched_3 6 rfl rfl)
theorem dX3_isTouched_78 : decode cX3_isTouched 78 = .ok (.iload 4, 2) := dk_21 4 (dk_at dksX3_isTouched_3 7 rfl rfl)
theorem dX3_isTouched_80 : decode cX3_isTouched 80 = .ok (.invokevirtual 150, 3) := dk_182 0 150 (dk_at dksX3_isTouched_3 9 rfl rfl)
theorem dX3_isTouched_83 : decode cX3_isTouched 83 = .ok (.ifCond .eq 5, 3) := dk_153 0 5 (dk_at dksX3_isTouched_3 12 rfl rfl)
theorem dX3_isTouched_86 : decode cX3_isTouched 86 = .ok (.iconst 1, 1) := dk_4 (dk_at dksX3_isTouched_3 15 rfl rfl)
theorem dX3_isTouched_87 : decode cX3_isTouched 87 = .ok (.ireturn, 1) := dk_172 (dk_at dksX3_isTouched_3 16 rfl rfl)
theorem dX3_isTouched_88 : decode cX3_isTouched 88 = .ok (.iinc 2 1, 3) := dk_132 2 1 (dk_at dksX3_isTouched_3 17 rfl rfl)
theorem dX3_isTouched_91 : decode cX3_isTouched 91 = .ok (.goto (-89), 3) := dk_167 255 167 (dk_at dksX3_isTouched_3 20 rfl rfl)
theorem dX3_isTouched_94 : decode cX3_isTouched 94 = .ok (.iconst 0, 1) := dk_3 (dk_at dksX3_isTouched_3 23 rfl rfl)
theorem dX3_isTouched_95 : decode cX3_isTouched 95 = .ok (.ireturn, 1) := dk_172 (dk_at dksX3_isTouched_4 0 rfl rfl)
abbrev cX3_lets : ByteArray := prog_6_method_44_code
def yX3_lets : MethodName := ⟨RX3, "lets", "(I)Z"⟩
def dkwX3_lets_1 : List UInt8 := [161, 0, 7, 4, 167, 0, 4, 3, 172]
abbrev dktX3_lets_1 : List UInt8 := dkwX3_lets_1 ++ []
def dkwX3_lets_0 : List UInt8 := [42, 27, 182, 0, 78, 61, 28, 42, 180, 0, 13, 4, 46, 162, 0, 17, 28, 42, 180, 0, 13, 5, 46]
abbrev dktX3_lets_0 : List UInt8 := dkwX3_lets_0 ++ dktX3_lets_1
theorem dksX3_lets_0 : cX3_lets.data.toList.drop 0 = dktX3_lets_0 := by decide +kernel
theorem dksX3_lets_1 : cX3_lets.data.toList.drop 23 = dktX3_lets_1 := dk_seg dksX3_lets_0 23 rfl rfl
theorem dX3_lets_0 : decode cX3_lets 0 = .ok (.aload_n 0, 1) := dk_42 (dk_at dksX3_lets_0 0 rfl rfl)
theorem dX3_lets_1 : decode cX3_lets 1 = .ok (.iload_n 1, 1) := dk_27 (dk_at dksX3_lets_0 1 rfl rfl)
theorem dX3_lets_2 : decode cX3_lets 2 = .ok (.invokevirtual 78, 3) := dk_182 0 78 (dk_at dksX3_lets_0 2 rfl rfl)
theorem dX3_lets_5 : decode cX3_lets 5 = .ok (.istore_n 2, 1) := dk_61 (dk_at dksX3_lets_0 5 rfl rfl)
theorem dX3_lets_6 : decode cX3_lets 6 = .ok (.iload_n 2, 1) := dk_28 (dk_at dksX3_lets_0 6 rfl rfl)
theorem dX3_lets_7 : decode cX3_lets 7 = .ok (.aload_n 0, 1) := dk_42 (dk_at dksX3_lets_0 7 rfl rfl)
theorem dX3_lets_8 : decode cX3_lets 8 = .ok (.getfield 13, 3) := dk_180 0 13 (dk_at dksX3_lets_0 8 rfl rfl)
theorem dX3_lets_11 : decode cX3_lets 11 = .ok (.iconst 1, 1) := dk_4 (dk_at dksX3_lets_0 11 rfl rfl)
theorem dX3_lets_12 : decode cX3_lets 12 = .ok (.iaload, 1) := dk_46 (dk_at dksX3_lets_0 12 rfl rfl)
theorem dX3_lets_13 : decode cX3_lets 13 = .ok (.if_icmp .ge 17, 3) := dk_162 0 17 (dk_at dksX3_lets_0 13 rfl rfl)
theorem dX3_lets_16 : decode cX3_lets 16 = .ok (.iload_n 2, 1) := dk_28 (dk_at dksX3_lets_0 16 rfl rfl)
theorem dX3_lets_17 : decode cX3_lets 17 = .ok (.aload_n 0, 1) := dk_42 (dk_at dksX3_lets_0 17 rfl rfl)
theorem dX3_lets_18 : decode cX3_lets 18 = .ok (.getfield 13, 3) := dk_180 0 13 (dk_at dksX3_lets_0 18 rfl rfl)
theorem dX3_lets_21 : decode cX3_lets 21 = .ok (.iconst 2, 1) := dk_5 (dk_at dksX3_lets_0 21 rfl rfl)
theorem dX3_lets_22 : decode cX3_lets 22 = .ok (.iaload, 1) := dk_46 (dk_at dksX3_lets_0 22 rfl rfl)
theorem dX3_lets_23 : decode cX3_lets 23 = .ok (.if_icmp .lt 7, 3) := dk_161 0 7 (dk_at dksX3_lets_1 0 rfl rfl)
theorem dX3_lets_26 : decode cX3_lets 26 = .ok (.iconst 1, 1) := dk_4 (dk_at dksX3_lets_1 3 rfl rfl)
theorem dX3_lets_27 : decode cX3_lets 27 = .ok (.goto 4, 3) := dk_167 0 4 (dk_at dksX3_lets_1 4 rfl rfl)
theorem dX3_lets_30 : decode cX3_lets 30 = .ok (.iconst 0, 1) := dk_3 (dk_at dksX3_lets_1 7 rfl rfl)
theorem dX3_lets_31 : decode cX3_lets 31 = .ok (.ireturn, 1) := dk_172 (dk_at dksX3_lets_1 8 rfl rfl)
abbrev cX3_holes : ByteArray := prog_6_method_47_code
def yX3_holes : MethodName := ⟨RX3, "holes", "()I"⟩
def dkwX3_holes_1 : List UInt8 := [153, 0, 7, 3, 167, 0, 4, 4, 96, 60, 132, 2, 1, 167, 255, 230, 27, 172]
abbrev dktX3_holes_1 : List UInt8 := dkwX3_holes_1 ++ []
def dkwX3_holes_0 : List UInt8 := [42, 3, 181, 0, 53, 3, 60, 3, 61, 28, 17, 1, 0, 162, 0, 25, 27, 42, 28, 182, 0, 153]
abbrev dktX3_holes_0 : List UInt8 := dkwX3_holes_0 ++ dktX3_holes_1
theorem dksX3_holes_0 : cX3_holes.data.toList.drop 0 = dktX3_holes_0 := by decide +kernel
theorem dksX3_holes_1 : cX3_holes.data.toList.drop 22 = dktX3_holes_1 := dk_seg dksX3_holes_0 22 rfl rfl
theorem dX3_holes_0 : decode cX3_holes 0 = .ok (.aload_n 0, 1) := dk_42 (dk_at dksX3_holes_0 0 rfl rfl)
theorem dX3_holes_1 : decode cX3_holes 1 = .ok (.iconst 0, 1) := dk_3 (dk_at dksX3_holes_0 1 rfl rfl)
theorem dX3_holes_2 : decode cX3_holes 2 = .ok (.putfield 53, 3) := dk_181 0 53 (dk_at dksX3_holes_0 2 rfl rfl)
theorem dX3_holes_5 : decode cX3_holes 5 = .ok (.iconst 0, 1) := dk_3 (dk_at dksX3_holes_0 5 rfl rfl)
theorem dX3_holes_6 : decode cX3_holes 6 = .ok (.istore_n 1, 1) := dk_60 (dk_at dksX3_holes_0 6 rfl rfl)
theorem dX3_holes_7 : decode cX3_holes 7 = .ok (.iconst 0, 1) := dk_3 (dk_at dksX3_holes_0 7 rfl rfl)
theorem dX3_holes_8 : decode cX3_holes 8 = .ok (.istore_n 2, 1) := dk_61 (dk_at dksX3_holes_0 8 rfl rfl)
theorem dX3_holes_9 : decode cX3_holes 9 = .ok (.iload_n 2, 1) := dk_28 (dk_at dksX3_holes_0 9 rfl rfl)
theorem dX3_holes_10 : decode cX3_holes 10 = .ok (.sipush 256, 3) := dk_17 1 0 (dk_at dksX3_holes_0 10 rfl rfl)
theorem dX3_holes_13 : decode cX3_holes 13 = .ok (.if_icmp .ge 25, 3) := dk_162 0 25 (dk_at dksX3_holes_0 13 rfl rfl)
theorem dX3_holes_16 : decode cX3_holes 16 = .ok (.iload_n 1, 1) := dk_27 (dk_at dksX3_holes_0 16 rfl rfl)
theorem dX3_holes_17 : decode cX3_holes 17 = .ok (.aload_n 0, 1) := dk_42 (dk_at dksX3_holes_0 17 rfl rfl)
theorem dX3_holes_18 : decode cX3_holes 18 = .ok (.iload_n 2, 1) := dk_28 (dk_at dksX3_holes_0 18 rfl rfl)
theorem dX3_holes_19 : decode cX3_holes 19 = .ok (.invokevirtual 153, 3) := dk_182 0 153 (dk_at dksX3_holes_0 19 rfl rfl)
theorem dX3_holes_22 : decode cX3_holes 22 = .ok (.ifCond .eq 7, 3) := dk_153 0 7 (dk_at dksX3_holes_1 0 rfl rfl)
theorem dX3_holes_25 : decode cX3_holes 25 = .ok (.iconst 0, 1) := dk_3 (dk_at dksX3_holes_1 3 rfl rfl)
theorem dX3_holes_26 : decode cX3_holes 26 = .ok (.goto 4, 3) := dk_167 0 4 (dk_at dksX3_holes_1 4 rfl rfl)
theorem dX3_holes_29 : decode cX3_holes 29 = .ok (.iconst 1, 1) := dk_4 (dk_at dksX3_holes_1 7 rfl rfl)
theorem dX3_holes_30 : decode cX3_holes 30 = .ok (.iadd, 1) := dk_96 (dk_at dksX3_holes_1 8 rfl rfl)
theorem dX3_holes_31 : decode cX3_holes 31 = .ok (.istore_n 1, 1) := dk_60 (dk_at dksX3_holes_1 9 rfl rfl)
theorem dX3_holes_32 : decode cX3_holes 32 = .ok (.iinc 2 1, 3) := dk_132 2 1 (dk_at dksX3_holes_1 10 rfl rfl)
theorem dX3_holes_35 : decode cX3_holes 35 = .ok (.goto (-26), 3) := dk_167 255 230 (dk_at dksX3_holes_1 13 rfl rfl)
theorem dX3_holes_38 : decode cX3_holes 38 = .ok (.iload_n 1, 1) := dk_27 (dk_at dksX3_holes_1 16 rfl rfl)
theorem dX3_holes_39 : decode cX3_holes 39 = .ok (.ireturn, 1) := dk_172 (dk_at dksX3_holes_1 17 rfl rfl)
abbrev cX3_holesAnew : ByteArray := prog_6_method_49_code
def yX3_holesAnew : MethodName := ⟨RX3, "holesAnew", "()I"⟩
def dkwX3_holesAnew_6 : List UInt8 := [60, 132, 2, 1, 167, 255, 229, 27, 172]
abbrev dktX3_holesAnew_6 : List UInt8 := dkwX3_holesAnew_6 ++ []
def dkwX3_holesAnew_5 : List UInt8 := [61, 28, 17, 1, 0, 162, 0, 26, 27, 42, 180, 0, 49, 28, 51, 153, 0, 7, 3, 167, 0, 4, 4, 96]
abbrev dktX3_holesAnew_5 : List UInt8 := dkwX3_holesAnew_5 ++ dktX3_holesAnew_6
def dkwX3_holesAnew_4 : List UInt8 := [153, 0, 7, 4, 167, 0, 4, 3, 84, 132, 3, 1, 167, 255, 213, 132, 1, 1, 167, 255, 176, 3, 60, 3]
abbrev dktX3_holesAnew_4 : List UInt8 := dkwX3_holesAnew_4 ++ dktX3_holesAnew_5
def dkwX3_holesAnew_3 : List UInt8 := [153, 0, 38, 42, 180, 0, 49, 29, 42, 180, 0, 49, 29, 51, 154, 0, 12, 42, 27, 29, 182, 0, 101]
abbrev dktX3_holesAnew_3 : List UInt8 := dkwX3_holesAnew_3 ++ dktX3_holesAnew_4
def dkwX3_holesAnew_2 : List UInt8 := [182, 0, 150, 153, 0, 7, 4, 167, 0, 4, 3, 61, 3, 62, 29, 17, 1, 0, 162, 0, 42, 28]
abbrev dktX3_holesAnew_2 : List UInt8 := dkwX3_holesAnew_2 ++ dktX3_holesAnew_3
def dkwX3_holesAnew_1 : List UInt8 := [167, 255, 239, 3, 60, 27, 17, 1, 0, 162, 0, 79, 42, 27, 182, 0, 156, 153, 0, 15, 42, 27]
abbrev dktX3_holesAnew_1 : List UInt8 := dkwX3_holesAnew_1 ++ dktX3_holesAnew_2
def dkwX3_holesAnew_0 : List UInt8 := [42, 3, 181, 0, 53, 3, 60, 27, 17, 1, 0, 162, 0, 16, 42, 180, 0, 49, 27, 3, 84, 132, 1, 1]
abbrev dktX3_holesAnew_0 : List UInt8 := dkwX3_holesAnew_0 ++ dktX3_holesAnew_1
theorem dksX3_holesAnew_0 : cX3_holesAnew.data.toList.drop 0 = dktX3_holesAnew_0 := by decide +kernel
theorem dksX3_holesAnew_1 : cX3_holesAnew.data.toList.drop 24 = dktX3_holesAnew_1 := dk_seg dksX3_holesAnew_0 24 rfl rfl
theorem dksX3_holesAnew_2 : cX3_holesAnew.data.toList.drop 46 = dktX3_holesAnew_2 := dk_seg dksX3_holesAnew_1 22 rfl rfl
theorem dksX3_holesAnew_3 : cX3_holesAnew.data.toList.drop 68 = dktX3_holesAnew_3 := dk_seg dksX3_holesAnew_2 22 rfl rfl
theorem dksX3_holesAnew_4 : cX3_holesAnew.data.toList.drop 91 = dktX3_holesAnew_4 := dk_seg dksX3_holesAnew_3 23 rfl rfl
theorem dksX3_holesAnew_5 : cX3_holesAnew.data.toList.drop 115 = dktX3_holesAnew_5 := dk_seg dksX3_holesAnew_4 24 rfl rfl
theorem dksX3_holesAnew_6 : cX3_holesAnew.data.toList.drop 139 = dktX3_holesAnew_6 := dk_seg dksX3_holesAnew_5 24 rfl rfl
theorem dX3_holesAnew_0 : decode cX3_holesAnew 0 = .ok (.aload_n 0, 1) := dk_42 (dk_at dksX3_holesAnew_0 0 rfl rfl)
theorem dX3_holesAnew_1 : decode cX3_holesAnew 1 = .ok (.iconst 0, 1) := dk_3 (dk_at dksX3_holesAnew_0 1 rfl rfl)
theorem dX3_holesAnew_2 : decode cX3_holesAnew 2 = .ok (.putfield 53, 3) := dk_181 0 53 (dk_at dksX3_holesAnew_0 2 rfl rfl)
theorem dX3_holesAnew_5 : decode cX3_holesAnew 5 = .ok (.iconst 0, 1) := dk_3 (dk_at dksX3_holesAnew_0 5 rfl rfl)
theorem dX3_holesAnew_6 : decode cX3_holesAnew 6 = .ok (.istore_n 1, 1) := dk_60 (dk_at dksX3_holesAnew_0 6 rfl rfl)
theorem dX3_holesAnew_7 : decode cX3_holesAnew 7 = .ok (.iload_n 1, 1) := dk_27 (dk_at dksX3_holesAnew_0 7 rfl rfl)
theorem dX3_holesAnew_8 : decode cX3_holesAnew 8 = .ok (.sipush 256, 3) := dk_17 1 0 (dk_at dksX3_holesAnew_0 8 rfl rfl)
theorem dX3_holesAnew_11 : decode cX3_holesAnew 11 = .ok (.if_icmp .ge 16, 3) := dk_162 0 16 (dk_at dksX3_holesAnew_0 11 rfl rfl)
theorem dX3_holesAnew_14 : decode cX3_holesAnew 14 = .ok (.aload_n 0, 1) := dk_42 (dk_at dksX3_holesAnew_0 14 rfl rfl)
theorem dX3_holesAnew_15 : decode cX3_holesAnew 15 = .ok (.getfield 49, 3) := dk_180 0 49 (dk_at dksX3_holesAnew_0 15 rfl rfl)
theorem dX3_holesAnew_18 : decode cX3_holesAnew 18 = .ok (.iload_n 1, 1) := dk_27 (dk_at dksX3_holesAnew_0 18 rfl rfl)
theorem dX3_holesAnew_19 : decode cX3_holesAnew 19 = .ok (.iconst 0, 1) := dk_3 (dk_at dksX3_holesAnew_0 19 rfl rfl)
theorem dX3_holesAnew_20 : decode cX3_holesAnew 20 = .ok (.bastore, 1) := dk_84 (dk_at dksX3_holesAnew_0 20 rfl rfl)
theorem dX3_holesAnew_21 : decode cX3_holesAnew 21 = .ok (.iinc 1 1, 3) := dk_132 1 1 (dk_at dksX3_holesAnew_0 21 rfl rfl)
theorem dX3_holesAnew_24 : decode cX3_holesAnew 24 = .ok (.goto (-17), 3) := dk_167 255 239 (dk_at dksX3_holesAnew_1 0 rfl rfl)
theorem dX3_holesAnew_27 : decode cX3_holesAnew 27 = .ok (.iconst 0, 1) := dk_3 (dk_at dksX3_holesAnew_1 3 rfl rfl)
theorem dX3_holesAnew_28 : decode cX3_holesAnew 28 = .ok (.istore_n 1, 1) := dk_60 (dk_at dksX3_holesAnew_1 4 rfl rfl)
theorem dX3_holesAnew_29 : decode cX3_holesAnew 29 = .ok (.iload_n 1, 1) := dk_27 (dk_at dksX3_holesAnew_1 5 rfl rfl)
theorem dX3_holesAnew_30 : decode cX3_holesAnew 30 = .ok (.sipush 256, 3) := dk_17 1 0 (dk_at dksX3_holesAnew_1 6 rfl rfl)
theorem dX3_holesAnew_33 : decode cX3_holesAnew 33 = .ok (.if_icmp .ge 79, 3) := dk_162 0 79 (dk_at dksX3_holesAnew_1 9 rfl rfl)
theorem dX3_holesAnew_36 : decode cX3_holesAnew 36 = .ok (.aload_n 0, 1) := dk_42 (dk_at dksX3_holesAnew_1 12 rfl rfl)
theorem dX3_holesAnew_37 : decode cX3_holesAnew 37 = .ok (.iload_n 1, 1) := dk_27 (dk_at dksX3_holesAnew_1 13 rfl rfl)
theorem dX3_holesAnew_38 : decode cX3_holesAnew 38 = .ok (.invokevirtual 156, 3) := dk_182 0 156 (dk_at dksX3_holesAnew_1 14 rfl rfl)
theorem dX3_holesAnew_41 : decode cX3_holesAnew 41 = .ok (.ifCond .eq 15, 3) := dk_153 0 15 (dk_at dksX3_holesAnew_1 17 rfl rfl)
theorem dX3_holesAnew_44 : decode cX3_holesAnew 44 = .ok (.aload_n 0, 1) := dk_42 (dk_at dksX3_holesAnew_1 20 rfl rfl)
theorem dX3_holesAnew_45 : decode cX3_holesAnew 45 = .ok (.iload_n 1, 1) := dk_27 (dk_at dksX3_holesAnew_1 21 rfl rfl)
theorem dX3_holesAnew_46 : decode cX3_holesAnew 46 = .ok (.invokevirtual 150, 3) := dk_182 0 150 (dk_at dksX3_holesAnew_2 0 rfl rfl)
theorem dX3_holesAnew_49 : decode cX3_holesAnew 49 = .ok (.ifCond .eq 7, 3) := dk_153 0 7 (dk_at dksX3_holesAnew_2 3 rfl rfl)
theorem dX3_holesAnew_52 : decode cX3_holesAnew 52 = .ok (.iconst 1, 1) := dk_4 (dk_at dksX3_holesAnew_2 6 rfl rfl)
theorem dX3_holesAnew_53 : decode cX3_holesAnew 53 = .ok (.goto 4, 3) := dk_167 0 4 (dk_at dksX3_holesAnew_2 7 rfl rfl)
theorem dX3_holesAnew_56 : decode cX3_holesAnew 56 = .ok (.iconst 0, 1) := dk_3 (dk_at dksX3_holesAnew_2 10 rfl rfl)
theorem dX3_holesAnew_57 : decode cX3_holesAnew 57 = .ok (.istore_n 2, 1) := dk_61 (dk_at dksX3_holesAnew_2 11 rfl rfl)
theorem dX3_holesAnew_58 : decode cX3_holesAnew 58 = .ok (.iconst 0, 1) := dk_3 (dk_at dksX3_holesAnew_2 12 rfl rfl)
theorem dX3_holesAnew_59 : decode cX3_holesAnew 59 = .ok (.istore_n 3, 1) := dk_62 (dk_at dksX3_holesAnew_2 13 rfl rfl)
theorem dX3_holesAnew_60 : decode cX3_holesAnew 60 = .ok (.iload_n 3, 1) := dk_29 (dk_at dksX3_holesAnew_2 14 rfl rfl)
theorem dX3_holesAnew_61 : decode cX3_holesAnew 61 = .ok (.sipush 256, 3) := dk_17 1 0 (dk_at dksX3_holesAnew_2 15 rfl rfl)
theorem dX3_holesAnew_64 : decode cX3_holesAnew 64 = .ok (.if_icmp .ge 42, 3) := dk_162 0 42 (dk_at dksX3_holesAnew_2 18 rfl rfl)
theorem dX3_holesAnew_67 : decode cX3_holesAnew 67 = .ok (.iload_n 2, 1) := dk_28 (dk_at dksX3_holesAnew_2 21 rfl rfl)
theorem dX3_holesAnew_68 : decode cX3_holesAnew 68 = .ok (.ifCond .eq 38, 3) := dk_153 0 38 (dk_at dksX3_holesAnew_3 0 rfl rfl)
theorem dX3_holesAnew_71 : decode cX3_holesAnew 71 = .ok (.aload_n 0, 1) := dk_42 (dk_at dksX3_holesAnew_3 3 rfl rfl)
theorem dX3_holesAnew_72 : decode cX3_holesAnew 72 = .ok (.getfield 49, 3) := dk_180 0 49 (dk_at dksX3_holesAnew_3 4 rfl rfl)
theorem dX3_holesAnew_75 : decode cX3_holesAnew 75 = .ok (.iload_n 3, 1) := dk_29 (dk_at dksX3_holesAnew_3 7 rfl rfl)
theorem dX3_holesAnew_76 : decode cX3_holesAnew 76 = .ok (.aload_n 0, 1) := dk_42 (dk_at dksX3_holesAnew_3 8 rfl rfl)
theorem dX3_holesAnew_77 : decode cX3_holesAnew 77 = .ok (.getfield 49, 3) := dk_180 0 49 (dk_at dksX3_holesAnew_3 9 rfl rfl)
theorem dX3_holesAnew_80 : decode cX3_holesAnew 80 = .ok (.iload_n 3, 1) := dk_29 (dk_at dksX3_holesAnew_3 12 rfl rfl)
theorem dX3_holesAnew_81 : decode cX3_holesAnew 81 = .ok (.baload, 1) := dk_51 (dk_at dksX3_holesAnew_3 13 rfl rfl)
theorem dX3_holesAnew_82 : decode cX3_holesAnew 82 = .ok (.ifCond .ne 12, 3) := dk_154 0 12 (dk_at dksX3_holesAnew_3 14 rfl rfl)
theorem dX3_holesAnew_85 : decode cX3_holesAnew 85 = .ok (.aload_n 0, 1) := dk_42 (dk_at dksX3_holesAnew_3 17 rfl rfl)
theorem dX3_holesAnew_86 : decode cX3_holesAnew 86 = .ok (.iload_n 1, 1) := dk_27 (dk_at dksX3_holesAnew_3 18 rfl rfl)
theorem dX3_holesAnew_87 : decode cX3_holesAnew 87 = .ok (.iload_n 3, 1) := dk_29 (dk_at dksX3_holesAnew_3 19 rfl rfl)
theorem dX3_holesAnew_88 : decode cX3_holesAnew 88 = .ok (.invokevirtual 101, 3) := dk_182 0 101 (dk_at dksX3_holesAnew_3 20 rfl rfl)
theorem dX3_holesAnew_91 : decode cX3_holesAnew 91 = .ok (.ifCond .eq 7, 3) := dk_153 0 7 (dk_at dksX3_holesAnew_4 0 rfl rfl)
theorem dX3_holesAnew_94 : decode cX3_holesAnew 94 = .ok (.iconst 1, 1) := dk_4 (dk_at dksX3_holesAnew_4 3 rfl rfl)
theorem dX3_holesAnew_95 : decode cX3_holesAnew 95 = .ok (.goto 4, 3) := dk_167 0 4 (dk_at dksX3_holesAnew_4 4 rfl rfl)
theorem dX3_holesAnew_98 : decode cX3_holesAnew 98 = .ok (.iconst 0, 1) := dk_3 (dk_at dksX3_holesAnew_4 7 rfl rfl)
theorem dX3_holesAnew_99 : decode cX3_holesAnew 99 = .ok (.bastore, 1) := dk_84 (dk_at dksX3_holesAnew_4 8 rfl rfl)
theorem dX3_holesAnew_100 : decode cX3_holesAnew 100 = .ok (.iinc 3 1, 3) := dk_132 3 1 (dk_at dksX3_holesAnew_4 9 rfl rfl)
theorem dX3_holesAnew_103 : decode cX3_holesAnew 103 = .ok (.goto (-43), 3) := dk_167 255 213 (dk_at dksX3_holesAnew_4 12 rfl rfl)
theorem dX3_holesAnew_106 : decode cX3_holesAnew 106 = .ok (.iinc 1 1, 3) := dk_132 1 1 (dk_at dksX3_holesAnew_4 15 rfl rfl)
theorem dX3_holesAnew_109 : decode cX3_holesAnew 109 = .ok (.goto (-80), 3) := dk_167 255 176 (dk_at dksX3_holesAnew_4 18 rfl rfl)
theorem dX3_holesAnew_112 : decode cX3_holesAnew 112 = .ok (.iconst 0, 1) := dk_3 (dk_at dksX3_holesAnew_4 21 rfl rfl)
theorem dX3_holesAnew_113 : decode cX3_holesAnew 113 = .ok (.istore_n 1, 1) := dk_60 (dk_at dksX3_holesAnew_4 22 rfl rfl)
theorem dX3_holesAnew_114 : decode cX3_holesAnew 114 = .ok (.iconst 0, 1) := dk_3 (dk_at dksX3_holesAnew_4 23 rfl rfl)
theorem dX3_holesAnew_115 : decode cX3_holesAnew 115 = .ok (.istore_n 2, 1) := dk_61 (dk_at dksX3_holesAnew_5 0 rfl rfl)
theorem dX3_holesAnew_116 : decode cX3_holesAnew 116 = .ok (.iload_n 2, 1) := dk_28 (dk_at dksX3_holesAnew_5 1 rfl rfl)
theorem dX3_holesAnew_117 : decode cX3_holesAnew 117 = .ok (.sipush 256, 3) := dk_17 1 0 (dk_at dksX3_holesAnew_5 2 rfl rfl)
theorem dX3_holesAnew_120 : decode cX3_holesAnew 120 = .ok (.if_icmp .ge 26, 3) := dk_162 0 26 (dk_at dksX3_holesAnew_5 5 rfl rfl)
theorem dX3_holesAnew_123 : decode cX3_holesAnew 123 = .ok (.iload_n 1, 1) := dk_27 (dk_at dksX3_holesAnew_5 8 rfl rfl)
theorem dX3_holesAnew_124 : decode cX3_holesAnew 124 = .ok (.aload_n 0, 1) := dk_42 (dk_at dksX3_holesAnew_5 9 rfl rfl)
theorem dX3_holesAnew_125 : decode cX3_holesAnew 125 = .ok (.getfield 49, 3) := dk_180 0 49 (dk_at dksX3_holesAnew_5 10 rfl rfl)
theorem dX3_holesAnew_128 : decode cX3_holesAnew 128 = .ok (.iload_n 2, 1) := dk_28 (dk_at dksX3_holesAnew_5 13 rfl rfl)
theorem dX3_holesAnew_129 : decode cX3_holesAnew 129 = .ok (.baload, 1) := dk_51 (dk_at dksX3_holesAnew_5 14 rfl rfl)
theorem dX3_holesAnew_130 : decode cX3_holesAnew 130 = .ok (.ifCond .eq 7, 3) := dk_153 0 7 (dk_at dksX3_holesAnew_5 15 rfl rfl)
theorem dX3_holesAnew_133 : decode cX3_holesAnew 133 = .ok (.iconst 0, 1) := dk_3 (dk_at dksX3_holesAnew_5 18 rfl rfl)
theorem dX3_holesAnew_134 : decode cX3_holesAnew 134 = .ok (.goto 4, 3) := dk_167 0 4 (dk_at dksX3_holesAnew_5 19 rfl rfl)
theorem dX3_holesAnew_137 : decode cX3_holesAnew 137 = .ok (.iconst 1, 1) := dk_4 (dk_at dksX3_holesAnew_5 22 rfl rfl)
theorem dX3_holesAnew_138 : decode cX3_holesAnew 138 = .ok (.iadd, 1) := dk_96 (dk_at dksX3_holesAnew_5 23 rfl rfl)
theorem dX3_holesAnew_139 : decode cX3_holesAnew 139 = .ok (.istore_n 1, 1) := dk_60 (dk_at dksX3_holesAnew_6 0 rfl rfl)
theorem dX3_holesAnew_140 : decode cX3_holesAnew 140 = .ok (.iinc 2 1, 3) := dk_132 2 1 (dk_at dksX3_holesAnew_6 1 rfl rfl)
theorem dX3_holesAnew_143 : decode cX3_holesAnew 143 = .ok (.goto (-27), 3) := dk_167 255 229 (dk_at dksX3_holesAnew_6 4 rfl rfl)
theorem dX3_holesAnew_146 : decode cX3_holesAnew 146 = .ok (.iload_n 1, 1) := dk_27 (dk_at dksX3_holesAnew_6 7 rfl rfl)
theorem dX3_holesAnew_147 : decode cX3_holesAnew 147 = .ok (.ireturn, 1) := dk_172 (dk_at dksX3_holesAnew_6 8 rfl rfl)
abbrev cX3_isOfLibrary : ByteArray := prog_6_method_48_code
def yX3_isOfLibrary : MethodName := ⟨RX3, "isOfLibrary", "(I)Z"⟩
def dkwX3_isOfLibrary_5 : List UInt8 := [172]
abbrev dktX3_isOfLibrary_5 : List UInt8 := dkwX3_isOfLibrary_5 ++ []
def dkwX3_isOfLibrary_4 : List UInt8 := [167, 0, 4, 3, 62, 132, 4, 1, 167, 255, 219, 28, 153, 0, 11, 29, 153, 0, 7, 4, 167, 0, 4, 3]
abbrev dktX3_isOfLibrary_4 : List UInt8 := dkwX3_isOfLibrary_4 ++ dktX3_isOfLibrary_5
def dkwX3_isOfLibrary_3 : List UInt8 := [162, 0, 34, 29, 154, 0, 18, 42, 180, 0, 25, 21, 4, 46, 27, 5, 184, 0, 65, 160, 0, 7, 4]
abbrev dktX3_isOfLibrary_3 : List UInt8 := dkwX3_isOfLibrary_3 ++ dktX3_isOfLibrary_4
def dkwX3_isOfLibrary_2 : List UInt8 := [160, 0, 7, 4, 167, 0, 4, 3, 61, 132, 4, 1, 167, 255, 204, 3, 54, 4, 21, 4, 42, 180, 0, 85]
abbrev dktX3_isOfLibrary_2 : List UInt8 := dkwX3_isOfLibrary_2 ++ dktX3_isOfLibrary_3
def dkwX3_isOfLibrary_1 : List UInt8 := [21, 4, 46, 27, 3, 184, 0, 65, 160, 0, 22, 42, 180, 0, 22, 21, 4, 46, 27, 4, 184, 0, 65]
abbrev dktX3_isOfLibrary_1 : List UInt8 := dkwX3_isOfLibrary_1 ++ dktX3_isOfLibrary_2
def dkwX3_isOfLibrary_0 : List UInt8 := [3, 61, 3, 62, 3, 54, 4, 21, 4, 42, 180, 0, 82, 162, 0, 49, 28, 154, 0, 33, 42, 180, 0, 19]
abbrev dktX3_isOfLibrary_0 : List UInt8 := dkwX3_isOfLibrary_0 ++ dktX3_isOfLibrary_1
theorem dksX3_isOfLibrary_0 : cX3_isOfLibrary.data.toList.drop 0 = dktX3_isOfLibrary_0 := by decide +kernel
theorem dksX3_isOfLibrary_1 : cX3_isOfLibrary.data.toList.drop 24 = dktX3_isOfLibrary_1 := dk_seg dksX3_isOfLibrary_0 24 rfl rfl
theorem dksX3_isOfLibrary_2 : cX3_isOfLibrary.data.toList.drop 47 = dktX3_isOfLibrary_2 := dk_seg dksX3_isOfLibrary_1 23 rfl rfl
theorem dksX3_isOfLibrary_3 : cX3_isOfLibrary.data.toList.drop 71 = dktX3_isOfLibrary_3 := dk_seg dksX3_isOfLibrary_2 24 rfl rfl
theorem dksX3_isOfLibrary_4 : cX3_isOfLibrary.data.toList.drop 94 = dktX3_isOfLibrary_4 := dk_seg dksX3_isOfLibrary_3 23 rfl rfl
theorem dksX3_isOfLibrary_5 : cX3_isOfLibrary.data.toList.drop 118 = dktX3_isOfLibrary_5 := dk_seg dksX3_isOfLibrary_4 24 rfl rfl
theorem dX3_isOfLibrary_0 : decode cX3_isOfLibrary 0 = .ok (.iconst 0, 1) := dk_3 (dk_at dksX3_isOfLibrary_0 0 rfl rfl)
theorem dX3_isOfLibrary_1 : decode cX3_isOfLibrary 1 = .ok (.istore_n 2, 1) := dk_61 (dk_at dksX3_isOfLibrary_0 1 rfl rfl)
theorem dX3_isOfLibrary_2 : decode cX3_isOfLibrary 2 = .ok (.iconst 0, 1) := dk_3 (dk_at dksX3_isOfLibrary_0 2 rfl rfl)
theorem dX3_isOfLibrary_3 : decode cX3_isOfLibrary 3 = .ok (.istore_n 3, 1) := dk_62 (dk_at dksX3_isOfLibrary_0 3 rfl rfl)
theorem dX3_isOfLibrary_4 : decode cX3_isOfLibrary 4 = .ok (.iconst 0, 1) := dk_3 (dk_at dksX3_isOfLibrary_0 4 rfl rfl)
theorem dX3_isOfLibrary_5 : decode cX3_isOfLibrary 5 = .ok (.istore 4, 2) := dk_54 4 (dk_at dksX3_isOfLibrary_0 5 rfl rfl)
theorem dX3_isOfLibrary_7 : decode cX3_isOfLibrary 7 = .ok (.iload 4, 2) := dk_21 4 (dk_at dksX3_isOfLibrary_0 7 rfl rfl)
theorem dX3_isOfLibrary_9 : decode cX3_isOfLibrary 9 = .ok (.aload_n 0, 1) := dk_42 (dk_at dksX3_isOfLibrary_0 9 rfl rfl)
theorem dX3_isOfLibrary_10 : decode cX3_isOfLibrary 10 = .ok (.getfield 82, 3) := dk_180 0 82 (dk_at dksX3_isOfLibrary_0 10 rfl rfl)
theorem dX3_isOfLibrary_13 : decode cX3_isOfLibrary 13 = .ok (.if_icmp .ge 49, 3) := dk_162 0 49 (dk_at dksX3_isOfLibrary_0 13 rfl rfl)
theorem dX3_isOfLibrary_16 : decode cX3_isOfLibrary 16 = .ok (.iload_n 2, 1) := dk_28 (dk_at dksX3_isOfLibrary_0 16 rfl rfl)
theorem dX3_isOfLibrary_17 : decode cX3_isOfLibrary 17 = .ok (.ifCond .ne 33, 3) := dk_154 0 33 (dk_at dksX3_isOfLibrary_0 17 rfl rfl)
theorem dX3_isOfLibrary_20 : decode cX3_isOfLibrary 20 = .ok (.aload_n 0, 1) := dk_42 (dk_at dksX3_isOfLibrary_0 20 rfl rfl)
theorem dX3_isOfLibrary_21 : decode cX3_isOfLibrary 21 = .ok (.getfield 19, 3) := dk_180 0 19 (dk_at dksX3_isOfLibrary_0 21 rfl rfl)
theorem dX3_isOfLibrary_24 : decode cX3_isOfLibrary 24 = .ok (.iload 4, 2) := dk_21 4 (dk_at dksX3_isOfLibrary_1 0 rfl rfl)
theorem dX3_isOfLibrary_26 : decode cX3_isOfLibrary 26 = .ok (.iaload, 1) := dk_46 (dk_at dksX3_isOfLibrary_1 2 rfl rfl)
theorem dX3_isOfLibrary_27 : decode cX3_isOfLibrary 27 = .ok (.iload_n 1, 1) := dk_27 (dk_at dksX3_isOfLibrary_1 3 rfl rfl)
theorem dX3_isOfLibrary_28 : decode cX3_isOfLibrary 28 = .ok (.iconst 0, 1) := dk_3 (dk_at dksX3_isOfLibrary_1 4 rfl rfl)
theorem dX3_isOfLibrary_29 : decode cX3_isOfLibrary 29 = .ok (.invokestatic 65, 3) := dk_184 0 65 (dk_at dksX3_isOfLibrary_1 5 rfl rfl)
theorem dX3_isOfLibrary_32 : decode cX3_isOfLibrary 32 = .ok (.if_icmp .ne 22, 3) := dk_160 0 22 (dk_at dksX3_isOfLibrary_1 8 rfl rfl)
theorem dX3_isOfLibrary_35 : decode cX3_isOfLibrary 35 = .ok (.aload_n 0, 1) := dk_42 (dk_at dksX3_isOfLibrary_1 11 rfl rfl)
theorem dX3_isOfLibrary_36 : decode cX3_isOfLibrary 36 = .ok (.getfield 22, 3) := dk_180 0 22 (dk_at dksX3_isOfLibrary_1 12 rfl rfl)
theorem dX3_isOfLibrary_39 : decode cX3_isOfLibrary 39 = .ok (.iload 4, 2) := dk_21 4 (dk_at dksX3_isOfLibrary_1 15 rfl rfl)
theorem dX3_isOfLibrary_41 : decode cX3_isOfLibrary 41 = .ok (.iaload, 1) := dk_46 (dk_at dksX3_isOfLibrary_1 17 rfl rfl)
theorem dX3_isOfLibrary_42 : decode cX3_isOfLibrary 42 = .ok (.iload_n 1, 1) := dk_27 (dk_at dksX3_isOfLibrary_1 18 rfl rfl)
theorem dX3_isOfLibrary_43 : decode cX3_isOfLibrary 43 = .ok (.iconst 1, 1) := dk_4 (dk_at dksX3_isOfLibrary_1 19 rfl rfl)
theorem dX3_isOfLibrary_44 : decode cX3_isOfLibrary 44 = .ok (.invokestatic 65, 3) := dk_184 0 65 (dk_at dksX3_isOfLibrary_1 20 rfl rfl)
theorem dX3_isOfLibrary_47 : decode cX3_isOfLibrary 47 = .ok (.if_icmp .ne 7, 3) := dk_160 0 7 (dk_at dksX3_isOfLibrary_2 0 rfl rfl)
theorem dX3_isOfLibrary_50 : decode cX3_isOfLibrary 50 = .ok (.iconst 1, 1) := dk_4 (dk_at dksX3_isOfLibrary_2 3 rfl rfl)
theorem dX3_isOfLibrary_51 : decode cX3_isOfLibrary 51 = .ok (.goto 4, 3) := dk_167 0 4 (dk_at dksX3_isOfLibrary_2 4 rfl rfl)
theorem dX3_isOfLibrary_54 : decode cX3_isOfLibrary 54 = .ok (.iconst 0, 1) := dk_3 (dk_at dksX3_isOfLibrary_2 7 rfl rfl)
theorem dX3_isOfLibrary_55 : decode cX3_isOfLibrary 55 = .ok (.istore_n 2, 1) := dk_61 (dk_at dksX3_isOfLibrary_2 8 rfl rfl)
theorem dX3_isOfLibrary_56 : decode cX3_isOfLibrary 56 = .ok (.iinc 4 1, 3) := dk_132 4 1 (dk_at dksX3_isOfLibrary_2 9 rfl rfl)
theorem dX3_isOfLibrary_59 : decode cX3_isOfLibrary 59 = .ok (.goto (-52), 3) := dk_167 255 204 (dk_at dksX3_isOfLibrary_2 12 rfl rfl)
theorem dX3_isOfLibrary_62 : decode cX3_isOfLibrary 62 = .ok (.iconst 0, 1) := dk_3 (dk_at dksX3_isOfLibrary_2 15 rfl rfl)
theorem dX3_isOfLibrary_63 : decode cX3_isOfLibrary 63 = .ok (.istore 4, 2) := dk_54 4 (dk_at dksX3_isOfLibrary_2 16 rfl rfl)
theorem dX3_isOfLibrary_65 : decode cX3_isOfLibrary 65 = .ok (.iload 4, 2) := dk_21 4 (dk_at dksX3_isOfLibrary_2 18 rfl rfl)
theorem dX3_isOfLibrary_67 : decode cX3_isOfLibrary 67 = .ok (.aload_n 0, 1) := dk_42 (dk_at dksX3_isOfLibrary_2 20 rfl rfl)
theorem dX3_isOfLibrary_68 : decode cX3_isOfLibrary 68 = .ok (.getfield 85, 3) := dk_180 0 85 (dk_at dksX3_isOfLibrary_2 21 rfl rfl)
theorem dX3_isOfLibrary_71 : decode cX3_isOfLibrary 71 = .ok (.if_icmp .ge 34, 3) := dk_162 0 34 (dk_at dksX3_isOfLibrary_3 0 rfl rfl)
theorem dX3_isOfLibrary_74 : decode cX3_isOfLibrary 74 = .ok (.iload_n 3, 1) := dk_29 (dk_at dksX3_isOfLibrary_3 3 rfl rfl)
theorem dX3_isOfLibrary_75 : decode cX3_isOfLibrary 75 = .ok (.ifCond .ne 18, 3) := dk_154 0 18 (dk_at dksX3_isOfLibrary_3 4 rfl rfl)
theorem dX3_isOfLibrary_78 : decode cX3_isOfLibrary 78 = .ok (.aload_n 0, 1) := dk_42 (dk_at dksX3_isOfLibrary_3 7 rfl rfl)
theorem dX3_isOfLibrary_79 : decode cX3_isOfLibrary 79 = .ok (.getfield 25, 3) := dk_180 0 25 (dk_at dksX3_isOfLibrary_3 8 rfl rfl)
theorem dX3_isOfLibrary_82 : decode cX3_isOfLibrary 82 = .ok (.iload 4, 2) := dk_21 4 (dk_at dksX3_isOfLibrary_3 11 rfl rfl)
theorem dX3_isOfLibrary_84 : decode cX3_isOfLibrary 84 = .ok (.iaload, 1) := dk_46 (dk_at dksX3_isOfLibrary_3 13 rfl rfl)
theorem dX3_isOfLibrary_85 : decode cX3_isOfLibrary 85 = .ok (.iload_n 1, 1) := dk_27 (dk_at dksX3_isOfLibrary_3 14 rfl rfl)
theorem dX3_isOfLibrary_86 : decode cX3_isOfLibrary 86 = .ok (.iconst 2, 1) := dk_5 (dk_at dksX3_isOfLibrary_3 15 rfl rfl)
theorem dX3_isOfLibrary_87 : decode cX3_isOfLibrary 87 = .ok (.invokestatic 65, 3) := dk_184 0 65 (dk_at dksX3_isOfLibrary_3 16 rfl rfl)
theorem dX3_isOfLibrary_90 : decode cX3_isOfLibrary 90 = .ok (.if_icmp .ne 7, 3) := dk_160 0 7 (dk_at dksX3_isOfLibrary_3 19 rfl rfl)
theorem dX3_isOfLibrary_93 : decode cX3_isOfLibrary 93 = .ok (.iconst 1, 1) := dk_4 (dk_at dksX3_isOfLibrary_3 22 rfl rfl)
theorem dX3_isOfLibrary_94 : decode cX3_isOfLibrary 94 = .ok (.goto 4, 3) := dk_167 0 4 (dk_at dksX3_isOfLibrary_4 0 rfl rfl)
theorem dX3_isOfLibrary_97 : decode cX3_isOfLibrary 97 = .ok (.iconst 0, 1) := dk_3 (dk_at dksX3_isOfLibrary_4 3 rfl rfl)
theorem dX3_isOfLibrary_98 : decode cX3_isOfLibrary 98 = .ok (.istore_n 3, 1) := dk_62 (dk_at dksX3_isOfLibrary_4 4 rfl rfl)
theorem dX3_isOfLibrary_99 : decode cX3_isOfLibrary 99 = .ok (.iinc 4 1, 3) := dk_132 4 1 (dk_at dksX3_isOfLibrary_4 5 rfl rfl)
theorem dX3_isOfLibrary_102 : decode cX3_isOfLibrary 102 = .ok (.goto (-37), 3) := dk_167 255 219 (dk_at dksX3_isOfLibrary_4 8 rfl rfl)
theorem dX3_isOfLibrary_105 : decode cX3_isOfLibrary 105 = .ok (.iload_n 2, 1) := dk_28 (dk_at dksX3_isOfLibrary_4 11 rfl rfl)
theorem dX3_isOfLibrary_106 : decode cX3_isOfLibrary 106 = .ok (.ifCond .eq 11, 3) := dk_153 0 11 (dk_at dksX3_isOfLibrary_4 12 rfl rfl)
theorem dX3_isOfLibrary_109 : decode cX3_isOfLibrary 109 = .ok (.iload_n 3, 1) := dk_29 (dk_at dksX3_isOfLibrary_4 15 rfl rfl)
theorem dX3_isOfLibrary_110 : decode cX3_isOfLibrary 110 = .ok (.ifCond .eq 7, 3) := dk_153 0 7 (dk_at dksX3_isOfLibrary_4 16 rfl rfl)
theorem dX3_isOfLibrary_113 : decode cX3_isOfLibrary 113 = .ok (.iconst 1, 1) := dk_4 (dk_at dksX3_isOfLibrary_4 19 rfl rfl)
theorem dX3_isOfLibrary_114 : decode cX3_isOfLibrary 114 = .ok (.goto 4, 3) := dk_167 0 4 (dk_at dksX3_isOfLibrary_4 20 rfl rfl)
theorem dX3_isOfLibrary_117 : decode cX3_isOfLibrary 117 = .ok (.iconst 0, 1) := dk_3 (dk_at dksX3_isOfLibrary_4 23 rfl rfl)
theorem dX3_isOfLibrary_118 : decode cX3_isOfLibrary 118 = .ok (.ireturn, 1) := dk_172 (dk_at dksX3_isOfLibrary_5 0 rfl rfl)
theorem q42 : (Jvm.Cond.initialized "KeylockBodyModel") ∈ lw_all := lw_g (lw_at lw_m1 6 rfl) rfl
theorem q417 : (Jvm.Cond.selects "KeylockBodyModel" ({ cls := "java/lang/Object", name := "getClass", desc := "()Ljava/lang/Class;" } : Jvm.MethodName) ({ cls := "java/lang/Object", name := "getClass", desc := "()Ljava/lang/Class;" } : Jvm.MethodName)) ∈ lw_all := lw_g (lw_at lw_m2 141 rfl) rfl
theorem q785 : (Jvm.Cond.instantiable "KeylockBodyModel" (20 : Nat)) ∈ lw_all := lw_g (lw_at lw_m4 29 rfl) rfl
theorem q787 : (Jvm.Cond.instanceMethod ({ cls := "KeylockBodyModel", name := "<init>", desc := "()V" } : Jvm.MethodName)) ∈ lw_all := lw_g (lw_at lw_m4 31 rfl) rfl
theorem q788 : (Jvm.Cond.code ({ cls := "KeylockBodyModel", name := "<init>", desc := "()V" } : Jvm.MethodName) prog_6_method_1_code (2 : Nat) (Option.none : Option Jvm.ClassFile.FieldType)) ∈ lw_all := lw_g (lw_at lw_m4 32 rfl) rfl
theorem q789 : (Jvm.Cond.methodLink "KeylockBodyModel" (1 : Nat) ({ cls := "java/lang/Object", name := "<init>", desc := "()V" } : Jvm.MethodName)) ∈ lw_all := lw_g (lw_at lw_m4 33 rfl) rfl
theorem q790 : (Jvm.Cond.fieldLink "KeylockBodyModel" (7 : Nat) "KeylockBodyModel" "table" "[I") ∈ lw_all := lw_g (lw_at lw_m4 34 rfl) rfl
theorem q791 : (Jvm.Cond.fieldLink "KeylockBodyModel" (13 : Nat) "KeylockBodyModel" "marks" "[I") ∈ lw_all := lw_g (lw_at lw_m4 35 rfl) rfl
theorem q792 : (Jvm.Cond.fieldLink "KeylockBodyModel" (75 : Nat) "KeylockBodyModel" "owns" "I") ∈ lw_all := lw_g (lw_at lw_m4 36 rfl) rfl
theorem q793 : (Jvm.Cond.fieldLink "KeylockBodyModel" (16 : Nat) "KeylockBodyModel" "ownCoats" "[I") ∈ lw_all := lw_g (lw_at lw_m4 37 rfl) rfl
theorem q794 : (Jvm.Cond.fieldLink "KeylockBodyModel" (82 : Nat) "KeylockBodyModel" "segments" "I") ∈ lw_all := lw_g (lw_at lw_m4 38 rfl) rfl
theorem q795 : (Jvm.Cond.fieldLink "KeylockBodyModel" (19 : Nat) "KeylockBodyModel" "zeros" "[I") ∈ lw_all := lw_g (lw_at lw_m4 39 rfl) rfl
theorem q796 : (Jvm.Cond.fieldLink "KeylockBodyModel" (22 : Nat) "KeylockBodyModel" "ones" "[I") ∈ lw_all := lw_g (lw_at lw_m4 40 rfl) rfl
theorem q797 : (Jvm.Cond.fieldLink "KeylockBodyModel" (85 : Nat) "KeylockBodyModel" "joints" "I") ∈ lw_all := lw_g (lw_at lw_m4 41 rfl) rfl
theorem q798 : (Jvm.Cond.fieldLink "KeylockBodyModel" (25 : Nat) "KeylockBodyModel" "twos" "[I") ∈ lw_all := lw_g (lw_at lw_m4 42 rfl) rfl
theorem q799 : (Jvm.Cond.fieldLink "KeylockBodyModel" (88 : Nat) "KeylockBodyModel" "cells" "I") ∈ lw_all := lw_g (lw_at lw_m4 43 rfl) rfl
theorem q800 : (Jvm.Cond.fieldLink "KeylockBodyModel" (28 : Nat) "KeylockBodyModel" "locks" "[I") ∈ lw_all := lw_g (lw_at lw_m4 44 rfl) rfl
theorem q801 : (Jvm.Cond.fieldLink "KeylockBodyModel" (31 : Nat) "KeylockBodyModel" "kinds" "[I") ∈ lw_all := lw_g (lw_at lw_m4 45 rfl) rfl
theorem q802 : (Jvm.Cond.fieldLink "KeylockBodyModel" (34 : Nat) "KeylockBodyModel" "parents" "[I") ∈ lw_all := lw_g (lw_at lw_m4 46 rfl) rfl
theorem q803 : (Jvm.Cond.fieldLink "KeylockBodyModel" (95 : Nat) "KeylockBodyModel" "invaders" "I") ∈ lw_all := lw_g (lw_at lw_m4 47 rfl) rfl
theorem q804 : (Jvm.Cond.fieldLink "KeylockBodyModel" (37 : Nat) "KeylockBodyModel" "coats" "[I") ∈ lw_all := lw_g (lw_at lw_m4 48 rfl) rfl
theorem q805 : (Jvm.Cond.fieldLink "KeylockBodyModel" (40 : Nat) "KeylockBodyModel" "growths" "[I") ∈ lw_all := lw_g (lw_at lw_m4 49 rfl) rfl
theorem q806 : (Jvm.Cond.fieldLink "KeylockBodyModel" (43 : Nat) "KeylockBodyModel" "now" "[I") ∈ lw_all := lw_g (lw_at lw_m4 50 rfl) rfl
theorem q807 : (Jvm.Cond.fieldLink "KeylockBodyModel" (46 : Nat) "KeylockBodyModel" "aside" "[I") ∈ lw_all := lw_g (lw_at lw_m4 51 rfl) rfl
theorem q808 : (Jvm.Cond.fieldLink "KeylockBodyModel" (53 : Nat) "KeylockBodyModel" "thrown" "I") ∈ lw_all := lw_g (lw_at lw_m4 52 rfl) rfl
theorem q809 : (Jvm.Cond.fieldLink "KeylockBodyModel" (49 : Nat) "KeylockBodyModel" "isReached" "[Z") ∈ lw_all := lw_g (lw_at lw_m4 53 rfl) rfl
theorem q810 : (Jvm.Cond.laysFinal "KeylockBodyModel" "KeylockBodyModel" "table" "[I") ∈ lw_all := lw_g (lw_at lw_m4 54 rfl) rfl
theorem q811 : (Jvm.Cond.soleField "KeylockBodyModel" "table") ∈ lw_all := lw_g (lw_at lw_m4 55 rfl) rfl
theorem q812 : (Jvm.Cond.laysFinal "KeylockBodyModel" "KeylockBodyModel" "marks" "[I") ∈ lw_all := lw_g (lw_at lw_m4 56 rfl) rfl
theorem q813 : (Jvm.Cond.soleField "KeylockBodyModel" "marks") ∈ lw_all := lw_g (lw_at lw_m4 57 rfl) rfl
theorem q814 : (Jvm.Cond.lays "KeylockBodyModel" "KeylockBodyModel" "owns" "I") ∈ lw_all := lw_g (lw_at lw_m4 58 rfl) rfl
theorem q815 : (Jvm.Cond.soleField "KeylockBodyModel" "owns") ∈ lw_all := lw_g (lw_at lw_m4 59 rfl) rfl
theorem q816 : (Jvm.Cond.laysFinal "KeylockBodyModel" "KeylockBodyModel" "ownCoats" "[I") ∈ lw_all := lw_g (lw_at lw_m4 60 rfl) rfl
theorem q817 : (Jvm.Cond.soleField "KeylockBodyModel" "ownCoats") ∈ lw_all := lw_g (lw_at lw_m4 61 rfl) rfl
theorem q818 : (Jvm.Cond.lays "KeylockBodyModel" "KeylockBodyModel" "segments" "I") ∈ lw_all := lw_g (lw_at lw_m4 62 rfl) rfl
theorem q819 : (Jvm.Cond.soleField "KeylockBodyModel" "segments") ∈ lw_all := lw_g (lw_at lw_m4 63 rfl) rfl
theorem q820 : (Jvm.Cond.laysFinal "KeylockBodyModel" "KeylockBodyModel" "zeros" "[I") ∈ lw_all := lw_g (lw_at lw_m4 64 rfl) rfl
theorem q821 : (Jvm.Cond.soleField "KeylockBodyModel" "zeros") ∈ lw_all := lw_g (lw_at lw_m4 65 rfl) rfl
theorem q822 : (Jvm.Cond.laysFinal "KeylockBodyModel" "KeylockBodyModel" "ones" "[I") ∈ lw_all := lw_g (lw_at lw_m4 66 rfl) rfl
theorem q823 : (Jvm.Cond.soleField "KeylockBodyModel" "ones") ∈ lw_all := lw_g (lw_at lw_m4 67 rfl) rfl
theorem q824 : (Jvm.Cond.lays "KeylockBodyModel" "KeylockBodyModel" "joints" "I") ∈ lw_all := lw_g (lw_at lw_m4 68 rfl) rfl
theorem q825 : (Jvm.Cond.soleField "KeylockBodyModel" "joints") ∈ lw_all := lw_g (lw_at lw_m4 69 rfl) rfl
theorem q826 : (Jvm.Cond.laysFinal "KeylockBodyModel" "KeylockBodyModel" "twos" "[I") ∈ lw_all := lw_g (lw_at lw_m4 70 rfl) rfl
theorem q827 : (Jvm.Cond.soleField "KeylockBodyModel" "twos") ∈ lw_all := lw_g (lw_at lw_m4 71 rfl) rfl
theorem q828 : (Jvm.Cond.lays "KeylockBodyModel" "KeylockBodyModel" "cells" "I") ∈ lw_all := lw_g (lw_at lw_m4 72 rfl) rfl
theorem q829 : (Jvm.Cond.soleField "KeylockBodyModel" "cells") ∈ lw_all := lw_g (lw_at lw_m4 73 rfl) rfl
theorem q830 : (Jvm.Cond.laysFinal "KeylockBodyModel" "KeylockBodyModel" "locks" "[I") ∈ lw_all := lw_g (lw_at lw_m4 74 rfl) rfl
theorem q831 : (Jvm.Cond.soleField "KeylockBodyModel" "locks") ∈ lw_all := lw_g (lw_at lw_m4 75 rfl) rfl
theorem q832 : (Jvm.Cond.laysFinal "KeylockBodyModel" "KeylockBodyModel" "kinds" "[I") ∈ lw_all := lw_g (lw_at lw_m4 76 rfl) rfl
theorem q833 : (Jvm.Cond.soleField "KeylockBodyModel" "kinds") ∈ lw_all := lw_g (lw_at lw_m4 77 rfl) rfl
theorem q834 : (Jvm.Cond.laysFinal "KeylockBodyModel" "KeylockBodyModel" "parents" "[I") ∈ lw_all := lw_g (lw_at lw_m4 78 rfl) rfl
theorem q835 : (Jvm.Cond.soleField "KeylockBodyModel" "parents") ∈ lw_all := lw_g (lw_at lw_m4 79 rfl) rfl
theorem q836 : (Jvm.Cond.lays "KeylockBodyModel" "KeylockBodyModel" "invaders" "I") ∈ lw_all := lw_g (lw_at lw_m4 80 rfl) rfl
theorem q837 : (Jvm.Cond.soleField "KeylockBodyModel" "invaders") ∈ lw_all := lw_g (lw_at lw_m4 81 rfl) rfl
theorem q838 : (Jvm.Cond.laysFinal "KeylockBodyModel" "KeylockBodyModel" "coats" "[I") ∈ lw_all := lw_g (lw_at lw_m4 82 rfl) rfl
theorem q839 : (Jvm.Cond.soleField "KeylockBodyModel" "coats") ∈ lw_all := lw_g (lw_at lw_m4 83 rfl) rfl
theorem q840 : (Jvm.Cond.laysFinal "KeylockBodyModel" "KeylockBodyModel" "growths" "[I") ∈ lw_all := lw_g (lw_at lw_m4 84 rfl) rfl
theorem q841 : (Jvm.Cond.soleField "KeylockBodyModel" "growths") ∈ lw_all := lw_g (lw_at lw_m4 85 rfl) rfl
theorem q842 : (Jvm.Cond.lays "KeylockBodyModel" "KeylockBodyModel" "now" "[I") ∈ lw_all := lw_g (lw_at lw_m4 86 rfl) rfl
theorem q843 : (Jvm.Cond.soleField "KeylockBodyModel" "now") ∈ lw_all := lw_g (lw_at lw_m4 87 rfl) rfl
theorem q844 : (Jvm.Cond.lays "KeylockBodyModel" "KeylockBodyModel" "aside" "[I") ∈ lw_all := lw_g (lw_at lw_m4 88 rfl) rfl
theorem q845 : (Jvm.Cond.soleField "KeylockBodyModel" "aside") ∈ lw_all := lw_g (lw_at lw_m4 89 rfl) rfl
theorem q846 : (Jvm.Cond.lays "KeylockBodyModel" "KeylockBodyModel" "thrown" "I") ∈ lw_all := lw_g (lw_at lw_m4 90 rfl) rfl
theorem q847 : (Jvm.Cond.soleField "KeylockBodyModel" "thrown") ∈ lw_all := lw_g (lw_at lw_m4 91 rfl) rfl
theorem q848 : (Jvm.Cond.laysFinal "KeylockBodyModel" "KeylockBodyModel" "isReached" "[Z") ∈ lw_all := lw_g (lw_at lw_m4 92 rfl) rfl
theorem q849 : (Jvm.Cond.soleField "KeylockBodyModel" "isReached") ∈ lw_all := lw_g (lw_at lw_m4 93 rfl) rfl
theorem q850 : (Jvm.Cond.superclass "KeylockBodyModel" "java/lang/Object") ∈ lw_all := lw_g (lw_at lw_m4 94 rfl) rfl
theorem q853 : (Jvm.Cond.instanceMethod ({ cls := "KeylockBodyModel", name := "thrown", desc := "()I" } : Jvm.MethodName)) ∈ lw_all := lw_g (lw_at lw_m4 97 rfl) rfl
theorem q854 : (Jvm.Cond.selects "KeylockBodyModel" ({ cls := "KeylockBodyModel", name := "thrown", desc := "()I" } : Jvm.MethodName) ({ cls := "KeylockBodyModel", name := "thrown", desc := "()I" } : Jvm.MethodName)) ∈ lw_all := lw_g (lw_at lw_m4 98 rfl) rfl
theorem q855 : (Jvm.Cond.code ({ cls := "KeylockBodyModel", name := "thrown", desc := "()I" } : Jvm.MethodName) prog_6_method_2_code (1 : Nat) (Option.some Jvm.ClassFile.FieldType.int)) ∈ lw_all := lw_g (lw_at lw_m4 99 rfl) rfl
theorem q857 : (Jvm.Cond.instanceMethod ({ cls := "KeylockBodyModel", name := "table", desc := "(III)I" } : Jvm.MethodName)) ∈ lw_all := lw_g (lw_at lw_m4 101 rfl) rfl
theorem q858 : (Jvm.Cond.selects "KeylockBodyModel" ({ cls := "KeylockBodyModel", name := "table", desc := "(III)I" } : Jvm.MethodName) ({ cls := "KeylockBodyModel", name := "table", desc := "(III)I" } : Jvm.MethodName)) ∈ lw_all := lw_g (lw_at lw_m4 102 rfl) rfl
theorem q859 : (Jvm.Cond.code ({ cls := "KeylockBodyModel", name := "table", desc := "(III)I" } : Jvm.MethodName) prog_6_method_7_code (5 : Nat) (Option.some Jvm.ClassFile.FieldType.int)) ∈ lw_all := lw_g (lw_at lw_m4 103 rfl) rfl
theorem q860 : (Jvm.Cond.methodLink "KeylockBodyModel" (61 : Nat) ({ cls := "KeylockBodyModel", name := "isLetter", desc := "(I)Z" } : Jvm.MethodName)) ∈ lw_all := lw_g (lw_at lw_m4 104 rfl) rfl
theorem q861 : (Jvm.Cond.static ({ cls := "KeylockBodyModel", name := "isLetter", desc := "(I)Z" } : Jvm.MethodName)) ∈ lw_all := lw_g (lw_at lw_m4 105 rfl) rfl
theorem q862 : (Jvm.Cond.code ({ cls := "KeylockBodyModel", name := "isLetter", desc := "(I)Z" } : Jvm.MethodName) prog_6_method_4_code (1 : Nat) (Option.some Jvm.ClassFile.FieldType.boolean)) ∈ lw_all := lw_g (lw_at lw_m4 106 rfl) rfl
theorem q863 : (Jvm.Cond.methodLink "KeylockBodyModel" (57 : Nat) ({ cls := "KeylockBodyModel", name := "in", desc := "(III)Z" } : Jvm.MethodName)) ∈ lw_all := lw_g (lw_at lw_m4 107 rfl) rfl
theorem q864 : (Jvm.Cond.static ({ cls := "KeylockBodyModel", name := "in", desc := "(III)Z" } : Jvm.MethodName)) ∈ lw_all := lw_g (lw_at lw_m4 108 rfl) rfl
theorem q865 : (Jvm.Cond.code ({ cls := "KeylockBodyModel", name := "in", desc := "(III)Z" } : Jvm.MethodName) prog_6_method_3_code (3 : Nat) (Option.some Jvm.ClassFile.FieldType.boolean)) ∈ lw_all := lw_g (lw_at lw_m4 109 rfl) rfl
theorem q867 : (Jvm.Cond.instanceMethod ({ cls := "KeylockBodyModel", name := "fit", desc := "(II)I" } : Jvm.MethodName)) ∈ lw_all := lw_g (lw_at lw_m4 111 rfl) rfl
theorem q868 : (Jvm.Cond.selects "KeylockBodyModel" ({ cls := "KeylockBodyModel", name := "fit", desc := "(II)I" } : Jvm.MethodName) ({ cls := "KeylockBodyModel", name := "fit", desc := "(II)I" } : Jvm.MethodName)) ∈ lw_all := lw_g (lw_at lw_m4 112 rfl) rfl
theorem q869 : (Jvm.Cond.code ({ cls := "KeylockBodyModel", name := "fit", desc := "(II)I" } : Jvm.MethodName) prog_6_method_10_code (3 : Nat) (Option.some Jvm.ClassFile.FieldType.int)) ∈ lw_all := lw_g (lw_at lw_m4 113 rfl) rfl
theorem q870 : (Jvm.Cond.methodLink "KeylockBodyModel" (72 : Nat) ({ cls := "KeylockBodyModel", name := "isWord", desc := "(I)Z" } : Jvm.MethodName)) ∈ lw_all := lw_g (lw_at lw_m4 114 rfl) rfl
theorem q871 : (Jvm.Cond.static ({ cls := "KeylockBodyModel", name := "isWord", desc := "(I)Z" } : Jvm.MethodName)) ∈ lw_all := lw_g (lw_at lw_m4 115 rfl) rfl
theorem q872 : (Jvm.Cond.code ({ cls := "KeylockBodyModel", name := "isWord", desc := "(I)Z" } : Jvm.MethodName) prog_6_method_5_code (1 : Nat) (Option.some Jvm.ClassFile.FieldType.boolean)) ∈ lw_all := lw_g (lw_at lw_m4 116 rfl) rfl
theorem q873 : (Jvm.Cond.methodLink "KeylockBodyModel" (69 : Nat) ({ cls := "KeylockBodyModel", name := "fitOf", desc := "(II)I" } : Jvm.MethodName)) ∈ lw_all := lw_g (lw_at lw_m4 117 rfl) rfl
theorem q874 : (Jvm.Cond.privateMethod ({ cls := "KeylockBodyModel", name := "fitOf", desc := "(II)I" } : Jvm.MethodName)) ∈ lw_tbl := lw_at lw_m4 118 rfl
theorem q875 : (Jvm.Cond.instanceMethod ({ cls := "KeylockBodyModel", name := "fitOf", desc := "(II)I" } : Jvm.MethodName)) ∈ lw_all := lw_g (lw_at lw_m4 119 rfl) rfl
theorem q876 : (Jvm.Cond.code ({ cls := "KeylockBodyModel", name := "fitOf", desc := "(II)I" } : Jvm.MethodName) prog_6_method_8_code (5 : Nat) (Option.some Jvm.ClassFile.FieldType.int)) ∈ lw_all := lw_g (lw_at lw_m4 120 rfl) rfl
theorem q877 : (Jvm.Cond.methodLink "KeylockBodyModel" (65 : Nat) ({ cls := "KeylockBodyModel", name := "letter", desc := "(II)I" } : Jvm.MethodName)) ∈ lw_all := lw_g (lw_at lw_m4 121 rfl) rfl
theorem q878 : (Jvm.Cond.static ({ cls := "KeylockBodyModel", name := "letter", desc := "(II)I" } : Jvm.MethodName)) ∈ lw_all := lw_g (lw_at lw_m4 122 rfl) rfl
theorem q879 : (Jvm.Cond.code ({ cls := "KeylockBodyModel", name := "letter", desc := "(II)I" } : Jvm.MethodName) prog_6_method_6_code (2 : Nat) (Option.some Jvm.ClassFile.FieldType.int)) ∈ lw_all := lw_g (lw_at lw_m4 123 rfl) rfl
theorem q881 : (Jvm.Cond.instanceMethod ({ cls := "KeylockBodyModel", name := "mark", desc := "(II)I" } : Jvm.MethodName)) ∈ lw_all := lw_g (lw_at lw_m4 125 rfl) rfl
theorem q882 : (Jvm.Cond.selects "KeylockBodyModel" ({ cls := "KeylockBodyModel", name := "mark", desc := "(II)I" } : Jvm.MethodName) ({ cls := "KeylockBodyModel", name := "mark", desc := "(II)I" } : Jvm.MethodName)) ∈ lw_all := lw_g (lw_at lw_m4 126 rfl) rfl
theorem q883 : (Jvm.Cond.code ({ cls := "KeylockBodyModel", name := "mark", desc := "(II)I" } : Jvm.MethodName) prog_6_method_11_code (5 : Nat) (Option.some Jvm.ClassFile.FieldType.int)) ∈ lw_all := lw_g (lw_at lw_m4 127 rfl) rfl
theorem q885 : (Jvm.Cond.instanceMethod ({ cls := "KeylockBodyModel", name := "own", desc := "(I)I" } : Jvm.MethodName)) ∈ lw_all := lw_g (lw_at lw_m4 129 rfl) rfl
theorem q886 : (Jvm.Cond.selects "KeylockBodyModel" ({ cls := "KeylockBodyModel", name := "own", desc := "(I)I" } : Jvm.MethodName) ({ cls := "KeylockBodyModel", name := "own", desc := "(I)I" } : Jvm.MethodName)) ∈ lw_all := lw_g (lw_at lw_m4 130 rfl) rfl
theorem q887 : (Jvm.Cond.code ({ cls := "KeylockBodyModel", name := "own", desc := "(I)I" } : Jvm.MethodName) prog_6_method_12_code (2 : Nat) (Option.some Jvm.ClassFile.FieldType.int)) ∈ lw_all := lw_g (lw_at lw_m4 131 rfl) rfl
theorem q889 : (Jvm.Cond.instanceMethod ({ cls := "KeylockBodyModel", name := "harm", desc := "(I)I" } : Jvm.MethodName)) ∈ lw_all := lw_g (lw_at lw_m4 133 rfl) rfl
theorem q890 : (Jvm.Cond.selects "KeylockBodyModel" ({ cls := "KeylockBodyModel", name := "harm", desc := "(I)I" } : Jvm.MethodName) ({ cls := "KeylockBodyModel", name := "harm", desc := "(I)I" } : Jvm.MethodName)) ∈ lw_all := lw_g (lw_at lw_m4 134 rfl) rfl
theorem q891 : (Jvm.Cond.code ({ cls := "KeylockBodyModel", name := "harm", desc := "(I)I" } : Jvm.MethodName) prog_6_method_13_code (2 : Nat) (Option.some Jvm.ClassFile.FieldType.int)) ∈ lw_all := lw_g (lw_at lw_m4 135 rfl) rfl
theorem q893 : (Jvm.Cond.instanceMethod ({ cls := "KeylockBodyModel", name := "nearness", desc := "(I)I" } : Jvm.MethodName)) ∈ lw_all := lw_g (lw_at lw_m4 137 rfl) rfl
theorem q894 : (Jvm.Cond.selects "KeylockBodyModel" ({ cls := "KeylockBodyModel", name := "nearness", desc := "(I)I" } : Jvm.MethodName) ({ cls := "KeylockBodyModel", name := "nearness", desc := "(I)I" } : Jvm.MethodName)) ∈ lw_all := lw_g (lw_at lw_m4 138 rfl) rfl
theorem q895 : (Jvm.Cond.code ({ cls := "KeylockBodyModel", name := "nearness", desc := "(I)I" } : Jvm.MethodName) prog_6_method_15_code (2 : Nat) (Option.some Jvm.ClassFile.FieldType.int)) ∈ lw_all := lw_g (lw_at lw_m4 139 rfl) rfl
theorem q896 : (Jvm.Cond.methodLink "KeylockBodyModel" (78 : Nat) ({ cls := "KeylockBodyModel", name := "near", desc := "(I)I" } : Jvm.MethodName)) ∈ lw_all := lw_g (lw_at lw_m4 140 rfl) rfl
theorem q897 : (Jvm.Cond.privateMethod ({ cls := "KeylockBodyModel", name := "near", desc := "(I)I" } : Jvm.MethodName)) ∈ lw_tbl := lw_at lw_m4 141 rfl
theorem q898 : (Jvm.Cond.instanceMethod ({ cls := "KeylockBodyModel", name := "near", desc := "(I)I" } : Jvm.MethodName)) ∈ lw_all := lw_g (lw_at lw_m4 142 rfl) rfl
theorem q899 : (Jvm.Cond.code ({ cls := "KeylockBodyModel", name := "near", desc := "(I)I" } : Jvm.MethodName) prog_6_method_14_code (5 : Nat) (Option.some Jvm.ClassFile.FieldType.int)) ∈ lw_all := lw_g (lw_at lw_m4 143 rfl) rfl
theorem q901 : (Jvm.Cond.instanceMethod ({ cls := "KeylockBodyModel", name := "segment", desc := "(II)I" } : Jvm.MethodName)) ∈ lw_all := lw_g (lw_at lw_m4 145 rfl) rfl
theorem q902 : (Jvm.Cond.selects "KeylockBodyModel" ({ cls := "KeylockBodyModel", name := "segment", desc := "(II)I" } : Jvm.MethodName) ({ cls := "KeylockBodyModel", name := "segment", desc := "(II)I" } : Jvm.MethodName)) ∈ lw_all := lw_g (lw_at lw_m4 146 rfl) rfl
theorem q903 : (Jvm.Cond.code ({ cls := "KeylockBodyModel", name := "segment", desc := "(II)I" } : Jvm.MethodName) prog_6_method_16_code (3 : Nat) (Option.some Jvm.ClassFile.FieldType.int)) ∈ lw_all := lw_g (lw_at lw_m4 147 rfl) rfl
theorem q905 : (Jvm.Cond.instanceMethod ({ cls := "KeylockBodyModel", name := "joint", desc := "(I)I" } : Jvm.MethodName)) ∈ lw_all := lw_g (lw_at lw_m4 149 rfl) rfl
theorem q906 : (Jvm.Cond.selects "KeylockBodyModel" ({ cls := "KeylockBodyModel", name := "joint", desc := "(I)I" } : Jvm.MethodName) ({ cls := "KeylockBodyModel", name := "joint", desc := "(I)I" } : Jvm.MethodName)) ∈ lw_all := lw_g (lw_at lw_m4 150 rfl) rfl
theorem q907 : (Jvm.Cond.code ({ cls := "KeylockBodyModel", name := "joint", desc := "(I)I" } : Jvm.MethodName) prog_6_method_17_code (2 : Nat) (Option.some Jvm.ClassFile.FieldType.int)) ∈ lw_all := lw_g (lw_at lw_m4 151 rfl) rfl
theorem q909 : (Jvm.Cond.instanceMethod ({ cls := "KeylockBodyModel", name := "draw", desc := "(IIIZ)I" } : Jvm.MethodName)) ∈ lw_all := lw_g (lw_at lw_m4 153 rfl) rfl
theorem q910 : (Jvm.Cond.selects "KeylockBodyModel" ({ cls := "KeylockBodyModel", name := "draw", desc := "(IIIZ)I" } : Jvm.MethodName) ({ cls := "KeylockBodyModel", name := "draw", desc := "(IIIZ)I" } : Jvm.MethodName)) ∈ lw_all := lw_g (lw_at lw_m4 154 rfl) rfl
theorem q911 : (Jvm.Cond.code ({ cls := "KeylockBodyModel", name := "draw", desc := "(IIIZ)I" } : Jvm.MethodName) prog_6_method_19_code (10 : Nat) (Option.some Jvm.ClassFile.FieldType.int)) ∈ lw_all := lw_g (lw_at lw_m4 155 rfl) rfl
theorem q912 : (Jvm.Cond.methodLink "KeylockBodyModel" (91 : Nat) ({ cls := "KeylockBodyModel", name := "adds", desc := "(IIIII)I" } : Jvm.MethodName)) ∈ lw_all := lw_g (lw_at lw_m4 156 rfl) rfl
theorem q913 : (Jvm.Cond.privateMethod ({ cls := "KeylockBodyModel", name := "adds", desc := "(IIIII)I" } : Jvm.MethodName)) ∈ lw_tbl := lw_at lw_m4 157 rfl
theorem q914 : (Jvm.Cond.instanceMethod ({ cls := "KeylockBodyModel", name := "adds", desc := "(IIIII)I" } : Jvm.MethodName)) ∈ lw_all := lw_g (lw_at lw_m4 158 rfl) rfl
theorem q915 : (Jvm.Cond.code ({ cls := "KeylockBodyModel", name := "adds", desc := "(IIIII)I" } : Jvm.MethodName) prog_6_method_18_code (7 : Nat) (Option.some Jvm.ClassFile.FieldType.int)) ∈ lw_all := lw_g (lw_at lw_m4 159 rfl) rfl
theorem q917 : (Jvm.Cond.instanceMethod ({ cls := "KeylockBodyModel", name := "slip", desc := "(III)I" } : Jvm.MethodName)) ∈ lw_all := lw_g (lw_at lw_m4 161 rfl) rfl
theorem q918 : (Jvm.Cond.selects "KeylockBodyModel" ({ cls := "KeylockBodyModel", name := "slip", desc := "(III)I" } : Jvm.MethodName) ({ cls := "KeylockBodyModel", name := "slip", desc := "(III)I" } : Jvm.MethodName)) ∈ lw_all := lw_g (lw_at lw_m4 162 rfl) rfl
theorem q919 : (Jvm.Cond.code ({ cls := "KeylockBodyModel", name := "slip", desc := "(III)I" } : Jvm.MethodName) prog_6_method_20_code (7 : Nat) (Option.some Jvm.ClassFile.FieldType.int)) ∈ lw_all := lw_g (lw_at lw_m4 163 rfl) rfl
theorem q921 : (Jvm.Cond.instanceMethod ({ cls := "KeylockBodyModel", name := "cellIs", desc := "(II)I" } : Jvm.MethodName)) ∈ lw_all := lw_g (lw_at lw_m4 165 rfl) rfl
theorem q922 : (Jvm.Cond.selects "KeylockBodyModel" ({ cls := "KeylockBodyModel", name := "cellIs", desc := "(II)I" } : Jvm.MethodName) ({ cls := "KeylockBodyModel", name := "cellIs", desc := "(II)I" } : Jvm.MethodName)) ∈ lw_all := lw_g (lw_at lw_m4 166 rfl) rfl
theorem q923 : (Jvm.Cond.code ({ cls := "KeylockBodyModel", name := "cellIs", desc := "(II)I" } : Jvm.MethodName) prog_6_method_21_code (3 : Nat) (Option.some Jvm.ClassFile.FieldType.int)) ∈ lw_all := lw_g (lw_at lw_m4 167 rfl) rfl
theorem q925 : (Jvm.Cond.instanceMethod ({ cls := "KeylockBodyModel", name := "invade", desc := "(III)I" } : Jvm.MethodName)) ∈ lw_all := lw_g (lw_at lw_m4 169 rfl) rfl
theorem q926 : (Jvm.Cond.selects "KeylockBodyModel" ({ cls := "KeylockBodyModel", name := "invade", desc := "(III)I" } : Jvm.MethodName) ({ cls := "KeylockBodyModel", name := "invade", desc := "(III)I" } : Jvm.MethodName)) ∈ lw_all := lw_g (lw_at lw_m4 170 rfl) rfl
theorem q927 : (Jvm.Cond.code ({ cls := "KeylockBodyModel", name := "invade", desc := "(III)I" } : Jvm.MethodName) prog_6_method_22_code (4 : Nat) (Option.some Jvm.ClassFile.FieldType.int)) ∈ lw_all := lw_g (lw_at lw_m4 171 rfl) rfl
theorem q929 : (Jvm.Cond.instanceMethod ({ cls := "KeylockBodyModel", name := "change", desc := "(II)I" } : Jvm.MethodName)) ∈ lw_all := lw_g (lw_at lw_m4 173 rfl) rfl
theorem q930 : (Jvm.Cond.selects "KeylockBodyModel" ({ cls := "KeylockBodyModel", name := "change", desc := "(II)I" } : Jvm.MethodName) ({ cls := "KeylockBodyModel", name := "change", desc := "(II)I" } : Jvm.MethodName)) ∈ lw_all := lw_g (lw_at lw_m4 174 rfl) rfl
theorem q931 : (Jvm.Cond.code ({ cls := "KeylockBodyModel", name := "change", desc := "(II)I" } : Jvm.MethodName) prog_6_method_24_code (4 : Nat) (Option.some Jvm.ClassFile.FieldType.int)) ∈ lw_all := lw_g (lw_at lw_m4 175 rfl) rfl
theorem q932 : (Jvm.Cond.methodLink "KeylockBodyModel" (98 : Nat) ({ cls := "KeylockBodyModel", name := "isAlive", desc := "(I)Z" } : Jvm.MethodName)) ∈ lw_all := lw_g (lw_at lw_m4 176 rfl) rfl
theorem q933 : (Jvm.Cond.privateMethod ({ cls := "KeylockBodyModel", name := "isAlive", desc := "(I)Z" } : Jvm.MethodName)) ∈ lw_tbl := lw_at lw_m4 177 rfl
theorem q934 : (Jvm.Cond.instanceMethod ({ cls := "KeylockBodyModel", name := "isAlive", desc := "(I)Z" } : Jvm.MethodName)) ∈ lw_all := lw_g (lw_at lw_m4 178 rfl) rfl
theorem q935 : (Jvm.Cond.code ({ cls := "KeylockBodyModel", name := "isAlive", desc := "(I)Z" } : Jvm.MethodName) prog_6_method_23_code (2 : Nat) (Option.some Jvm.ClassFile.FieldType.boolean)) ∈ lw_all := lw_g (lw_at lw_m4 179 rfl) rfl
theorem q937 : (Jvm.Cond.instanceMethod ({ cls := "KeylockBodyModel", name := "invaderIs", desc := "(II)I" } : Jvm.MethodName)) ∈ lw_all := lw_g (lw_at lw_m4 181 rfl) rfl
theorem q938 : (Jvm.Cond.selects "KeylockBodyModel" ({ cls := "KeylockBodyModel", name := "invaderIs", desc := "(II)I" } : Jvm.MethodName) ({ cls := "KeylockBodyModel", name := "invaderIs", desc := "(II)I" } : Jvm.MethodName)) ∈ lw_all := lw_g (lw_at lw_m4 182 rfl) rfl
theorem q939 : (Jvm.Cond.code ({ cls := "KeylockBodyModel", name := "invaderIs", desc := "(II)I" } : Jvm.MethodName) prog_6_method_25_code (3 : Nat) (Option.some Jvm.ClassFile.FieldType.int)) ∈ lw_all := lw_g (lw_at lw_m4 183 rfl) rfl
theorem q941 : (Jvm.Cond.instanceMethod ({ cls := "KeylockBodyModel", name := "why", desc := "(I)I" } : Jvm.MethodName)) ∈ lw_all := lw_g (lw_at lw_m4 185 rfl) rfl
theorem q942 : (Jvm.Cond.selects "KeylockBodyModel" ({ cls := "KeylockBodyModel", name := "why", desc := "(I)I" } : Jvm.MethodName) ({ cls := "KeylockBodyModel", name := "why", desc := "(I)I" } : Jvm.MethodName)) ∈ lw_all := lw_g (lw_at lw_m4 186 rfl) rfl
theorem q943 : (Jvm.Cond.code ({ cls := "KeylockBodyModel", name := "why", desc := "(I)I" } : Jvm.MethodName) prog_6_method_26_code (9 : Nat) (Option.some Jvm.ClassFile.FieldType.int)) ∈ lw_all := lw_g (lw_at lw_m4 187 rfl) rfl
theorem q944 : (Jvm.Cond.methodLink "KeylockBodyModel" (101 : Nat) ({ cls := "KeylockBodyModel", name := "touches", desc := "(II)Z" } : Jvm.MethodName)) ∈ lw_all := lw_g (lw_at lw_m4 188 rfl) rfl
theorem q945 : (Jvm.Cond.privateMethod ({ cls := "KeylockBodyModel", name := "touches", desc := "(II)Z" } : Jvm.MethodName)) ∈ lw_tbl := lw_at lw_m4 189 rfl
theorem q946 : (Jvm.Cond.instanceMethod ({ cls := "KeylockBodyModel", name := "touches", desc := "(II)Z" } : Jvm.MethodName)) ∈ lw_all := lw_g (lw_at lw_m4 190 rfl) rfl
theorem q947 : (Jvm.Cond.code ({ cls := "KeylockBodyModel", name := "touches", desc := "(II)Z" } : Jvm.MethodName) prog_6_method_9_code (3 : Nat) (Option.some Jvm.ClassFile.FieldType.boolean)) ∈ lw_all := lw_g (lw_at lw_m4 191 rfl) rfl
theorem q949 : (Jvm.Cond.instanceMethod ({ cls := "KeylockBodyModel", name := "pass", desc := "(I)I" } : Jvm.MethodName)) ∈ lw_all := lw_g (lw_at lw_m4 193 rfl) rfl
theorem q950 : (Jvm.Cond.selects "KeylockBodyModel" ({ cls := "KeylockBodyModel", name := "pass", desc := "(I)I" } : Jvm.MethodName) ({ cls := "KeylockBodyModel", name := "pass", desc := "(I)I" } : Jvm.MethodName)) ∈ lw_all := lw_g (lw_at lw_m4 194 rfl) rfl
theorem q951 : (Jvm.Cond.code ({ cls := "KeylockBodyModel", name := "pass", desc := "(I)I" } : Jvm.MethodName) prog_6_method_40_code (3 : Nat) (Option.some Jvm.ClassFile.FieldType.int)) ∈ lw_all := lw_g (lw_at lw_m4 195 rfl) rfl
theorem q952 : (Jvm.Cond.methodLink "KeylockBodyModel" (144 : Nat) ({ cls := "KeylockBodyModel", name := "hour", desc := "()V" } : Jvm.MethodName)) ∈ lw_all := lw_g (lw_at lw_m4 196 rfl) rfl
theorem q953 : (Jvm.Cond.privateMethod ({ cls := "KeylockBodyModel", name := "hour", desc := "()V" } : Jvm.MethodName)) ∈ lw_tbl := lw_at lw_m4 197 rfl
theorem q954 : (Jvm.Cond.instanceMethod ({ cls := "KeylockBodyModel", name := "hour", desc := "()V" } : Jvm.MethodName)) ∈ lw_all := lw_g (lw_at lw_m4 198 rfl) rfl
theorem q955 : (Jvm.Cond.code ({ cls := "KeylockBodyModel", name := "hour", desc := "()V" } : Jvm.MethodName) prog_6_method_39_code (3 : Nat) (Option.none : Option Jvm.ClassFile.FieldType)) ∈ lw_all := lw_g (lw_at lw_m4 199 rfl) rfl
theorem q956 : (Jvm.Cond.methodLink "KeylockBodyModel" (129 : Nat) ({ cls := "KeylockBodyModel", name := "grow", desc := "()V" } : Jvm.MethodName)) ∈ lw_all := lw_g (lw_at lw_m4 200 rfl) rfl
theorem q957 : (Jvm.Cond.privateMethod ({ cls := "KeylockBodyModel", name := "grow", desc := "()V" } : Jvm.MethodName)) ∈ lw_tbl := lw_at lw_m4 201 rfl
theorem q958 : (Jvm.Cond.instanceMethod ({ cls := "KeylockBodyModel", name := "grow", desc := "()V" } : Jvm.MethodName)) ∈ lw_all := lw_g (lw_at lw_m4 202 rfl) rfl
theorem q959 : (Jvm.Cond.code ({ cls := "KeylockBodyModel", name := "grow", desc := "()V" } : Jvm.MethodName) prog_6_method_31_code (3 : Nat) (Option.none : Option Jvm.ClassFile.FieldType)) ∈ lw_all := lw_g (lw_at lw_m4 203 rfl) rfl
theorem q960 : (Jvm.Cond.methodLink "KeylockBodyModel" (132 : Nat) ({ cls := "KeylockBodyModel", name := "wake", desc := "()V" } : Jvm.MethodName)) ∈ lw_all := lw_g (lw_at lw_m4 204 rfl) rfl
theorem q961 : (Jvm.Cond.privateMethod ({ cls := "KeylockBodyModel", name := "wake", desc := "()V" } : Jvm.MethodName)) ∈ lw_tbl := lw_at lw_m4 205 rfl
theorem q962 : (Jvm.Cond.instanceMethod ({ cls := "KeylockBodyModel", name := "wake", desc := "()V" } : Jvm.MethodName)) ∈ lw_all := lw_g (lw_at lw_m4 206 rfl) rfl
theorem q963 : (Jvm.Cond.code ({ cls := "KeylockBodyModel", name := "wake", desc := "()V" } : Jvm.MethodName) prog_6_method_33_code (4 : Nat) (Option.none : Option Jvm.ClassFile.FieldType)) ∈ lw_all := lw_g (lw_at lw_m4 207 rfl) rfl
theorem q964 : (Jvm.Cond.methodLink "KeylockBodyModel" (112 : Nat) ({ cls := "KeylockBodyModel", name := "allInvaders", desc := "()I" } : Jvm.MethodName)) ∈ lw_all := lw_g (lw_at lw_m4 208 rfl) rfl
theorem q965 : (Jvm.Cond.privateMethod ({ cls := "KeylockBodyModel", name := "allInvaders", desc := "()I" } : Jvm.MethodName)) ∈ lw_tbl := lw_at lw_m4 209 rfl
theorem q966 : (Jvm.Cond.instanceMethod ({ cls := "KeylockBodyModel", name := "allInvaders", desc := "()I" } : Jvm.MethodName)) ∈ lw_all := lw_g (lw_at lw_m4 210 rfl) rfl
theorem q967 : (Jvm.Cond.code ({ cls := "KeylockBodyModel", name := "allInvaders", desc := "()I" } : Jvm.MethodName) prog_6_method_32_code (3 : Nat) (Option.some Jvm.ClassFile.FieldType.int)) ∈ lw_all := lw_g (lw_at lw_m4 211 rfl) rfl
theorem q968 : (Jvm.Cond.methodLink "KeylockBodyModel" (116 : Nat) ({ cls := "KeylockBodyModel", name := "meets", desc := "(I)Z" } : Jvm.MethodName)) ∈ lw_all := lw_g (lw_at lw_m4 212 rfl) rfl
theorem q969 : (Jvm.Cond.privateMethod ({ cls := "KeylockBodyModel", name := "meets", desc := "(I)Z" } : Jvm.MethodName)) ∈ lw_tbl := lw_at lw_m4 213 rfl
theorem q970 : (Jvm.Cond.instanceMethod ({ cls := "KeylockBodyModel", name := "meets", desc := "(I)Z" } : Jvm.MethodName)) ∈ lw_all := lw_g (lw_at lw_m4 214 rfl) rfl
theorem q971 : (Jvm.Cond.code ({ cls := "KeylockBodyModel", name := "meets", desc := "(I)Z" } : Jvm.MethodName) prog_6_method_28_code (2 : Nat) (Option.some Jvm.ClassFile.FieldType.boolean)) ∈ lw_all := lw_g (lw_at lw_m4 215 rfl) rfl
theorem q972 : (Jvm.Cond.methodLink "KeylockBodyModel" (105 : Nat) ({ cls := "KeylockBodyModel", name := "met", desc := "(I)I" } : Jvm.MethodName)) ∈ lw_all := lw_g (lw_at lw_m4 216 rfl) rfl
theorem q973 : (Jvm.Cond.privateMethod ({ cls := "KeylockBodyModel", name := "met", desc := "(I)I" } : Jvm.MethodName)) ∈ lw_tbl := lw_at lw_m4 217 rfl
theorem q974 : (Jvm.Cond.instanceMethod ({ cls := "KeylockBodyModel", name := "met", desc := "(I)I" } : Jvm.MethodName)) ∈ lw_all := lw_g (lw_at lw_m4 218 rfl) rfl
theorem q975 : (Jvm.Cond.code ({ cls := "KeylockBodyModel", name := "met", desc := "(I)I" } : Jvm.MethodName) prog_6_method_27_code (5 : Nat) (Option.some Jvm.ClassFile.FieldType.int)) ∈ lw_all := lw_g (lw_at lw_m4 219 rfl) rfl
theorem q976 : (Jvm.Cond.methodLink "KeylockBodyModel" (135 : Nat) ({ cls := "KeylockBodyModel", name := "work", desc := "()V" } : Jvm.MethodName)) ∈ lw_all := lw_g (lw_at lw_m4 220 rfl) rfl
theorem q977 : (Jvm.Cond.privateMethod ({ cls := "KeylockBodyModel", name := "work", desc := "()V" } : Jvm.MethodName)) ∈ lw_tbl := lw_at lw_m4 221 rfl
theorem q978 : (Jvm.Cond.instanceMethod ({ cls := "KeylockBodyModel", name := "work", desc := "()V" } : Jvm.MethodName)) ∈ lw_all := lw_g (lw_at lw_m4 222 rfl) rfl
theorem q979 : (Jvm.Cond.code ({ cls := "KeylockBodyModel", name := "work", desc := "()V" } : Jvm.MethodName) prog_6_method_34_code (8 : Nat) (Option.none : Option Jvm.ClassFile.FieldType)) ∈ lw_all := lw_g (lw_at lw_m4 223 rfl) rfl
theorem q980 : (Jvm.Cond.methodLink "KeylockBodyModel" (119 : Nat) ({ cls := "KeylockBodyModel", name := "remembers", desc := "(I)V" } : Jvm.MethodName)) ∈ lw_all := lw_g (lw_at lw_m4 224 rfl) rfl
theorem q981 : (Jvm.Cond.privateMethod ({ cls := "KeylockBodyModel", name := "remembers", desc := "(I)V" } : Jvm.MethodName)) ∈ lw_tbl := lw_at lw_m4 225 rfl
theorem q982 : (Jvm.Cond.instanceMethod ({ cls := "KeylockBodyModel", name := "remembers", desc := "(I)V" } : Jvm.MethodName)) ∈ lw_all := lw_g (lw_at lw_m4 226 rfl) rfl
theorem q983 : (Jvm.Cond.code ({ cls := "KeylockBodyModel", name := "remembers", desc := "(I)V" } : Jvm.MethodName) prog_6_method_30_code (2 : Nat) (Option.none : Option Jvm.ClassFile.FieldType)) ∈ lw_all := lw_g (lw_at lw_m4 227 rfl) rfl
theorem q984 : (Jvm.Cond.methodLink "KeylockBodyModel" (108 : Nat) ({ cls := "KeylockBodyModel", name := "sizes", desc := "(II)V" } : Jvm.MethodName)) ∈ lw_all := lw_g (lw_at lw_m4 228 rfl) rfl
theorem q985 : (Jvm.Cond.privateMethod ({ cls := "KeylockBodyModel", name := "sizes", desc := "(II)V" } : Jvm.MethodName)) ∈ lw_tbl := lw_at lw_m4 229 rfl
theorem q986 : (Jvm.Cond.instanceMethod ({ cls := "KeylockBodyModel", name := "sizes", desc := "(II)V" } : Jvm.MethodName)) ∈ lw_all := lw_g (lw_at lw_m4 230 rfl) rfl
theorem q987 : (Jvm.Cond.code ({ cls := "KeylockBodyModel", name := "sizes", desc := "(II)V" } : Jvm.MethodName) prog_6_method_29_code (4 : Nat) (Option.none : Option Jvm.ClassFile.FieldType)) ∈ lw_all := lw_g (lw_at lw_m4 231 rfl) rfl
theorem q988 : (Jvm.Cond.methodLink "KeylockBodyModel" (138 : Nat) ({ cls := "KeylockBodyModel", name := "strike", desc := "()V" } : Jvm.MethodName)) ∈ lw_all := lw_g (lw_at lw_m4 232 rfl) rfl
theorem q989 : (Jvm.Cond.privateMethod ({ cls := "KeylockBodyModel", name := "strike", desc := "()V" } : Jvm.MethodName)) ∈ lw_tbl := lw_at lw_m4 233 rfl
theorem q990 : (Jvm.Cond.instanceMethod ({ cls := "KeylockBodyModel", name := "strike", desc := "()V" } : Jvm.MethodName)) ∈ lw_all := lw_g (lw_at lw_m4 234 rfl) rfl
theorem q991 : (Jvm.Cond.code ({ cls := "KeylockBodyModel", name := "strike", desc := "()V" } : Jvm.MethodName) prog_6_method_36_code (4 : Nat) (Option.none : Option Jvm.ClassFile.FieldType)) ∈ lw_all := lw_g (lw_at lw_m4 235 rfl) rfl
theorem q992 : (Jvm.Cond.methodLink "KeylockBodyModel" (123 : Nat) ({ cls := "KeylockBodyModel", name := "strikes", desc := "(I)Z" } : Jvm.MethodName)) ∈ lw_all := lw_g (lw_at lw_m4 236 rfl) rfl
theorem q993 : (Jvm.Cond.privateMethod ({ cls := "KeylockBodyModel", name := "strikes", desc := "(I)Z" } : Jvm.MethodName)) ∈ lw_tbl := lw_at lw_m4 237 rfl
theorem q994 : (Jvm.Cond.instanceMethod ({ cls := "KeylockBodyModel", name := "strikes", desc := "(I)Z" } : Jvm.MethodName)) ∈ lw_all := lw_g (lw_at lw_m4 238 rfl) rfl
theorem q995 : (Jvm.Cond.code ({ cls := "KeylockBodyModel", name := "strikes", desc := "(I)Z" } : Jvm.MethodName) prog_6_method_35_code (2 : Nat) (Option.some Jvm.ClassFile.FieldType.boolean)) ∈ lw_all := lw_g (lw_at lw_m4 239 rfl) rfl
theorem q996 : (Jvm.Cond.methodLink "KeylockBodyModel" (141 : Nat) ({ cls := "KeylockBodyModel", name := "harms", desc := "()V" } : Jvm.MethodName)) ∈ lw_all := lw_g (lw_at lw_m5 0 rfl) rfl
theorem q997 : (Jvm.Cond.privateMethod ({ cls := "KeylockBodyModel", name := "harms", desc := "()V" } : Jvm.MethodName)) ∈ lw_tbl := lw_at lw_m5 1 rfl
theorem q998 : (Jvm.Cond.instanceMethod ({ cls := "KeylockBodyModel", name := "harms", desc := "()V" } : Jvm.MethodName)) ∈ lw_all := lw_g (lw_at lw_m5 2 rfl) rfl
theorem q999 : (Jvm.Cond.code ({ cls := "KeylockBodyModel", name := "harms", desc := "()V" } : Jvm.MethodName) prog_6_method_38_code (5 : Nat) (Option.none : Option Jvm.ClassFile.FieldType)) ∈ lw_all := lw_g (lw_at lw_m5 3 rfl) rfl
theorem q1000 : (Jvm.Cond.methodLink "KeylockBodyModel" (126 : Nat) ({ cls := "KeylockBodyModel", name := "isCalmed", desc := "(I)Z" } : Jvm.MethodName)) ∈ lw_all := lw_g (lw_at lw_m5 4 rfl) rfl
theorem q1001 : (Jvm.Cond.privateMethod ({ cls := "KeylockBodyModel", name := "isCalmed", desc := "(I)Z" } : Jvm.MethodName)) ∈ lw_tbl := lw_at lw_m5 5 rfl
theorem q1002 : (Jvm.Cond.instanceMethod ({ cls := "KeylockBodyModel", name := "isCalmed", desc := "(I)Z" } : Jvm.MethodName)) ∈ lw_all := lw_g (lw_at lw_m5 6 rfl) rfl
theorem q1003 : (Jvm.Cond.code ({ cls := "KeylockBodyModel", name := "isCalmed", desc := "(I)Z" } : Jvm.MethodName) prog_6_method_37_code (4 : Nat) (Option.some Jvm.ClassFile.FieldType.boolean)) ∈ lw_all := lw_g (lw_at lw_m5 7 rfl) rfl
theorem q1005 : (Jvm.Cond.instanceMethod ({ cls := "KeylockBodyModel", name := "ahead", desc := "(II)I" } : Jvm.MethodName)) ∈ lw_all := lw_g (lw_at lw_m5 9 rfl) rfl
theorem q1006 : (Jvm.Cond.selects "KeylockBodyModel" ({ cls := "KeylockBodyModel", name := "ahead", desc := "(II)I" } : Jvm.MethodName) ({ cls := "KeylockBodyModel", name := "ahead", desc := "(II)I" } : Jvm.MethodName)) ∈ lw_all := lw_g (lw_at lw_m5 10 rfl) rfl
theorem q1007 : (Jvm.Cond.code ({ cls := "KeylockBodyModel", name := "ahead", desc := "(II)I" } : Jvm.MethodName) prog_6_method_42_code (5 : Nat) (Option.some Jvm.ClassFile.FieldType.int)) ∈ lw_all := lw_g (lw_at lw_m5 11 rfl) rfl
theorem q1008 : (Jvm.Cond.methodLink "KeylockBodyModel" (147 : Nat) ({ cls := "KeylockBodyModel", name := "sumOf", desc := "(I)I" } : Jvm.MethodName)) ∈ lw_all := lw_g (lw_at lw_m5 12 rfl) rfl
theorem q1009 : (Jvm.Cond.privateMethod ({ cls := "KeylockBodyModel", name := "sumOf", desc := "(I)I" } : Jvm.MethodName)) ∈ lw_tbl := lw_at lw_m5 13 rfl
theorem q1010 : (Jvm.Cond.instanceMethod ({ cls := "KeylockBodyModel", name := "sumOf", desc := "(I)I" } : Jvm.MethodName)) ∈ lw_all := lw_g (lw_at lw_m5 14 rfl) rfl
theorem q1011 : (Jvm.Cond.code ({ cls := "KeylockBodyModel", name := "sumOf", desc := "(I)I" } : Jvm.MethodName) prog_6_method_41_code (4 : Nat) (Option.some Jvm.ClassFile.FieldType.int)) ∈ lw_all := lw_g (lw_at lw_m5 15 rfl) rfl
theorem q1013 : (Jvm.Cond.instanceMethod ({ cls := "KeylockBodyModel", name := "sum", desc := "(I)I" } : Jvm.MethodName)) ∈ lw_all := lw_g (lw_at lw_m5 17 rfl) rfl
theorem q1014 : (Jvm.Cond.selects "KeylockBodyModel" ({ cls := "KeylockBodyModel", name := "sum", desc := "(I)I" } : Jvm.MethodName) ({ cls := "KeylockBodyModel", name := "sum", desc := "(I)I" } : Jvm.MethodName)) ∈ lw_all := lw_g (lw_at lw_m5 18 rfl) rfl
theorem q1015 : (Jvm.Cond.code ({ cls := "KeylockBodyModel", name := "sum", desc := "(I)I" } : Jvm.MethodName) prog_6_method_43_code (2 : Nat) (Option.some Jvm.ClassFile.FieldType.int)) ∈ lw_all := lw_g (lw_at lw_m5 19 rfl) rfl
theorem q1017 : (Jvm.Cond.instanceMethod ({ cls := "KeylockBodyModel", name := "isHole", desc := "(I)Z" } : Jvm.MethodName)) ∈ lw_all := lw_g (lw_at lw_m5 21 rfl) rfl
theorem q1018 : (Jvm.Cond.selects "KeylockBodyModel" ({ cls := "KeylockBodyModel", name := "isHole", desc := "(I)Z" } : Jvm.MethodName) ({ cls := "KeylockBodyModel", name := "isHole", desc := "(I)Z" } : Jvm.MethodName)) ∈ lw_all := lw_g (lw_at lw_m5 22 rfl) rfl
theorem q1019 : (Jvm.Cond.code ({ cls := "KeylockBodyModel", name := "isHole", desc := "(I)Z" } : Jvm.MethodName) prog_6_method_46_code (2 : Nat) (Option.some Jvm.ClassFile.FieldType.boolean)) ∈ lw_all := lw_g (lw_at lw_m5 23 rfl) rfl
theorem q1020 : (Jvm.Cond.methodLink "KeylockBodyModel" (153 : Nat) ({ cls := "KeylockBodyModel", name := "isTouched", desc := "(I)Z" } : Jvm.MethodName)) ∈ lw_all := lw_g (lw_at lw_m5 24 rfl) rfl
theorem q1021 : (Jvm.Cond.privateMethod ({ cls := "KeylockBodyModel", name := "isTouched", desc := "(I)Z" } : Jvm.MethodName)) ∈ lw_tbl := lw_at lw_m5 25 rfl
theorem q1022 : (Jvm.Cond.instanceMethod ({ cls := "KeylockBodyModel", name := "isTouched", desc := "(I)Z" } : Jvm.MethodName)) ∈ lw_all := lw_g (lw_at lw_m5 26 rfl) rfl
theorem q1023 : (Jvm.Cond.code ({ cls := "KeylockBodyModel", name := "isTouched", desc := "(I)Z" } : Jvm.MethodName) prog_6_method_45_code (5 : Nat) (Option.some Jvm.ClassFile.FieldType.boolean)) ∈ lw_all := lw_g (lw_at lw_m5 27 rfl) rfl
theorem q1024 : (Jvm.Cond.methodLink "KeylockBodyModel" (150 : Nat) ({ cls := "KeylockBodyModel", name := "lets", desc := "(I)Z" } : Jvm.MethodName)) ∈ lw_all := lw_g (lw_at lw_m5 28 rfl) rfl
theorem q1025 : (Jvm.Cond.privateMethod ({ cls := "KeylockBodyModel", name := "lets", desc := "(I)Z" } : Jvm.MethodName)) ∈ lw_tbl := lw_at lw_m5 29 rfl
theorem q1026 : (Jvm.Cond.instanceMethod ({ cls := "KeylockBodyModel", name := "lets", desc := "(I)Z" } : Jvm.MethodName)) ∈ lw_all := lw_g (lw_at lw_m5 30 rfl) rfl
theorem q1027 : (Jvm.Cond.code ({ cls := "KeylockBodyModel", name := "lets", desc := "(I)Z" } : Jvm.MethodName) prog_6_method_44_code (3 : Nat) (Option.some Jvm.ClassFile.FieldType.boolean)) ∈ lw_all := lw_g (lw_at lw_m5 31 rfl) rfl
theorem q1029 : (Jvm.Cond.instanceMethod ({ cls := "KeylockBodyModel", name := "holes", desc := "()I" } : Jvm.MethodName)) ∈ lw_all := lw_g (lw_at lw_m5 33 rfl) rfl
theorem q1030 : (Jvm.Cond.selects "KeylockBodyModel" ({ cls := "KeylockBodyModel", name := "holes", desc := "()I" } : Jvm.MethodName) ({ cls := "KeylockBodyModel", name := "holes", desc := "()I" } : Jvm.MethodName)) ∈ lw_all := lw_g (lw_at lw_m5 34 rfl) rfl
theorem q1031 : (Jvm.Cond.code ({ cls := "KeylockBodyModel", name := "holes", desc := "()I" } : Jvm.MethodName) prog_6_method_47_code (3 : Nat) (Option.some Jvm.ClassFile.FieldType.int)) ∈ lw_all := lw_g (lw_at lw_m5 35 rfl) rfl
theorem q1033 : (Jvm.Cond.instanceMethod ({ cls := "KeylockBodyModel", name := "holesAnew", desc := "()I" } : Jvm.MethodName)) ∈ lw_all := lw_g (lw_at lw_m5 37 rfl) rfl
theorem q1034 : (Jvm.Cond.selects "KeylockBodyModel" ({ cls := "KeylockBodyModel", name := "holesAnew", desc := "()I" } : Jvm.MethodName) ({ cls := "KeylockBodyModel", name := "holesAnew", desc := "()I" } : Jvm.MethodName)) ∈ lw_all := lw_g (lw_at lw_m5 38 rfl) rfl
theorem q1035 : (Jvm.Cond.code ({ cls := "KeylockBodyModel", name := "holesAnew", desc := "()I" } : Jvm.MethodName) prog_6_method_49_code (4 : Nat) (Option.some Jvm.ClassFile.FieldType.int)) ∈ lw_all := lw_g (lw_at lw_m5 39 rfl) rfl
theorem q1036 : (Jvm.Cond.methodLink "KeylockBodyModel" (156 : Nat) ({ cls := "KeylockBodyModel", name := "isOfLibrary", desc := "(I)Z" } : Jvm.MethodName)) ∈ lw_all := lw_g (lw_at lw_m5 40 rfl) rfl
theorem q1037 : (Jvm.Cond.privateMethod ({ cls := "KeylockBodyModel", name := "isOfLibrary", desc := "(I)Z" } : Jvm.MethodName)) ∈ lw_tbl := lw_at lw_m5 41 rfl
theorem q1038 : (Jvm.Cond.instanceMethod ({ cls := "KeylockBodyModel", name := "isOfLibrary", desc := "(I)Z" } : Jvm.MethodName)) ∈ lw_all := lw_g (lw_at lw_m5 42 rfl) rfl
theorem q1039 : (Jvm.Cond.code ({ cls := "KeylockBodyModel", name := "isOfLibrary", desc := "(I)Z" } : Jvm.MethodName) prog_6_method_48_code (5 : Nat) (Option.some Jvm.ClassFile.FieldType.boolean)) ∈ lw_all := lw_g (lw_at lw_m5 43 rfl) rfl
theorem q1047 : (Jvm.Cond.castable "KeylockBodyModel" "java/lang/Object") ∈ lw_tbl := lw_at lw_m5 51 rfl
theorem in_X3 : ∀ w ∈ wsX30, w ∈ lw_all := lw_in wsX30 [810, 812, 814, 816, 818, 820, 822, 824, 826, 828, 830, 832, 834, 836, 838, 840, 842, 844, 846, 848] (by decide +kernel) (by decide +kernel)
