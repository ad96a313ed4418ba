/-! SideBySideModel -/
set_option maxRecDepth 100000
def RX4 : String := "SideBySideModel"
def TX4 : u_T := fun k => match k with
  | 0 => ("SideBySideModel", "s", "[I", true)
  | 1 => ("SideBySideModel", "m", "[I", true)
  | 2 => ("SideBySideModel", "image", "[I", true)
  | 3 => ("SideBySideModel", "was", "[I", true)
  | 4 => ("SideBySideModel", "gone", "[I", true)
  | 5 => ("SideBySideModel", "hasImage", "Z", false)
  | 6 => ("SideBySideModel", "place", "I", false)
  | 7 => ("SideBySideModel", "rowAt", "I", false)
  | 8 => ("SideBySideModel", "rowEnd", "I", false)
  | 9 => ("SideBySideModel", "numbers", "[I", true)
  | 10 => ("SideBySideModel", "rallied", "I", false)
  | 11 => ("SideBySideModel", "scored", "I", false)
  | 12 => ("SideBySideModel", "seed", "I", false)
  | 13 => ("SideBySideModel", "kept", "[I", true)
  | 14 => ("SideBySideModel", "keptKind", "[I", true)
  | 15 => ("SideBySideModel", "keptFigure", "[I", true)
  | 16 => ("SideBySideModel", "sort", "[I", true)
  | 17 => ("SideBySideModel", "size", "[I", true)
  | 18 => ("SideBySideModel", "element", "[I", true)
  | _ => ("SideBySideModel", "thrown", "I", false)
def tyX4 : Nat → FieldType := fun k => match k with
  | 0 => .array .int
  | 1 => .array .int
  | 2 => .array .int
  | 3 => .array .int
  | 4 => .array .int
  | 5 => .boolean
  | 6 => .int
  | 7 => .int
  | 8 => .int
  | 9 => .array .int
  | 10 => .int
  | 11 => .int
  | 12 => .int
  | 13 => .array .int
  | 14 => .array .int
  | 15 => .array .int
  | 16 => .array .int
  | 17 => .array .int
  | 18 => .array .int
  | _ => .int
abbrev wsX40 : List Cond := u_ws RX4 TX4 20
set_option maxRecDepth 100000 in
theorem nmX4 : ∀ a, a < 20 → ∀ b, b < 20 → a ≠ b → (TX4 a).2.1 ≠ (TX4 b).2.1 := by decide +kernel
set_option maxRecDepth 100000 in
theorem tyX4_ok : ∀ k, k < 20 → parseFieldDescriptor (TX4 k).2.2.1 = some (tyX4 k) := by decide +kernel
abbrev cX4_init : ByteArray := prog_21_method_1_code
def yX4_init : MethodName := ⟨RX4, "<init>", "()V"⟩
def dkwX4_init_7 : List UInt8 := [79, 177]
abbrev dktX4_init_7 : List UInt8 := dkwX4_init_7 ++ []
def dkwX4_init_6 : List UInt8 := [167, 255, 215, 42, 180, 0, 9, 3, 4, 184, 0, 50, 4, 79, 42, 180, 0, 9, 4, 4, 184, 0, 50, 4]
abbrev dktX4_init_6 : List UInt8 := dkwX4_init_6 ++ dktX4_init_7
def dkwX4_init_5 : List UInt8 := [154, 0, 7, 4, 167, 0, 5, 16, 7, 79, 42, 180, 0, 9, 27, 4, 184, 0, 46, 4, 79, 132, 1, 1]
abbrev dktX4_init_5 : List UInt8 := dkwX4_init_5 ++ dktX4_init_6
def dkwX4_init_4 : List UInt8 := [188, 10, 181, 0, 43, 3, 60, 27, 7, 162, 0, 42, 42, 180, 0, 9, 27, 3, 184, 0, 46, 27, 5, 112]
abbrev dktX4_init_4 : List UInt8 := dkwX4_init_4 ++ dktX4_init_5
def dkwX4_init_3 : List UInt8 := [181, 0, 34, 42, 16, 8, 188, 10, 181, 0, 37, 42, 16, 8, 188, 10, 181, 0, 40, 42, 17, 3, 32]
abbrev dktX4_init_3 : List UInt8 := dkwX4_init_3 ++ dktX4_init_4
def dkwX4_init_2 : List UInt8 := [181, 0, 25, 42, 16, 8, 188, 10, 181, 0, 28, 42, 16, 8, 188, 10, 181, 0, 31, 42, 16, 8, 188, 10]
abbrev dktX4_init_2 : List UInt8 := dkwX4_init_2 ++ dktX4_init_3
def dkwX4_init_1 : List UInt8 := [188, 10, 181, 0, 16, 42, 16, 42, 188, 10, 181, 0, 19, 42, 7, 188, 10, 181, 0, 22, 42, 6, 188, 10]
abbrev dktX4_init_1 : List UInt8 := dkwX4_init_1 ++ dktX4_init_2
def dkwX4_init_0 : List UInt8 := [42, 183, 0, 1, 42, 16, 42, 188, 10, 181, 0, 9, 42, 16, 42, 188, 10, 181, 0, 13, 42, 16, 42]
abbrev dktX4_init_0 : List UInt8 := dkwX4_init_0 ++ dktX4_init_1
theorem dksX4_init_0 : cX4_init.data.toList.drop 0 = dktX4_init_0 := by decide +kernel
theorem dksX4_init_1 : cX4_init.data.toList.drop 23 = dktX4_init_1 := dk_seg dksX4_init_0 23 rfl rfl
theorem dksX4_init_2 : cX4_init.data.toList.drop 47 = dktX4_init_2 := dk_seg dksX4_init_1 24 rfl rfl
theorem dksX4_init_3 : cX4_init.data.toList.drop 71 = dktX4_init_3 := dk_seg dksX4_init_2 24 rfl rfl
theorem dksX4_init_4 : cX4_init.data.toList.drop 94 = dktX4_init_4 := dk_seg dksX4_init_3 23 rfl rfl
theorem dksX4_init_5 : cX4_init.data.toList.drop 118 = dktX4_init_5 := dk_seg dksX4_init_4 24 rfl rfl
theorem dksX4_init_6 : cX4_init.data.toList.drop 142 = dktX4_init_6 := dk_seg dksX4_init_5 24 rfl rfl
theorem dksX4_init_7 : cX4_init.data.toList.drop 166 = dktX4_init_7 := dk_seg dksX4_init_6 24 rfl rfl
theorem dX4_init_0 : decode cX4_init 0 = .ok (.aload_n 0, 1) := dk_42 (dk_at dksX4_init_0 0 rfl rfl)
theorem dX4_init_1 : decode cX4_init 1 = .ok (.invokespecial 1, 3) := dk_183 0 1 (dk_at dksX4_init_0 1 rfl rfl)
theorem dX4_init_4 : decode cX4_init 4 = .ok (.aload_n 0, 1) := dk_42 (dk_at dksX4_init_0 4 rfl rfl)
theorem dX4_init_5 : decode cX4_init 5 = .ok (.bipush 42, 2) := dk_16 42 (dk_at dksX4_init_0 5 rfl rfl)
theorem dX4_init_7 : decode cX4_init 7 = .ok (.newarray .int, 2) := dk_188_10 (dk_at dksX4_init_0 7 rfl rfl)
theorem dX4_init_9 : decode cX4_init 9 = .ok (.putfield 9, 3) := dk_181 0 9 (dk_at dksX4_init_0 9 rfl rfl)
theorem dX4_init_12 : decode cX4_init 12 = .ok (.aload_n 0, 1) := dk_42 (dk_at dksX4_init_0 12 rfl rfl)
theorem dX4_init_13 : decode cX4_init 13 = .ok (.bipush 42, 2) := dk_16 42 (dk_at dksX4_init_0 13 rfl rfl)
theorem dX4_init_15 : decode cX4_init 15 = .ok (.newarray .int, 2) := dk_188_10 (dk_at dksX4_init_0 15 rfl rfl)
theorem dX4_init_17 : decode cX4_init 17 = .ok (.putfield 13, 3) := dk_181 0 13 (dk_at dksX4_init_0 17 rfl rfl)
theorem dX4_init_20 : decode cX4_init 20 = .ok (.aload_n 0, 1) := dk_42 (dk_at dksX4_init_0 20 rfl rfl)
theorem dX4_init_21 : decode cX4_init 21 = .ok (.bipush 42, 2) := dk_16 42 (dk_at dksX4_init_0 21 rfl rfl)
theorem dX4_init_23 : decode cX4_init 23 = .ok (.newarray .int, 2) := dk_188_10 (dk_at dksX4_init_1 0 rfl rfl)
theorem dX4_init_25 : decode cX4_init 25 = .ok (.putfield 16, 3) := dk_181 0 16 (dk_at dksX4_init_1 2 rfl rfl)
theorem dX4_init_28 : decode cX4_init 28 = .ok (.aload_n 0, 1) := dk_42 (dk_at dksX4_init_1 5 rfl rfl)
theorem dX4_init_29 : decode cX4_init 29 = .ok (.bipush 42, 2) := dk_16 42 (dk_at dksX4_init_1 6 rfl rfl)
theorem dX4_init_31 : decode cX4_init 31 = .ok (.newarray .int, 2) := dk_188_10 (dk_at dksX4_init_1 8 rfl rfl)
theorem dX4_init_33 : decode cX4_init 33 = .ok (.putfield 19, 3) := dk_181 0 19 (dk_at dksX4_init_1 10 rfl rfl)
theorem dX4_init_36 : decode cX4_init 36 = .ok (.aload_n 0, 1) := dk_42 (dk_at dksX4_init_1 13 rfl rfl)
theorem dX4_init_37 : decode cX4_init 37 = .ok (.iconst 4, 1) := dk_7 (dk_at dksX4_init_1 14 rfl rfl)
theorem dX4_init_38 : decode cX4_init 38 = .ok (.newarray .int, 2) := dk_188_10 (dk_at dksX4_init_1 15 rfl rfl)
theorem dX4_init_40 : decode cX4_init 40 = .ok (.putfield 22, 3) := dk_181 0 22 (dk_at dksX4_init_1 17 rfl rfl)
theorem dX4_init_43 : decode cX4_init 43 = .ok (.aload_n 0, 1) := dk_42 (dk_at dksX4_init_1 20 rfl rfl)
theorem dX4_init_44 : decode cX4_init 44 = .ok (.iconst 3, 1) := dk_6 (dk_at dksX4_init_1 21 rfl rfl)
theorem dX4_init_45 : decode cX4_init 45 = .ok (.newarray .int, 2) := dk_188_10 (dk_at dksX4_init_1 22 rfl rfl)
theorem dX4_init_47 : decode cX4_init 47 = .ok (.putfield 25, 3) := dk_181 0 25 (dk_at dksX4_init_2 0 rfl rfl)
theorem dX4_init_50 : decode cX4_init 50 = .ok (.aload_n 0, 1) := dk_42 (dk_at dksX4_init_2 3 rfl rfl)
theorem dX4_init_51 : decode cX4_init 51 = .ok (.bipush 8, 2) := dk_16 8 (dk_at dksX4_init_2 4 rfl rfl)
theorem dX4_init_53 : decode cX4_init 53 = .ok (.newarray .int, 2) := dk_188_10 (dk_at dksX4_init_2 6 rfl rfl)
theorem dX4_init_55 : decode cX4_init 55 = .ok (.putfield 28, 3) := dk_181 0 28 (dk_at dksX4_init_2 8 rfl rfl)
theorem dX4_init_58 : decode cX4_init 58 = .ok (.aload_n 0, 1) := dk_42 (dk_at dksX4_init_2 11 rfl rfl)
theorem dX4_init_59 : decode cX4_init 59 = .ok (.bipush 8, 2) := dk_16 8 (dk_at dksX4_init_2 12 rfl rfl)
theorem dX4_init_61 : decode cX4_init 61 = .ok (.newarray .int, 2) := dk_188_10 (dk_at dksX4_init_2 14 rfl rfl)
theorem dX4_init_63 : decode cX4_init 63 = .ok (.putfield 31, 3) := dk_181 0 31 (dk_at dksX4_init_2 16 rfl rfl)
theorem dX4_init_66 : decode cX4_init 66 = .ok (.aload_n 0, 1) := dk_42 (dk_at dksX4_init_2 19 rfl rfl)
theorem dX4_init_67 : decode cX4_init 67 = .ok (.bipush 8, 2) := dk_16 8 (dk_at dksX4_init_2 20 rfl rfl)
theorem dX4_init_69 : decode cX4_init 69 = .ok (.newarray .int, 2) := dk_188_10 (dk_at dksX4_init_2 22 rfl rfl)
theorem dX4_init_71 : decode cX4_init 71 = .ok (.putfield 34, 3) := dk_181 0 34 (dk_at dksX4_init_3 0 rfl rfl)
theorem dX4_init_74 : decode cX4_init 74 = .ok (.aload_n 0, 1) := dk_42 (dk_at dksX4_init_3 3 rfl rfl)
theorem dX4_init_75 : decode cX4_init 75 = .ok (.bipush 8, 2) := dk_16 8 (dk_at dksX4_init_3 4 rfl rfl)
theorem dX4_init_77 : decode cX4_init 77 = .ok (.newarray .int, 2) := dk_188_10 (dk_at dksX4_init_3 6 rfl rfl)
theorem dX4_init_79 : decode cX4_init 79 = .ok (.putfield 37, 3) := dk_181 0 37 (dk_at dksX4_init_3 8 rfl rfl)
theorem dX4_init_82 : decode cX4_init 82 = .ok (.aload_n 0, 1) := dk_42 (dk_at dksX4_init_3 11 rfl rfl)
theorem dX4_init_83 : decode cX4_init 83 = .ok (.bipush 8, 2) := dk_16 8 (dk_at dksX4_init_3 12 rfl rfl)
theorem dX4_init_85 : decode cX4_init 85 = .ok (.newarray .int, 2) := dk_188_10 (dk_at dksX4_init_3 14 rfl rfl)
theorem dX4_init_87 : decode cX4_init 87 = .ok (.putfield 40, 3) := dk_181 0 40 (dk_at dksX4_init_3 16 rfl rfl)
theorem dX4_init_90 : decode cX4_init 90 = .ok (.aload_n 0, 1) := dk_42 (dk_at dksX4_init_3 19 rfl rfl)
theorem dX4_init_91 : decode cX4_init 91 = .ok (.sipush 800, 3) := dk_17 3 32 (dk_at dksX4_init_3 20 rfl rfl)
theorem dX4_init_94 : decode cX4_init 94 = .ok (.newarray .int, 2) := dk_188_10 (dk_at dksX4_init_4 0 rfl rfl)
theorem dX4_init_96 : decode cX4_init 96 = .ok (.putfield 43, 3) := dk_181 0 43 (dk_at dksX4_init_4 2 rfl rfl)
theorem dX4_init_99 : decode cX4_init 99 = .ok (.iconst 0, 1) := dk_3 (dk_at dksX4_init_4 5 rfl rfl)
theorem dX4_init_100 : decode cX4_init 100 = .ok (.istore_n 1, 1) := dk_60 (dk_at dksX4_init_4 6 rfl rfl)
theorem dX4_init_101 : decode cX4_init 101 = .ok (.iload_n 1, 1) := dk_27 (dk_at dksX4_init_4 7 rfl rfl)
theorem dX4_init_102 : decode cX4_init 102 = .ok (.iconst 4, 1) := dk_7 (dk_at dksX4_init_4 8 rfl rfl)
theorem dX4_init_103 : decode cX4_init 103 = .ok (.if_icmp .ge 42, 3) := dk_162 0 42 (dk_at dksX4_init_4 9 rfl rfl)
theorem dX4_init_106 : decode cX4_init 106 = .ok (.aload_n 0, 1) := dk_42 (dk_at dksX4_init_4 12 rfl rfl)
theorem dX4_init_107 : decode cX4_init 107 = .ok (.getfield 9, 3) := dk_180 0 9 (dk_at dksX4_init_4 13 rfl rfl)
theorem dX4_init_110 : decode cX4_init 110 = .ok (.iload_n 1, 1) := dk_27 (dk_at dksX4_init_4 16 rfl rfl)
theorem dX4_init_111 : decode cX4_init 111 = .ok (.iconst 0, 1) := dk_3 (dk_at dksX4_init_4 17 rfl rfl)
theorem dX4_init_112 : decode cX4_init 112 = .ok (.invokestatic 46, 3) := dk_184 0 46 (dk_at dksX4_init_4 18 rfl rfl)
theorem dX4_init_115 : decode cX4_init 115 = .ok (.iload_n 1, 1) := dk_27 (dk_at dksX4_init_4 21 rfl rfl)
theorem dX4_init_116 : decode cX4_init 116 = .ok (.iconst 2, 1) := dk_5 (dk_at dksX4_init_4 22 rfl rfl)
theorem dX4_init_117 : decode cX4_init 117 = .ok (.irem, 1) := dk_112 (dk_at dksX4_init_4 23 rfl rfl)
theorem dX4_init_118 : decode cX4_init 118 = .ok (.ifCond .ne 7, 3) := dk_154 0 7 (dk_at dksX4_init_5 0 rfl rfl)
theorem dX4_init_121 : decode cX4_init 121 = .ok (.iconst 1, 1) := dk_4 (dk_at dksX4_init_5 3 rfl rfl)
theorem dX4_init_122 : decode cX4_init 122 = .ok (.goto 5, 3) := dk_167 0 5 (dk_at dksX4_init_5 4 rfl rfl)
theorem dX4_init_125 : decode cX4_init 125 = .ok (.bipush 7, 2) := dk_16 7 (dk_at dksX4_init_5 7 rfl rfl)
theorem dX4_init_127 : decode cX4_init 127 = .ok (.iastore, 1) := dk_79 (dk_at dksX4_init_5 9 rfl rfl)
theorem dX4_init_128 : decode cX4_init 128 = .ok (.aload_n 0, 1) := dk_42 (dk_at dksX4_init_5 10 rfl rfl)
theorem dX4_init_129 : decode cX4_init 129 = .ok (.getfield 9, 3) := dk_180 0 9 (dk_at dksX4_init_5 11 rfl rfl)
theorem dX4_init_132 : decode cX4_init 132 = .ok (.iload_n 1, 1) := dk_27 (dk_at dksX4_init_5 14 rfl rfl)
theorem dX4_init_133 : decode cX4_init 133 = .ok (.iconst 1, 1) := dk_4 (dk_at dksX4_init_5 15 rfl rfl)
theorem dX4_init_134 : decode cX4_init 134 = .ok (.invokestatic 46, 3) := dk_184 0 46 (dk_at dksX4_init_5 16 rfl rfl)
theorem dX4_init_137 : decode cX4_init 137 = .ok (.iconst 1, 1) := dk_4 (dk_at dksX4_init_5 19 rfl rfl)
theorem dX4_init_138 : decode cX4_init 138 = .ok (.iastore, 1) := dk_79 (dk_at dksX4_init_5 20 rfl rfl)
theorem dX4_init_139 : decode cX4_init 139 = .ok (.iinc 1 1, 3) := dk_132 1 1 (dk_at dksX4_init_5 21 rfl rfl)
theorem dX4_init_142 : decode cX4_init 142 = .ok (.goto (-41), 3) := dk_167 255 215 (dk_at dksX4_init_6 0 rfl rfl)
theorem dX4_init_145 : decode cX4_init 145 = .ok (.aload_n 0, 1) := dk_42 (dk_at dksX4_init_6 3 rfl rfl)
theorem dX4_init_146 : decode cX4_init 146 = .ok (.getfield 9, 3) := dk_180 0 9 (dk_at dksX4_init_6 4 rfl rfl)
theorem dX4_init_149 : decode cX4_init 149 = .ok (.iconst 0, 1) := dk_3 (dk_at dksX4_init_6 7 rfl rfl)
theorem dX4_init_150 : decode cX4_init 150 = .ok (.iconst 1, 1) := dk_4 (dk_at dksX4_init_6 8 rfl rfl)
theorem dX4_init_151 : decode cX4_init 151 = .ok (.invokestatic 50, 3) := dk_184 0 50 (dk_at dksX4_init_6 9 rfl rfl)
theorem dX4_init_154 : decode cX4_init 154 = .ok (.iconst 1, 1) := dk_4 (dk_at dksX4_init_6 12 rfl rfl)
theorem dX4_init_155 : decode cX4_init 155 = .ok (.iastore, 1) := dk_79 (dk_at dksX4_init_6 13 rfl rfl)
theorem dX4_init_156 : decode cX4_init 156 = .ok (.aload_n 0, 1) := dk_42 (dk_at dksX4_init_6 14 rfl rfl)
theorem dX4_init_157 : decode cX4_init 157 = .ok (.getfield 9, 3) := dk_180 0 9 (dk_at dksX4_init_6 15 rfl rfl)
theorem dX4_init_160 : decode cX4_init 160 = .ok (.iconst 1, 1) := dk_4 (dk_at dksX4_init_6 18 rfl rfl)
theorem dX4_init_161 : decode cX4_init 161 = .ok (.iconst 1, 1) := dk_4 (dk_at dksX4_init_6 19 rfl rfl)
theorem dX4_init_162 : decode cX4_init 162 = .ok (.invokestatic 50, 3) := dk_184 0 50 (dk_at dksX4_init_6 20 rfl rfl)
theorem dX4_init_165 : decode cX4_init 165 = .ok (.iconst 1, 1) := dk_4 (dk_at dksX4_init_6 23 rfl rfl)
theorem dX4_init_166 : decode cX4_init 166 = .ok (.iastore, 1) := dk_79 (dk_at dksX4_init_7 0 rfl rfl)
theorem dX4_init_167 : decode cX4_init 167 = .ok (.return_, 1) := dk_177 (dk_at dksX4_init_7 1 rfl rfl)
abbrev cX4_ofP : ByteArray := prog_21_method_6_code
def yX4_ofP : MethodName := ⟨RX4, "ofP", "(II)I"⟩
def dkwX4_ofP_0 : List UInt8 := [16, 20, 7, 26, 104, 96, 27, 96, 172]
abbrev dktX4_ofP_0 : List UInt8 := dkwX4_ofP_0 ++ []
theorem dksX4_ofP_0 : cX4_ofP.data.toList.drop 0 = dktX4_ofP_0 := by decide +kernel
theorem dX4_ofP_0 : decode cX4_ofP 0 = .ok (.bipush 20, 2) := dk_16 20 (dk_at dksX4_ofP_0 0 rfl rfl)
theorem dX4_ofP_2 : decode cX4_ofP 2 = .ok (.iconst 4, 1) := dk_7 (dk_at dksX4_ofP_0 2 rfl rfl)
theorem dX4_ofP_3 : decode cX4_ofP 3 = .ok (.iload_n 0, 1) := dk_26 (dk_at dksX4_ofP_0 3 rfl rfl)
theorem dX4_ofP_4 : decode cX4_ofP 4 = .ok (.imul, 1) := dk_104 (dk_at dksX4_ofP_0 4 rfl rfl)
theorem dX4_ofP_5 : decode cX4_ofP 5 = .ok (.iadd, 1) := dk_96 (dk_at dksX4_ofP_0 5 rfl rfl)
theorem dX4_ofP_6 : decode cX4_ofP 6 = .ok (.iload_n 1, 1) := dk_27 (dk_at dksX4_ofP_0 6 rfl rfl)
theorem dX4_ofP_7 : decode cX4_ofP 7 = .ok (.iadd, 1) := dk_96 (dk_at dksX4_ofP_0 7 rfl rfl)
theorem dX4_ofP_8 : decode cX4_ofP 8 = .ok (.ireturn, 1) := dk_172 (dk_at dksX4_ofP_0 8 rfl rfl)
abbrev cX4_ofSide : ByteArray := prog_21_method_7_code
def yX4_ofSide : MethodName := ⟨RX4, "ofSide", "(II)I"⟩
def dkwX4_ofSide_0 : List UInt8 := [16, 36, 6, 26, 104, 96, 27, 96, 172]
abbrev dktX4_ofSide_0 : List UInt8 := dkwX4_ofSide_0 ++ []
theorem dksX4_ofSide_0 : cX4_ofSide.data.toList.drop 0 = dktX4_ofSide_0 := by decide +kernel
theorem dX4_ofSide_0 : decode cX4_ofSide 0 = .ok (.bipush 36, 2) := dk_16 36 (dk_at dksX4_ofSide_0 0 rfl rfl)
theorem dX4_ofSide_2 : decode cX4_ofSide 2 = .ok (.iconst 3, 1) := dk_6 (dk_at dksX4_ofSide_0 2 rfl rfl)
theorem dX4_ofSide_3 : decode cX4_ofSide 3 = .ok (.iload_n 0, 1) := dk_26 (dk_at dksX4_ofSide_0 3 rfl rfl)
theorem dX4_ofSide_4 : decode cX4_ofSide 4 = .ok (.imul, 1) := dk_104 (dk_at dksX4_ofSide_0 4 rfl rfl)
theorem dX4_ofSide_5 : decode cX4_ofSide 5 = .ok (.iadd, 1) := dk_96 (dk_at dksX4_ofSide_0 5 rfl rfl)
theorem dX4_ofSide_6 : decode cX4_ofSide 6 = .ok (.iload_n 1, 1) := dk_27 (dk_at dksX4_ofSide_0 6 rfl rfl)
theorem dX4_ofSide_7 : decode cX4_ofSide 7 = .ok (.iadd, 1) := dk_96 (dk_at dksX4_ofSide_0 7 rfl rfl)
theorem dX4_ofSide_8 : decode cX4_ofSide 8 = .ok (.ireturn, 1) := dk_172 (dk_at dksX4_ofSide_0 8 rfl rfl)
abbrev cX4_court : ByteArray := prog_21_method_35_code
def yX4_court : MethodName := ⟨RX4, "court", "(I)I"⟩
def dkwX4_court_7 : List UInt8 := [167, 255, 191, 21, 4, 154, 0, 7, 29, 167, 0, 5, 21, 4, 172]
abbrev dktX4_court_7 : List UInt8 := dkwX4_court_7 ++ []
def dkwX4_court_6 : List UInt8 := [167, 255, 213, 17, 248, 48, 21, 5, 100, 54, 4, 42, 180, 0, 19, 42, 180, 0, 9, 184, 0, 158]
abbrev dktX4_court_6 : List UInt8 := dkwX4_court_6 ++ dktX4_court_7
def dkwX4_court_5 : List UInt8 := [54, 5, 42, 182, 0, 123, 54, 6, 42, 182, 0, 155, 54, 7, 42, 21, 6, 182, 0, 162, 153, 0, 6]
abbrev dktX4_court_5 : List UInt8 := dkwX4_court_5 ++ dktX4_court_6
def dkwX4_court_4 : List UInt8 := [181, 0, 113, 21, 4, 154, 0, 66, 42, 180, 0, 113, 42, 180, 0, 117, 162, 0, 55, 42, 180, 0, 113]
abbrev dktX4_court_4 : List UInt8 := dkwX4_court_4 ++ dktX4_court_5
def dkwX4_court_3 : List UInt8 := [180, 0, 113, 42, 180, 0, 117, 161, 255, 223, 42, 180, 0, 9, 42, 180, 0, 19, 184, 0, 158, 42, 3]
abbrev dktX4_court_3 : List UInt8 := dkwX4_court_3 ++ dktX4_court_4
def dkwX4_court_2 : List UInt8 := [154, 0, 13, 17, 252, 24, 42, 180, 0, 113, 100, 54, 4, 132, 3, 1, 21, 4, 154, 0, 14, 42]
abbrev dktX4_court_2 : List UInt8 := dkwX4_court_2 ++ dktX4_court_3
def dkwX4_court_1 : List UInt8 := [180, 0, 40, 27, 46, 181, 0, 117, 42, 3, 181, 0, 113, 3, 62, 3, 54, 4, 42, 182, 0, 155]
abbrev dktX4_court_1 : List UInt8 := dkwX4_court_1 ++ dktX4_court_2
def dkwX4_court_0 : List UInt8 := [42, 27, 3, 182, 0, 152, 61, 28, 153, 0, 5, 28, 172, 42, 16, 100, 27, 104, 181, 0, 120, 42, 42]
abbrev dktX4_court_0 : List UInt8 := dkwX4_court_0 ++ dktX4_court_1
theorem dksX4_court_0 : cX4_court.data.toList.drop 0 = dktX4_court_0 := by decide +kernel
theorem dksX4_court_1 : cX4_court.data.toList.drop 23 = dktX4_court_1 := dk_seg dksX4_court_0 23 rfl rfl
theorem dksX4_court_2 : cX4_court.data.toList.drop 45 = dktX4_court_2 := dk_seg dksX4_court_1 22 rfl rfl
theorem dksX4_court_3 : cX4_court.data.toList.drop 67 = dktX4_court_3 := dk_seg dksX4_court_2 22 rfl rfl
theorem dksX4_court_4 : cX4_court.data.toList.drop 90 = dktX4_court_4 := dk_seg dksX4_court_3 23 rfl rfl
theorem dksX4_court_5 : cX4_court.data.toList.drop 113 = dktX4_court_5 := dk_seg dksX4_court_4 23 rfl rfl
theorem dksX4_court_6 : cX4_court.data.toList.drop 136 = dktX4_court_6 := dk_seg dksX4_court_5 23 rfl rfl
theorem dksX4_court_7 : cX4_court.data.toList.drop 158 = dktX4_court_7 := dk_seg dksX4_court_6 22 rfl rfl
theorem dX4_court_0 : decode cX4_court 0 = .ok (.aload_n 0, 1) := dk_42 (dk_at dksX4_court_0 0 rfl rfl)
theorem dX4_court_1 : decode cX4_court 1 = .ok (.iload_n 1, 1) := dk_27 (dk_at dksX4_court_0 1 rfl rfl)
theorem dX4_court_2 : decode cX4_court 2 = .ok (.iconst 0, 1) := dk_3 (dk_at dksX4_court_0 2 rfl rfl)
theorem dX4_court_3 : decode cX4_court 3 = .ok (.invokevirtual 152, 3) := dk_182 0 152 (dk_at dksX4_court_0 3 rfl rfl)
theorem dX4_court_6 : decode cX4_court 6 = .ok (.istore_n 2, 1) := dk_61 (dk_at dksX4_court_0 6 rfl rfl)
theorem dX4_court_7 : decode cX4_court 7 = .ok (.iload_n 2, 1) := dk_28 (dk_at dksX4_court_0 7 rfl rfl)
theorem dX4_court_8 : decode cX4_court 8 = .ok (.ifCond .eq 5, 3) := dk_153 0 5 (dk_at dksX4_court_0 8 rfl rfl)
theorem dX4_court_11 : decode cX4_court 11 = .ok (.iload_n 2, 1) := dk_28 (dk_at dksX4_court_0 11 rfl rfl)
theorem dX4_court_12 : decode cX4_court 12 = .ok (.ireturn, 1) := dk_172 (dk_at dksX4_court_0 12 rfl rfl)
theorem dX4_court_13 : decode cX4_court 13 = .ok (.aload_n 0, 1) := dk_42 (dk_at dksX4_court_0 13 rfl rfl)
theorem dX4_court_14 : decode cX4_court 14 = .ok (.bipush 100, 2) := dk_16 100 (dk_at dksX4_court_0 14 rfl rfl)
theorem dX4_court_16 : decode cX4_court 16 = .ok (.iload_n 1, 1) := dk_27 (dk_at dksX4_court_0 16 rfl rfl)
theorem dX4_court_17 : decode cX4_court 17 = .ok (.imul, 1) := dk_104 (dk_at dksX4_court_0 17 rfl rfl)
theorem dX4_court_18 : decode cX4_court 18 = .ok (.putfield 120, 3) := dk_181 0 120 (dk_at dksX4_court_0 18 rfl rfl)
theorem dX4_court_21 : decode cX4_court 21 = .ok (.aload_n 0, 1) := dk_42 (dk_at dksX4_court_0 21 rfl rfl)
theorem dX4_court_22 : decode cX4_court 22 = .ok (.aload_n 0, 1) := dk_42 (dk_at dksX4_court_0 22 rfl rfl)
theorem dX4_court_23 : decode cX4_court 23 = .ok (.getfield 40, 3) := dk_180 0 40 (dk_at dksX4_court_1 0 rfl rfl)
theorem dX4_court_26 : decode cX4_court 26 = .ok (.iload_n 1, 1) := dk_27 (dk_at dksX4_court_1 3 rfl rfl)
theorem dX4_court_27 : decode cX4_court 27 = .ok (.iaload, 1) := dk_46 (dk_at dksX4_court_1 4 rfl rfl)
theorem dX4_court_28 : decode cX4_court 28 = .ok (.putfield 117, 3) := dk_181 0 117 (dk_at dksX4_court_1 5 rfl rfl)
theorem dX4_court_31 : decode cX4_court 31 = .ok (.aload_n 0, 1) := dk_42 (dk_at dksX4_court_1 8 rfl rfl)
theorem dX4_court_32 : decode cX4_court 32 = .ok (.iconst 0, 1) := dk_3 (dk_at dksX4_court_1 9 rfl rfl)
theorem dX4_court_33 : decode cX4_court 33 = .ok (.putfield 113, 3) := dk_181 0 113 (dk_at dksX4_court_1 10 rfl rfl)
theorem dX4_court_36 : decode cX4_court 36 = .ok (.iconst 0, 1) := dk_3 (dk_at dksX4_court_1 13 rfl rfl)
theorem dX4_court_37 : decode cX4_court 37 = .ok (.istore_n 3, 1) := dk_62 (dk_at dksX4_court_1 14 rfl rfl)
theorem dX4_court_38 : decode cX4_court 38 = .ok (.iconst 0, 1) := dk_3 (dk_at dksX4_court_1 15 rfl rfl)
theorem dX4_court_39 : decode cX4_court 39 = .ok (.istore 4, 2) := dk_54 4 (dk_at dksX4_court_1 16 rfl rfl)
theorem dX4_court_41 : decode cX4_court 41 = .ok (.aload_n 0, 1) := dk_42 (dk_at dksX4_court_1 18 rfl rfl)
theorem dX4_court_42 : decode cX4_court 42 = .ok (.invokevirtual 155, 3) := dk_182 0 155 (dk_at dksX4_court_1 19 rfl rfl)
theorem dX4_court_45 : decode cX4_court 45 = .ok (.ifCond .ne 13, 3) := dk_154 0 13 (dk_at dksX4_court_2 0 rfl rfl)
theorem dX4_court_48 : decode cX4_court 48 = .ok (.sipush (-1000), 3) := dk_17 252 24 (dk_at dksX4_court_2 3 rfl rfl)
theorem dX4_court_51 : decode cX4_court 51 = .ok (.aload_n 0, 1) := dk_42 (dk_at dksX4_court_2 6 rfl rfl)
theorem dX4_court_52 : decode cX4_court 52 = .ok (.getfield 113, 3) := dk_180 0 113 (dk_at dksX4_court_2 7 rfl rfl)
theorem dX4_court_55 : decode cX4_court 55 = .ok (.isub, 1) := dk_100 (dk_at dksX4_court_2 10 rfl rfl)
theorem dX4_court_56 : decode cX4_court 56 = .ok (.istore 4, 2) := dk_54 4 (dk_at dksX4_court_2 11 rfl rfl)
theorem dX4_court_58 : decode cX4_court 58 = .ok (.iinc 3 1, 3) := dk_132 3 1 (dk_at dksX4_court_2 13 rfl rfl)
theorem dX4_court_61 : decode cX4_court 61 = .ok (.iload 4, 2) := dk_21 4 (dk_at dksX4_court_2 16 rfl rfl)
theorem dX4_court_63 : decode cX4_court 63 = .ok (.ifCond .ne 14, 3) := dk_154 0 14 (dk_at dksX4_court_2 18 rfl rfl)
theorem dX4_court_66 : decode cX4_court 66 = .ok (.aload_n 0, 1) := dk_42 (dk_at dksX4_court_2 21 rfl rfl)
theorem dX4_court_67 : decode cX4_court 67 = .ok (.getfield 113, 3) := dk_180 0 113 (dk_at dksX4_court_3 0 rfl rfl)
theorem dX4_court_70 : decode cX4_court 70 = .ok (.aload_n 0, 1) := dk_42 (dk_at dksX4_court_3 3 rfl rfl)
theorem dX4_court_71 : decode cX4_court 71 = .ok (.getfield 117, 3) := dk_180 0 117 (dk_at dksX4_court_3 4 rfl rfl)
theorem dX4_court_74 : decode cX4_court 74 = .ok (.if_icmp .lt (-33), 3) := dk_161 255 223 (dk_at dksX4_court_3 7 rfl rfl)
theorem dX4_court_77 : decode cX4_court 77 = .ok (.aload_n 0, 1) := dk_42 (dk_at dksX4_court_3 10 rfl rfl)
theorem dX4_court_78 : decode cX4_court 78 = .ok (.getfield 9, 3) := dk_180 0 9 (dk_at dksX4_court_3 11 rfl rfl)
theorem dX4_court_81 : decode cX4_court 81 = .ok (.aload_n 0, 1) := dk_42 (dk_at dksX4_court_3 14 rfl rfl)
theorem dX4_court_82 : decode cX4_court 82 = .ok (.getfield 19, 3) := dk_180 0 19 (dk_at dksX4_court_3 15 rfl rfl)
theorem dX4_court_85 : decode cX4_court 85 = .ok (.invokestatic 158, 3) := dk_184 0 158 (dk_at dksX4_court_3 18 rfl rfl)
theorem dX4_court_88 : decode cX4_court 88 = .ok (.aload_n 0, 1) := dk_42 (dk_at dksX4_court_3 21 rfl rfl)
theorem dX4_court_89 : decode cX4_court 89 = .ok (.iconst 0, 1) := dk_3 (dk_at dksX4_court_3 22 rfl rfl)
theorem dX4_court_90 : decode cX4_court 90 = .ok (.putfield 113, 3) := dk_181 0 113 (dk_at dksX4_court_4 0 rfl rfl)
theorem dX4_court_93 : decode cX4_court 93 = .ok (.iload 4, 2) := dk_21 4 (dk_at dksX4_court_4 3 rfl rfl)
theorem dX4_court_95 : decode cX4_court 95 = .ok (.ifCond .ne 66, 3) := dk_154 0 66 (dk_at dksX4_court_4 5 rfl rfl)
theorem dX4_court_98 : decode cX4_court 98 = .ok (.aload_n 0, 1) := dk_42 (dk_at dksX4_court_4 8 rfl rfl)
theorem dX4_court_99 : decode cX4_court 99 = .ok (.getfield 113, 3) := dk_180 0 113 (dk_at dksX4_court_4 9 rfl rfl)
theorem dX4_court_102 : decode cX4_court 102 = .ok (.aload_n 0, 1) := dk_42 (dk_at dksX4_court_4 12 rfl rfl)
theorem dX4_court_103 : decode cX4_court 103 = .ok (.getfield 117, 3) := dk_180 0 117 (dk_at dksX4_court_4 13 rfl rfl)
theorem dX4_court_106 : decode cX4_court 106 = .ok (.if_icmp .ge 55, 3) := dk_162 0 55 (dk_at dksX4_court_4 16 rfl rfl)
theorem dX4_court_109 : decode cX4_court 109 = .ok (.aload_n 0, 1) := dk_42 (dk_at dksX4_court_4 19 rfl rfl)
theorem dX4_court_110 : decode cX4_court 110 = .ok (.getfield 113, 3) := dk_180 0 113 (dk_at dksX4_court_4 20 rfl rfl)
theorem dX4_court_113 : decode cX4_court 113 = .ok (.istore 5, 2) := dk_54 5 (dk_at dksX4_court_5 0 rfl rfl)
theorem dX4_court_115 : decode cX4_court 115 = .ok (.aload_n 0, 1) := dk_42 (dk_at dksX4_court_5 2 rfl rfl)
theorem dX4_court_116 : decode cX4_court 116 = .ok (.invokevirtual 123, 3) := dk_182 0 123 (dk_at dksX4_court_5 3 rfl rfl)
theorem dX4_court_119 : decode cX4_court 119 = .ok (.istore 6, 2) := dk_54 6 (dk_at dksX4_court_5 6 rfl rfl)
theorem dX4_court_121 : decode cX4_court 121 = .ok (.aload_n 0, 1) := dk_42 (dk_at dksX4_court_5 8 rfl rfl)
theorem dX4_court_122 : decode cX4_court 122 = .ok (.invokevirtual 155, 3) := dk_182 0 155 (dk_at dksX4_court_5 9 rfl rfl)
theorem dX4_court_125 : decode cX4_court 125 = .ok (.istore 7, 2) := dk_54 7 (dk_at dksX4_court_5 12 rfl rfl)
theorem dX4_court_127 : decode cX4_court 127 = .ok (.aload_n 0, 1) := dk_42 (dk_at dksX4_court_5 14 rfl rfl)
theorem dX4_court_128 : decode cX4_court 128 = .ok (.iload 6, 2) := dk_21 6 (dk_at dksX4_court_5 15 rfl rfl)
theorem dX4_court_130 : decode cX4_court 130 = .ok (.invokevirtual 162, 3) := dk_182 0 162 (dk_at dksX4_court_5 17 rfl rfl)
theorem dX4_court_133 : decode cX4_court 133 = .ok (.ifCond .eq 6, 3) := dk_153 0 6 (dk_at dksX4_court_5 20 rfl rfl)
theorem dX4_court_136 : decode cX4_court 136 = .ok (.goto (-43), 3) := dk_167 255 213 (dk_at dksX4_court_6 0 rfl rfl)
theorem dX4_court_139 : decode cX4_court 139 = .ok (.sipush (-2000), 3) := dk_17 248 48 (dk_at dksX4_court_6 3 rfl rfl)
theorem dX4_court_142 : decode cX4_court 142 = .ok (.iload 5, 2) := dk_21 5 (dk_at dksX4_court_6 6 rfl rfl)
theorem dX4_court_144 : decode cX4_court 144 = .ok (.isub, 1) := dk_100 (dk_at dksX4_court_6 8 rfl rfl)
theorem dX4_court_145 : decode cX4_court 145 = .ok (.istore 4, 2) := dk_54 4 (dk_at dksX4_court_6 9 rfl rfl)
theorem dX4_court_147 : decode cX4_court 147 = .ok (.aload_n 0, 1) := dk_42 (dk_at dksX4_court_6 11 rfl rfl)
theorem dX4_court_148 : decode cX4_court 148 = .ok (.getfield 19, 3) := dk_180 0 19 (dk_at dksX4_court_6 12 rfl rfl)
theorem dX4_court_151 : decode cX4_court 151 = .ok (.aload_n 0, 1) := dk_42 (dk_at dksX4_court_6 15 rfl rfl)
theorem dX4_court_152 : decode cX4_court 152 = .ok (.getfield 9, 3) := dk_180 0 9 (dk_at dksX4_court_6 16 rfl rfl)
theorem dX4_court_155 : decode cX4_court 155 = .ok (.invokestatic 158, 3) := dk_184 0 158 (dk_at dksX4_court_6 19 rfl rfl)
theorem dX4_court_158 : decode cX4_court 158 = .ok (.goto (-65), 3) := dk_167 255 191 (dk_at dksX4_court_7 0 rfl rfl)
theorem dX4_court_161 : decode cX4_court 161 = .ok (.iload 4, 2) := dk_21 4 (dk_at dksX4_court_7 3 rfl rfl)
theorem dX4_court_163 : decode cX4_court 163 = .ok (.ifCond .ne 7, 3) := dk_154 0 7 (dk_at dksX4_court_7 5 rfl rfl)
theorem dX4_court_166 : decode cX4_court 166 = .ok (.iload_n 3, 1) := dk_29 (dk_at dksX4_court_7 8 rfl rfl)
theorem dX4_court_167 : decode cX4_court 167 = .ok (.goto 5, 3) := dk_167 0 5 (dk_at dksX4_court_7 9 rfl rfl)
theorem dX4_court_170 : decode cX4_court 170 = .ok (.iload 4, 2) := dk_21 4 (dk_at dksX4_court_7 12 rfl rfl)
theorem dX4_court_172 : decode cX4_court 172 = .ok (.ireturn, 1) := dk_172 (dk_at dksX4_court_7 14 rfl rfl)
abbrev cX4_wrongRow : ByteArray := prog_21_method_93_code
def yX4_wrongRow : MethodName := ⟨RX4, "wrongRow", "(II)I"⟩
def dkwX4_wrongRow_2 : List UInt8 := [159, 0, 8, 16, 244, 167, 0, 4, 3, 172]
abbrev dktX4_wrongRow_2 : List UInt8 := dkwX4_wrongRow_2 ++ []
def dkwX4_wrongRow_1 : List UInt8 := [167, 0, 33, 42, 180, 0, 28, 27, 46, 5, 160, 0, 17, 28, 155, 0, 18, 42, 180, 0, 37, 27, 46, 28]
abbrev dktX4_wrongRow_1 : List UInt8 := dkwX4_wrongRow_1 ++ dktX4_wrongRow_2
def dkwX4_wrongRow_0 : List UInt8 := [27, 184, 1, 7, 154, 0, 7, 2, 167, 0, 47, 42, 180, 0, 28, 27, 46, 154, 0, 8, 16, 245]
abbrev dktX4_wrongRow_0 : List UInt8 := dkwX4_wrongRow_0 ++ dktX4_wrongRow_1
theorem dksX4_wrongRow_0 : cX4_wrongRow.data.toList.drop 0 = dktX4_wrongRow_0 := by decide +kernel
theorem dksX4_wrongRow_1 : cX4_wrongRow.data.toList.drop 22 = dktX4_wrongRow_1 := dk_seg dksX4_wrongRow_0 22 rfl rfl
theorem dksX4_wrongRow_2 : cX4_wrongRow.data.toList.drop 46 = dktX4_wrongRow_2 := dk_seg dksX4_wrongRow_1 24 rfl rfl
theorem dX4_wrongRow_0 : decode cX4_wrongRow 0 = .ok (.iload_n 1, 1) := dk_27 (dk_at dksX4_wrongRow_0 0 rfl rfl)
theorem dX4_wrongRow_1 : decode cX4_wrongRow 1 = .ok (.invokestatic 263, 3) := dk_184 1 7 (dk_at dksX4_wrongRow_0 1 rfl rfl)
theorem dX4_wrongRow_4 : decode cX4_wrongRow 4 = .ok (.ifCond .ne 7, 3) := dk_154 0 7 (dk_at dksX4_wrongRow_0 4 rfl rfl)
theorem dX4_wrongRow_7 : decode cX4_wrongRow 7 = .ok (.iconst (-1), 1) := dk_2 (dk_at dksX4_wrongRow_0 7 rfl rfl)
theorem dX4_wrongRow_8 : decode cX4_wrongRow 8 = .ok (.goto 47, 3) := dk_167 0 47 (dk_at dksX4_wrongRow_0 8 rfl rfl)
theorem dX4_wrongRow_11 : decode cX4_wrongRow 11 = .ok (.aload_n 0, 1) := dk_42 (dk_at dksX4_wrongRow_0 11 rfl rfl)
theorem dX4_wrongRow_12 : decode cX4_wrongRow 12 = .ok (.getfield 28, 3) := dk_180 0 28 (dk_at dksX4_wrongRow_0 12 rfl rfl)
theorem dX4_wrongRow_15 : decode cX4_wrongRow 15 = .ok (.iload_n 1, 1) := dk_27 (dk_at dksX4_wrongRow_0 15 rfl rfl)
theorem dX4_wrongRow_16 : decode cX4_wrongRow 16 = .ok (.iaload, 1) := dk_46 (dk_at dksX4_wrongRow_0 16 rfl rfl)
theorem dX4_wrongRow_17 : decode cX4_wrongRow 17 = .ok (.ifCond .ne 8, 3) := dk_154 0 8 (dk_at dksX4_wrongRow_0 17 rfl rfl)
theorem dX4_wrongRow_20 : decode cX4_wrongRow 20 = .ok (.bipush (-11), 2) := dk_16 245 (dk_at dksX4_wrongRow_0 20 rfl rfl)
theorem dX4_wrongRow_22 : decode cX4_wrongRow 22 = .ok (.goto 33, 3) := dk_167 0 33 (dk_at dksX4_wrongRow_1 0 rfl rfl)
theorem dX4_wrongRow_25 : decode cX4_wrongRow 25 = .ok (.aload_n 0, 1) := dk_42 (dk_at dksX4_wrongRow_1 3 rfl rfl)
theorem dX4_wrongRow_26 : decode cX4_wrongRow 26 = .ok (.getfield 28, 3) := dk_180 0 28 (dk_at dksX4_wrongRow_1 4 rfl rfl)
theorem dX4_wrongRow_29 : decode cX4_wrongRow 29 = .ok (.iload_n 1, 1) := dk_27 (dk_at dksX4_wrongRow_1 7 rfl rfl)
theorem dX4_wrongRow_30 : decode cX4_wrongRow 30 = .ok (.iaload, 1) := dk_46 (dk_at dksX4_wrongRow_1 8 rfl rfl)
theorem dX4_wrongRow_31 : decode cX4_wrongRow 31 = .ok (.iconst 2, 1) := dk_5 (dk_at dksX4_wrongRow_1 9 rfl rfl)
theorem dX4_wrongRow_32 : decode cX4_wrongRow 32 = .ok (.if_icmp .ne 17, 3) := dk_160 0 17 (dk_at dksX4_wrongRow_1 10 rfl rfl)
theorem dX4_wrongRow_35 : decode cX4_wrongRow 35 = .ok (.iload_n 2, 1) := dk_28 (dk_at dksX4_wrongRow_1 13 rfl rfl)
theorem dX4_wrongRow_36 : decode cX4_wrongRow 36 = .ok (.ifCond .lt 18, 3) := dk_155 0 18 (dk_at dksX4_wrongRow_1 14 rfl rfl)
theorem dX4_wrongRow_39 : decode cX4_wrongRow 39 = .ok (.aload_n 0, 1) := dk_42 (dk_at dksX4_wrongRow_1 17 rfl rfl)
theorem dX4_wrongRow_40 : decode cX4_wrongRow 40 = .ok (.getfield 37, 3) := dk_180 0 37 (dk_at dksX4_wrongRow_1 18 rfl rfl)
theorem dX4_wrongRow_43 : decode cX4_wrongRow 43 = .ok (.iload_n 1, 1) := dk_27 (dk_at dksX4_wrongRow_1 21 rfl rfl)
theorem dX4_wrongRow_44 : decode cX4_wrongRow 44 = .ok (.iaload, 1) := dk_46 (dk_at dksX4_wrongRow_1 22 rfl rfl)
theorem dX4_wrongRow_45 : decode cX4_wrongRow 45 = .ok (.iload_n 2, 1) := dk_28 (dk_at dksX4_wrongRow_1 23 rfl rfl)
theorem dX4_wrongRow_46 : decode cX4_wrongRow 46 = .ok (.if_icmp .eq 8, 3) := dk_159 0 8 (dk_at dksX4_wrongRow_2 0 rfl rfl)
theorem dX4_wrongRow_49 : decode cX4_wrongRow 49 = .ok (.bipush (-12), 2) := dk_16 244 (dk_at dksX4_wrongRow_2 3 rfl rfl)
theorem dX4_wrongRow_51 : decode cX4_wrongRow 51 = .ok (.goto 4, 3) := dk_167 0 4 (dk_at dksX4_wrongRow_2 5 rfl rfl)
theorem dX4_wrongRow_54 : decode cX4_wrongRow 54 = .ok (.iconst 0, 1) := dk_3 (dk_at dksX4_wrongRow_2 8 rfl rfl)
theorem dX4_wrongRow_55 : decode cX4_wrongRow 55 = .ok (.ireturn, 1) := dk_172 (dk_at dksX4_wrongRow_2 9 rfl rfl)
abbrev cX4_isShelf : ByteArray := prog_21_method_92_code
def yX4_isShelf : MethodName := ⟨RX4, "isShelf", "(I)Z"⟩
def dkwX4_isShelf_0 : List UInt8 := [26, 3, 16, 7, 184, 0, 53, 172]
abbrev dktX4_isShelf_0 : List UInt8 := dkwX4_isShelf_0 ++ []
theorem dksX4_isShelf_0 : cX4_isShelf.data.toList.drop 0 = dktX4_isShelf_0 := by decide +kernel
theorem dX4_isShelf_0 : decode cX4_isShelf 0 = .ok (.iload_n 0, 1) := dk_26 (dk_at dksX4_isShelf_0 0 rfl rfl)
theorem dX4_isShelf_1 : decode cX4_isShelf 1 = .ok (.iconst 0, 1) := dk_3 (dk_at dksX4_isShelf_0 1 rfl rfl)
theorem dX4_isShelf_2 : decode cX4_isShelf 2 = .ok (.bipush 7, 2) := dk_16 7 (dk_at dksX4_isShelf_0 2 rfl rfl)
theorem dX4_isShelf_4 : decode cX4_isShelf 4 = .ok (.invokestatic 53, 3) := dk_184 0 53 (dk_at dksX4_isShelf_0 4 rfl rfl)
theorem dX4_isShelf_7 : decode cX4_isShelf 7 = .ok (.ireturn, 1) := dk_172 (dk_at dksX4_isShelf_0 7 rfl rfl)
abbrev cX4_isIn : ByteArray := prog_21_method_2_code
def yX4_isIn : MethodName := ⟨RX4, "isIn", "(III)Z"⟩
def dkwX4_isIn_0 : List UInt8 := [26, 27, 161, 0, 12, 26, 28, 163, 0, 7, 4, 167, 0, 4, 3, 172]
abbrev dktX4_isIn_0 : List UInt8 := dkwX4_isIn_0 ++ []
theorem dksX4_isIn_0 : cX4_isIn.data.toList.drop 0 = dktX4_isIn_0 := by decide +kernel
theorem dX4_isIn_0 : decode cX4_isIn 0 = .ok (.iload_n 0, 1) := dk_26 (dk_at dksX4_isIn_0 0 rfl rfl)
theorem dX4_isIn_1 : decode cX4_isIn 1 = .ok (.iload_n 1, 1) := dk_27 (dk_at dksX4_isIn_0 1 rfl rfl)
theorem dX4_isIn_2 : decode cX4_isIn 2 = .ok (.if_icmp .lt 12, 3) := dk_161 0 12 (dk_at dksX4_isIn_0 2 rfl rfl)
theorem dX4_isIn_5 : decode cX4_isIn 5 = .ok (.iload_n 0, 1) := dk_26 (dk_at dksX4_isIn_0 5 rfl rfl)
theorem dX4_isIn_6 : decode cX4_isIn 6 = .ok (.iload_n 2, 1) := dk_28 (dk_at dksX4_isIn_0 6 rfl rfl)
theorem dX4_isIn_7 : decode cX4_isIn 7 = .ok (.if_icmp .gt 7, 3) := dk_163 0 7 (dk_at dksX4_isIn_0 7 rfl rfl)
theorem dX4_isIn_10 : decode cX4_isIn 10 = .ok (.iconst 1, 1) := dk_4 (dk_at dksX4_isIn_0 10 rfl rfl)
theorem dX4_isIn_11 : decode cX4_isIn 11 = .ok (.goto 4, 3) := dk_167 0 4 (dk_at dksX4_isIn_0 11 rfl rfl)
theorem dX4_isIn_14 : decode cX4_isIn 14 = .ok (.iconst 0, 1) := dk_3 (dk_at dksX4_isIn_0 14 rfl rfl)
theorem dX4_isIn_15 : decode cX4_isIn 15 = .ok (.ireturn, 1) := dk_172 (dk_at dksX4_isIn_0 15 rfl rfl)
abbrev cX4_readsStatement : ByteArray := prog_21_method_31_code
def yX4_readsStatement : MethodName := ⟨RX4, "readsStatement", "()Z"⟩
def dkwX4_readsStatement_7 : List UInt8 := [16, 59, 159, 0, 5, 3, 172, 42, 89, 180, 0, 113, 4, 96, 181, 0, 113, 4, 172]
abbrev dktX4_readsStatement_7 : List UInt8 := dkwX4_readsStatement_7 ++ []
def dkwX4_readsStatement_6 : List UInt8 := [61, 167, 0, 15, 42, 89, 180, 0, 113, 4, 100, 181, 0, 113, 3, 172, 28, 153, 0, 12, 42, 182, 0, 123]
abbrev dktX4_readsStatement_6 : List UInt8 := dkwX4_readsStatement_6 ++ dktX4_readsStatement_7
def dkwX4_readsStatement_5 : List UInt8 := [42, 4, 5, 182, 0, 127, 153, 0, 7, 4, 167, 0, 4, 3, 61, 167, 0, 25, 42, 3, 4, 182, 0, 127]
abbrev dktX4_readsStatement_5 : List UInt8 := dkwX4_readsStatement_5 ++ dktX4_readsStatement_6
def dkwX4_readsStatement_4 : List UInt8 := [182, 0, 127, 153, 0, 7, 4, 167, 0, 4, 3, 61, 167, 0, 52, 42, 3, 4, 182, 0, 127, 153, 0, 16]
abbrev dktX4_readsStatement_4 : List UInt8 := dkwX4_readsStatement_4 ++ dktX4_readsStatement_5
def dkwX4_readsStatement_3 : List UInt8 := [167, 0, 88, 42, 3, 4, 182, 0, 127, 153, 0, 25, 42, 4, 4, 182, 0, 127, 153, 0, 16, 42, 5, 4]
abbrev dktX4_readsStatement_3 : List UInt8 := dkwX4_readsStatement_3 ++ dktX4_readsStatement_4
def dkwX4_readsStatement_2 : List UInt8 := [42, 3, 4, 182, 0, 127, 153, 0, 16, 42, 4, 4, 182, 0, 127, 153, 0, 7, 4, 167, 0, 4, 3, 61]
abbrev dktX4_readsStatement_2 : List UInt8 := dkwX4_readsStatement_2 ++ dktX4_readsStatement_3
def dkwX4_readsStatement_1 : List UInt8 := [170, 0, 0, 0, 0, 0, 0, 208, 0, 0, 0, 98, 0, 0, 0, 120, 0, 0, 0, 108, 0, 0, 0, 208, 0, 0, 0, 198, 0, 0, 0, 208, 0, 0, 0, 108, 0, 0, 0, 208, 0, 0, 0, 108, 0, 0, 0, 208, 0, 0, 0, 208, 0, 0, 0, 208, 0, 0, 0, 198, 0, 0, 0, 208, 0, 0, 0, 208, 0, 0, 0, 208, 0, 0, 0, 135, 0, 0, 0, 208, 0, 0, 0, 208, 0, 0, 0, 208, 0, 0, 0, 171, 0, 0, 0, 208, 0, 0, 0, 208, 0, 0, 0, 208, 0, 0, 0, 108]
abbrev dktX4_readsStatement_1 : List UInt8 := dkwX4_readsStatement_1 ++ dktX4_readsStatement_2
def dkwX4_readsStatement_0 : List UInt8 := [42, 182, 0, 123, 60, 42, 89, 180, 0, 113, 4, 96, 181, 0, 113, 27]
abbrev dktX4_readsStatement_0 : List UInt8 := dkwX4_readsStatement_0 ++ dktX4_readsStatement_1
theorem dksX4_readsStatement_0 : cX4_readsStatement.data.toList.drop 0 = dktX4_readsStatement_0 := by decide +kernel
theorem dksX4_readsStatement_1 : cX4_readsStatement.data.toList.drop 16 = dktX4_readsStatement_1 := dk_seg dksX4_readsStatement_0 16 rfl rfl
theorem dksX4_readsStatement_2 : cX4_readsStatement.data.toList.drop 124 = dktX4_readsStatement_2 := dk_seg dksX4_readsStatement_1 108 rfl rfl
theorem dksX4_readsStatement_3 : cX4_readsStatement.data.toList.drop 148 = dktX4_readsStatement_3 := dk_seg dksX4_readsStatement_2 24 rfl rfl
theorem dksX4_readsStatement_4 : cX4_readsStatement.data.toList.drop 172 = dktX4_readsStatement_4 := dk_seg dksX4_readsStatement_3 24 rfl rfl
theorem dksX4_readsStatement_5 : cX4_readsStatement.data.toList.drop 196 = dktX4_readsStatement_5 := dk_seg dksX4_readsStatement_4 24 rfl rfl
theorem dksX4_readsStatement_6 : cX4_readsStatement.data.toList.drop 220 = dktX4_readsStatement_6 := dk_seg dksX4_readsStatement_5 24 rfl rfl
theorem dksX4_readsStatement_7 : cX4_readsStatement.data.toList.drop 244 = dktX4_readsStatement_7 := dk_seg dksX4_readsStatement_6 24 rfl rfl
theorem dX4_readsStatement_0 : decode cX4_readsStatement 0 = .ok (.aload_n 0, 1) := dk_42 (dk_at dksX4_readsStatement_0 0 rfl rfl)
theorem dX4_readsStatement_1 : decode cX4_readsStatement 1 = .ok (.invokevirtual 123, 3) := dk_182 0 123 (dk_at dksX4_readsStatement_0 1 rfl rfl)
theorem dX4_readsStatement_4 : decode cX4_readsStatement 4 = .ok (.istore_n 1, 1) := dk_60 (dk_at dksX4_readsStatement_0 4 rfl rfl)
theorem dX4_readsStatement_5 : decode cX4_readsStatement 5 = .ok (.aload_n 0, 1) := dk_42 (dk_at dksX4_readsStatement_0 5 rfl rfl)
theorem dX4_readsStatement_6 : decode cX4_readsStatement 6 = .ok (.dup, 1) := dk_89 (dk_at dksX4_readsStatement_0 6 rfl rfl)
theorem dX4_readsStatement_7 : decode cX4_readsStatement 7 = .ok (.getfield 113, 3) := dk_180 0 113 (dk_at dksX4_readsStatement_0 7 rfl rfl)
theorem dX4_readsStatement_10 : decode cX4_readsStatement 10 = .ok (.iconst 1, 1) := dk_4 (dk_at dksX4_readsStatement_0 10 rfl rfl)
theorem dX4_readsStatement_11 : decode cX4_readsStatement 11 = .ok (.iadd, 1) := dk_96 (dk_at dksX4_readsStatement_0 11 rfl rfl)
theorem dX4_readsStatement_12 : decode cX4_readsStatement 12 = .ok (.putfield 113, 3) := dk_181 0 113 (dk_at dksX4_readsStatement_0 12 rfl rfl)
theorem dX4_readsStatement_15 : decode cX4_readsStatement 15 = .ok (.iload_n 1, 1) := dk_27 (dk_at dksX4_readsStatement_0 15 rfl rfl)
theorem dX4_readsStatement_16 : decode cX4_readsStatement 16 = .ok (.tableswitch 208 98 120 #[108, 208, 198, 208, 108, 208, 108, 208, 208, 208, 198, 208, 208, 208, 135, 208, 208, 208, 171, 208, 208, 208, 108], 108) := by decide +kernel
theorem dX4_readsStatement_124 : decode cX4_readsStatement 124 = .ok (.aload_n 0, 1) := dk_42 (dk_at dksX4_readsStatement_2 0 rfl rfl)
theorem dX4_readsStatement_125 : decode cX4_readsStatement 125 = .ok (.iconst 0, 1) := dk_3 (dk_at dksX4_readsStatement_2 1 rfl rfl)
theorem dX4_readsStatement_126 : decode cX4_readsStatement 126 = .ok (.iconst 1, 1) := dk_4 (dk_at dksX4_readsStatement_2 2 rfl rfl)
theorem dX4_readsStatement_127 : decode cX4_readsStatement 127 = .ok (.invokevirtual 127, 3) := dk_182 0 127 (dk_at dksX4_readsStatement_2 3 rfl rfl)
theorem dX4_readsStatement_130 : decode cX4_readsStatement 130 = .ok (.ifCond .eq 16, 3) := dk_153 0 16 (dk_at dksX4_readsStatement_2 6 rfl rfl)
theorem dX4_readsStatement_133 : decode cX4_readsStatement 133 = .ok (.aload_n 0, 1) := dk_42 (dk_at dksX4_readsStatement_2 9 rfl rfl)
theorem dX4_readsStatement_134 : decode cX4_readsStatement 134 = .ok (.iconst 1, 1) := dk_4 (dk_at dksX4_readsStatement_2 10 rfl rfl)
theorem dX4_readsStatement_135 : decode cX4_readsStatement 135 = .ok (.iconst 1, 1) := dk_4 (dk_at dksX4_readsStatement_2 11 rfl rfl)
theorem dX4_readsStatement_136 : decode cX4_readsStatement 136 = .ok (.invokevirtual 127, 3) := dk_182 0 127 (dk_at dksX4_readsStatement_2 12 rfl rfl)
theorem dX4_readsStatement_139 : decode cX4_readsStatement 139 = .ok (.ifCond .eq 7, 3) := dk_153 0 7 (dk_at dksX4_readsStatement_2 15 rfl rfl)
theorem dX4_readsStatement_142 : decode cX4_readsStatement 142 = .ok (.iconst 1, 1) := dk_4 (dk_at dksX4_readsStatement_2 18 rfl rfl)
theorem dX4_readsStatement_143 : decode cX4_readsStatement 143 = .ok (.goto 4, 3) := dk_167 0 4 (dk_at dksX4_readsStatement_2 19 rfl rfl)
theorem dX4_readsStatement_146 : decode cX4_readsStatement 146 = .ok (.iconst 0, 1) := dk_3 (dk_at dksX4_readsStatement_2 22 rfl rfl)
theorem dX4_readsStatement_147 : decode cX4_readsStatement 147 = .ok (.istore_n 2, 1) := dk_61 (dk_at dksX4_readsStatement_2 23 rfl rfl)
theorem dX4_readsStatement_148 : decode cX4_readsStatement 148 = .ok (.goto 88, 3) := dk_167 0 88 (dk_at dksX4_readsStatement_3 0 rfl rfl)
theorem dX4_readsStatement_151 : decode cX4_readsStatement 151 = .ok (.aload_n 0, 1) := dk_42 (dk_at dksX4_readsStatement_3 3 rfl rfl)
theorem dX4_readsStatement_152 : decode cX4_readsStatement 152 = .ok (.iconst 0, 1) := dk_3 (dk_at dksX4_readsStatement_3 4 rfl rfl)
theorem dX4_readsStatement_153 : decode cX4_readsStatement 153 = .ok (.iconst 1, 1) := dk_4 (dk_at dksX4_readsStatement_3 5 rfl rfl)
theorem dX4_readsStatement_154 : decode cX4_readsStatement 154 = .ok (.invokevirtual 127, 3) := dk_182 0 127 (dk_at dksX4_readsStatement_3 6 rfl rfl)
theorem dX4_readsStatement_157 : decode cX4_readsStatement 157 = .ok (.ifCond .eq 25, 3) := dk_153 0 25 (dk_at dksX4_readsStatement_3 9 rfl rfl)
theorem dX4_readsStatement_160 : decode cX4_readsStatement 160 = .ok (.aload_n 0, 1) := dk_42 (dk_at dksX4_readsStatement_3 12 rfl rfl)
theorem dX4_readsStatement_161 : decode cX4_readsStatement 161 = .ok (.iconst 1, 1) := dk_4 (dk_at dksX4_readsStatement_3 13 rfl rfl)
theorem dX4_readsStatement_162 : decode cX4_readsStatement 162 = .ok (.iconst 1, 1) := dk_4 (dk_at dksX4_readsStatement_3 14 rfl rfl)
theorem dX4_readsStatement_163 : decode cX4_readsStatement 163 = .ok (.invokevirtual 127, 3) := dk_182 0 127 (dk_at dksX4_readsStatement_3 15 rfl rfl)
theorem dX4_readsStatement_166 : decode cX4_readsStatement 166 = .ok (.ifCond .eq 16, 3) := dk_153 0 16 (dk_at dksX4_readsStatement_3 18 rfl rfl)
theorem dX4_readsStatement_169 : decode cX4_readsStatement 169 = .ok (.aload_n 0, 1) := dk_42 (dk_at dksX4_readsStatement_3 21 rfl rfl)
theorem dX4_readsStatement_170 : decode cX4_readsStatement 170 = .ok (.iconst 2, 1) := dk_5 (dk_at dksX4_readsStatement_3 22 rfl rfl)
theorem dX4_readsStatement_171 : decode cX4_readsStatement 171 = .ok (.iconst 1, 1) := dk_4 (dk_at dksX4_readsStatement_3 23 rfl rfl)
theorem dX4_readsStatement_172 : decode cX4_readsStatement 172 = .ok (.invokevirtual 127, 3) := dk_182 0 127 (dk_at dksX4_readsStatement_4 0 rfl rfl)
theorem dX4_readsStatement_175 : decode cX4_readsStatement 175 = .ok (.ifCond .eq 7, 3) := dk_153 0 7 (dk_at dksX4_readsStatement_4 3 rfl rfl)
theorem dX4_readsStatement_178 : decode cX4_readsStatement 178 = .ok (.iconst 1, 1) := dk_4 (dk_at dksX4_readsStatement_4 6 rfl rfl)
theorem dX4_readsStatement_179 : decode cX4_readsStatement 179 = .ok (.goto 4, 3) := dk_167 0 4 (dk_at dksX4_readsStatement_4 7 rfl rfl)
theorem dX4_readsStatement_182 : decode cX4_readsStatement 182 = .ok (.iconst 0, 1) := dk_3 (dk_at dksX4_readsStatement_4 10 rfl rfl)
theorem dX4_readsStatement_183 : decode cX4_readsStatement 183 = .ok (.istore_n 2, 1) := dk_61 (dk_at dksX4_readsStatement_4 11 rfl rfl)
theorem dX4_readsStatement_184 : decode cX4_readsStatement 184 = .ok (.goto 52, 3) := dk_167 0 52 (dk_at dksX4_readsStatement_4 12 rfl rfl)
theorem dX4_readsStatement_187 : decode cX4_readsStatement 187 = .ok (.aload_n 0, 1) := dk_42 (dk_at dksX4_readsStatement_4 15 rfl rfl)
theorem dX4_readsStatement_188 : decode cX4_readsStatement 188 = .ok (.iconst 0, 1) := dk_3 (dk_at dksX4_readsStatement_4 16 rfl rfl)
theorem dX4_readsStatement_189 : decode cX4_readsStatement 189 = .ok (.iconst 1, 1) := dk_4 (dk_at dksX4_readsStatement_4 17 rfl rfl)
theorem dX4_readsStatement_190 : decode cX4_readsStatement 190 = .ok (.invokevirtual 127, 3) := dk_182 0 127 (dk_at dksX4_readsStatement_4 18 rfl rfl)
theorem dX4_readsStatement_193 : decode cX4_readsStatement 193 = .ok (.ifCond .eq 16, 3) := dk_153 0 16 (dk_at dksX4_readsStatement_4 21 rfl rfl)
theorem dX4_readsStatement_196 : decode cX4_readsStatement 196 = .ok (.aload_n 0, 1) := dk_42 (dk_at dksX4_readsStatement_5 0 rfl rfl)
theorem dX4_readsStatement_197 : decode cX4_readsStatement 197 = .ok (.iconst 1, 1) := dk_4 (dk_at dksX4_readsStatement_5 1 rfl rfl)
theorem dX4_readsStatement_198 : decode cX4_readsStatement 198 = .ok (.iconst 2, 1) := dk_5 (dk_at dksX4_readsStatement_5 2 rfl rfl)
theorem dX4_readsStatement_199 : decode cX4_readsStatement 199 = .ok (.invokevirtual 127, 3) := dk_182 0 127 (dk_at dksX4_readsStatement_5 3 rfl rfl)
theorem dX4_readsStatement_202 : decode cX4_readsStatement 202 = .ok (.ifCond .eq 7, 3) := dk_153 0 7 (dk_at dksX4_readsStatement_5 6 rfl rfl)
theorem dX4_readsStatement_205 : decode cX4_readsStatement 205 = .ok (.iconst 1, 1) := dk_4 (dk_at dksX4_readsStatement_5 9 rfl rfl)
theorem dX4_readsStatement_206 : decode cX4_readsStatement 206 = .ok (.goto 4, 3) := dk_167 0 4 (dk_at dksX4_readsStatement_5 10 rfl rfl)
theorem dX4_readsStatement_209 : decode cX4_readsStatement 209 = .ok (.iconst 0, 1) := dk_3 (dk_at dksX4_readsStatement_5 13 rfl rfl)
theorem dX4_readsStatement_210 : decode cX4_readsStatement 210 = .ok (.istore_n 2, 1) := dk_61 (dk_at dksX4_readsStatement_5 14 rfl rfl)
theorem dX4_readsStatement_211 : decode cX4_readsStatement 211 = .ok (.goto 25, 3) := dk_167 0 25 (dk_at dksX4_readsStatement_5 15 rfl rfl)
theorem dX4_readsStatement_214 : decode cX4_readsStatement 214 = .ok (.aload_n 0, 1) := dk_42 (dk_at dksX4_readsStatement_5 18 rfl rfl)
theorem dX4_readsStatement_215 : decode cX4_readsStatement 215 = .ok (.iconst 0, 1) := dk_3 (dk_at dksX4_readsStatement_5 19 rfl rfl)
theorem dX4_readsStatement_216 : decode cX4_readsStatement 216 = .ok (.iconst 1, 1) := dk_4 (dk_at dksX4_readsStatement_5 20 rfl rfl)
theorem dX4_readsStatement_217 : decode cX4_readsStatement 217 = .ok (.invokevirtual 127, 3) := dk_182 0 127 (dk_at dksX4_readsStatement_5 21 rfl rfl)
theorem dX4_readsStatement_220 : decode cX4_readsStatement 220 = .ok (.istore_n 2, 1) := dk_61 (dk_at dksX4_readsStatement_6 0 rfl rfl)
theorem dX4_readsStatement_221 : decode cX4_readsStatement 221 = .ok (.goto 15, 3) := dk_167 0 15 (dk_at dksX4_readsStatement_6 1 rfl rfl)
theorem dX4_readsStatement_224 : decode cX4_readsStatement 224 = .ok (.aload_n 0, 1) := dk_42 (dk_at dksX4_readsStatement_6 4 rfl rfl)
theorem dX4_readsStatement_225 : decode cX4_readsStatement 225 = .ok (.dup, 1) := dk_89 (dk_at dksX4_readsStatement_6 5 rfl rfl)
theorem dX4_readsStatement_226 : decode cX4_readsStatement 226 = .ok (.getfield 113, 3) := dk_180 0 113 (dk_at dksX4_readsStatement_6 6 rfl rfl)
theorem dX4_readsStatement_229 : decode cX4_readsStatement 229 = .ok (.iconst 1, 1) := dk_4 (dk_at dksX4_readsStatement_6 9 rfl rfl)
theorem dX4_readsStatement_230 : decode cX4_readsStatement 230 = .ok (.isub, 1) := dk_100 (dk_at dksX4_readsStatement_6 10 rfl rfl)
theorem dX4_readsStatement_231 : decode cX4_readsStatement 231 = .ok (.putfield 113, 3) := dk_181 0 113 (dk_at dksX4_readsStatement_6 11 rfl rfl)
theorem dX4_readsStatement_234 : decode cX4_readsStatement 234 = .ok (.iconst 0, 1) := dk_3 (dk_at dksX4_readsStatement_6 14 rfl rfl)
theorem dX4_readsStatement_235 : decode cX4_readsStatement 235 = .ok (.ireturn, 1) := dk_172 (dk_at dksX4_readsStatement_6 15 rfl rfl)
theorem dX4_readsStatement_236 : decode cX4_readsStatement 236 = .ok (.iload_n 2, 1) := dk_28 (dk_at dksX4_readsStatement_6 16 rfl rfl)
theorem dX4_readsStatement_237 : decode cX4_readsStatement 237 = .ok (.ifCond .eq 12, 3) := dk_153 0 12 (dk_at dksX4_readsStatement_6 17 rfl rfl)
theorem dX4_readsStatement_240 : decode cX4_readsStatement 240 = .ok (.aload_n 0, 1) := dk_42 (dk_at dksX4_readsStatement_6 20 rfl rfl)
theorem dX4_readsStatement_241 : decode cX4_readsStatement 241 = .ok (.invokevirtual 123, 3) := dk_182 0 123 (dk_at dksX4_readsStatement_6 21 rfl rfl)
theorem dX4_readsStatement_244 : decode cX4_readsStatement 244 = .ok (.bipush 59, 2) := dk_16 59 (dk_at dksX4_readsStatement_7 0 rfl rfl)
theorem dX4_readsStatement_246 : decode cX4_readsStatement 246 = .ok (.if_icmp .eq 5, 3) := dk_159 0 5 (dk_at dksX4_readsStatement_7 2 rfl rfl)
theorem dX4_readsStatement_249 : decode cX4_readsStatement 249 = .ok (.iconst 0, 1) := dk_3 (dk_at dksX4_readsStatement_7 5 rfl rfl)
theorem dX4_readsStatement_250 : decode cX4_readsStatement 250 = .ok (.ireturn, 1) := dk_172 (dk_at dksX4_readsStatement_7 6 rfl rfl)
theorem dX4_readsStatement_251 : decode cX4_readsStatement 251 = .ok (.aload_n 0, 1) := dk_42 (dk_at dksX4_readsStatement_7 7 rfl rfl)
theorem dX4_readsStatement_252 : decode cX4_readsStatement 252 = .ok (.dup, 1) := dk_89 (dk_at dksX4_readsStatement_7 8 rfl rfl)
theorem dX4_readsStatement_253 : decode cX4_readsStatement 253 = .ok (.getfield 113, 3) := dk_180 0 113 (dk_at dksX4_readsStatement_7 9 rfl rfl)
theorem dX4_readsStatement_256 : decode cX4_readsStatement 256 = .ok (.iconst 1, 1) := dk_4 (dk_at dksX4_readsStatement_7 12 rfl rfl)
theorem dX4_readsStatement_257 : decode cX4_readsStatement 257 = .ok (.iadd, 1) := dk_96 (dk_at dksX4_readsStatement_7 13 rfl rfl)
theorem dX4_readsStatement_258 : decode cX4_readsStatement 258 = .ok (.putfield 113, 3) := dk_181 0 113 (dk_at dksX4_readsStatement_7 14 rfl rfl)
theorem dX4_readsStatement_261 : decode cX4_readsStatement 261 = .ok (.iconst 1, 1) := dk_4 (dk_at dksX4_readsStatement_7 17 rfl rfl)
theorem dX4_readsStatement_262 : decode cX4_readsStatement 262 = .ok (.ireturn, 1) := dk_172 (dk_at dksX4_readsStatement_7 18 rfl rfl)
abbrev cX4_here : ByteArray := prog_21_method_29_code
def yX4_here : MethodName := ⟨RX4, "here", "()I"⟩
def dkwX4_here_1 : List UInt8 := [46, 17, 0, 255, 126, 167, 0, 4, 2, 172]
abbrev dktX4_here_1 : List UInt8 := dkwX4_here_1 ++ []
def dkwX4_here_0 : List UInt8 := [42, 180, 0, 113, 42, 180, 0, 117, 162, 0, 24, 42, 180, 0, 43, 42, 180, 0, 120, 42, 180, 0, 113, 96]
abbrev dktX4_here_0 : List UInt8 := dkwX4_here_0 ++ dktX4_here_1
theorem dksX4_here_0 : cX4_here.data.toList.drop 0 = dktX4_here_0 := by decide +kernel
theorem dksX4_here_1 : cX4_here.data.toList.drop 24 = dktX4_here_1 := dk_seg dksX4_here_0 24 rfl rfl
theorem dX4_here_0 : decode cX4_here 0 = .ok (.aload_n 0, 1) := dk_42 (dk_at dksX4_here_0 0 rfl rfl)
theorem dX4_here_1 : decode cX4_here 1 = .ok (.getfield 113, 3) := dk_180 0 113 (dk_at dksX4_here_0 1 rfl rfl)
theorem dX4_here_4 : decode cX4_here 4 = .ok (.aload_n 0, 1) := dk_42 (dk_at dksX4_here_0 4 rfl rfl)
theorem dX4_here_5 : decode cX4_here 5 = .ok (.getfield 117, 3) := dk_180 0 117 (dk_at dksX4_here_0 5 rfl rfl)
theorem dX4_here_8 : decode cX4_here 8 = .ok (.if_icmp .ge 24, 3) := dk_162 0 24 (dk_at dksX4_here_0 8 rfl rfl)
theorem dX4_here_11 : decode cX4_here 11 = .ok (.aload_n 0, 1) := dk_42 (dk_at dksX4_here_0 11 rfl rfl)
theorem dX4_here_12 : decode cX4_here 12 = .ok (.getfield 43, 3) := dk_180 0 43 (dk_at dksX4_here_0 12 rfl rfl)
theorem dX4_here_15 : decode cX4_here 15 = .ok (.aload_n 0, 1) := dk_42 (dk_at dksX4_here_0 15 rfl rfl)
theorem dX4_here_16 : decode cX4_here 16 = .ok (.getfield 120, 3) := dk_180 0 120 (dk_at dksX4_here_0 16 rfl rfl)
theorem dX4_here_19 : decode cX4_here 19 = .ok (.aload_n 0, 1) := dk_42 (dk_at dksX4_here_0 19 rfl rfl)
theorem dX4_here_20 : decode cX4_here 20 = .ok (.getfield 113, 3) := dk_180 0 113 (dk_at dksX4_here_0 20 rfl rfl)
theorem dX4_here_23 : decode cX4_here 23 = .ok (.iadd, 1) := dk_96 (dk_at dksX4_here_0 23 rfl rfl)
theorem dX4_here_24 : decode cX4_here 24 = .ok (.iaload, 1) := dk_46 (dk_at dksX4_here_1 0 rfl rfl)
theorem dX4_here_25 : decode cX4_here 25 = .ok (.sipush 255, 3) := dk_17 0 255 (dk_at dksX4_here_1 1 rfl rfl)
theorem dX4_here_28 : decode cX4_here 28 = .ok (.iand, 1) := dk_126 (dk_at dksX4_here_1 4 rfl rfl)
theorem dX4_here_29 : decode cX4_here 29 = .ok (.goto 4, 3) := dk_167 0 4 (dk_at dksX4_here_1 5 rfl rfl)
theorem dX4_here_32 : decode cX4_here 32 = .ok (.iconst (-1), 1) := dk_2 (dk_at dksX4_here_1 8 rfl rfl)
theorem dX4_here_33 : decode cX4_here 33 = .ok (.ireturn, 1) := dk_172 (dk_at dksX4_here_1 9 rfl rfl)
abbrev cX4_readsNumber : ByteArray := prog_21_method_30_code
def yX4_readsNumber : MethodName := ⟨RX4, "readsNumber", "(II)Z"⟩
def dkwX4_readsNumber_3 : List UInt8 := [4, 172]
abbrev dktX4_readsNumber_3 : List UInt8 := dkwX4_readsNumber_3 ++ []
def dkwX4_readsNumber_2 : List UInt8 := [182, 0, 123, 96, 16, 48, 100, 79, 42, 89, 180, 0, 113, 4, 96, 181, 0, 113, 132, 3, 1, 167, 255, 199]
abbrev dktX4_readsNumber_2 : List UInt8 := dkwX4_readsNumber_2 ++ dktX4_readsNumber_3
def dkwX4_readsNumber_1 : List UInt8 := [184, 0, 53, 154, 0, 5, 3, 172, 42, 180, 0, 25, 27, 16, 10, 42, 180, 0, 25, 27, 46, 104, 42]
abbrev dktX4_readsNumber_1 : List UInt8 := dkwX4_readsNumber_1 ++ dktX4_readsNumber_2
def dkwX4_readsNumber_0 : List UInt8 := [42, 180, 0, 25, 27, 3, 79, 3, 62, 29, 28, 162, 0, 58, 42, 182, 0, 123, 16, 48, 16, 57]
abbrev dktX4_readsNumber_0 : List UInt8 := dkwX4_readsNumber_0 ++ dktX4_readsNumber_1
theorem dksX4_readsNumber_0 : cX4_readsNumber.data.toList.drop 0 = dktX4_readsNumber_0 := by decide +kernel
theorem dksX4_readsNumber_1 : cX4_readsNumber.data.toList.drop 22 = dktX4_readsNumber_1 := dk_seg dksX4_readsNumber_0 22 rfl rfl
theorem dksX4_readsNumber_2 : cX4_readsNumber.data.toList.drop 45 = dktX4_readsNumber_2 := dk_seg dksX4_readsNumber_1 23 rfl rfl
theorem dksX4_readsNumber_3 : cX4_readsNumber.data.toList.drop 69 = dktX4_readsNumber_3 := dk_seg dksX4_readsNumber_2 24 rfl rfl
theorem dX4_readsNumber_0 : decode cX4_readsNumber 0 = .ok (.aload_n 0, 1) := dk_42 (dk_at dksX4_readsNumber_0 0 rfl rfl)
theorem dX4_readsNumber_1 : decode cX4_readsNumber 1 = .ok (.getfield 25, 3) := dk_180 0 25 (dk_at dksX4_readsNumber_0 1 rfl rfl)
theorem dX4_readsNumber_4 : decode cX4_readsNumber 4 = .ok (.iload_n 1, 1) := dk_27 (dk_at dksX4_readsNumber_0 4 rfl rfl)
theorem dX4_readsNumber_5 : decode cX4_readsNumber 5 = .ok (.iconst 0, 1) := dk_3 (dk_at dksX4_readsNumber_0 5 rfl rfl)
theorem dX4_readsNumber_6 : decode cX4_readsNumber 6 = .ok (.iastore, 1) := dk_79 (dk_at dksX4_readsNumber_0 6 rfl rfl)
theorem dX4_readsNumber_7 : decode cX4_readsNumber 7 = .ok (.iconst 0, 1) := dk_3 (dk_at dksX4_readsNumber_0 7 rfl rfl)
theorem dX4_readsNumber_8 : decode cX4_readsNumber 8 = .ok (.istore_n 3, 1) := dk_62 (dk_at dksX4_readsNumber_0 8 rfl rfl)
theorem dX4_readsNumber_9 : decode cX4_readsNumber 9 = .ok (.iload_n 3, 1) := dk_29 (dk_at dksX4_readsNumber_0 9 rfl rfl)
theorem dX4_readsNumber_10 : decode cX4_readsNumber 10 = .ok (.iload_n 2, 1) := dk_28 (dk_at dksX4_readsNumber_0 10 rfl rfl)
theorem dX4_readsNumber_11 : decode cX4_readsNumber 11 = .ok (.if_icmp .ge 58, 3) := dk_162 0 58 (dk_at dksX4_readsNumber_0 11 rfl rfl)
theorem dX4_readsNumber_14 : decode cX4_readsNumber 14 = .ok (.aload_n 0, 1) := dk_42 (dk_at dksX4_readsNumber_0 14 rfl rfl)
theorem dX4_readsNumber_15 : decode cX4_readsNumber 15 = .ok (.invokevirtual 123, 3) := dk_182 0 123 (dk_at dksX4_readsNumber_0 15 rfl rfl)
theorem dX4_readsNumber_18 : decode cX4_readsNumber 18 = .ok (.bipush 48, 2) := dk_16 48 (dk_at dksX4_readsNumber_0 18 rfl rfl)
theorem dX4_readsNumber_20 : decode cX4_readsNumber 20 = .ok (.bipush 57, 2) := dk_16 57 (dk_at dksX4_readsNumber_0 20 rfl rfl)
theorem dX4_readsNumber_22 : decode cX4_readsNumber 22 = .ok (.invokestatic 53, 3) := dk_184 0 53 (dk_at dksX4_readsNumber_1 0 rfl rfl)
theorem dX4_readsNumber_25 : decode cX4_readsNumber 25 = .ok (.ifCond .ne 5, 3) := dk_154 0 5 (dk_at dksX4_readsNumber_1 3 rfl rfl)
theorem dX4_readsNumber_28 : decode cX4_readsNumber 28 = .ok (.iconst 0, 1) := dk_3 (dk_at dksX4_readsNumber_1 6 rfl rfl)
theorem dX4_readsNumber_29 : decode cX4_readsNumber 29 = .ok (.ireturn, 1) := dk_172 (dk_at dksX4_readsNumber_1 7 rfl rfl)
theorem dX4_readsNumber_30 : decode cX4_readsNumber 30 = .ok (.aload_n 0, 1) := dk_42 (dk_at dksX4_readsNumber_1 8 rfl rfl)
theorem dX4_readsNumber_31 : decode cX4_readsNumber 31 = .ok (.getfield 25, 3) := dk_180 0 25 (dk_at dksX4_readsNumber_1 9 rfl rfl)
theorem dX4_readsNumber_34 : decode cX4_readsNumber 34 = .ok (.iload_n 1, 1) := dk_27 (dk_at dksX4_readsNumber_1 12 rfl rfl)
theorem dX4_readsNumber_35 : decode cX4_readsNumber 35 = .ok (.bipush 10, 2) := dk_16 10 (dk_at dksX4_readsNumber_1 13 rfl rfl)
theorem dX4_readsNumber_37 : decode cX4_readsNumber 37 = .ok (.aload_n 0, 1) := dk_42 (dk_at dksX4_readsNumber_1 15 rfl rfl)
theorem dX4_readsNumber_38 : decode cX4_readsNumber 38 = .ok (.getfield 25, 3) := dk_180 0 25 (dk_at dksX4_readsNumber_1 16 rfl rfl)
theorem dX4_readsNumber_41 : decode cX4_readsNumber 41 = .ok (.iload_n 1, 1) := dk_27 (dk_at dksX4_readsNumber_1 19 rfl rfl)
theorem dX4_readsNumber_42 : decode cX4_readsNumber 42 = .ok (.iaload, 1) := dk_46 (dk_at dksX4_readsNumber_1 20 rfl rfl)
theorem dX4_readsNumber_43 : decode cX4_readsNumber 43 = .ok (.imul, 1) := dk_104 (dk_at dksX4_readsNumber_1 21 rfl rfl)
theorem dX4_readsNumber_44 : decode cX4_readsNumber 44 = .ok (.aload_n 0, 1) := dk_42 (dk_at dksX4_readsNumber_1 22 rfl rfl)
theorem dX4_readsNumber_45 : decode cX4_readsNumber 45 = .ok (.invokevirtual 123, 3) := dk_182 0 123 (dk_at dksX4_readsNumber_2 0 rfl rfl)
theorem dX4_readsNumber_48 : decode cX4_readsNumber 48 = .ok (.iadd, 1) := dk_96 (dk_at dksX4_readsNumber_2 3 rfl rfl)
theorem dX4_readsNumber_49 : decode cX4_readsNumber 49 = .ok (.bipush 48, 2) := dk_16 48 (dk_at dksX4_readsNumber_2 4 rfl rfl)
theorem dX4_readsNumber_51 : decode cX4_readsNumber 51 = .ok (.isub, 1) := dk_100 (dk_at dksX4_readsNumber_2 6 rfl rfl)
theorem dX4_readsNumber_52 : decode cX4_readsNumber 52 = .ok (.iastore, 1) := dk_79 (dk_at dksX4_readsNumber_2 7 rfl rfl)
theorem dX4_readsNumber_53 : decode cX4_readsNumber 53 = .ok (.aload_n 0, 1) := dk_42 (dk_at dksX4_readsNumber_2 8 rfl rfl)
theorem dX4_readsNumber_54 : decode cX4_readsNumber 54 = .ok (.dup, 1) := dk_89 (dk_at dksX4_readsNumber_2 9 rfl rfl)
theorem dX4_readsNumber_55 : decode cX4_readsNumber 55 = .ok (.getfield 113, 3) := dk_180 0 113 (dk_at dksX4_readsNumber_2 10 rfl rfl)
theorem dX4_readsNumber_58 : decode cX4_readsNumber 58 = .ok (.iconst 1, 1) := dk_4 (dk_at dksX4_readsNumber_2 13 rfl rfl)
theorem dX4_readsNumber_59 : decode cX4_readsNumber 59 = .ok (.iadd, 1) := dk_96 (dk_at dksX4_readsNumber_2 14 rfl rfl)
theorem dX4_readsNumber_60 : decode cX4_readsNumber 60 = .ok (.putfield 113, 3) := dk_181 0 113 (dk_at dksX4_readsNumber_2 15 rfl rfl)
theorem dX4_readsNumber_63 : decode cX4_readsNumber 63 = .ok (.iinc 3 1, 3) := dk_132 3 1 (dk_at dksX4_readsNumber_2 18 rfl rfl)
theorem dX4_readsNumber_66 : decode cX4_readsNumber 66 = .ok (.goto (-57), 3) := dk_167 255 199 (dk_at dksX4_readsNumber_2 21 rfl rfl)
theorem dX4_readsNumber_69 : decode cX4_readsNumber 69 = .ok (.iconst 1, 1) := dk_4 (dk_at dksX4_readsNumber_3 0 rfl rfl)
theorem dX4_readsNumber_70 : decode cX4_readsNumber 70 = .ok (.ireturn, 1) := dk_172 (dk_at dksX4_readsNumber_3 1 rfl rfl)
abbrev cX4_copies : ByteArray := prog_21_method_4_code
def yX4_copies : MethodName := ⟨RX4, "copies", "([I[I)V"⟩
def dkwX4_copies_0 : List UInt8 := [3, 61, 28, 16, 42, 162, 0, 15, 43, 28, 42, 28, 46, 79, 132, 2, 1, 167, 255, 241, 177]
abbrev dktX4_copies_0 : List UInt8 := dkwX4_copies_0 ++ []
theorem dksX4_copies_0 : cX4_copies.data.toList.drop 0 = dktX4_copies_0 := by decide +kernel
theorem dX4_copies_0 : decode cX4_copies 0 = .ok (.iconst 0, 1) := dk_3 (dk_at dksX4_copies_0 0 rfl rfl)
theorem dX4_copies_1 : decode cX4_copies 1 = .ok (.istore_n 2, 1) := dk_61 (dk_at dksX4_copies_0 1 rfl rfl)
theorem dX4_copies_2 : decode cX4_copies 2 = .ok (.iload_n 2, 1) := dk_28 (dk_at dksX4_copies_0 2 rfl rfl)
theorem dX4_copies_3 : decode cX4_copies 3 = .ok (.bipush 42, 2) := dk_16 42 (dk_at dksX4_copies_0 3 rfl rfl)
theorem dX4_copies_5 : decode cX4_copies 5 = .ok (.if_icmp .ge 15, 3) := dk_162 0 15 (dk_at dksX4_copies_0 5 rfl rfl)
theorem dX4_copies_8 : decode cX4_copies 8 = .ok (.aload_n 1, 1) := dk_43 (dk_at dksX4_copies_0 8 rfl rfl)
theorem dX4_copies_9 : decode cX4_copies 9 = .ok (.iload_n 2, 1) := dk_28 (dk_at dksX4_copies_0 9 rfl rfl)
theorem dX4_copies_10 : decode cX4_copies 10 = .ok (.aload_n 0, 1) := dk_42 (dk_at dksX4_copies_0 10 rfl rfl)
theorem dX4_copies_11 : decode cX4_copies 11 = .ok (.iload_n 2, 1) := dk_28 (dk_at dksX4_copies_0 11 rfl rfl)
theorem dX4_copies_12 : decode cX4_copies 12 = .ok (.iaload, 1) := dk_46 (dk_at dksX4_copies_0 12 rfl rfl)
theorem dX4_copies_13 : decode cX4_copies 13 = .ok (.iastore, 1) := dk_79 (dk_at dksX4_copies_0 13 rfl rfl)
theorem dX4_copies_14 : decode cX4_copies 14 = .ok (.iinc 2 1, 3) := dk_132 2 1 (dk_at dksX4_copies_0 14 rfl rfl)
theorem dX4_copies_17 : decode cX4_copies 17 = .ok (.goto (-15), 3) := dk_167 255 241 (dk_at dksX4_copies_0 17 rfl rfl)
theorem dX4_copies_20 : decode cX4_copies 20 = .ok (.return_, 1) := dk_177 (dk_at dksX4_copies_0 20 rfl rfl)
abbrev cX4_isDone : ByteArray := prog_21_method_34_code
def yX4_isDone : MethodName := ⟨RX4, "isDone", "(I)Z"⟩
def dkwX4_isDone_12 : List UInt8 := [4, 172]
abbrev dktX4_isDone_12 : List UInt8 := dkwX4_isDone_12 ++ []
def dkwX4_isDone_11 : List UInt8 := [153, 0, 10, 42, 182, 0, 145, 153, 0, 5, 3, 172, 42, 42, 180, 0, 9, 28, 29, 182, 0, 149, 54, 4]
abbrev dktX4_isDone_11 : List UInt8 := dkwX4_isDone_11 ++ dktX4_isDone_12
def dkwX4_isDone_10 : List UInt8 := [180, 0, 9, 6, 28, 4, 100, 79, 4, 172, 42, 28, 182, 0, 142, 153, 0, 17, 29, 184, 0, 139]
abbrev dktX4_isDone_10 : List UInt8 := dkwX4_isDone_10 ++ dktX4_isDone_11
def dkwX4_isDone_9 : List UInt8 := [160, 0, 7, 3, 167, 0, 4, 4, 184, 0, 50, 29, 79, 4, 172, 28, 5, 164, 0, 5, 3, 172, 42]
abbrev dktX4_isDone_9 : List UInt8 := dkwX4_isDone_9 ++ dktX4_isDone_10
def dkwX4_isDone_8 : List UInt8 := [16, 102, 160, 0, 7, 4, 167, 0, 4, 6, 164, 0, 5, 3, 172, 42, 180, 0, 9, 28, 27, 16, 102]
abbrev dktX4_isDone_8 : List UInt8 := dkwX4_isDone_8 ++ dktX4_isDone_9
def dkwX4_isDone_7 : List UInt8 := [42, 180, 0, 9, 28, 6, 184, 0, 46, 92, 46, 4, 130, 79, 4, 172, 28, 4, 163, 0, 18, 29, 27]
abbrev dktX4_isDone_7 : List UInt8 := dkwX4_isDone_7 ++ dktX4_isDone_8
def dkwX4_isDone_6 : List UInt8 := [3, 172, 42, 180, 0, 9, 28, 5, 184, 0, 46, 29, 79, 4, 172, 28, 184, 0, 135, 154, 0, 5, 3, 172]
abbrev dktX4_isDone_6 : List UInt8 := dkwX4_isDone_6 ++ dktX4_isDone_7
def dkwX4_isDone_5 : List UInt8 := [180, 0, 9, 28, 4, 184, 0, 46, 42, 180, 0, 25, 5, 46, 79, 4, 172, 28, 184, 0, 135, 154, 0, 5]
abbrev dktX4_isDone_5 : List UInt8 := dkwX4_isDone_5 ++ dktX4_isDone_6
def dkwX4_isDone_4 : List UInt8 := [46, 4, 7, 184, 0, 53, 154, 0, 5, 3, 172, 42, 180, 0, 9, 28, 3, 184, 0, 46, 29, 79, 42]
abbrev dktX4_isDone_4 : List UInt8 := dkwX4_isDone_4 ++ dktX4_isDone_5
def dkwX4_isDone_3 : List UInt8 := [182, 0, 131, 4, 172, 28, 184, 0, 135, 153, 0, 24, 29, 184, 0, 139, 153, 0, 17, 42, 180, 0, 25, 5]
abbrev dktX4_isDone_3 : List UInt8 := dkwX4_isDone_3 ++ dktX4_isDone_4
def dkwX4_isDone_2 : List UInt8 := [28, 16, 8, 162, 0, 14, 42, 180, 0, 9, 3, 46, 16, 8, 160, 0, 5, 3, 172, 42, 28, 29]
abbrev dktX4_isDone_2 : List UInt8 := dkwX4_isDone_2 ++ dktX4_isDone_3
def dkwX4_isDone_1 : List UInt8 := [170, 0, 0, 1, 29, 0, 0, 0, 98, 0, 0, 0, 116, 0, 0, 0, 89, 0, 0, 1, 29, 0, 0, 1, 11, 0, 0, 1, 29, 0, 0, 0, 222, 0, 0, 1, 29, 0, 0, 0, 222, 0, 0, 1, 29, 0, 0, 1, 29, 0, 0, 1, 29, 0, 0, 0, 197, 0, 0, 1, 29, 0, 0, 1, 29, 0, 0, 1, 29, 0, 0, 0, 116, 0, 0, 1, 29, 0, 0, 1, 29, 0, 0, 1, 29, 0, 0, 0, 175]
abbrev dktX4_isDone_1 : List UInt8 := dkwX4_isDone_1 ++ dktX4_isDone_2
def dkwX4_isDone_0 : List UInt8 := [42, 180, 0, 25, 3, 46, 61, 42, 180, 0, 25, 4, 46, 62, 27]
abbrev dktX4_isDone_0 : List UInt8 := dkwX4_isDone_0 ++ dktX4_isDone_1
theorem dksX4_isDone_0 : cX4_isDone.data.toList.drop 0 = dktX4_isDone_0 := by decide +kernel
theorem dksX4_isDone_1 : cX4_isDone.data.toList.drop 15 = dktX4_isDone_1 := dk_seg dksX4_isDone_0 15 rfl rfl
theorem dksX4_isDone_2 : cX4_isDone.data.toList.drop 104 = dktX4_isDone_2 := dk_seg dksX4_isDone_1 89 rfl rfl
theorem dksX4_isDone_3 : cX4_isDone.data.toList.drop 126 = dktX4_isDone_3 := dk_seg dksX4_isDone_2 22 rfl rfl
theorem dksX4_isDone_4 : cX4_isDone.data.toList.drop 150 = dktX4_isDone_4 := dk_seg dksX4_isDone_3 24 rfl rfl
theorem dksX4_isDone_5 : cX4_isDone.data.toList.drop 173 = dktX4_isDone_5 := dk_seg dksX4_isDone_4 23 rfl rfl
theorem dksX4_isDone_6 : cX4_isDone.data.toList.drop 197 = dktX4_isDone_6 := dk_seg dksX4_isDone_5 24 rfl rfl
theorem dksX4_isDone_7 : cX4_isDone.data.toList.drop 221 = dktX4_isDone_7 := dk_seg dksX4_isDone_6 24 rfl rfl
theorem dksX4_isDone_8 : cX4_isDone.data.toList.drop 244 = dktX4_isDone_8 := dk_seg dksX4_isDone_7 23 rfl rfl
theorem dksX4_isDone_9 : cX4_isDone.data.toList.drop 267 = dktX4_isDone_9 := dk_seg dksX4_isDone_8 23 rfl rfl
theorem dksX4_isDone_10 : cX4_isDone.data.toList.drop 290 = dktX4_isDone_10 := dk_seg dksX4_isDone_9 23 rfl rfl
theorem dksX4_isDone_11 : cX4_isDone.data.toList.drop 312 = dktX4_isDone_11 := dk_seg dksX4_isDone_10 22 rfl rfl
theorem dksX4_isDone_12 : cX4_isDone.data.toList.drop 336 = dktX4_isDone_12 := dk_seg dksX4_isDone_11 24 rfl rfl
theorem dX4_isDone_0 : decode cX4_isDone 0 = .ok (.aload_n 0, 1) := dk_42 (dk_at dksX4_isDone_0 0 rfl rfl)
theorem dX4_isDone_1 : decode cX4_isDone 1 = .ok (.getfield 25, 3) := dk_180 0 25 (dk_at dksX4_isDone_0 1 rfl rfl)
theorem dX4_isDone_4 : decode cX4_isDone 4 = .ok (.iconst 0, 1) := dk_3 (dk_at dksX4_isDone_0 4 rfl rfl)
theorem dX4_isDone_5 : decode cX4_isDone 5 = .ok (.iaload, 1) := dk_46 (dk_at dksX4_isDone_0 5 rfl rfl)
theorem dX4_isDone_6 : decode cX4_isDone 6 = .ok (.istore_n 2, 1) := dk_61 (dk_at dksX4_isDone_0 6 rfl rfl)
theorem dX4_isDone_7 : decode cX4_isDone 7 = .ok (.aload_n 0, 1) := dk_42 (dk_at dksX4_isDone_0 7 rfl rfl)
theorem dX4_isDone_8 : decode cX4_isDone 8 = .ok (.getfield 25, 3) := dk_180 0 25 (dk_at dksX4_isDone_0 8 rfl rfl)
theorem dX4_isDone_11 : decode cX4_isDone 11 = .ok (.iconst 1, 1) := dk_4 (dk_at dksX4_isDone_0 11 rfl rfl)
theorem dX4_isDone_12 : decode cX4_isDone 12 = .ok (.iaload, 1) := dk_46 (dk_at dksX4_isDone_0 12 rfl rfl)
theorem dX4_isDone_13 : decode cX4_isDone 13 = .ok (.istore_n 3, 1) := dk_62 (dk_at dksX4_isDone_0 13 rfl rfl)
theorem dX4_isDone_14 : decode cX4_isDone 14 = .ok (.iload_n 1, 1) := dk_27 (dk_at dksX4_isDone_0 14 rfl rfl)
theorem dX4_isDone_15 : decode cX4_isDone 15 = .ok (.tableswitch 285 98 116 #[89, 285, 267, 285, 222, 285, 222, 285, 285, 285, 197, 285, 285, 285, 116, 285, 285, 285, 175], 89) := by decide +kernel
theorem dX4_isDone_104 : decode cX4_isDone 104 = .ok (.iload_n 2, 1) := dk_28 (dk_at dksX4_isDone_2 0 rfl rfl)
theorem dX4_isDone_105 : decode cX4_isDone 105 = .ok (.bipush 8, 2) := dk_16 8 (dk_at dksX4_isDone_2 1 rfl rfl)
theorem dX4_isDone_107 : decode cX4_isDone 107 = .ok (.if_icmp .ge 14, 3) := dk_162 0 14 (dk_at dksX4_isDone_2 3 rfl rfl)
theorem dX4_isDone_110 : decode cX4_isDone 110 = .ok (.aload_n 0, 1) := dk_42 (dk_at dksX4_isDone_2 6 rfl rfl)
theorem dX4_isDone_111 : decode cX4_isDone 111 = .ok (.getfield 9, 3) := dk_180 0 9 (dk_at dksX4_isDone_2 7 rfl rfl)
theorem dX4_isDone_114 : decode cX4_isDone 114 = .ok (.iconst 0, 1) := dk_3 (dk_at dksX4_isDone_2 10 rfl rfl)
theorem dX4_isDone_115 : decode cX4_isDone 115 = .ok (.iaload, 1) := dk_46 (dk_at dksX4_isDone_2 11 rfl rfl)
theorem dX4_isDone_116 : decode cX4_isDone 116 = .ok (.bipush 8, 2) := dk_16 8 (dk_at dksX4_isDone_2 12 rfl rfl)
theorem dX4_isDone_118 : decode cX4_isDone 118 = .ok (.if_icmp .ne 5, 3) := dk_160 0 5 (dk_at dksX4_isDone_2 14 rfl rfl)
theorem dX4_isDone_121 : decode cX4_isDone 121 = .ok (.iconst 0, 1) := dk_3 (dk_at dksX4_isDone_2 17 rfl rfl)
theorem dX4_isDone_122 : decode cX4_isDone 122 = .ok (.ireturn, 1) := dk_172 (dk_at dksX4_isDone_2 18 rfl rfl)
theorem dX4_isDone_123 : decode cX4_isDone 123 = .ok (.aload_n 0, 1) := dk_42 (dk_at dksX4_isDone_2 19 rfl rfl)
theorem dX4_isDone_124 : decode cX4_isDone 124 = .ok (.iload_n 2, 1) := dk_28 (dk_at dksX4_isDone_2 20 rfl rfl)
theorem dX4_isDone_125 : decode cX4_isDone 125 = .ok (.iload_n 3, 1) := dk_29 (dk_at dksX4_isDone_2 21 rfl rfl)
theorem dX4_isDone_126 : decode cX4_isDone 126 = .ok (.invokevirtual 131, 3) := dk_182 0 131 (dk_at dksX4_isDone_3 0 rfl rfl)
theorem dX4_isDone_129 : decode cX4_isDone 129 = .ok (.iconst 1, 1) := dk_4 (dk_at dksX4_isDone_3 3 rfl rfl)
theorem dX4_isDone_130 : decode cX4_isDone 130 = .ok (.ireturn, 1) := dk_172 (dk_at dksX4_isDone_3 4 rfl rfl)
theorem dX4_isDone_131 : decode cX4_isDone 131 = .ok (.iload_n 2, 1) := dk_28 (dk_at dksX4_isDone_3 5 rfl rfl)
theorem dX4_isDone_132 : decode cX4_isDone 132 = .ok (.invokestatic 135, 3) := dk_184 0 135 (dk_at dksX4_isDone_3 6 rfl rfl)
theorem dX4_isDone_135 : decode cX4_isDone 135 = .ok (.ifCond .eq 24, 3) := dk_153 0 24 (dk_at dksX4_isDone_3 9 rfl rfl)
theorem dX4_isDone_138 : decode cX4_isDone 138 = .ok (.iload_n 3, 1) := dk_29 (dk_at dksX4_isDone_3 12 rfl rfl)
theorem dX4_isDone_139 : decode cX4_isDone 139 = .ok (.invokestatic 139, 3) := dk_184 0 139 (dk_at dksX4_isDone_3 13 rfl rfl)
theorem dX4_isDone_142 : decode cX4_isDone 142 = .ok (.ifCond .eq 17, 3) := dk_153 0 17 (dk_at dksX4_isDone_3 16 rfl rfl)
theorem dX4_isDone_145 : decode cX4_isDone 145 = .ok (.aload_n 0, 1) := dk_42 (dk_at dksX4_isDone_3 19 rfl rfl)
theorem dX4_isDone_146 : decode cX4_isDone 146 = .ok (.getfield 25, 3) := dk_180 0 25 (dk_at dksX4_isDone_3 20 rfl rfl)
theorem dX4_isDone_149 : decode cX4_isDone 149 = .ok (.iconst 2, 1) := dk_5 (dk_at dksX4_isDone_3 23 rfl rfl)
theorem dX4_isDone_150 : decode cX4_isDone 150 = .ok (.iaload, 1) := dk_46 (dk_at dksX4_isDone_4 0 rfl rfl)
theorem dX4_isDone_151 : decode cX4_isDone 151 = .ok (.iconst 1, 1) := dk_4 (dk_at dksX4_isDone_4 1 rfl rfl)
theorem dX4_isDone_152 : decode cX4_isDone 152 = .ok (.iconst 4, 1) := dk_7 (dk_at dksX4_isDone_4 2 rfl rfl)
theorem dX4_isDone_153 : decode cX4_isDone 153 = .ok (.invokestatic 53, 3) := dk_184 0 53 (dk_at dksX4_isDone_4 3 rfl rfl)
theorem dX4_isDone_156 : decode cX4_isDone 156 = .ok (.ifCond .ne 5, 3) := dk_154 0 5 (dk_at dksX4_isDone_4 6 rfl rfl)
theorem dX4_isDone_159 : decode cX4_isDone 159 = .ok (.iconst 0, 1) := dk_3 (dk_at dksX4_isDone_4 9 rfl rfl)
theorem dX4_isDone_160 : decode cX4_isDone 160 = .ok (.ireturn, 1) := dk_172 (dk_at dksX4_isDone_4 10 rfl rfl)
theorem dX4_isDone_161 : decode cX4_isDone 161 = .ok (.aload_n 0, 1) := dk_42 (dk_at dksX4_isDone_4 11 rfl rfl)
theorem dX4_isDone_162 : decode cX4_isDone 162 = .ok (.getfield 9, 3) := dk_180 0 9 (dk_at dksX4_isDone_4 12 rfl rfl)
theorem dX4_isDone_165 : decode cX4_isDone 165 = .ok (.iload_n 2, 1) := dk_28 (dk_at dksX4_isDone_4 15 rfl rfl)
theorem dX4_isDone_166 : decode cX4_isDone 166 = .ok (.iconst 0, 1) := dk_3 (dk_at dksX4_isDone_4 16 rfl rfl)
theorem dX4_isDone_167 : decode cX4_isDone 167 = .ok (.invokestatic 46, 3) := dk_184 0 46 (dk_at dksX4_isDone_4 17 rfl rfl)
theorem dX4_isDone_170 : decode cX4_isDone 170 = .ok (.iload_n 3, 1) := dk_29 (dk_at dksX4_isDone_4 20 rfl rfl)
theorem dX4_isDone_171 : decode cX4_isDone 171 = .ok (.iastore, 1) := dk_79 (dk_at dksX4_isDone_4 21 rfl rfl)
theorem dX4_isDone_172 : decode cX4_isDone 172 = .ok (.aload_n 0, 1) := dk_42 (dk_at dksX4_isDone_4 22 rfl rfl)
theorem dX4_isDone_173 : decode cX4_isDone 173 = .ok (.getfield 9, 3) := dk_180 0 9 (dk_at dksX4_isDone_5 0 rfl rfl)
theorem dX4_isDone_176 : decode cX4_isDone 176 = .ok (.iload_n 2, 1) := dk_28 (dk_at dksX4_isDone_5 3 rfl rfl)
theorem dX4_isDone_177 : decode cX4_isDone 177 = .ok (.iconst 1, 1) := dk_4 (dk_at dksX4_isDone_5 4 rfl rfl)
theorem dX4_isDone_178 : decode cX4_isDone 178 = .ok (.invokestatic 46, 3) := dk_184 0 46 (dk_at dksX4_isDone_5 5 rfl rfl)
theorem dX4_isDone_181 : decode cX4_isDone 181 = .ok (.aload_n 0, 1) := dk_42 (dk_at dksX4_isDone_5 8 rfl rfl)
theorem dX4_isDone_182 : decode cX4_isDone 182 = .ok (.getfield 25, 3) := dk_180 0 25 (dk_at dksX4_isDone_5 9 rfl rfl)
theorem dX4_isDone_185 : decode cX4_isDone 185 = .ok (.iconst 2, 1) := dk_5 (dk_at dksX4_isDone_5 12 rfl rfl)
theorem dX4_isDone_186 : decode cX4_isDone 186 = .ok (.iaload, 1) := dk_46 (dk_at dksX4_isDone_5 13 rfl rfl)
theorem dX4_isDone_187 : decode cX4_isDone 187 = .ok (.iastore, 1) := dk_79 (dk_at dksX4_isDone_5 14 rfl rfl)
theorem dX4_isDone_188 : decode cX4_isDone 188 = .ok (.iconst 1, 1) := dk_4 (dk_at dksX4_isDone_5 15 rfl rfl)
theorem dX4_isDone_189 : decode cX4_isDone 189 = .ok (.ireturn, 1) := dk_172 (dk_at dksX4_isDone_5 16 rfl rfl)
theorem dX4_isDone_190 : decode cX4_isDone 190 = .ok (.iload_n 2, 1) := dk_28 (dk_at dksX4_isDone_5 17 rfl rfl)
theorem dX4_isDone_191 : decode cX4_isDone 191 = .ok (.invokestatic 135, 3) := dk_184 0 135 (dk_at dksX4_isDone_5 18 rfl rfl)
theorem dX4_isDone_194 : decode cX4_isDone 194 = .ok (.ifCond .ne 5, 3) := dk_154 0 5 (dk_at dksX4_isDone_5 21 rfl rfl)
theorem dX4_isDone_197 : decode cX4_isDone 197 = .ok (.iconst 0, 1) := dk_3 (dk_at dksX4_isDone_6 0 rfl rfl)
theorem dX4_isDone_198 : decode cX4_isDone 198 = .ok (.ireturn, 1) := dk_172 (dk_at dksX4_isDone_6 1 rfl rfl)
theorem dX4_isDone_199 : decode cX4_isDone 199 = .ok (.aload_n 0, 1) := dk_42 (dk_at dksX4_isDone_6 2 rfl rfl)
theorem dX4_isDone_200 : decode cX4_isDone 200 = .ok (.getfield 9, 3) := dk_180 0 9 (dk_at dksX4_isDone_6 3 rfl rfl)
theorem dX4_isDone_203 : decode cX4_isDone 203 = .ok (.iload_n 2, 1) := dk_28 (dk_at dksX4_isDone_6 6 rfl rfl)
theorem dX4_isDone_204 : decode cX4_isDone 204 = .ok (.iconst 2, 1) := dk_5 (dk_at dksX4_isDone_6 7 rfl rfl)
theorem dX4_isDone_205 : decode cX4_isDone 205 = .ok (.invokestatic 46, 3) := dk_184 0 46 (dk_at dksX4_isDone_6 8 rfl rfl)
theorem dX4_isDone_208 : decode cX4_isDone 208 = .ok (.iload_n 3, 1) := dk_29 (dk_at dksX4_isDone_6 11 rfl rfl)
theorem dX4_isDone_209 : decode cX4_isDone 209 = .ok (.iastore, 1) := dk_79 (dk_at dksX4_isDone_6 12 rfl rfl)
theorem dX4_isDone_210 : decode cX4_isDone 210 = .ok (.iconst 1, 1) := dk_4 (dk_at dksX4_isDone_6 13 rfl rfl)
theorem dX4_isDone_211 : decode cX4_isDone 211 = .ok (.ireturn, 1) := dk_172 (dk_at dksX4_isDone_6 14 rfl rfl)
theorem dX4_isDone_212 : decode cX4_isDone 212 = .ok (.iload_n 2, 1) := dk_28 (dk_at dksX4_isDone_6 15 rfl rfl)
theorem dX4_isDone_213 : decode cX4_isDone 213 = .ok (.invokestatic 135, 3) := dk_184 0 135 (dk_at dksX4_isDone_6 16 rfl rfl)
theorem dX4_isDone_216 : decode cX4_isDone 216 = .ok (.ifCond .ne 5, 3) := dk_154 0 5 (dk_at dksX4_isDone_6 19 rfl rfl)
theorem dX4_isDone_219 : decode cX4_isDone 219 = .ok (.iconst 0, 1) := dk_3 (dk_at dksX4_isDone_6 22 rfl rfl)
theorem dX4_isDone_220 : decode cX4_isDone 220 = .ok (.ireturn, 1) := dk_172 (dk_at dksX4_isDone_6 23 rfl rfl)
theorem dX4_isDone_221 : decode cX4_isDone 221 = .ok (.aload_n 0, 1) := dk_42 (dk_at dksX4_isDone_7 0 rfl rfl)
theorem dX4_isDone_222 : decode cX4_isDone 222 = .ok (.getfield 9, 3) := dk_180 0 9 (dk_at dksX4_isDone_7 1 rfl rfl)
theorem dX4_isDone_225 : decode cX4_isDone 225 = .ok (.iload_n 2, 1) := dk_28 (dk_at dksX4_isDone_7 4 rfl rfl)
theorem dX4_isDone_226 : decode cX4_isDone 226 = .ok (.iconst 3, 1) := dk_6 (dk_at dksX4_isDone_7 5 rfl rfl)
theorem dX4_isDone_227 : decode cX4_isDone 227 = .ok (.invokestatic 46, 3) := dk_184 0 46 (dk_at dksX4_isDone_7 6 rfl rfl)
theorem dX4_isDone_230 : decode cX4_isDone 230 = .ok (.dup2, 1) := dk_92 (dk_at dksX4_isDone_7 9 rfl rfl)
theorem dX4_isDone_231 : decode cX4_isDone 231 = .ok (.iaload, 1) := dk_46 (dk_at dksX4_isDone_7 10 rfl rfl)
theorem dX4_isDone_232 : decode cX4_isDone 232 = .ok (.iconst 1, 1) := dk_4 (dk_at dksX4_isDone_7 11 rfl rfl)
theorem dX4_isDone_233 : decode cX4_isDone 233 = .ok (.ixor, 1) := dk_130 (dk_at dksX4_isDone_7 12 rfl rfl)
theorem dX4_isDone_234 : decode cX4_isDone 234 = .ok (.iastore, 1) := dk_79 (dk_at dksX4_isDone_7 13 rfl rfl)
theorem dX4_isDone_235 : decode cX4_isDone 235 = .ok (.iconst 1, 1) := dk_4 (dk_at dksX4_isDone_7 14 rfl rfl)
theorem dX4_isDone_236 : decode cX4_isDone 236 = .ok (.ireturn, 1) := dk_172 (dk_at dksX4_isDone_7 15 rfl rfl)
theorem dX4_isDone_237 : decode cX4_isDone 237 = .ok (.iload_n 2, 1) := dk_28 (dk_at dksX4_isDone_7 16 rfl rfl)
theorem dX4_isDone_238 : decode cX4_isDone 238 = .ok (.iconst 1, 1) := dk_4 (dk_at dksX4_isDone_7 17 rfl rfl)
theorem dX4_isDone_239 : decode cX4_isDone 239 = .ok (.if_icmp .gt 18, 3) := dk_163 0 18 (dk_at dksX4_isDone_7 18 rfl rfl)
theorem dX4_isDone_242 : decode cX4_isDone 242 = .ok (.iload_n 3, 1) := dk_29 (dk_at dksX4_isDone_7 21 rfl rfl)
theorem dX4_isDone_243 : decode cX4_isDone 243 = .ok (.iload_n 1, 1) := dk_27 (dk_at dksX4_isDone_7 22 rfl rfl)
theorem dX4_isDone_244 : decode cX4_isDone 244 = .ok (.bipush 102, 2) := dk_16 102 (dk_at dksX4_isDone_8 0 rfl rfl)
theorem dX4_isDone_246 : decode cX4_isDone 246 = .ok (.if_icmp .ne 7, 3) := dk_160 0 7 (dk_at dksX4_isDone_8 2 rfl rfl)
theorem dX4_isDone_249 : decode cX4_isDone 249 = .ok (.iconst 1, 1) := dk_4 (dk_at dksX4_isDone_8 5 rfl rfl)
theorem dX4_isDone_250 : decode cX4_isDone 250 = .ok (.goto 4, 3) := dk_167 0 4 (dk_at dksX4_isDone_8 6 rfl rfl)
theorem dX4_isDone_253 : decode cX4_isDone 253 = .ok (.iconst 3, 1) := dk_6 (dk_at dksX4_isDone_8 9 rfl rfl)
theorem dX4_isDone_254 : decode cX4_isDone 254 = .ok (.if_icmp .le 5, 3) := dk_164 0 5 (dk_at dksX4_isDone_8 10 rfl rfl)
theorem dX4_isDone_257 : decode cX4_isDone 257 = .ok (.iconst 0, 1) := dk_3 (dk_at dksX4_isDone_8 13 rfl rfl)
theorem dX4_isDone_258 : decode cX4_isDone 258 = .ok (.ireturn, 1) := dk_172 (dk_at dksX4_isDone_8 14 rfl rfl)
theorem dX4_isDone_259 : decode cX4_isDone 259 = .ok (.aload_n 0, 1) := dk_42 (dk_at dksX4_isDone_8 15 rfl rfl)
theorem dX4_isDone_260 : decode cX4_isDone 260 = .ok (.getfield 9, 3) := dk_180 0 9 (dk_at dksX4_isDone_8 16 rfl rfl)
theorem dX4_isDone_263 : decode cX4_isDone 263 = .ok (.iload_n 2, 1) := dk_28 (dk_at dksX4_isDone_8 19 rfl rfl)
theorem dX4_isDone_264 : decode cX4_isDone 264 = .ok (.iload_n 1, 1) := dk_27 (dk_at dksX4_isDone_8 20 rfl rfl)
theorem dX4_isDone_265 : decode cX4_isDone 265 = .ok (.bipush 102, 2) := dk_16 102 (dk_at dksX4_isDone_8 21 rfl rfl)
theorem dX4_isDone_267 : decode cX4_isDone 267 = .ok (.if_icmp .ne 7, 3) := dk_160 0 7 (dk_at dksX4_isDone_9 0 rfl rfl)
theorem dX4_isDone_270 : decode cX4_isDone 270 = .ok (.iconst 0, 1) := dk_3 (dk_at dksX4_isDone_9 3 rfl rfl)
theorem dX4_isDone_271 : decode cX4_isDone 271 = .ok (.goto 4, 3) := dk_167 0 4 (dk_at dksX4_isDone_9 4 rfl rfl)
theorem dX4_isDone_274 : decode cX4_isDone 274 = .ok (.iconst 1, 1) := dk_4 (dk_at dksX4_isDone_9 7 rfl rfl)
theorem dX4_isDone_275 : decode cX4_isDone 275 = .ok (.invokestatic 50, 3) := dk_184 0 50 (dk_at dksX4_isDone_9 8 rfl rfl)
theorem dX4_isDone_278 : decode cX4_isDone 278 = .ok (.iload_n 3, 1) := dk_29 (dk_at dksX4_isDone_9 11 rfl rfl)
theorem dX4_isDone_279 : decode cX4_isDone 279 = .ok (.iastore, 1) := dk_79 (dk_at dksX4_isDone_9 12 rfl rfl)
theorem dX4_isDone_280 : decode cX4_isDone 280 = .ok (.iconst 1, 1) := dk_4 (dk_at dksX4_isDone_9 13 rfl rfl)
theorem dX4_isDone_281 : decode cX4_isDone 281 = .ok (.ireturn, 1) := dk_172 (dk_at dksX4_isDone_9 14 rfl rfl)
theorem dX4_isDone_282 : decode cX4_isDone 282 = .ok (.iload_n 2, 1) := dk_28 (dk_at dksX4_isDone_9 15 rfl rfl)
theorem dX4_isDone_283 : decode cX4_isDone 283 = .ok (.iconst 2, 1) := dk_5 (dk_at dksX4_isDone_9 16 rfl rfl)
theorem dX4_isDone_284 : decode cX4_isDone 284 = .ok (.if_icmp .le 5, 3) := dk_164 0 5 (dk_at dksX4_isDone_9 17 rfl rfl)
theorem dX4_isDone_287 : decode cX4_isDone 287 = .ok (.iconst 0, 1) := dk_3 (dk_at dksX4_isDone_9 20 rfl rfl)
theorem dX4_isDone_288 : decode cX4_isDone 288 = .ok (.ireturn, 1) := dk_172 (dk_at dksX4_isDone_9 21 rfl rfl)
theorem dX4_isDone_289 : decode cX4_isDone 289 = .ok (.aload_n 0, 1) := dk_42 (dk_at dksX4_isDone_9 22 rfl rfl)
theorem dX4_isDone_290 : decode cX4_isDone 290 = .ok (.getfield 9, 3) := dk_180 0 9 (dk_at dksX4_isDone_10 0 rfl rfl)
theorem dX4_isDone_293 : decode cX4_isDone 293 = .ok (.iconst 3, 1) := dk_6 (dk_at dksX4_isDone_10 3 rfl rfl)
theorem dX4_isDone_294 : decode cX4_isDone 294 = .ok (.iload_n 2, 1) := dk_28 (dk_at dksX4_isDone_10 4 rfl rfl)
theorem dX4_isDone_295 : decode cX4_isDone 295 = .ok (.iconst 1, 1) := dk_4 (dk_at dksX4_isDone_10 5 rfl rfl)
theorem dX4_isDone_296 : decode cX4_isDone 296 = .ok (.isub, 1) := dk_100 (dk_at dksX4_isDone_10 6 rfl rfl)
theorem dX4_isDone_297 : decode cX4_isDone 297 = .ok (.iastore, 1) := dk_79 (dk_at dksX4_isDone_10 7 rfl rfl)
theorem dX4_isDone_298 : decode cX4_isDone 298 = .ok (.iconst 1, 1) := dk_4 (dk_at dksX4_isDone_10 8 rfl rfl)
theorem dX4_isDone_299 : decode cX4_isDone 299 = .ok (.ireturn, 1) := dk_172 (dk_at dksX4_isDone_10 9 rfl rfl)
theorem dX4_isDone_300 : decode cX4_isDone 300 = .ok (.aload_n 0, 1) := dk_42 (dk_at dksX4_isDone_10 10 rfl rfl)
theorem dX4_isDone_301 : decode cX4_isDone 301 = .ok (.iload_n 2, 1) := dk_28 (dk_at dksX4_isDone_10 11 rfl rfl)
theorem dX4_isDone_302 : decode cX4_isDone 302 = .ok (.invokevirtual 142, 3) := dk_182 0 142 (dk_at dksX4_isDone_10 12 rfl rfl)
theorem dX4_isDone_305 : decode cX4_isDone 305 = .ok (.ifCond .eq 17, 3) := dk_153 0 17 (dk_at dksX4_isDone_10 15 rfl rfl)
theorem dX4_isDone_308 : decode cX4_isDone 308 = .ok (.iload_n 3, 1) := dk_29 (dk_at dksX4_isDone_10 18 rfl rfl)
theorem dX4_isDone_309 : decode cX4_isDone 309 = .ok (.invokestatic 139, 3) := dk_184 0 139 (dk_at dksX4_isDone_10 19 rfl rfl)
theorem dX4_isDone_312 : decode cX4_isDone 312 = .ok (.ifCond .eq 10, 3) := dk_153 0 10 (dk_at dksX4_isDone_11 0 rfl rfl)
theorem dX4_isDone_315 : decode cX4_isDone 315 = .ok (.aload_n 0, 1) := dk_42 (dk_at dksX4_isDone_11 3 rfl rfl)
theorem dX4_isDone_316 : decode cX4_isDone 316 = .ok (.invokevirtual 145, 3) := dk_182 0 145 (dk_at dksX4_isDone_11 4 rfl rfl)
theorem dX4_isDone_319 : decode cX4_isDone 319 = .ok (.ifCond .eq 5, 3) := dk_153 0 5 (dk_at dksX4_isDone_11 7 rfl rfl)
theorem dX4_isDone_322 : decode cX4_isDone 322 = .ok (.iconst 0, 1) := dk_3 (dk_at dksX4_isDone_11 10 rfl rfl)
theorem dX4_isDone_323 : decode cX4_isDone 323 = .ok (.ireturn, 1) := dk_172 (dk_at dksX4_isDone_11 11 rfl rfl)
theorem dX4_isDone_324 : decode cX4_isDone 324 = .ok (.aload_n 0, 1) := dk_42 (dk_at dksX4_isDone_11 12 rfl rfl)
theorem dX4_isDone_325 : decode cX4_isDone 325 = .ok (.aload_n 0, 1) := dk_42 (dk_at dksX4_isDone_11 13 rfl rfl)
theorem dX4_isDone_326 : decode cX4_isDone 326 = .ok (.getfield 9, 3) := dk_180 0 9 (dk_at dksX4_isDone_11 14 rfl rfl)
theorem dX4_isDone_329 : decode cX4_isDone 329 = .ok (.iload_n 2, 1) := dk_28 (dk_at dksX4_isDone_11 17 rfl rfl)
theorem dX4_isDone_330 : decode cX4_isDone 330 = .ok (.iload_n 3, 1) := dk_29 (dk_at dksX4_isDone_11 18 rfl rfl)
theorem dX4_isDone_331 : decode cX4_isDone 331 = .ok (.invokevirtual 149, 3) := dk_182 0 149 (dk_at dksX4_isDone_11 19 rfl rfl)
theorem dX4_isDone_334 : decode cX4_isDone 334 = .ok (.istore 4, 2) := dk_54 4 (dk_at dksX4_isDone_11 22 rfl rfl)
theorem dX4_isDone_336 : decode cX4_isDone 336 = .ok (.iconst 1, 1) := dk_4 (dk_at dksX4_isDone_12 0 rfl rfl)
theorem dX4_isDone_337 : decode cX4_isDone 337 = .ok (.ireturn, 1) := dk_172 (dk_at dksX4_isDone_12 1 rfl rfl)
abbrev cX4_adds : ByteArray := prog_21_method_32_code
def yX4_adds : MethodName := ⟨RX4, "adds", "(II)V"⟩
def dkwX4_adds_1 : List UInt8 := [3, 46, 4, 184, 0, 60, 28, 79, 42, 180, 0, 9, 3, 92, 46, 4, 96, 79, 177]
abbrev dktX4_adds_1 : List UInt8 := dkwX4_adds_1 ++ []
def dkwX4_adds_0 : List UInt8 := [42, 180, 0, 9, 42, 180, 0, 9, 3, 46, 3, 184, 0, 60, 27, 79, 42, 180, 0, 9, 42, 180, 0, 9]
abbrev dktX4_adds_0 : List UInt8 := dkwX4_adds_0 ++ dktX4_adds_1
theorem dksX4_adds_0 : cX4_adds.data.toList.drop 0 = dktX4_adds_0 := by decide +kernel
theorem dksX4_adds_1 : cX4_adds.data.toList.drop 24 = dktX4_adds_1 := dk_seg dksX4_adds_0 24 rfl rfl
theorem dX4_adds_0 : decode cX4_adds 0 = .ok (.aload_n 0, 1) := dk_42 (dk_at dksX4_adds_0 0 rfl rfl)
theorem dX4_adds_1 : decode cX4_adds 1 = .ok (.getfield 9, 3) := dk_180 0 9 (dk_at dksX4_adds_0 1 rfl rfl)
theorem dX4_adds_4 : decode cX4_adds 4 = .ok (.aload_n 0, 1) := dk_42 (dk_at dksX4_adds_0 4 rfl rfl)
theorem dX4_adds_5 : decode cX4_adds 5 = .ok (.getfield 9, 3) := dk_180 0 9 (dk_at dksX4_adds_0 5 rfl rfl)
theorem dX4_adds_8 : decode cX4_adds 8 = .ok (.iconst 0, 1) := dk_3 (dk_at dksX4_adds_0 8 rfl rfl)
theorem dX4_adds_9 : decode cX4_adds 9 = .ok (.iaload, 1) := dk_46 (dk_at dksX4_adds_0 9 rfl rfl)
theorem dX4_adds_10 : decode cX4_adds 10 = .ok (.iconst 0, 1) := dk_3 (dk_at dksX4_adds_0 10 rfl rfl)
theorem dX4_adds_11 : decode cX4_adds 11 = .ok (.invokestatic 60, 3) := dk_184 0 60 (dk_at dksX4_adds_0 11 rfl rfl)
theorem dX4_adds_14 : decode cX4_adds 14 = .ok (.iload_n 1, 1) := dk_27 (dk_at dksX4_adds_0 14 rfl rfl)
theorem dX4_adds_15 : decode cX4_adds 15 = .ok (.iastore, 1) := dk_79 (dk_at dksX4_adds_0 15 rfl rfl)
theorem dX4_adds_16 : decode cX4_adds 16 = .ok (.aload_n 0, 1) := dk_42 (dk_at dksX4_adds_0 16 rfl rfl)
theorem dX4_adds_17 : decode cX4_adds 17 = .ok (.getfield 9, 3) := dk_180 0 9 (dk_at dksX4_adds_0 17 rfl rfl)
theorem dX4_adds_20 : decode cX4_adds 20 = .ok (.aload_n 0, 1) := dk_42 (dk_at dksX4_adds_0 20 rfl rfl)
theorem dX4_adds_21 : decode cX4_adds 21 = .ok (.getfield 9, 3) := dk_180 0 9 (dk_at dksX4_adds_0 21 rfl rfl)
theorem dX4_adds_24 : decode cX4_adds 24 = .ok (.iconst 0, 1) := dk_3 (dk_at dksX4_adds_1 0 rfl rfl)
theorem dX4_adds_25 : decode cX4_adds 25 = .ok (.iaload, 1) := dk_46 (dk_at dksX4_adds_1 1 rfl rfl)
theorem dX4_adds_26 : decode cX4_adds 26 = .ok (.iconst 1, 1) := dk_4 (dk_at dksX4_adds_1 2 rfl rfl)
theorem dX4_adds_27 : decode cX4_adds 27 = .ok (.invokestatic 60, 3) := dk_184 0 60 (dk_at dksX4_adds_1 3 rfl rfl)
theorem dX4_adds_30 : decode cX4_adds 30 = .ok (.iload_n 2, 1) := dk_28 (dk_at dksX4_adds_1 6 rfl rfl)
theorem dX4_adds_31 : decode cX4_adds 31 = .ok (.iastore, 1) := dk_79 (dk_at dksX4_adds_1 7 rfl rfl)
theorem dX4_adds_32 : decode cX4_adds 32 = .ok (.aload_n 0, 1) := dk_42 (dk_at dksX4_adds_1 8 rfl rfl)
theorem dX4_adds_33 : decode cX4_adds 33 = .ok (.getfield 9, 3) := dk_180 0 9 (dk_at dksX4_adds_1 9 rfl rfl)
theorem dX4_adds_36 : decode cX4_adds 36 = .ok (.iconst 0, 1) := dk_3 (dk_at dksX4_adds_1 12 rfl rfl)
theorem dX4_adds_37 : decode cX4_adds 37 = .ok (.dup2, 1) := dk_92 (dk_at dksX4_adds_1 13 rfl rfl)
theorem dX4_adds_38 : decode cX4_adds 38 = .ok (.iaload, 1) := dk_46 (dk_at dksX4_adds_1 14 rfl rfl)
theorem dX4_adds_39 : decode cX4_adds 39 = .ok (.iconst 1, 1) := dk_4 (dk_at dksX4_adds_1 15 rfl rfl)
theorem dX4_adds_40 : decode cX4_adds 40 = .ok (.iadd, 1) := dk_96 (dk_at dksX4_adds_1 16 rfl rfl)
theorem dX4_adds_41 : decode cX4_adds 41 = .ok (.iastore, 1) := dk_79 (dk_at dksX4_adds_1 17 rfl rfl)
theorem dX4_adds_42 : decode cX4_adds 42 = .ok (.return_, 1) := dk_177 (dk_at dksX4_adds_1 18 rfl rfl)
abbrev cX4_ofS : ByteArray := prog_21_method_5_code
def yX4_ofS : MethodName := ⟨RX4, "ofS", "(II)I"⟩
def dkwX4_ofS_0 : List UInt8 := [7, 5, 26, 104, 96, 27, 96, 172]
abbrev dktX4_ofS_0 : List UInt8 := dkwX4_ofS_0 ++ []
theorem dksX4_ofS_0 : cX4_ofS.data.toList.drop 0 = dktX4_ofS_0 := by decide +kernel
theorem dX4_ofS_0 : decode cX4_ofS 0 = .ok (.iconst 4, 1) := dk_7 (dk_at dksX4_ofS_0 0 rfl rfl)
theorem dX4_ofS_1 : decode cX4_ofS 1 = .ok (.iconst 2, 1) := dk_5 (dk_at dksX4_ofS_0 1 rfl rfl)
theorem dX4_ofS_2 : decode cX4_ofS 2 = .ok (.iload_n 0, 1) := dk_26 (dk_at dksX4_ofS_0 2 rfl rfl)
theorem dX4_ofS_3 : decode cX4_ofS 3 = .ok (.imul, 1) := dk_104 (dk_at dksX4_ofS_0 3 rfl rfl)
theorem dX4_ofS_4 : decode cX4_ofS 4 = .ok (.iadd, 1) := dk_96 (dk_at dksX4_ofS_0 4 rfl rfl)
theorem dX4_ofS_5 : decode cX4_ofS 5 = .ok (.iload_n 1, 1) := dk_27 (dk_at dksX4_ofS_0 5 rfl rfl)
theorem dX4_ofS_6 : decode cX4_ofS 6 = .ok (.iadd, 1) := dk_96 (dk_at dksX4_ofS_0 6 rfl rfl)
theorem dX4_ofS_7 : decode cX4_ofS 7 = .ok (.ireturn, 1) := dk_172 (dk_at dksX4_ofS_0 7 rfl rfl)
abbrev cX4_isPlayer : ByteArray := prog_21_method_10_code
def yX4_isPlayer : MethodName := ⟨RX4, "isPlayer", "(I)Z"⟩
def dkwX4_isPlayer_0 : List UInt8 := [26, 3, 6, 184, 0, 53, 172]
abbrev dktX4_isPlayer_0 : List UInt8 := dkwX4_isPlayer_0 ++ []
theorem dksX4_isPlayer_0 : cX4_isPlayer.data.toList.drop 0 = dktX4_isPlayer_0 := by decide +kernel
theorem dX4_isPlayer_0 : decode cX4_isPlayer 0 = .ok (.iload_n 0, 1) := dk_26 (dk_at dksX4_isPlayer_0 0 rfl rfl)
theorem dX4_isPlayer_1 : decode cX4_isPlayer 1 = .ok (.iconst 0, 1) := dk_3 (dk_at dksX4_isPlayer_0 1 rfl rfl)
theorem dX4_isPlayer_2 : decode cX4_isPlayer 2 = .ok (.iconst 3, 1) := dk_6 (dk_at dksX4_isPlayer_0 2 rfl rfl)
theorem dX4_isPlayer_3 : decode cX4_isPlayer 3 = .ok (.invokestatic 53, 3) := dk_184 0 53 (dk_at dksX4_isPlayer_0 3 rfl rfl)
theorem dX4_isPlayer_6 : decode cX4_isPlayer 6 = .ok (.ireturn, 1) := dk_172 (dk_at dksX4_isPlayer_0 6 rfl rfl)
abbrev cX4_isCell : ByteArray := prog_21_method_9_code
def yX4_isCell : MethodName := ⟨RX4, "isCell", "(I)Z"⟩
def dkwX4_isCell_0 : List UInt8 := [26, 3, 16, 8, 184, 0, 53, 172]
abbrev dktX4_isCell_0 : List UInt8 := dkwX4_isCell_0 ++ []
theorem dksX4_isCell_0 : cX4_isCell.data.toList.drop 0 = dktX4_isCell_0 := by decide +kernel
theorem dX4_isCell_0 : decode cX4_isCell 0 = .ok (.iload_n 0, 1) := dk_26 (dk_at dksX4_isCell_0 0 rfl rfl)
theorem dX4_isCell_1 : decode cX4_isCell 1 = .ok (.iconst 0, 1) := dk_3 (dk_at dksX4_isCell_0 1 rfl rfl)
theorem dX4_isCell_2 : decode cX4_isCell 2 = .ok (.bipush 8, 2) := dk_16 8 (dk_at dksX4_isCell_0 2 rfl rfl)
theorem dX4_isCell_4 : decode cX4_isCell 4 = .ok (.invokestatic 53, 3) := dk_184 0 53 (dk_at dksX4_isCell_0 4 rfl rfl)
theorem dX4_isCell_7 : decode cX4_isCell 7 = .ok (.ireturn, 1) := dk_172 (dk_at dksX4_isCell_0 7 rfl rfl)
abbrev cX4_isStroke : ByteArray := prog_21_method_8_code
def yX4_isStroke : MethodName := ⟨RX4, "isStroke", "(I)Z"⟩
def dkwX4_isStroke_0 : List UInt8 := [27, 3, 42, 180, 0, 9, 3, 46, 4, 100, 184, 0, 53, 172]
abbrev dktX4_isStroke_0 : List UInt8 := dkwX4_isStroke_0 ++ []
theorem dksX4_isStroke_0 : cX4_isStroke.data.toList.drop 0 = dktX4_isStroke_0 := by decide +kernel
theorem dX4_isStroke_0 : decode cX4_isStroke 0 = .ok (.iload_n 1, 1) := dk_27 (dk_at dksX4_isStroke_0 0 rfl rfl)
theorem dX4_isStroke_1 : decode cX4_isStroke 1 = .ok (.iconst 0, 1) := dk_3 (dk_at dksX4_isStroke_0 1 rfl rfl)
theorem dX4_isStroke_2 : decode cX4_isStroke 2 = .ok (.aload_n 0, 1) := dk_42 (dk_at dksX4_isStroke_0 2 rfl rfl)
theorem dX4_isStroke_3 : decode cX4_isStroke 3 = .ok (.getfield 9, 3) := dk_180 0 9 (dk_at dksX4_isStroke_0 3 rfl rfl)
theorem dX4_isStroke_6 : decode cX4_isStroke 6 = .ok (.iconst 0, 1) := dk_3 (dk_at dksX4_isStroke_0 6 rfl rfl)
theorem dX4_isStroke_7 : decode cX4_isStroke 7 = .ok (.iaload, 1) := dk_46 (dk_at dksX4_isStroke_0 7 rfl rfl)
theorem dX4_isStroke_8 : decode cX4_isStroke 8 = .ok (.iconst 1, 1) := dk_4 (dk_at dksX4_isStroke_0 8 rfl rfl)
theorem dX4_isStroke_9 : decode cX4_isStroke 9 = .ok (.isub, 1) := dk_100 (dk_at dksX4_isStroke_0 9 rfl rfl)
theorem dX4_isStroke_10 : decode cX4_isStroke 10 = .ok (.invokestatic 53, 3) := dk_184 0 53 (dk_at dksX4_isStroke_0 10 rfl rfl)
theorem dX4_isStroke_13 : decode cX4_isStroke 13 = .ok (.ireturn, 1) := dk_172 (dk_at dksX4_isStroke_0 13 rfl rfl)
abbrev cX4_isOver : ByteArray := prog_21_method_33_code
def yX4_isOver : MethodName := ⟨RX4, "isOver", "()Z"⟩
def dkwX4_isOver_1 : List UInt8 := [159, 0, 18, 42, 180, 0, 9, 4, 5, 184, 0, 50, 46, 16, 99, 160, 0, 7, 4, 167, 0, 4, 3, 172]
abbrev dktX4_isOver_1 : List UInt8 := dkwX4_isOver_1 ++ []
def dkwX4_isOver_0 : List UInt8 := [42, 180, 0, 9, 4, 46, 17, 3, 231, 159, 0, 33, 42, 180, 0, 9, 3, 5, 184, 0, 50, 46, 16, 99]
abbrev dktX4_isOver_0 : List UInt8 := dkwX4_isOver_0 ++ dktX4_isOver_1
theorem dksX4_isOver_0 : cX4_isOver.data.toList.drop 0 = dktX4_isOver_0 := by decide +kernel
theorem dksX4_isOver_1 : cX4_isOver.data.toList.drop 24 = dktX4_isOver_1 := dk_seg dksX4_isOver_0 24 rfl rfl
theorem dX4_isOver_0 : decode cX4_isOver 0 = .ok (.aload_n 0, 1) := dk_42 (dk_at dksX4_isOver_0 0 rfl rfl)
theorem dX4_isOver_1 : decode cX4_isOver 1 = .ok (.getfield 9, 3) := dk_180 0 9 (dk_at dksX4_isOver_0 1 rfl rfl)
theorem dX4_isOver_4 : decode cX4_isOver 4 = .ok (.iconst 1, 1) := dk_4 (dk_at dksX4_isOver_0 4 rfl rfl)
theorem dX4_isOver_5 : decode cX4_isOver 5 = .ok (.iaload, 1) := dk_46 (dk_at dksX4_isOver_0 5 rfl rfl)
theorem dX4_isOver_6 : decode cX4_isOver 6 = .ok (.sipush 999, 3) := dk_17 3 231 (dk_at dksX4_isOver_0 6 rfl rfl)
theorem dX4_isOver_9 : decode cX4_isOver 9 = .ok (.if_icmp .eq 33, 3) := dk_159 0 33 (dk_at dksX4_isOver_0 9 rfl rfl)
theorem dX4_isOver_12 : decode cX4_isOver 12 = .ok (.aload_n 0, 1) := dk_42 (dk_at dksX4_isOver_0 12 rfl rfl)
theorem dX4_isOver_13 : decode cX4_isOver 13 = .ok (.getfield 9, 3) := dk_180 0 9 (dk_at dksX4_isOver_0 13 rfl rfl)
theorem dX4_isOver_16 : decode cX4_isOver 16 = .ok (.iconst 0, 1) := dk_3 (dk_at dksX4_isOver_0 16 rfl rfl)
theorem dX4_isOver_17 : decode cX4_isOver 17 = .ok (.iconst 2, 1) := dk_5 (dk_at dksX4_isOver_0 17 rfl rfl)
theorem dX4_isOver_18 : decode cX4_isOver 18 = .ok (.invokestatic 50, 3) := dk_184 0 50 (dk_at dksX4_isOver_0 18 rfl rfl)
theorem dX4_isOver_21 : decode cX4_isOver 21 = .ok (.iaload, 1) := dk_46 (dk_at dksX4_isOver_0 21 rfl rfl)
theorem dX4_isOver_22 : decode cX4_isOver 22 = .ok (.bipush 99, 2) := dk_16 99 (dk_at dksX4_isOver_0 22 rfl rfl)
theorem dX4_isOver_24 : decode cX4_isOver 24 = .ok (.if_icmp .eq 18, 3) := dk_159 0 18 (dk_at dksX4_isOver_1 0 rfl rfl)
theorem dX4_isOver_27 : decode cX4_isOver 27 = .ok (.aload_n 0, 1) := dk_42 (dk_at dksX4_isOver_1 3 rfl rfl)
theorem dX4_isOver_28 : decode cX4_isOver 28 = .ok (.getfield 9, 3) := dk_180 0 9 (dk_at dksX4_isOver_1 4 rfl rfl)
theorem dX4_isOver_31 : decode cX4_isOver 31 = .ok (.iconst 1, 1) := dk_4 (dk_at dksX4_isOver_1 7 rfl rfl)
theorem dX4_isOver_32 : decode cX4_isOver 32 = .ok (.iconst 2, 1) := dk_5 (dk_at dksX4_isOver_1 8 rfl rfl)
theorem dX4_isOver_33 : decode cX4_isOver 33 = .ok (.invokestatic 50, 3) := dk_184 0 50 (dk_at dksX4_isOver_1 9 rfl rfl)
theorem dX4_isOver_36 : decode cX4_isOver 36 = .ok (.iaload, 1) := dk_46 (dk_at dksX4_isOver_1 12 rfl rfl)
theorem dX4_isOver_37 : decode cX4_isOver 37 = .ok (.bipush 99, 2) := dk_16 99 (dk_at dksX4_isOver_1 13 rfl rfl)
theorem dX4_isOver_39 : decode cX4_isOver 39 = .ok (.if_icmp .ne 7, 3) := dk_160 0 7 (dk_at dksX4_isOver_1 15 rfl rfl)
theorem dX4_isOver_42 : decode cX4_isOver 42 = .ok (.iconst 1, 1) := dk_4 (dk_at dksX4_isOver_1 18 rfl rfl)
theorem dX4_isOver_43 : decode cX4_isOver 43 = .ok (.goto 4, 3) := dk_167 0 4 (dk_at dksX4_isOver_1 19 rfl rfl)
theorem dX4_isOver_46 : decode cX4_isOver 46 = .ok (.iconst 0, 1) := dk_3 (dk_at dksX4_isOver_1 22 rfl rfl)
theorem dX4_isOver_47 : decode cX4_isOver 47 = .ok (.ireturn, 1) := dk_172 (dk_at dksX4_isOver_1 23 rfl rfl)
abbrev cX4_hits : ByteArray := prog_21_method_28_code
def yX4_hits : MethodName := ⟨RX4, "hits", "([III)Z"⟩
def dkwX4_hits_10 : List UInt8 := [182, 0, 101, 3, 172]
abbrev dktX4_hits_10 : List UInt8 := dkwX4_hits_10 ++ []
def dkwX4_hits_9 : List UInt8 := [43, 21, 5, 3, 184, 0, 50, 46, 21, 6, 184, 0, 107, 43, 21, 10, 21, 7, 184, 0, 98, 184, 0, 110]
abbrev dktX4_hits_9 : List UInt8 := dkwX4_hits_9 ++ dktX4_hits_10
def dkwX4_hits_8 : List UInt8 := [43, 5, 21, 8, 79, 21, 8, 184, 0, 104, 54, 10, 42, 43, 21, 10, 43, 21, 10, 3, 184, 0, 46, 46]
abbrev dktX4_hits_8 : List UInt8 := dkwX4_hits_8 ++ dktX4_hits_9
def dkwX4_hits_7 : List UInt8 := [21, 6, 184, 0, 70, 54, 9, 42, 43, 21, 8, 21, 6, 182, 0, 101, 43, 21, 8, 21, 9, 184, 0, 90]
abbrev dktX4_hits_7 : List UInt8 := dkwX4_hits_7 ++ dktX4_hits_8
def dkwX4_hits_6 : List UInt8 := [46, 4, 96, 79, 43, 5, 5, 4, 21, 5, 100, 104, 79, 4, 172, 43, 21, 8, 3, 184, 0, 46, 46]
abbrev dktX4_hits_6 : List UInt8 := dkwX4_hits_6 ++ dktX4_hits_7
def dkwX4_hits_5 : List UInt8 := [184, 0, 70, 43, 21, 8, 21, 7, 184, 0, 98, 164, 0, 28, 43, 4, 21, 5, 100, 5, 184, 0, 50, 92]
abbrev dktX4_hits_5 : List UInt8 := dkwX4_hits_5 ++ dktX4_hits_6
def dkwX4_hits_4 : List UInt8 := [4, 96, 6, 184, 0, 90, 21, 8, 16, 9, 159, 0, 27, 43, 21, 8, 3, 184, 0, 46, 46, 21, 6]
abbrev dktX4_hits_4 : List UInt8 := dkwX4_hits_4 ++ dktX4_hits_5
def dkwX4_hits_3 : List UInt8 := [21, 5, 21, 6, 184, 0, 94, 153, 0, 23, 43, 5, 21, 5, 104, 6, 184, 0, 90, 43, 5, 21, 5, 104]
abbrev dktX4_hits_3 : List UInt8 := dkwX4_hits_3 ++ dktX4_hits_4
def dkwX4_hits_2 : List UInt8 := [43, 21, 4, 43, 28, 3, 184, 0, 60, 46, 43, 28, 4, 184, 0, 60, 46, 184, 0, 87, 184, 0, 90, 43]
abbrev dktX4_hits_2 : List UInt8 := dkwX4_hits_2 ++ dktX4_hits_3
def dkwX4_hits_1 : List UInt8 := [21, 6, 184, 0, 81, 54, 7, 43, 21, 5, 21, 6, 184, 0, 84, 54, 8, 43, 4, 92, 46, 4, 96, 79]
abbrev dktX4_hits_1 : List UInt8 := dkwX4_hits_1 ++ dktX4_hits_2
def dkwX4_hits_0 : List UInt8 := [43, 5, 46, 54, 4, 4, 21, 4, 184, 0, 73, 100, 54, 5, 43, 28, 29, 184, 0, 77, 54, 6, 43, 28]
abbrev dktX4_hits_0 : List UInt8 := dkwX4_hits_0 ++ dktX4_hits_1
theorem dksX4_hits_0 : cX4_hits.data.toList.drop 0 = dktX4_hits_0 := by decide +kernel
theorem dksX4_hits_1 : cX4_hits.data.toList.drop 24 = dktX4_hits_1 := dk_seg dksX4_hits_0 24 rfl rfl
theorem dksX4_hits_2 : cX4_hits.data.toList.drop 48 = dktX4_hits_2 := dk_seg dksX4_hits_1 24 rfl rfl
theorem dksX4_hits_3 : cX4_hits.data.toList.drop 72 = dktX4_hits_3 := dk_seg dksX4_hits_2 24 rfl rfl
theorem dksX4_hits_4 : cX4_hits.data.toList.drop 96 = dktX4_hits_4 := dk_seg dksX4_hits_3 24 rfl rfl
theorem dksX4_hits_5 : cX4_hits.data.toList.drop 119 = dktX4_hits_5 := dk_seg dksX4_hits_4 23 rfl rfl
theorem dksX4_hits_6 : cX4_hits.data.toList.drop 143 = dktX4_hits_6 := dk_seg dksX4_hits_5 24 rfl rfl
theorem dksX4_hits_7 : cX4_hits.data.toList.drop 166 = dktX4_hits_7 := dk_seg dksX4_hits_6 23 rfl rfl
theorem dksX4_hits_8 : cX4_hits.data.toList.drop 190 = dktX4_hits_8 := dk_seg dksX4_hits_7 24 rfl rfl
theorem dksX4_hits_9 : cX4_hits.data.toList.drop 214 = dktX4_hits_9 := dk_seg dksX4_hits_8 24 rfl rfl
theorem dksX4_hits_10 : cX4_hits.data.toList.drop 238 = dktX4_hits_10 := dk_seg dksX4_hits_9 24 rfl rfl
theorem dX4_hits_0 : decode cX4_hits 0 = .ok (.aload_n 1, 1) := dk_43 (dk_at dksX4_hits_0 0 rfl rfl)
theorem dX4_hits_1 : decode cX4_hits 1 = .ok (.iconst 2, 1) := dk_5 (dk_at dksX4_hits_0 1 rfl rfl)
theorem dX4_hits_2 : decode cX4_hits 2 = .ok (.iaload, 1) := dk_46 (dk_at dksX4_hits_0 2 rfl rfl)
theorem dX4_hits_3 : decode cX4_hits 3 = .ok (.istore 4, 2) := dk_54 4 (dk_at dksX4_hits_0 3 rfl rfl)
theorem dX4_hits_5 : decode cX4_hits 5 = .ok (.iconst 1, 1) := dk_4 (dk_at dksX4_hits_0 5 rfl rfl)
theorem dX4_hits_6 : decode cX4_hits 6 = .ok (.iload 4, 2) := dk_21 4 (dk_at dksX4_hits_0 6 rfl rfl)
theorem dX4_hits_8 : decode cX4_hits 8 = .ok (.invokestatic 73, 3) := dk_184 0 73 (dk_at dksX4_hits_0 8 rfl rfl)
theorem dX4_hits_11 : decode cX4_hits 11 = .ok (.isub, 1) := dk_100 (dk_at dksX4_hits_0 11 rfl rfl)
theorem dX4_hits_12 : decode cX4_hits 12 = .ok (.istore 5, 2) := dk_54 5 (dk_at dksX4_hits_0 12 rfl rfl)
theorem dX4_hits_14 : decode cX4_hits 14 = .ok (.aload_n 1, 1) := dk_43 (dk_at dksX4_hits_0 14 rfl rfl)
theorem dX4_hits_15 : decode cX4_hits 15 = .ok (.iload_n 2, 1) := dk_28 (dk_at dksX4_hits_0 15 rfl rfl)
theorem dX4_hits_16 : decode cX4_hits 16 = .ok (.iload_n 3, 1) := dk_29 (dk_at dksX4_hits_0 16 rfl rfl)
theorem dX4_hits_17 : decode cX4_hits 17 = .ok (.invokestatic 77, 3) := dk_184 0 77 (dk_at dksX4_hits_0 17 rfl rfl)
theorem dX4_hits_20 : decode cX4_hits 20 = .ok (.istore 6, 2) := dk_54 6 (dk_at dksX4_hits_0 20 rfl rfl)
theorem dX4_hits_22 : decode cX4_hits 22 = .ok (.aload_n 1, 1) := dk_43 (dk_at dksX4_hits_0 22 rfl rfl)
theorem dX4_hits_23 : decode cX4_hits 23 = .ok (.iload_n 2, 1) := dk_28 (dk_at dksX4_hits_0 23 rfl rfl)
theorem dX4_hits_24 : decode cX4_hits 24 = .ok (.iload 6, 2) := dk_21 6 (dk_at dksX4_hits_1 0 rfl rfl)
theorem dX4_hits_26 : decode cX4_hits 26 = .ok (.invokestatic 81, 3) := dk_184 0 81 (dk_at dksX4_hits_1 2 rfl rfl)
theorem dX4_hits_29 : decode cX4_hits 29 = .ok (.istore 7, 2) := dk_54 7 (dk_at dksX4_hits_1 5 rfl rfl)
theorem dX4_hits_31 : decode cX4_hits 31 = .ok (.aload_n 1, 1) := dk_43 (dk_at dksX4_hits_1 7 rfl rfl)
theorem dX4_hits_32 : decode cX4_hits 32 = .ok (.iload 5, 2) := dk_21 5 (dk_at dksX4_hits_1 8 rfl rfl)
theorem dX4_hits_34 : decode cX4_hits 34 = .ok (.iload 6, 2) := dk_21 6 (dk_at dksX4_hits_1 10 rfl rfl)
theorem dX4_hits_36 : decode cX4_hits 36 = .ok (.invokestatic 84, 3) := dk_184 0 84 (dk_at dksX4_hits_1 12 rfl rfl)
theorem dX4_hits_39 : decode cX4_hits 39 = .ok (.istore 8, 2) := dk_54 8 (dk_at dksX4_hits_1 15 rfl rfl)
theorem dX4_hits_41 : decode cX4_hits 41 = .ok (.aload_n 1, 1) := dk_43 (dk_at dksX4_hits_1 17 rfl rfl)
theorem dX4_hits_42 : decode cX4_hits 42 = .ok (.iconst 1, 1) := dk_4 (dk_at dksX4_hits_1 18 rfl rfl)
theorem dX4_hits_43 : decode cX4_hits 43 = .ok (.dup2, 1) := dk_92 (dk_at dksX4_hits_1 19 rfl rfl)
theorem dX4_hits_44 : decode cX4_hits 44 = .ok (.iaload, 1) := dk_46 (dk_at dksX4_hits_1 20 rfl rfl)
theorem dX4_hits_45 : decode cX4_hits 45 = .ok (.iconst 1, 1) := dk_4 (dk_at dksX4_hits_1 21 rfl rfl)
theorem dX4_hits_46 : decode cX4_hits 46 = .ok (.iadd, 1) := dk_96 (dk_at dksX4_hits_1 22 rfl rfl)
theorem dX4_hits_47 : decode cX4_hits 47 = .ok (.iastore, 1) := dk_79 (dk_at dksX4_hits_1 23 rfl rfl)
theorem dX4_hits_48 : decode cX4_hits 48 = .ok (.aload_n 1, 1) := dk_43 (dk_at dksX4_hits_2 0 rfl rfl)
theorem dX4_hits_49 : decode cX4_hits 49 = .ok (.iload 4, 2) := dk_21 4 (dk_at dksX4_hits_2 1 rfl rfl)
theorem dX4_hits_51 : decode cX4_hits 51 = .ok (.aload_n 1, 1) := dk_43 (dk_at dksX4_hits_2 3 rfl rfl)
theorem dX4_hits_52 : decode cX4_hits 52 = .ok (.iload_n 2, 1) := dk_28 (dk_at dksX4_hits_2 4 rfl rfl)
theorem dX4_hits_53 : decode cX4_hits 53 = .ok (.iconst 0, 1) := dk_3 (dk_at dksX4_hits_2 5 rfl rfl)
theorem dX4_hits_54 : decode cX4_hits 54 = .ok (.invokestatic 60, 3) := dk_184 0 60 (dk_at dksX4_hits_2 6 rfl rfl)
theorem dX4_hits_57 : decode cX4_hits 57 = .ok (.iaload, 1) := dk_46 (dk_at dksX4_hits_2 9 rfl rfl)
theorem dX4_hits_58 : decode cX4_hits 58 = .ok (.aload_n 1, 1) := dk_43 (dk_at dksX4_hits_2 10 rfl rfl)
theorem dX4_hits_59 : decode cX4_hits 59 = .ok (.iload_n 2, 1) := dk_28 (dk_at dksX4_hits_2 11 rfl rfl)
theorem dX4_hits_60 : decode cX4_hits 60 = .ok (.iconst 1, 1) := dk_4 (dk_at dksX4_hits_2 12 rfl rfl)
theorem dX4_hits_61 : decode cX4_hits 61 = .ok (.invokestatic 60, 3) := dk_184 0 60 (dk_at dksX4_hits_2 13 rfl rfl)
theorem dX4_hits_64 : decode cX4_hits 64 = .ok (.iaload, 1) := dk_46 (dk_at dksX4_hits_2 16 rfl rfl)
theorem dX4_hits_65 : decode cX4_hits 65 = .ok (.invokestatic 87, 3) := dk_184 0 87 (dk_at dksX4_hits_2 17 rfl rfl)
theorem dX4_hits_68 : decode cX4_hits 68 = .ok (.invokestatic 90, 3) := dk_184 0 90 (dk_at dksX4_hits_2 20 rfl rfl)
theorem dX4_hits_71 : decode cX4_hits 71 = .ok (.aload_n 1, 1) := dk_43 (dk_at dksX4_hits_2 23 rfl rfl)
theorem dX4_hits_72 : decode cX4_hits 72 = .ok (.iload 5, 2) := dk_21 5 (dk_at dksX4_hits_3 0 rfl rfl)
theorem dX4_hits_74 : decode cX4_hits 74 = .ok (.iload 6, 2) := dk_21 6 (dk_at dksX4_hits_3 2 rfl rfl)
theorem dX4_hits_76 : decode cX4_hits 76 = .ok (.invokestatic 94, 3) := dk_184 0 94 (dk_at dksX4_hits_3 4 rfl rfl)
theorem dX4_hits_79 : decode cX4_hits 79 = .ok (.ifCond .eq 23, 3) := dk_153 0 23 (dk_at dksX4_hits_3 7 rfl rfl)
theorem dX4_hits_82 : decode cX4_hits 82 = .ok (.aload_n 1, 1) := dk_43 (dk_at dksX4_hits_3 10 rfl rfl)
theorem dX4_hits_83 : decode cX4_hits 83 = .ok (.iconst 2, 1) := dk_5 (dk_at dksX4_hits_3 11 rfl rfl)
theorem dX4_hits_84 : decode cX4_hits 84 = .ok (.iload 5, 2) := dk_21 5 (dk_at dksX4_hits_3 12 rfl rfl)
theorem dX4_hits_86 : decode cX4_hits 86 = .ok (.imul, 1) := dk_104 (dk_at dksX4_hits_3 14 rfl rfl)
theorem dX4_hits_87 : decode cX4_hits 87 = .ok (.iconst 3, 1) := dk_6 (dk_at dksX4_hits_3 15 rfl rfl)
theorem dX4_hits_88 : decode cX4_hits 88 = .ok (.invokestatic 90, 3) := dk_184 0 90 (dk_at dksX4_hits_3 16 rfl rfl)
theorem dX4_hits_91 : decode cX4_hits 91 = .ok (.aload_n 1, 1) := dk_43 (dk_at dksX4_hits_3 19 rfl rfl)
theorem dX4_hits_92 : decode cX4_hits 92 = .ok (.iconst 2, 1) := dk_5 (dk_at dksX4_hits_3 20 rfl rfl)
theorem dX4_hits_93 : decode cX4_hits 93 = .ok (.iload 5, 2) := dk_21 5 (dk_at dksX4_hits_3 21 rfl rfl)
theorem dX4_hits_95 : decode cX4_hits 95 = .ok (.imul, 1) := dk_104 (dk_at dksX4_hits_3 23 rfl rfl)
theorem dX4_hits_96 : decode cX4_hits 96 = .ok (.iconst 1, 1) := dk_4 (dk_at dksX4_hits_4 0 rfl rfl)
theorem dX4_hits_97 : decode cX4_hits 97 = .ok (.iadd, 1) := dk_96 (dk_at dksX4_hits_4 1 rfl rfl)
theorem dX4_hits_98 : decode cX4_hits 98 = .ok (.iconst 3, 1) := dk_6 (dk_at dksX4_hits_4 2 rfl rfl)
theorem dX4_hits_99 : decode cX4_hits 99 = .ok (.invokestatic 90, 3) := dk_184 0 90 (dk_at dksX4_hits_4 3 rfl rfl)
theorem dX4_hits_102 : decode cX4_hits 102 = .ok (.iload 8, 2) := dk_21 8 (dk_at dksX4_hits_4 6 rfl rfl)
theorem dX4_hits_104 : decode cX4_hits 104 = .ok (.bipush 9, 2) := dk_16 9 (dk_at dksX4_hits_4 8 rfl rfl)
theorem dX4_hits_106 : decode cX4_hits 106 = .ok (.if_icmp .eq 27, 3) := dk_159 0 27 (dk_at dksX4_hits_4 10 rfl rfl)
theorem dX4_hits_109 : decode cX4_hits 109 = .ok (.aload_n 1, 1) := dk_43 (dk_at dksX4_hits_4 13 rfl rfl)
theorem dX4_hits_110 : decode cX4_hits 110 = .ok (.iload 8, 2) := dk_21 8 (dk_at dksX4_hits_4 14 rfl rfl)
theorem dX4_hits_112 : decode cX4_hits 112 = .ok (.iconst 0, 1) := dk_3 (dk_at dksX4_hits_4 16 rfl rfl)
theorem dX4_hits_113 : decode cX4_hits 113 = .ok (.invokestatic 46, 3) := dk_184 0 46 (dk_at dksX4_hits_4 17 rfl rfl)
theorem dX4_hits_116 : decode cX4_hits 116 = .ok (.iaload, 1) := dk_46 (dk_at dksX4_hits_4 20 rfl rfl)
theorem dX4_hits_117 : decode cX4_hits 117 = .ok (.iload 6, 2) := dk_21 6 (dk_at dksX4_hits_4 21 rfl rfl)
theorem dX4_hits_119 : decode cX4_hits 119 = .ok (.invokestatic 70, 3) := dk_184 0 70 (dk_at dksX4_hits_5 0 rfl rfl)
theorem dX4_hits_122 : decode cX4_hits 122 = .ok (.aload_n 1, 1) := dk_43 (dk_at dksX4_hits_5 3 rfl rfl)
theorem dX4_hits_123 : decode cX4_hits 123 = .ok (.iload 8, 2) := dk_21 8 (dk_at dksX4_hits_5 4 rfl rfl)
theorem dX4_hits_125 : decode cX4_hits 125 = .ok (.iload 7, 2) := dk_21 7 (dk_at dksX4_hits_5 6 rfl rfl)
theorem dX4_hits_127 : decode cX4_hits 127 = .ok (.invokestatic 98, 3) := dk_184 0 98 (dk_at dksX4_hits_5 8 rfl rfl)
theorem dX4_hits_130 : decode cX4_hits 130 = .ok (.if_icmp .le 28, 3) := dk_164 0 28 (dk_at dksX4_hits_5 11 rfl rfl)
theorem dX4_hits_133 : decode cX4_hits 133 = .ok (.aload_n 1, 1) := dk_43 (dk_at dksX4_hits_5 14 rfl rfl)
theorem dX4_hits_134 : decode cX4_hits 134 = .ok (.iconst 1, 1) := dk_4 (dk_at dksX4_hits_5 15 rfl rfl)
theorem dX4_hits_135 : decode cX4_hits 135 = .ok (.iload 5, 2) := dk_21 5 (dk_at dksX4_hits_5 16 rfl rfl)
theorem dX4_hits_137 : decode cX4_hits 137 = .ok (.isub, 1) := dk_100 (dk_at dksX4_hits_5 18 rfl rfl)
theorem dX4_hits_138 : decode cX4_hits 138 = .ok (.iconst 2, 1) := dk_5 (dk_at dksX4_hits_5 19 rfl rfl)
theorem dX4_hits_139 : decode cX4_hits 139 = .ok (.invokestatic 50, 3) := dk_184 0 50 (dk_at dksX4_hits_5 20 rfl rfl)
theorem dX4_hits_142 : decode cX4_hits 142 = .ok (.dup2, 1) := dk_92 (dk_at dksX4_hits_5 23 rfl rfl)
theorem dX4_hits_143 : decode cX4_hits 143 = .ok (.iaload, 1) := dk_46 (dk_at dksX4_hits_6 0 rfl rfl)
theorem dX4_hits_144 : decode cX4_hits 144 = .ok (.iconst 1, 1) := dk_4 (dk_at dksX4_hits_6 1 rfl rfl)
theorem dX4_hits_145 : decode cX4_hits 145 = .ok (.iadd, 1) := dk_96 (dk_at dksX4_hits_6 2 rfl rfl)
theorem dX4_hits_146 : decode cX4_hits 146 = .ok (.iastore, 1) := dk_79 (dk_at dksX4_hits_6 3 rfl rfl)
theorem dX4_hits_147 : decode cX4_hits 147 = .ok (.aload_n 1, 1) := dk_43 (dk_at dksX4_hits_6 4 rfl rfl)
theorem dX4_hits_148 : decode cX4_hits 148 = .ok (.iconst 2, 1) := dk_5 (dk_at dksX4_hits_6 5 rfl rfl)
theorem dX4_hits_149 : decode cX4_hits 149 = .ok (.iconst 2, 1) := dk_5 (dk_at dksX4_hits_6 6 rfl rfl)
theorem dX4_hits_150 : decode cX4_hits 150 = .ok (.iconst 1, 1) := dk_4 (dk_at dksX4_hits_6 7 rfl rfl)
theorem dX4_hits_151 : decode cX4_hits 151 = .ok (.iload 5, 2) := dk_21 5 (dk_at dksX4_hits_6 8 rfl rfl)
theorem dX4_hits_153 : decode cX4_hits 153 = .ok (.isub, 1) := dk_100 (dk_at dksX4_hits_6 10 rfl rfl)
theorem dX4_hits_154 : decode cX4_hits 154 = .ok (.imul, 1) := dk_104 (dk_at dksX4_hits_6 11 rfl rfl)
theorem dX4_hits_155 : decode cX4_hits 155 = .ok (.iastore, 1) := dk_79 (dk_at dksX4_hits_6 12 rfl rfl)
theorem dX4_hits_156 : decode cX4_hits 156 = .ok (.iconst 1, 1) := dk_4 (dk_at dksX4_hits_6 13 rfl rfl)
theorem dX4_hits_157 : decode cX4_hits 157 = .ok (.ireturn, 1) := dk_172 (dk_at dksX4_hits_6 14 rfl rfl)
theorem dX4_hits_158 : decode cX4_hits 158 = .ok (.aload_n 1, 1) := dk_43 (dk_at dksX4_hits_6 15 rfl rfl)
theorem dX4_hits_159 : decode cX4_hits 159 = .ok (.iload 8, 2) := dk_21 8 (dk_at dksX4_hits_6 16 rfl rfl)
theorem dX4_hits_161 : decode cX4_hits 161 = .ok (.iconst 0, 1) := dk_3 (dk_at dksX4_hits_6 18 rfl rfl)
theorem dX4_hits_162 : decode cX4_hits 162 = .ok (.invokestatic 46, 3) := dk_184 0 46 (dk_at dksX4_hits_6 19 rfl rfl)
theorem dX4_hits_165 : decode cX4_hits 165 = .ok (.iaload, 1) := dk_46 (dk_at dksX4_hits_6 22 rfl rfl)
theorem dX4_hits_166 : decode cX4_hits 166 = .ok (.iload 6, 2) := dk_21 6 (dk_at dksX4_hits_7 0 rfl rfl)
theorem dX4_hits_168 : decode cX4_hits 168 = .ok (.invokestatic 70, 3) := dk_184 0 70 (dk_at dksX4_hits_7 2 rfl rfl)
theorem dX4_hits_171 : decode cX4_hits 171 = .ok (.istore 9, 2) := dk_54 9 (dk_at dksX4_hits_7 5 rfl rfl)
theorem dX4_hits_173 : decode cX4_hits 173 = .ok (.aload_n 0, 1) := dk_42 (dk_at dksX4_hits_7 7 rfl rfl)
theorem dX4_hits_174 : decode cX4_hits 174 = .ok (.aload_n 1, 1) := dk_43 (dk_at dksX4_hits_7 8 rfl rfl)
theorem dX4_hits_175 : decode cX4_hits 175 = .ok (.iload 8, 2) := dk_21 8 (dk_at dksX4_hits_7 9 rfl rfl)
theorem dX4_hits_177 : decode cX4_hits 177 = .ok (.iload 6, 2) := dk_21 6 (dk_at dksX4_hits_7 11 rfl rfl)
theorem dX4_hits_179 : decode cX4_hits 179 = .ok (.invokevirtual 101, 3) := dk_182 0 101 (dk_at dksX4_hits_7 13 rfl rfl)
theorem dX4_hits_182 : decode cX4_hits 182 = .ok (.aload_n 1, 1) := dk_43 (dk_at dksX4_hits_7 16 rfl rfl)
theorem dX4_hits_183 : decode cX4_hits 183 = .ok (.iload 8, 2) := dk_21 8 (dk_at dksX4_hits_7 17 rfl rfl)
theorem dX4_hits_185 : decode cX4_hits 185 = .ok (.iload 9, 2) := dk_21 9 (dk_at dksX4_hits_7 19 rfl rfl)
theorem dX4_hits_187 : decode cX4_hits 187 = .ok (.invokestatic 90, 3) := dk_184 0 90 (dk_at dksX4_hits_7 21 rfl rfl)
theorem dX4_hits_190 : decode cX4_hits 190 = .ok (.aload_n 1, 1) := dk_43 (dk_at dksX4_hits_8 0 rfl rfl)
theorem dX4_hits_191 : decode cX4_hits 191 = .ok (.iconst 2, 1) := dk_5 (dk_at dksX4_hits_8 1 rfl rfl)
theorem dX4_hits_192 : decode cX4_hits 192 = .ok (.iload 8, 2) := dk_21 8 (dk_at dksX4_hits_8 2 rfl rfl)
theorem dX4_hits_194 : decode cX4_hits 194 = .ok (.iastore, 1) := dk_79 (dk_at dksX4_hits_8 4 rfl rfl)
theorem dX4_hits_195 : decode cX4_hits 195 = .ok (.iload 8, 2) := dk_21 8 (dk_at dksX4_hits_8 5 rfl rfl)
theorem dX4_hits_197 : decode cX4_hits 197 = .ok (.invokestatic 104, 3) := dk_184 0 104 (dk_at dksX4_hits_8 7 rfl rfl)
theorem dX4_hits_200 : decode cX4_hits 200 = .ok (.istore 10, 2) := dk_54 10 (dk_at dksX4_hits_8 10 rfl rfl)
theorem dX4_hits_202 : decode cX4_hits 202 = .ok (.aload_n 0, 1) := dk_42 (dk_at dksX4_hits_8 12 rfl rfl)
theorem dX4_hits_203 : decode cX4_hits 203 = .ok (.aload_n 1, 1) := dk_43 (dk_at dksX4_hits_8 13 rfl rfl)
theorem dX4_hits_204 : decode cX4_hits 204 = .ok (.iload 10, 2) := dk_21 10 (dk_at dksX4_hits_8 14 rfl rfl)
theorem dX4_hits_206 : decode cX4_hits 206 = .ok (.aload_n 1, 1) := dk_43 (dk_at dksX4_hits_8 16 rfl rfl)
theorem dX4_hits_207 : decode cX4_hits 207 = .ok (.iload 10, 2) := dk_21 10 (dk_at dksX4_hits_8 17 rfl rfl)
theorem dX4_hits_209 : decode cX4_hits 209 = .ok (.iconst 0, 1) := dk_3 (dk_at dksX4_hits_8 19 rfl rfl)
theorem dX4_hits_210 : decode cX4_hits 210 = .ok (.invokestatic 46, 3) := dk_184 0 46 (dk_at dksX4_hits_8 20 rfl rfl)
theorem dX4_hits_213 : decode cX4_hits 213 = .ok (.iaload, 1) := dk_46 (dk_at dksX4_hits_8 23 rfl rfl)
theorem dX4_hits_214 : decode cX4_hits 214 = .ok (.aload_n 1, 1) := dk_43 (dk_at dksX4_hits_9 0 rfl rfl)
theorem dX4_hits_215 : decode cX4_hits 215 = .ok (.iload 5, 2) := dk_21 5 (dk_at dksX4_hits_9 1 rfl rfl)
theorem dX4_hits_217 : decode cX4_hits 217 = .ok (.iconst 0, 1) := dk_3 (dk_at dksX4_hits_9 3 rfl rfl)
theorem dX4_hits_218 : decode cX4_hits 218 = .ok (.invokestatic 50, 3) := dk_184 0 50 (dk_at dksX4_hits_9 4 rfl rfl)
theorem dX4_hits_221 : decode cX4_hits 221 = .ok (.iaload, 1) := dk_46 (dk_at dksX4_hits_9 7 rfl rfl)
theorem dX4_hits_222 : decode cX4_hits 222 = .ok (.iload 6, 2) := dk_21 6 (dk_at dksX4_hits_9 8 rfl rfl)
theorem dX4_hits_224 : decode cX4_hits 224 = .ok (.invokestatic 107, 3) := dk_184 0 107 (dk_at dksX4_hits_9 10 rfl rfl)
theorem dX4_hits_227 : decode cX4_hits 227 = .ok (.aload_n 1, 1) := dk_43 (dk_at dksX4_hits_9 13 rfl rfl)
theorem dX4_hits_228 : decode cX4_hits 228 = .ok (.iload 10, 2) := dk_21 10 (dk_at dksX4_hits_9 14 rfl rfl)
theorem dX4_hits_230 : decode cX4_hits 230 = .ok (.iload 7, 2) := dk_21 7 (dk_at dksX4_hits_9 16 rfl rfl)
theorem dX4_hits_232 : decode cX4_hits 232 = .ok (.invokestatic 98, 3) := dk_184 0 98 (dk_at dksX4_hits_9 18 rfl rfl)
theorem dX4_hits_235 : decode cX4_hits 235 = .ok (.invokestatic 110, 3) := dk_184 0 110 (dk_at dksX4_hits_9 21 rfl rfl)
theorem dX4_hits_238 : decode cX4_hits 238 = .ok (.invokevirtual 101, 3) := dk_182 0 101 (dk_at dksX4_hits_10 0 rfl rfl)
theorem dX4_hits_241 : decode cX4_hits 241 = .ok (.iconst 0, 1) := dk_3 (dk_at dksX4_hits_10 3 rfl rfl)
theorem dX4_hits_242 : decode cX4_hits 242 = .ok (.ireturn, 1) := dk_172 (dk_at dksX4_hits_10 4 rfl rfl)
abbrev cX4_sideOf : ByteArray := prog_21_method_19_code
def yX4_sideOf : MethodName := ⟨RX4, "sideOf", "(I)I"⟩
def dkwX4_sideOf_0 : List UInt8 := [26, 5, 108, 172]
abbrev dktX4_sideOf_0 : List UInt8 := dkwX4_sideOf_0 ++ []
theorem dksX4_sideOf_0 : cX4_sideOf.data.toList.drop 0 = dktX4_sideOf_0 := by decide +kernel
theorem dX4_sideOf_0 : decode cX4_sideOf 0 = .ok (.iload_n 0, 1) := dk_26 (dk_at dksX4_sideOf_0 0 rfl rfl)
theorem dX4_sideOf_1 : decode cX4_sideOf 1 = .ok (.iconst 2, 1) := dk_5 (dk_at dksX4_sideOf_0 1 rfl rfl)
theorem dX4_sideOf_2 : decode cX4_sideOf 2 = .ok (.idiv, 1) := dk_108 (dk_at dksX4_sideOf_0 2 rfl rfl)
theorem dX4_sideOf_3 : decode cX4_sideOf 3 = .ok (.ireturn, 1) := dk_172 (dk_at dksX4_sideOf_0 3 rfl rfl)
abbrev cX4_fallsIn : ByteArray := prog_21_method_17_code
def yX4_fallsIn : MethodName := ⟨RX4, "fallsIn", "([III)I"⟩
def dkwX4_fallsIn_3 : List UInt8 := [21, 4, 96, 172, 28, 172]
abbrev dktX4_fallsIn_3 : List UInt8 := dkwX4_fallsIn_3 ++ []
def dkwX4_fallsIn_2 : List UInt8 := [29, 4, 96, 172, 29, 21, 4, 156, 0, 7, 3, 167, 0, 15, 21, 4, 5, 164, 0, 7, 5, 167, 0, 5]
abbrev dktX4_fallsIn_2 : List UInt8 := dkwX4_fallsIn_2 ++ dktX4_fallsIn_3
def dkwX4_fallsIn_1 : List UInt8 := [171, 0, 0, 0, 0, 54, 0, 0, 0, 2, 0, 0, 0, 6, 0, 0, 0, 26, 0, 0, 0, 7, 0, 0, 0, 30]
abbrev dktX4_fallsIn_1 : List UInt8 := dkwX4_fallsIn_1 ++ dktX4_fallsIn_2
def dkwX4_fallsIn_0 : List UInt8 := [28, 6, 108, 6, 104, 62, 28, 6, 112, 42, 6, 46, 96, 54, 4, 42, 27, 3, 184, 0, 60, 46]
abbrev dktX4_fallsIn_0 : List UInt8 := dkwX4_fallsIn_0 ++ dktX4_fallsIn_1
theorem dksX4_fallsIn_0 : cX4_fallsIn.data.toList.drop 0 = dktX4_fallsIn_0 := by decide +kernel
theorem dksX4_fallsIn_1 : cX4_fallsIn.data.toList.drop 22 = dktX4_fallsIn_1 := dk_seg dksX4_fallsIn_0 22 rfl rfl
theorem dksX4_fallsIn_2 : cX4_fallsIn.data.toList.drop 48 = dktX4_fallsIn_2 := dk_seg dksX4_fallsIn_1 26 rfl rfl
theorem dksX4_fallsIn_3 : cX4_fallsIn.data.toList.drop 72 = dktX4_fallsIn_3 := dk_seg dksX4_fallsIn_2 24 rfl rfl
theorem dX4_fallsIn_0 : decode cX4_fallsIn 0 = .ok (.iload_n 2, 1) := dk_28 (dk_at dksX4_fallsIn_0 0 rfl rfl)
theorem dX4_fallsIn_1 : decode cX4_fallsIn 1 = .ok (.iconst 3, 1) := dk_6 (dk_at dksX4_fallsIn_0 1 rfl rfl)
theorem dX4_fallsIn_2 : decode cX4_fallsIn 2 = .ok (.idiv, 1) := dk_108 (dk_at dksX4_fallsIn_0 2 rfl rfl)
theorem dX4_fallsIn_3 : decode cX4_fallsIn 3 = .ok (.iconst 3, 1) := dk_6 (dk_at dksX4_fallsIn_0 3 rfl rfl)
theorem dX4_fallsIn_4 : decode cX4_fallsIn 4 = .ok (.imul, 1) := dk_104 (dk_at dksX4_fallsIn_0 4 rfl rfl)
theorem dX4_fallsIn_5 : decode cX4_fallsIn 5 = .ok (.istore_n 3, 1) := dk_62 (dk_at dksX4_fallsIn_0 5 rfl rfl)
theorem dX4_fallsIn_6 : decode cX4_fallsIn 6 = .ok (.iload_n 2, 1) := dk_28 (dk_at dksX4_fallsIn_0 6 rfl rfl)
theorem dX4_fallsIn_7 : decode cX4_fallsIn 7 = .ok (.iconst 3, 1) := dk_6 (dk_at dksX4_fallsIn_0 7 rfl rfl)
theorem dX4_fallsIn_8 : decode cX4_fallsIn 8 = .ok (.irem, 1) := dk_112 (dk_at dksX4_fallsIn_0 8 rfl rfl)
theorem dX4_fallsIn_9 : decode cX4_fallsIn 9 = .ok (.aload_n 0, 1) := dk_42 (dk_at dksX4_fallsIn_0 9 rfl rfl)
theorem dX4_fallsIn_10 : decode cX4_fallsIn 10 = .ok (.iconst 3, 1) := dk_6 (dk_at dksX4_fallsIn_0 10 rfl rfl)
theorem dX4_fallsIn_11 : decode cX4_fallsIn 11 = .ok (.iaload, 1) := dk_46 (dk_at dksX4_fallsIn_0 11 rfl rfl)
theorem dX4_fallsIn_12 : decode cX4_fallsIn 12 = .ok (.iadd, 1) := dk_96 (dk_at dksX4_fallsIn_0 12 rfl rfl)
theorem dX4_fallsIn_13 : decode cX4_fallsIn 13 = .ok (.istore 4, 2) := dk_54 4 (dk_at dksX4_fallsIn_0 13 rfl rfl)
theorem dX4_fallsIn_15 : decode cX4_fallsIn 15 = .ok (.aload_n 0, 1) := dk_42 (dk_at dksX4_fallsIn_0 15 rfl rfl)
theorem dX4_fallsIn_16 : decode cX4_fallsIn 16 = .ok (.iload_n 1, 1) := dk_27 (dk_at dksX4_fallsIn_0 16 rfl rfl)
theorem dX4_fallsIn_17 : decode cX4_fallsIn 17 = .ok (.iconst 0, 1) := dk_3 (dk_at dksX4_fallsIn_0 17 rfl rfl)
theorem dX4_fallsIn_18 : decode cX4_fallsIn 18 = .ok (.invokestatic 60, 3) := dk_184 0 60 (dk_at dksX4_fallsIn_0 18 rfl rfl)
theorem dX4_fallsIn_21 : decode cX4_fallsIn 21 = .ok (.iaload, 1) := dk_46 (dk_at dksX4_fallsIn_0 21 rfl rfl)
theorem dX4_fallsIn_22 : decode cX4_fallsIn 22 = .ok (.lookupswitch 54 #[(6, 26), (7, 30)], 26) := by decide +kernel
theorem dX4_fallsIn_48 : decode cX4_fallsIn 48 = .ok (.iload_n 3, 1) := dk_29 (dk_at dksX4_fallsIn_2 0 rfl rfl)
theorem dX4_fallsIn_49 : decode cX4_fallsIn 49 = .ok (.iconst 1, 1) := dk_4 (dk_at dksX4_fallsIn_2 1 rfl rfl)
theorem dX4_fallsIn_50 : decode cX4_fallsIn 50 = .ok (.iadd, 1) := dk_96 (dk_at dksX4_fallsIn_2 2 rfl rfl)
theorem dX4_fallsIn_51 : decode cX4_fallsIn 51 = .ok (.ireturn, 1) := dk_172 (dk_at dksX4_fallsIn_2 3 rfl rfl)
theorem dX4_fallsIn_52 : decode cX4_fallsIn 52 = .ok (.iload_n 3, 1) := dk_29 (dk_at dksX4_fallsIn_2 4 rfl rfl)
theorem dX4_fallsIn_53 : decode cX4_fallsIn 53 = .ok (.iload 4, 2) := dk_21 4 (dk_at dksX4_fallsIn_2 5 rfl rfl)
theorem dX4_fallsIn_55 : decode cX4_fallsIn 55 = .ok (.ifCond .ge 7, 3) := dk_156 0 7 (dk_at dksX4_fallsIn_2 7 rfl rfl)
theorem dX4_fallsIn_58 : decode cX4_fallsIn 58 = .ok (.iconst 0, 1) := dk_3 (dk_at dksX4_fallsIn_2 10 rfl rfl)
theorem dX4_fallsIn_59 : decode cX4_fallsIn 59 = .ok (.goto 15, 3) := dk_167 0 15 (dk_at dksX4_fallsIn_2 11 rfl rfl)
theorem dX4_fallsIn_62 : decode cX4_fallsIn 62 = .ok (.iload 4, 2) := dk_21 4 (dk_at dksX4_fallsIn_2 14 rfl rfl)
theorem dX4_fallsIn_64 : decode cX4_fallsIn 64 = .ok (.iconst 2, 1) := dk_5 (dk_at dksX4_fallsIn_2 16 rfl rfl)
theorem dX4_fallsIn_65 : decode cX4_fallsIn 65 = .ok (.if_icmp .le 7, 3) := dk_164 0 7 (dk_at dksX4_fallsIn_2 17 rfl rfl)
theorem dX4_fallsIn_68 : decode cX4_fallsIn 68 = .ok (.iconst 2, 1) := dk_5 (dk_at dksX4_fallsIn_2 20 rfl rfl)
theorem dX4_fallsIn_69 : decode cX4_fallsIn 69 = .ok (.goto 5, 3) := dk_167 0 5 (dk_at dksX4_fallsIn_2 21 rfl rfl)
theorem dX4_fallsIn_72 : decode cX4_fallsIn 72 = .ok (.iload 4, 2) := dk_21 4 (dk_at dksX4_fallsIn_3 0 rfl rfl)
theorem dX4_fallsIn_74 : decode cX4_fallsIn 74 = .ok (.iadd, 1) := dk_96 (dk_at dksX4_fallsIn_3 2 rfl rfl)
theorem dX4_fallsIn_75 : decode cX4_fallsIn 75 = .ok (.ireturn, 1) := dk_172 (dk_at dksX4_fallsIn_3 3 rfl rfl)
theorem dX4_fallsIn_76 : decode cX4_fallsIn 76 = .ok (.iload_n 2, 1) := dk_28 (dk_at dksX4_fallsIn_3 4 rfl rfl)
theorem dX4_fallsIn_77 : decode cX4_fallsIn 77 = .ok (.ireturn, 1) := dk_172 (dk_at dksX4_fallsIn_3 5 rfl rfl)
abbrev cX4_timeIn : ByteArray := prog_21_method_18_code
def yX4_timeIn : MethodName := ⟨RX4, "timeIn", "([III)I"⟩
def dkwX4_timeIn_0 : List UInt8 := [42, 27, 3, 184, 0, 60, 46, 42, 27, 4, 184, 0, 60, 46, 28, 184, 0, 63, 172]
abbrev dktX4_timeIn_0 : List UInt8 := dkwX4_timeIn_0 ++ []
theorem dksX4_timeIn_0 : cX4_timeIn.data.toList.drop 0 = dktX4_timeIn_0 := by decide +kernel
theorem dX4_timeIn_0 : decode cX4_timeIn 0 = .ok (.aload_n 0, 1) := dk_42 (dk_at dksX4_timeIn_0 0 rfl rfl)
theorem dX4_timeIn_1 : decode cX4_timeIn 1 = .ok (.iload_n 1, 1) := dk_27 (dk_at dksX4_timeIn_0 1 rfl rfl)
theorem dX4_timeIn_2 : decode cX4_timeIn 2 = .ok (.iconst 0, 1) := dk_3 (dk_at dksX4_timeIn_0 2 rfl rfl)
theorem dX4_timeIn_3 : decode cX4_timeIn 3 = .ok (.invokestatic 60, 3) := dk_184 0 60 (dk_at dksX4_timeIn_0 3 rfl rfl)
theorem dX4_timeIn_6 : decode cX4_timeIn 6 = .ok (.iaload, 1) := dk_46 (dk_at dksX4_timeIn_0 6 rfl rfl)
theorem dX4_timeIn_7 : decode cX4_timeIn 7 = .ok (.aload_n 0, 1) := dk_42 (dk_at dksX4_timeIn_0 7 rfl rfl)
theorem dX4_timeIn_8 : decode cX4_timeIn 8 = .ok (.iload_n 1, 1) := dk_27 (dk_at dksX4_timeIn_0 8 rfl rfl)
theorem dX4_timeIn_9 : decode cX4_timeIn 9 = .ok (.iconst 1, 1) := dk_4 (dk_at dksX4_timeIn_0 9 rfl rfl)
theorem dX4_timeIn_10 : decode cX4_timeIn 10 = .ok (.invokestatic 60, 3) := dk_184 0 60 (dk_at dksX4_timeIn_0 10 rfl rfl)
theorem dX4_timeIn_13 : decode cX4_timeIn 13 = .ok (.iaload, 1) := dk_46 (dk_at dksX4_timeIn_0 13 rfl rfl)
theorem dX4_timeIn_14 : decode cX4_timeIn 14 = .ok (.iload_n 2, 1) := dk_28 (dk_at dksX4_timeIn_0 14 rfl rfl)
theorem dX4_timeIn_15 : decode cX4_timeIn 15 = .ok (.invokestatic 63, 3) := dk_184 0 63 (dk_at dksX4_timeIn_0 15 rfl rfl)
theorem dX4_timeIn_18 : decode cX4_timeIn 18 = .ok (.ireturn, 1) := dk_172 (dk_at dksX4_timeIn_0 18 rfl rfl)
abbrev cX4_timeBy : ByteArray := prog_21_method_15_code
def yX4_timeBy : MethodName := ⟨RX4, "timeBy", "(III)I"⟩
def dkwX4_timeBy_3 : List UInt8 := [172]
abbrev dktX4_timeBy_3 : List UInt8 := dkwX4_timeBy_3 ++ []
def dkwX4_timeBy_2 : List UInt8 := [27, 8, 161, 0, 7, 4, 167, 0, 4, 5, 172, 29, 172, 16, 6, 172, 29, 4, 100, 172, 16, 7, 172, 6]
abbrev dktX4_timeBy_2 : List UInt8 := dkwX4_timeBy_2 ++ dktX4_timeBy_3
def dkwX4_timeBy_1 : List UInt8 := [170, 0, 0, 0, 0, 0, 66, 0, 0, 0, 1, 0, 0, 0, 7, 0, 0, 0, 43, 0, 0, 0, 54, 0, 0, 0, 56, 0, 0, 0, 59, 0, 0, 0, 66, 0, 0, 0, 66, 0, 0, 0, 63]
abbrev dktX4_timeBy_1 : List UInt8 := dkwX4_timeBy_1 ++ dktX4_timeBy_2
def dkwX4_timeBy_0 : List UInt8 := [28, 6, 108, 154, 0, 7, 5, 167, 0, 4, 6, 62, 26]
abbrev dktX4_timeBy_0 : List UInt8 := dkwX4_timeBy_0 ++ dktX4_timeBy_1
theorem dksX4_timeBy_0 : cX4_timeBy.data.toList.drop 0 = dktX4_timeBy_0 := by decide +kernel
theorem dksX4_timeBy_1 : cX4_timeBy.data.toList.drop 13 = dktX4_timeBy_1 := dk_seg dksX4_timeBy_0 13 rfl rfl
theorem dksX4_timeBy_2 : cX4_timeBy.data.toList.drop 56 = dktX4_timeBy_2 := dk_seg dksX4_timeBy_1 43 rfl rfl
theorem dksX4_timeBy_3 : cX4_timeBy.data.toList.drop 80 = dktX4_timeBy_3 := dk_seg dksX4_timeBy_2 24 rfl rfl
theorem dX4_timeBy_0 : decode cX4_timeBy 0 = .ok (.iload_n 2, 1) := dk_28 (dk_at dksX4_timeBy_0 0 rfl rfl)
theorem dX4_timeBy_1 : decode cX4_timeBy 1 = .ok (.iconst 3, 1) := dk_6 (dk_at dksX4_timeBy_0 1 rfl rfl)
theorem dX4_timeBy_2 : decode cX4_timeBy 2 = .ok (.idiv, 1) := dk_108 (dk_at dksX4_timeBy_0 2 rfl rfl)
theorem dX4_timeBy_3 : decode cX4_timeBy 3 = .ok (.ifCond .ne 7, 3) := dk_154 0 7 (dk_at dksX4_timeBy_0 3 rfl rfl)
theorem dX4_timeBy_6 : decode cX4_timeBy 6 = .ok (.iconst 2, 1) := dk_5 (dk_at dksX4_timeBy_0 6 rfl rfl)
theorem dX4_timeBy_7 : decode cX4_timeBy 7 = .ok (.goto 4, 3) := dk_167 0 4 (dk_at dksX4_timeBy_0 7 rfl rfl)
theorem dX4_timeBy_10 : decode cX4_timeBy 10 = .ok (.iconst 3, 1) := dk_6 (dk_at dksX4_timeBy_0 10 rfl rfl)
theorem dX4_timeBy_11 : decode cX4_timeBy 11 = .ok (.istore_n 3, 1) := dk_62 (dk_at dksX4_timeBy_0 11 rfl rfl)
theorem dX4_timeBy_12 : decode cX4_timeBy 12 = .ok (.iload_n 0, 1) := dk_26 (dk_at dksX4_timeBy_0 12 rfl rfl)
theorem dX4_timeBy_13 : decode cX4_timeBy 13 = .ok (.tableswitch 66 1 7 #[43, 54, 56, 59, 66, 66, 63], 43) := by decide +kernel
theorem dX4_timeBy_56 : decode cX4_timeBy 56 = .ok (.iload_n 1, 1) := dk_27 (dk_at dksX4_timeBy_2 0 rfl rfl)
theorem dX4_timeBy_57 : decode cX4_timeBy 57 = .ok (.iconst 5, 1) := dk_8 (dk_at dksX4_timeBy_2 1 rfl rfl)
theorem dX4_timeBy_58 : decode cX4_timeBy 58 = .ok (.if_icmp .lt 7, 3) := dk_161 0 7 (dk_at dksX4_timeBy_2 2 rfl rfl)
theorem dX4_timeBy_61 : decode cX4_timeBy 61 = .ok (.iconst 1, 1) := dk_4 (dk_at dksX4_timeBy_2 5 rfl rfl)
theorem dX4_timeBy_62 : decode cX4_timeBy 62 = .ok (.goto 4, 3) := dk_167 0 4 (dk_at dksX4_timeBy_2 6 rfl rfl)
theorem dX4_timeBy_65 : decode cX4_timeBy 65 = .ok (.iconst 2, 1) := dk_5 (dk_at dksX4_timeBy_2 9 rfl rfl)
theorem dX4_timeBy_66 : decode cX4_timeBy 66 = .ok (.ireturn, 1) := dk_172 (dk_at dksX4_timeBy_2 10 rfl rfl)
theorem dX4_timeBy_67 : decode cX4_timeBy 67 = .ok (.iload_n 3, 1) := dk_29 (dk_at dksX4_timeBy_2 11 rfl rfl)
theorem dX4_timeBy_68 : decode cX4_timeBy 68 = .ok (.ireturn, 1) := dk_172 (dk_at dksX4_timeBy_2 12 rfl rfl)
theorem dX4_timeBy_69 : decode cX4_timeBy 69 = .ok (.bipush 6, 2) := dk_16 6 (dk_at dksX4_timeBy_2 13 rfl rfl)
theorem dX4_timeBy_71 : decode cX4_timeBy 71 = .ok (.ireturn, 1) := dk_172 (dk_at dksX4_timeBy_2 15 rfl rfl)
theorem dX4_timeBy_72 : decode cX4_timeBy 72 = .ok (.iload_n 3, 1) := dk_29 (dk_at dksX4_timeBy_2 16 rfl rfl)
theorem dX4_timeBy_73 : decode cX4_timeBy 73 = .ok (.iconst 1, 1) := dk_4 (dk_at dksX4_timeBy_2 17 rfl rfl)
theorem dX4_timeBy_74 : decode cX4_timeBy 74 = .ok (.isub, 1) := dk_100 (dk_at dksX4_timeBy_2 18 rfl rfl)
theorem dX4_timeBy_75 : decode cX4_timeBy 75 = .ok (.ireturn, 1) := dk_172 (dk_at dksX4_timeBy_2 19 rfl rfl)
theorem dX4_timeBy_76 : decode cX4_timeBy 76 = .ok (.bipush 7, 2) := dk_16 7 (dk_at dksX4_timeBy_2 20 rfl rfl)
theorem dX4_timeBy_78 : decode cX4_timeBy 78 = .ok (.ireturn, 1) := dk_172 (dk_at dksX4_timeBy_2 22 rfl rfl)
theorem dX4_timeBy_79 : decode cX4_timeBy 79 = .ok (.iconst 3, 1) := dk_6 (dk_at dksX4_timeBy_2 23 rfl rfl)
theorem dX4_timeBy_80 : decode cX4_timeBy 80 = .ok (.ireturn, 1) := dk_172 (dk_at dksX4_timeBy_3 0 rfl rfl)
abbrev cX4_whoseIn : ByteArray := prog_21_method_23_code
def yX4_whoseIn : MethodName := ⟨RX4, "whoseIn", "([III)I"⟩
def dkwX4_whoseIn_5 : List UInt8 := [184, 0, 46, 46, 4, 160, 0, 7, 29, 167, 0, 11, 29, 4, 96, 167, 0, 5, 16, 9, 172]
abbrev dktX4_whoseIn_5 : List UInt8 := dkwX4_whoseIn_5 ++ []
def dkwX4_whoseIn_4 : List UInt8 := [159, 0, 7, 4, 167, 0, 4, 3, 54, 7, 21, 6, 6, 160, 0, 29, 21, 7, 153, 0, 24, 42, 29, 6]
abbrev dktX4_whoseIn_4 : List UInt8 := dkwX4_whoseIn_4 ++ dktX4_whoseIn_5
def dkwX4_whoseIn_3 : List UInt8 := [21, 6, 5, 160, 0, 5, 29, 172, 42, 29, 6, 184, 0, 46, 46, 42, 29, 4, 96, 6, 184, 0, 46, 46]
abbrev dktX4_whoseIn_3 : List UInt8 := dkwX4_whoseIn_3 ++ dktX4_whoseIn_4
def dkwX4_whoseIn_2 : List UInt8 := [29, 167, 0, 6, 29, 4, 96, 172, 42, 27, 4, 184, 0, 50, 46, 54, 6, 21, 6, 4, 159, 0, 9]
abbrev dktX4_whoseIn_2 : List UInt8 := dkwX4_whoseIn_2 ++ dktX4_whoseIn_3
def dkwX4_whoseIn_1 : List UInt8 := [184, 0, 46, 46, 28, 184, 0, 70, 54, 5, 21, 4, 21, 5, 159, 0, 18, 21, 4, 21, 5, 162, 0, 7]
abbrev dktX4_whoseIn_1 : List UInt8 := dkwX4_whoseIn_1 ++ dktX4_whoseIn_2
def dkwX4_whoseIn_0 : List UInt8 := [5, 27, 104, 62, 42, 29, 3, 184, 0, 46, 46, 28, 184, 0, 70, 54, 4, 42, 29, 4, 96, 3]
abbrev dktX4_whoseIn_0 : List UInt8 := dkwX4_whoseIn_0 ++ dktX4_whoseIn_1
theorem dksX4_whoseIn_0 : cX4_whoseIn.data.toList.drop 0 = dktX4_whoseIn_0 := by decide +kernel
theorem dksX4_whoseIn_1 : cX4_whoseIn.data.toList.drop 22 = dktX4_whoseIn_1 := dk_seg dksX4_whoseIn_0 22 rfl rfl
theorem dksX4_whoseIn_2 : cX4_whoseIn.data.toList.drop 46 = dktX4_whoseIn_2 := dk_seg dksX4_whoseIn_1 24 rfl rfl
theorem dksX4_whoseIn_3 : cX4_whoseIn.data.toList.drop 69 = dktX4_whoseIn_3 := dk_seg dksX4_whoseIn_2 23 rfl rfl
theorem dksX4_whoseIn_4 : cX4_whoseIn.data.toList.drop 93 = dktX4_whoseIn_4 := dk_seg dksX4_whoseIn_3 24 rfl rfl
theorem dksX4_whoseIn_5 : cX4_whoseIn.data.toList.drop 117 = dktX4_whoseIn_5 := dk_seg dksX4_whoseIn_4 24 rfl rfl
theorem dX4_whoseIn_0 : decode cX4_whoseIn 0 = .ok (.iconst 2, 1) := dk_5 (dk_at dksX4_whoseIn_0 0 rfl rfl)
theorem dX4_whoseIn_1 : decode cX4_whoseIn 1 = .ok (.iload_n 1, 1) := dk_27 (dk_at dksX4_whoseIn_0 1 rfl rfl)
theorem dX4_whoseIn_2 : decode cX4_whoseIn 2 = .ok (.imul, 1) := dk_104 (dk_at dksX4_whoseIn_0 2 rfl rfl)
theorem dX4_whoseIn_3 : decode cX4_whoseIn 3 = .ok (.istore_n 3, 1) := dk_62 (dk_at dksX4_whoseIn_0 3 rfl rfl)
theorem dX4_whoseIn_4 : decode cX4_whoseIn 4 = .ok (.aload_n 0, 1) := dk_42 (dk_at dksX4_whoseIn_0 4 rfl rfl)
theorem dX4_whoseIn_5 : decode cX4_whoseIn 5 = .ok (.iload_n 3, 1) := dk_29 (dk_at dksX4_whoseIn_0 5 rfl rfl)
theorem dX4_whoseIn_6 : decode cX4_whoseIn 6 = .ok (.iconst 0, 1) := dk_3 (dk_at dksX4_whoseIn_0 6 rfl rfl)
theorem dX4_whoseIn_7 : decode cX4_whoseIn 7 = .ok (.invokestatic 46, 3) := dk_184 0 46 (dk_at dksX4_whoseIn_0 7 rfl rfl)
theorem dX4_whoseIn_10 : decode cX4_whoseIn 10 = .ok (.iaload, 1) := dk_46 (dk_at dksX4_whoseIn_0 10 rfl rfl)
theorem dX4_whoseIn_11 : decode cX4_whoseIn 11 = .ok (.iload_n 2, 1) := dk_28 (dk_at dksX4_whoseIn_0 11 rfl rfl)
theorem dX4_whoseIn_12 : decode cX4_whoseIn 12 = .ok (.invokestatic 70, 3) := dk_184 0 70 (dk_at dksX4_whoseIn_0 12 rfl rfl)
theorem dX4_whoseIn_15 : decode cX4_whoseIn 15 = .ok (.istore 4, 2) := dk_54 4 (dk_at dksX4_whoseIn_0 15 rfl rfl)
theorem dX4_whoseIn_17 : decode cX4_whoseIn 17 = .ok (.aload_n 0, 1) := dk_42 (dk_at dksX4_whoseIn_0 17 rfl rfl)
theorem dX4_whoseIn_18 : decode cX4_whoseIn 18 = .ok (.iload_n 3, 1) := dk_29 (dk_at dksX4_whoseIn_0 18 rfl rfl)
theorem dX4_whoseIn_19 : decode cX4_whoseIn 19 = .ok (.iconst 1, 1) := dk_4 (dk_at dksX4_whoseIn_0 19 rfl rfl)
theorem dX4_whoseIn_20 : decode cX4_whoseIn 20 = .ok (.iadd, 1) := dk_96 (dk_at dksX4_whoseIn_0 20 rfl rfl)
theorem dX4_whoseIn_21 : decode cX4_whoseIn 21 = .ok (.iconst 0, 1) := dk_3 (dk_at dksX4_whoseIn_0 21 rfl rfl)
theorem dX4_whoseIn_22 : decode cX4_whoseIn 22 = .ok (.invokestatic 46, 3) := dk_184 0 46 (dk_at dksX4_whoseIn_1 0 rfl rfl)
theorem dX4_whoseIn_25 : decode cX4_whoseIn 25 = .ok (.iaload, 1) := dk_46 (dk_at dksX4_whoseIn_1 3 rfl rfl)
theorem dX4_whoseIn_26 : decode cX4_whoseIn 26 = .ok (.iload_n 2, 1) := dk_28 (dk_at dksX4_whoseIn_1 4 rfl rfl)
theorem dX4_whoseIn_27 : decode cX4_whoseIn 27 = .ok (.invokestatic 70, 3) := dk_184 0 70 (dk_at dksX4_whoseIn_1 5 rfl rfl)
theorem dX4_whoseIn_30 : decode cX4_whoseIn 30 = .ok (.istore 5, 2) := dk_54 5 (dk_at dksX4_whoseIn_1 8 rfl rfl)
theorem dX4_whoseIn_32 : decode cX4_whoseIn 32 = .ok (.iload 4, 2) := dk_21 4 (dk_at dksX4_whoseIn_1 10 rfl rfl)
theorem dX4_whoseIn_34 : decode cX4_whoseIn 34 = .ok (.iload 5, 2) := dk_21 5 (dk_at dksX4_whoseIn_1 12 rfl rfl)
theorem dX4_whoseIn_36 : decode cX4_whoseIn 36 = .ok (.if_icmp .eq 18, 3) := dk_159 0 18 (dk_at dksX4_whoseIn_1 14 rfl rfl)
theorem dX4_whoseIn_39 : decode cX4_whoseIn 39 = .ok (.iload 4, 2) := dk_21 4 (dk_at dksX4_whoseIn_1 17 rfl rfl)
theorem dX4_whoseIn_41 : decode cX4_whoseIn 41 = .ok (.iload 5, 2) := dk_21 5 (dk_at dksX4_whoseIn_1 19 rfl rfl)
theorem dX4_whoseIn_43 : decode cX4_whoseIn 43 = .ok (.if_icmp .ge 7, 3) := dk_162 0 7 (dk_at dksX4_whoseIn_1 21 rfl rfl)
theorem dX4_whoseIn_46 : decode cX4_whoseIn 46 = .ok (.iload_n 3, 1) := dk_29 (dk_at dksX4_whoseIn_2 0 rfl rfl)
theorem dX4_whoseIn_47 : decode cX4_whoseIn 47 = .ok (.goto 6, 3) := dk_167 0 6 (dk_at dksX4_whoseIn_2 1 rfl rfl)
theorem dX4_whoseIn_50 : decode cX4_whoseIn 50 = .ok (.iload_n 3, 1) := dk_29 (dk_at dksX4_whoseIn_2 4 rfl rfl)
theorem dX4_whoseIn_51 : decode cX4_whoseIn 51 = .ok (.iconst 1, 1) := dk_4 (dk_at dksX4_whoseIn_2 5 rfl rfl)
theorem dX4_whoseIn_52 : decode cX4_whoseIn 52 = .ok (.iadd, 1) := dk_96 (dk_at dksX4_whoseIn_2 6 rfl rfl)
theorem dX4_whoseIn_53 : decode cX4_whoseIn 53 = .ok (.ireturn, 1) := dk_172 (dk_at dksX4_whoseIn_2 7 rfl rfl)
theorem dX4_whoseIn_54 : decode cX4_whoseIn 54 = .ok (.aload_n 0, 1) := dk_42 (dk_at dksX4_whoseIn_2 8 rfl rfl)
theorem dX4_whoseIn_55 : decode cX4_whoseIn 55 = .ok (.iload_n 1, 1) := dk_27 (dk_at dksX4_whoseIn_2 9 rfl rfl)
theorem dX4_whoseIn_56 : decode cX4_whoseIn 56 = .ok (.iconst 1, 1) := dk_4 (dk_at dksX4_whoseIn_2 10 rfl rfl)
theorem dX4_whoseIn_57 : decode cX4_whoseIn 57 = .ok (.invokestatic 50, 3) := dk_184 0 50 (dk_at dksX4_whoseIn_2 11 rfl rfl)
theorem dX4_whoseIn_60 : decode cX4_whoseIn 60 = .ok (.iaload, 1) := dk_46 (dk_at dksX4_whoseIn_2 14 rfl rfl)
theorem dX4_whoseIn_61 : decode cX4_whoseIn 61 = .ok (.istore 6, 2) := dk_54 6 (dk_at dksX4_whoseIn_2 15 rfl rfl)
theorem dX4_whoseIn_63 : decode cX4_whoseIn 63 = .ok (.iload 6, 2) := dk_21 6 (dk_at dksX4_whoseIn_2 17 rfl rfl)
theorem dX4_whoseIn_65 : decode cX4_whoseIn 65 = .ok (.iconst 1, 1) := dk_4 (dk_at dksX4_whoseIn_2 19 rfl rfl)
theorem dX4_whoseIn_66 : decode cX4_whoseIn 66 = .ok (.if_icmp .eq 9, 3) := dk_159 0 9 (dk_at dksX4_whoseIn_2 20 rfl rfl)
theorem dX4_whoseIn_69 : decode cX4_whoseIn 69 = .ok (.iload 6, 2) := dk_21 6 (dk_at dksX4_whoseIn_3 0 rfl rfl)
theorem dX4_whoseIn_71 : decode cX4_whoseIn 71 = .ok (.iconst 2, 1) := dk_5 (dk_at dksX4_whoseIn_3 2 rfl rfl)
theorem dX4_whoseIn_72 : decode cX4_whoseIn 72 = .ok (.if_icmp .ne 5, 3) := dk_160 0 5 (dk_at dksX4_whoseIn_3 3 rfl rfl)
theorem dX4_whoseIn_75 : decode cX4_whoseIn 75 = .ok (.iload_n 3, 1) := dk_29 (dk_at dksX4_whoseIn_3 6 rfl rfl)
theorem dX4_whoseIn_76 : decode cX4_whoseIn 76 = .ok (.ireturn, 1) := dk_172 (dk_at dksX4_whoseIn_3 7 rfl rfl)
theorem dX4_whoseIn_77 : decode cX4_whoseIn 77 = .ok (.aload_n 0, 1) := dk_42 (dk_at dksX4_whoseIn_3 8 rfl rfl)
theorem dX4_whoseIn_78 : decode cX4_whoseIn 78 = .ok (.iload_n 3, 1) := dk_29 (dk_at dksX4_whoseIn_3 9 rfl rfl)
theorem dX4_whoseIn_79 : decode cX4_whoseIn 79 = .ok (.iconst 3, 1) := dk_6 (dk_at dksX4_whoseIn_3 10 rfl rfl)
theorem dX4_whoseIn_80 : decode cX4_whoseIn 80 = .ok (.invokestatic 46, 3) := dk_184 0 46 (dk_at dksX4_whoseIn_3 11 rfl rfl)
theorem dX4_whoseIn_83 : decode cX4_whoseIn 83 = .ok (.iaload, 1) := dk_46 (dk_at dksX4_whoseIn_3 14 rfl rfl)
theorem dX4_whoseIn_84 : decode cX4_whoseIn 84 = .ok (.aload_n 0, 1) := dk_42 (dk_at dksX4_whoseIn_3 15 rfl rfl)
theorem dX4_whoseIn_85 : decode cX4_whoseIn 85 = .ok (.iload_n 3, 1) := dk_29 (dk_at dksX4_whoseIn_3 16 rfl rfl)
theorem dX4_whoseIn_86 : decode cX4_whoseIn 86 = .ok (.iconst 1, 1) := dk_4 (dk_at dksX4_whoseIn_3 17 rfl rfl)
theorem dX4_whoseIn_87 : decode cX4_whoseIn 87 = .ok (.iadd, 1) := dk_96 (dk_at dksX4_whoseIn_3 18 rfl rfl)
theorem dX4_whoseIn_88 : decode cX4_whoseIn 88 = .ok (.iconst 3, 1) := dk_6 (dk_at dksX4_whoseIn_3 19 rfl rfl)
theorem dX4_whoseIn_89 : decode cX4_whoseIn 89 = .ok (.invokestatic 46, 3) := dk_184 0 46 (dk_at dksX4_whoseIn_3 20 rfl rfl)
theorem dX4_whoseIn_92 : decode cX4_whoseIn 92 = .ok (.iaload, 1) := dk_46 (dk_at dksX4_whoseIn_3 23 rfl rfl)
theorem dX4_whoseIn_93 : decode cX4_whoseIn 93 = .ok (.if_icmp .eq 7, 3) := dk_159 0 7 (dk_at dksX4_whoseIn_4 0 rfl rfl)
theorem dX4_whoseIn_96 : decode cX4_whoseIn 96 = .ok (.iconst 1, 1) := dk_4 (dk_at dksX4_whoseIn_4 3 rfl rfl)
theorem dX4_whoseIn_97 : decode cX4_whoseIn 97 = .ok (.goto 4, 3) := dk_167 0 4 (dk_at dksX4_whoseIn_4 4 rfl rfl)
theorem dX4_whoseIn_100 : decode cX4_whoseIn 100 = .ok (.iconst 0, 1) := dk_3 (dk_at dksX4_whoseIn_4 7 rfl rfl)
theorem dX4_whoseIn_101 : decode cX4_whoseIn 101 = .ok (.istore 7, 2) := dk_54 7 (dk_at dksX4_whoseIn_4 8 rfl rfl)
theorem dX4_whoseIn_103 : decode cX4_whoseIn 103 = .ok (.iload 6, 2) := dk_21 6 (dk_at dksX4_whoseIn_4 10 rfl rfl)
theorem dX4_whoseIn_105 : decode cX4_whoseIn 105 = .ok (.iconst 3, 1) := dk_6 (dk_at dksX4_whoseIn_4 12 rfl rfl)
theorem dX4_whoseIn_106 : decode cX4_whoseIn 106 = .ok (.if_icmp .ne 29, 3) := dk_160 0 29 (dk_at dksX4_whoseIn_4 13 rfl rfl)
theorem dX4_whoseIn_109 : decode cX4_whoseIn 109 = .ok (.iload 7, 2) := dk_21 7 (dk_at dksX4_whoseIn_4 16 rfl rfl)
theorem dX4_whoseIn_111 : decode cX4_whoseIn 111 = .ok (.ifCond .eq 24, 3) := dk_153 0 24 (dk_at dksX4_whoseIn_4 18 rfl rfl)
theorem dX4_whoseIn_114 : decode cX4_whoseIn 114 = .ok (.aload_n 0, 1) := dk_42 (dk_at dksX4_whoseIn_4 21 rfl rfl)
theorem dX4_whoseIn_115 : decode cX4_whoseIn 115 = .ok (.iload_n 3, 1) := dk_29 (dk_at dksX4_whoseIn_4 22 rfl rfl)
theorem dX4_whoseIn_116 : decode cX4_whoseIn 116 = .ok (.iconst 3, 1) := dk_6 (dk_at dksX4_whoseIn_4 23 rfl rfl)
theorem dX4_whoseIn_117 : decode cX4_whoseIn 117 = .ok (.invokestatic 46, 3) := dk_184 0 46 (dk_at dksX4_whoseIn_5 0 rfl rfl)
theorem dX4_whoseIn_120 : decode cX4_whoseIn 120 = .ok (.iaload, 1) := dk_46 (dk_at dksX4_whoseIn_5 3 rfl rfl)
theorem dX4_whoseIn_121 : decode cX4_whoseIn 121 = .ok (.iconst 1, 1) := dk_4 (dk_at dksX4_whoseIn_5 4 rfl rfl)
theorem dX4_whoseIn_122 : decode cX4_whoseIn 122 = .ok (.if_icmp .ne 7, 3) := dk_160 0 7 (dk_at dksX4_whoseIn_5 5 rfl rfl)
theorem dX4_whoseIn_125 : decode cX4_whoseIn 125 = .ok (.iload_n 3, 1) := dk_29 (dk_at dksX4_whoseIn_5 8 rfl rfl)
theorem dX4_whoseIn_126 : decode cX4_whoseIn 126 = .ok (.goto 11, 3) := dk_167 0 11 (dk_at dksX4_whoseIn_5 9 rfl rfl)
theorem dX4_whoseIn_129 : decode cX4_whoseIn 129 = .ok (.iload_n 3, 1) := dk_29 (dk_at dksX4_whoseIn_5 12 rfl rfl)
theorem dX4_whoseIn_130 : decode cX4_whoseIn 130 = .ok (.iconst 1, 1) := dk_4 (dk_at dksX4_whoseIn_5 13 rfl rfl)
theorem dX4_whoseIn_131 : decode cX4_whoseIn 131 = .ok (.iadd, 1) := dk_96 (dk_at dksX4_whoseIn_5 14 rfl rfl)
theorem dX4_whoseIn_132 : decode cX4_whoseIn 132 = .ok (.goto 5, 3) := dk_167 0 5 (dk_at dksX4_whoseIn_5 15 rfl rfl)
theorem dX4_whoseIn_135 : decode cX4_whoseIn 135 = .ok (.bipush 9, 2) := dk_16 9 (dk_at dksX4_whoseIn_5 18 rfl rfl)
theorem dX4_whoseIn_137 : decode cX4_whoseIn 137 = .ok (.ireturn, 1) := dk_172 (dk_at dksX4_whoseIn_5 20 rfl rfl)
abbrev cX4_wayOf : ByteArray := prog_21_method_14_code
def yX4_wayOf : MethodName := ⟨RX4, "wayOf", "(II)I"⟩
def dkwX4_wayOf_0 : List UInt8 := [26, 6, 108, 27, 6, 108, 184, 0, 57, 26, 6, 112, 27, 6, 112, 184, 0, 57, 96, 172]
abbrev dktX4_wayOf_0 : List UInt8 := dkwX4_wayOf_0 ++ []
theorem dksX4_wayOf_0 : cX4_wayOf.data.toList.drop 0 = dktX4_wayOf_0 := by decide +kernel
theorem dX4_wayOf_0 : decode cX4_wayOf 0 = .ok (.iload_n 0, 1) := dk_26 (dk_at dksX4_wayOf_0 0 rfl rfl)
theorem dX4_wayOf_1 : decode cX4_wayOf 1 = .ok (.iconst 3, 1) := dk_6 (dk_at dksX4_wayOf_0 1 rfl rfl)
theorem dX4_wayOf_2 : decode cX4_wayOf 2 = .ok (.idiv, 1) := dk_108 (dk_at dksX4_wayOf_0 2 rfl rfl)
theorem dX4_wayOf_3 : decode cX4_wayOf 3 = .ok (.iload_n 1, 1) := dk_27 (dk_at dksX4_wayOf_0 3 rfl rfl)
theorem dX4_wayOf_4 : decode cX4_wayOf 4 = .ok (.iconst 3, 1) := dk_6 (dk_at dksX4_wayOf_0 4 rfl rfl)
theorem dX4_wayOf_5 : decode cX4_wayOf 5 = .ok (.idiv, 1) := dk_108 (dk_at dksX4_wayOf_0 5 rfl rfl)
theorem dX4_wayOf_6 : decode cX4_wayOf 6 = .ok (.invokestatic 57, 3) := dk_184 0 57 (dk_at dksX4_wayOf_0 6 rfl rfl)
theorem dX4_wayOf_9 : decode cX4_wayOf 9 = .ok (.iload_n 0, 1) := dk_26 (dk_at dksX4_wayOf_0 9 rfl rfl)
theorem dX4_wayOf_10 : decode cX4_wayOf 10 = .ok (.iconst 3, 1) := dk_6 (dk_at dksX4_wayOf_0 10 rfl rfl)
theorem dX4_wayOf_11 : decode cX4_wayOf 11 = .ok (.irem, 1) := dk_112 (dk_at dksX4_wayOf_0 11 rfl rfl)
theorem dX4_wayOf_12 : decode cX4_wayOf 12 = .ok (.iload_n 1, 1) := dk_27 (dk_at dksX4_wayOf_0 12 rfl rfl)
theorem dX4_wayOf_13 : decode cX4_wayOf 13 = .ok (.iconst 3, 1) := dk_6 (dk_at dksX4_wayOf_0 13 rfl rfl)
theorem dX4_wayOf_14 : decode cX4_wayOf 14 = .ok (.irem, 1) := dk_112 (dk_at dksX4_wayOf_0 14 rfl rfl)
theorem dX4_wayOf_15 : decode cX4_wayOf 15 = .ok (.invokestatic 57, 3) := dk_184 0 57 (dk_at dksX4_wayOf_0 15 rfl rfl)
theorem dX4_wayOf_18 : decode cX4_wayOf 18 = .ok (.iadd, 1) := dk_96 (dk_at dksX4_wayOf_0 18 rfl rfl)
theorem dX4_wayOf_19 : decode cX4_wayOf 19 = .ok (.ireturn, 1) := dk_172 (dk_at dksX4_wayOf_0 19 rfl rfl)
abbrev cX4_apart : ByteArray := prog_21_method_13_code
def yX4_apart : MethodName := ⟨RX4, "apart", "(II)I"⟩
def dkwX4_apart_0 : List UInt8 := [26, 27, 162, 0, 9, 27, 26, 100, 167, 0, 6, 26, 27, 100, 172]
abbrev dktX4_apart_0 : List UInt8 := dkwX4_apart_0 ++ []
theorem dksX4_apart_0 : cX4_apart.data.toList.drop 0 = dktX4_apart_0 := by decide +kernel
theorem dX4_apart_0 : decode cX4_apart 0 = .ok (.iload_n 0, 1) := dk_26 (dk_at dksX4_apart_0 0 rfl rfl)
theorem dX4_apart_1 : decode cX4_apart 1 = .ok (.iload_n 1, 1) := dk_27 (dk_at dksX4_apart_0 1 rfl rfl)
theorem dX4_apart_2 : decode cX4_apart 2 = .ok (.if_icmp .ge 9, 3) := dk_162 0 9 (dk_at dksX4_apart_0 2 rfl rfl)
theorem dX4_apart_5 : decode cX4_apart 5 = .ok (.iload_n 1, 1) := dk_27 (dk_at dksX4_apart_0 5 rfl rfl)
theorem dX4_apart_6 : decode cX4_apart 6 = .ok (.iload_n 0, 1) := dk_26 (dk_at dksX4_apart_0 6 rfl rfl)
theorem dX4_apart_7 : decode cX4_apart 7 = .ok (.isub, 1) := dk_100 (dk_at dksX4_apart_0 7 rfl rfl)
theorem dX4_apart_8 : decode cX4_apart 8 = .ok (.goto 6, 3) := dk_167 0 6 (dk_at dksX4_apart_0 8 rfl rfl)
theorem dX4_apart_11 : decode cX4_apart 11 = .ok (.iload_n 0, 1) := dk_26 (dk_at dksX4_apart_0 11 rfl rfl)
theorem dX4_apart_12 : decode cX4_apart 12 = .ok (.iload_n 1, 1) := dk_27 (dk_at dksX4_apart_0 12 rfl rfl)
theorem dX4_apart_13 : decode cX4_apart 13 = .ok (.isub, 1) := dk_100 (dk_at dksX4_apart_0 13 rfl rfl)
theorem dX4_apart_14 : decode cX4_apart 14 = .ok (.ireturn, 1) := dk_172 (dk_at dksX4_apart_0 14 rfl rfl)
abbrev cX4_tiresBy : ByteArray := prog_21_method_16_code
def yX4_tiresBy : MethodName := ⟨RX4, "tiresBy", "(II)I"⟩
def dkwX4_tiresBy_2 : List UInt8 := [8, 172, 4, 27, 6, 108, 96, 172, 5, 172, 4, 172]
abbrev dktX4_tiresBy_2 : List UInt8 := dkwX4_tiresBy_2 ++ []
def dkwX4_tiresBy_1 : List UInt8 := [170, 0, 0, 0, 0, 0, 53, 0, 0, 0, 1, 0, 0, 0, 7, 0, 0, 0, 43, 0, 0, 0, 45, 0, 0, 0, 51, 0, 0, 0, 45, 0, 0, 0, 53, 0, 0, 0, 53, 0, 0, 0, 51]
abbrev dktX4_tiresBy_1 : List UInt8 := dkwX4_tiresBy_1 ++ dktX4_tiresBy_2
def dkwX4_tiresBy_0 : List UInt8 := [26]
abbrev dktX4_tiresBy_0 : List UInt8 := dkwX4_tiresBy_0 ++ dktX4_tiresBy_1
theorem dksX4_tiresBy_0 : cX4_tiresBy.data.toList.drop 0 = dktX4_tiresBy_0 := by decide +kernel
theorem dksX4_tiresBy_1 : cX4_tiresBy.data.toList.drop 1 = dktX4_tiresBy_1 := dk_seg dksX4_tiresBy_0 1 rfl rfl
theorem dksX4_tiresBy_2 : cX4_tiresBy.data.toList.drop 44 = dktX4_tiresBy_2 := dk_seg dksX4_tiresBy_1 43 rfl rfl
theorem dX4_tiresBy_0 : decode cX4_tiresBy 0 = .ok (.iload_n 0, 1) := dk_26 (dk_at dksX4_tiresBy_0 0 rfl rfl)
theorem dX4_tiresBy_1 : decode cX4_tiresBy 1 = .ok (.tableswitch 53 1 7 #[43, 45, 51, 45, 53, 53, 51], 43) := by decide +kernel
theorem dX4_tiresBy_44 : decode cX4_tiresBy 44 = .ok (.iconst 5, 1) := dk_8 (dk_at dksX4_tiresBy_2 0 rfl rfl)
theorem dX4_tiresBy_45 : decode cX4_tiresBy 45 = .ok (.ireturn, 1) := dk_172 (dk_at dksX4_tiresBy_2 1 rfl rfl)
theorem dX4_tiresBy_46 : decode cX4_tiresBy 46 = .ok (.iconst 1, 1) := dk_4 (dk_at dksX4_tiresBy_2 2 rfl rfl)
theorem dX4_tiresBy_47 : decode cX4_tiresBy 47 = .ok (.iload_n 1, 1) := dk_27 (dk_at dksX4_tiresBy_2 3 rfl rfl)
theorem dX4_tiresBy_48 : decode cX4_tiresBy 48 = .ok (.iconst 3, 1) := dk_6 (dk_at dksX4_tiresBy_2 4 rfl rfl)
theorem dX4_tiresBy_49 : decode cX4_tiresBy 49 = .ok (.idiv, 1) := dk_108 (dk_at dksX4_tiresBy_2 5 rfl rfl)
theorem dX4_tiresBy_50 : decode cX4_tiresBy 50 = .ok (.iadd, 1) := dk_96 (dk_at dksX4_tiresBy_2 6 rfl rfl)
theorem dX4_tiresBy_51 : decode cX4_tiresBy 51 = .ok (.ireturn, 1) := dk_172 (dk_at dksX4_tiresBy_2 7 rfl rfl)
theorem dX4_tiresBy_52 : decode cX4_tiresBy 52 = .ok (.iconst 2, 1) := dk_5 (dk_at dksX4_tiresBy_2 8 rfl rfl)
theorem dX4_tiresBy_53 : decode cX4_tiresBy 53 = .ok (.ireturn, 1) := dk_172 (dk_at dksX4_tiresBy_2 9 rfl rfl)
theorem dX4_tiresBy_54 : decode cX4_tiresBy 54 = .ok (.iconst 1, 1) := dk_4 (dk_at dksX4_tiresBy_2 10 rfl rfl)
theorem dX4_tiresBy_55 : decode cX4_tiresBy 55 = .ok (.ireturn, 1) := dk_172 (dk_at dksX4_tiresBy_2 11 rfl rfl)
abbrev cX4_isTired : ByteArray := prog_21_method_22_code
def yX4_isTired : MethodName := ⟨RX4, "isTired", "([III)V"⟩
def dkwX4_isTired_0 : List UInt8 := [42, 27, 5, 184, 0, 46, 16, 99, 42, 27, 5, 184, 0, 46, 46, 28, 96, 184, 0, 67, 79, 177]
abbrev dktX4_isTired_0 : List UInt8 := dkwX4_isTired_0 ++ []
theorem dksX4_isTired_0 : cX4_isTired.data.toList.drop 0 = dktX4_isTired_0 := by decide +kernel
theorem dX4_isTired_0 : decode cX4_isTired 0 = .ok (.aload_n 0, 1) := dk_42 (dk_at dksX4_isTired_0 0 rfl rfl)
theorem dX4_isTired_1 : decode cX4_isTired 1 = .ok (.iload_n 1, 1) := dk_27 (dk_at dksX4_isTired_0 1 rfl rfl)
theorem dX4_isTired_2 : decode cX4_isTired 2 = .ok (.iconst 2, 1) := dk_5 (dk_at dksX4_isTired_0 2 rfl rfl)
theorem dX4_isTired_3 : decode cX4_isTired 3 = .ok (.invokestatic 46, 3) := dk_184 0 46 (dk_at dksX4_isTired_0 3 rfl rfl)
theorem dX4_isTired_6 : decode cX4_isTired 6 = .ok (.bipush 99, 2) := dk_16 99 (dk_at dksX4_isTired_0 6 rfl rfl)
theorem dX4_isTired_8 : decode cX4_isTired 8 = .ok (.aload_n 0, 1) := dk_42 (dk_at dksX4_isTired_0 8 rfl rfl)
theorem dX4_isTired_9 : decode cX4_isTired 9 = .ok (.iload_n 1, 1) := dk_27 (dk_at dksX4_isTired_0 9 rfl rfl)
theorem dX4_isTired_10 : decode cX4_isTired 10 = .ok (.iconst 2, 1) := dk_5 (dk_at dksX4_isTired_0 10 rfl rfl)
theorem dX4_isTired_11 : decode cX4_isTired 11 = .ok (.invokestatic 46, 3) := dk_184 0 46 (dk_at dksX4_isTired_0 11 rfl rfl)
theorem dX4_isTired_14 : decode cX4_isTired 14 = .ok (.iaload, 1) := dk_46 (dk_at dksX4_isTired_0 14 rfl rfl)
theorem dX4_isTired_15 : decode cX4_isTired 15 = .ok (.iload_n 2, 1) := dk_28 (dk_at dksX4_isTired_0 15 rfl rfl)
theorem dX4_isTired_16 : decode cX4_isTired 16 = .ok (.iadd, 1) := dk_96 (dk_at dksX4_isTired_0 16 rfl rfl)
theorem dX4_isTired_17 : decode cX4_isTired 17 = .ok (.invokestatic 67, 3) := dk_184 0 67 (dk_at dksX4_isTired_0 17 rfl rfl)
theorem dX4_isTired_20 : decode cX4_isTired 20 = .ok (.iastore, 1) := dk_79 (dk_at dksX4_isTired_0 20 rfl rfl)
theorem dX4_isTired_21 : decode cX4_isTired 21 = .ok (.return_, 1) := dk_177 (dk_at dksX4_isTired_0 21 rfl rfl)
abbrev cX4_least : ByteArray := prog_21_method_3_code
def yX4_least : MethodName := ⟨RX4, "least", "(II)I"⟩
def dkwX4_least_0 : List UInt8 := [26, 27, 162, 0, 7, 26, 167, 0, 4, 27, 172]
abbrev dktX4_least_0 : List UInt8 := dkwX4_least_0 ++ []
theorem dksX4_least_0 : cX4_least.data.toList.drop 0 = dktX4_least_0 := by decide +kernel
theorem dX4_least_0 : decode cX4_least 0 = .ok (.iload_n 0, 1) := dk_26 (dk_at dksX4_least_0 0 rfl rfl)
theorem dX4_least_1 : decode cX4_least 1 = .ok (.iload_n 1, 1) := dk_27 (dk_at dksX4_least_0 1 rfl rfl)
theorem dX4_least_2 : decode cX4_least 2 = .ok (.if_icmp .ge 7, 3) := dk_162 0 7 (dk_at dksX4_least_0 2 rfl rfl)
theorem dX4_least_5 : decode cX4_least 5 = .ok (.iload_n 0, 1) := dk_26 (dk_at dksX4_least_0 5 rfl rfl)
theorem dX4_least_6 : decode cX4_least 6 = .ok (.goto 4, 3) := dk_167 0 4 (dk_at dksX4_least_0 6 rfl rfl)
theorem dX4_least_9 : decode cX4_least 9 = .ok (.iload_n 1, 1) := dk_27 (dk_at dksX4_least_0 9 rfl rfl)
theorem dX4_least_10 : decode cX4_least 10 = .ok (.ireturn, 1) := dk_172 (dk_at dksX4_least_0 10 rfl rfl)
abbrev cX4_isBoths : ByteArray := prog_21_method_24_code
def yX4_isBoths : MethodName := ⟨RX4, "isBoths", "([III)Z"⟩
def dkwX4_isBoths_1 : List UInt8 := [42, 5, 27, 104, 4, 96, 3, 184, 0, 46, 46, 28, 184, 0, 70, 160, 0, 7, 4, 167, 0, 4, 3, 172]
abbrev dktX4_isBoths_1 : List UInt8 := dkwX4_isBoths_1 ++ []
def dkwX4_isBoths_0 : List UInt8 := [42, 27, 4, 184, 0, 50, 46, 5, 160, 0, 38, 42, 5, 27, 104, 3, 184, 0, 46, 46, 28, 184, 0, 70]
abbrev dktX4_isBoths_0 : List UInt8 := dkwX4_isBoths_0 ++ dktX4_isBoths_1
theorem dksX4_isBoths_0 : cX4_isBoths.data.toList.drop 0 = dktX4_isBoths_0 := by decide +kernel
theorem dksX4_isBoths_1 : cX4_isBoths.data.toList.drop 24 = dktX4_isBoths_1 := dk_seg dksX4_isBoths_0 24 rfl rfl
theorem dX4_isBoths_0 : decode cX4_isBoths 0 = .ok (.aload_n 0, 1) := dk_42 (dk_at dksX4_isBoths_0 0 rfl rfl)
theorem dX4_isBoths_1 : decode cX4_isBoths 1 = .ok (.iload_n 1, 1) := dk_27 (dk_at dksX4_isBoths_0 1 rfl rfl)
theorem dX4_isBoths_2 : decode cX4_isBoths 2 = .ok (.iconst 1, 1) := dk_4 (dk_at dksX4_isBoths_0 2 rfl rfl)
theorem dX4_isBoths_3 : decode cX4_isBoths 3 = .ok (.invokestatic 50, 3) := dk_184 0 50 (dk_at dksX4_isBoths_0 3 rfl rfl)
theorem dX4_isBoths_6 : decode cX4_isBoths 6 = .ok (.iaload, 1) := dk_46 (dk_at dksX4_isBoths_0 6 rfl rfl)
theorem dX4_isBoths_7 : decode cX4_isBoths 7 = .ok (.iconst 2, 1) := dk_5 (dk_at dksX4_isBoths_0 7 rfl rfl)
theorem dX4_isBoths_8 : decode cX4_isBoths 8 = .ok (.if_icmp .ne 38, 3) := dk_160 0 38 (dk_at dksX4_isBoths_0 8 rfl rfl)
theorem dX4_isBoths_11 : decode cX4_isBoths 11 = .ok (.aload_n 0, 1) := dk_42 (dk_at dksX4_isBoths_0 11 rfl rfl)
theorem dX4_isBoths_12 : decode cX4_isBoths 12 = .ok (.iconst 2, 1) := dk_5 (dk_at dksX4_isBoths_0 12 rfl rfl)
theorem dX4_isBoths_13 : decode cX4_isBoths 13 = .ok (.iload_n 1, 1) := dk_27 (dk_at dksX4_isBoths_0 13 rfl rfl)
theorem dX4_isBoths_14 : decode cX4_isBoths 14 = .ok (.imul, 1) := dk_104 (dk_at dksX4_isBoths_0 14 rfl rfl)
theorem dX4_isBoths_15 : decode cX4_isBoths 15 = .ok (.iconst 0, 1) := dk_3 (dk_at dksX4_isBoths_0 15 rfl rfl)
theorem dX4_isBoths_16 : decode cX4_isBoths 16 = .ok (.invokestatic 46, 3) := dk_184 0 46 (dk_at dksX4_isBoths_0 16 rfl rfl)
theorem dX4_isBoths_19 : decode cX4_isBoths 19 = .ok (.iaload, 1) := dk_46 (dk_at dksX4_isBoths_0 19 rfl rfl)
theorem dX4_isBoths_20 : decode cX4_isBoths 20 = .ok (.iload_n 2, 1) := dk_28 (dk_at dksX4_isBoths_0 20 rfl rfl)
theorem dX4_isBoths_21 : decode cX4_isBoths 21 = .ok (.invokestatic 70, 3) := dk_184 0 70 (dk_at dksX4_isBoths_0 21 rfl rfl)
theorem dX4_isBoths_24 : decode cX4_isBoths 24 = .ok (.aload_n 0, 1) := dk_42 (dk_at dksX4_isBoths_1 0 rfl rfl)
theorem dX4_isBoths_25 : decode cX4_isBoths 25 = .ok (.iconst 2, 1) := dk_5 (dk_at dksX4_isBoths_1 1 rfl rfl)
theorem dX4_isBoths_26 : decode cX4_isBoths 26 = .ok (.iload_n 1, 1) := dk_27 (dk_at dksX4_isBoths_1 2 rfl rfl)
theorem dX4_isBoths_27 : decode cX4_isBoths 27 = .ok (.imul, 1) := dk_104 (dk_at dksX4_isBoths_1 3 rfl rfl)
theorem dX4_isBoths_28 : decode cX4_isBoths 28 = .ok (.iconst 1, 1) := dk_4 (dk_at dksX4_isBoths_1 4 rfl rfl)
theorem dX4_isBoths_29 : decode cX4_isBoths 29 = .ok (.iadd, 1) := dk_96 (dk_at dksX4_isBoths_1 5 rfl rfl)
theorem dX4_isBoths_30 : decode cX4_isBoths 30 = .ok (.iconst 0, 1) := dk_3 (dk_at dksX4_isBoths_1 6 rfl rfl)
theorem dX4_isBoths_31 : decode cX4_isBoths 31 = .ok (.invokestatic 46, 3) := dk_184 0 46 (dk_at dksX4_isBoths_1 7 rfl rfl)
theorem dX4_isBoths_34 : decode cX4_isBoths 34 = .ok (.iaload, 1) := dk_46 (dk_at dksX4_isBoths_1 10 rfl rfl)
theorem dX4_isBoths_35 : decode cX4_isBoths 35 = .ok (.iload_n 2, 1) := dk_28 (dk_at dksX4_isBoths_1 11 rfl rfl)
theorem dX4_isBoths_36 : decode cX4_isBoths 36 = .ok (.invokestatic 70, 3) := dk_184 0 70 (dk_at dksX4_isBoths_1 12 rfl rfl)
theorem dX4_isBoths_39 : decode cX4_isBoths 39 = .ok (.if_icmp .ne 7, 3) := dk_160 0 7 (dk_at dksX4_isBoths_1 15 rfl rfl)
theorem dX4_isBoths_42 : decode cX4_isBoths 42 = .ok (.iconst 1, 1) := dk_4 (dk_at dksX4_isBoths_1 18 rfl rfl)
theorem dX4_isBoths_43 : decode cX4_isBoths 43 = .ok (.goto 4, 3) := dk_167 0 4 (dk_at dksX4_isBoths_1 19 rfl rfl)
theorem dX4_isBoths_46 : decode cX4_isBoths 46 = .ok (.iconst 0, 1) := dk_3 (dk_at dksX4_isBoths_1 22 rfl rfl)
theorem dX4_isBoths_47 : decode cX4_isBoths 47 = .ok (.ireturn, 1) := dk_172 (dk_at dksX4_isBoths_1 23 rfl rfl)
abbrev cX4_stepsIn : ByteArray := prog_21_method_21_code
def yX4_stepsIn : MethodName := ⟨RX4, "stepsIn", "([III)I"⟩
def dkwX4_stepsIn_1 : List UInt8 := [162, 0, 7, 4, 167, 0, 4, 29, 104, 172]
abbrev dktX4_stepsIn_1 : List UInt8 := dkwX4_stepsIn_1 ++ []
def dkwX4_stepsIn_0 : List UInt8 := [42, 27, 4, 184, 0, 46, 46, 42, 27, 5, 184, 0, 46, 46, 16, 30, 108, 100, 62, 28, 29, 4]
abbrev dktX4_stepsIn_0 : List UInt8 := dkwX4_stepsIn_0 ++ dktX4_stepsIn_1
theorem dksX4_stepsIn_0 : cX4_stepsIn.data.toList.drop 0 = dktX4_stepsIn_0 := by decide +kernel
theorem dksX4_stepsIn_1 : cX4_stepsIn.data.toList.drop 22 = dktX4_stepsIn_1 := dk_seg dksX4_stepsIn_0 22 rfl rfl
theorem dX4_stepsIn_0 : decode cX4_stepsIn 0 = .ok (.aload_n 0, 1) := dk_42 (dk_at dksX4_stepsIn_0 0 rfl rfl)
theorem dX4_stepsIn_1 : decode cX4_stepsIn 1 = .ok (.iload_n 1, 1) := dk_27 (dk_at dksX4_stepsIn_0 1 rfl rfl)
theorem dX4_stepsIn_2 : decode cX4_stepsIn 2 = .ok (.iconst 1, 1) := dk_4 (dk_at dksX4_stepsIn_0 2 rfl rfl)
theorem dX4_stepsIn_3 : decode cX4_stepsIn 3 = .ok (.invokestatic 46, 3) := dk_184 0 46 (dk_at dksX4_stepsIn_0 3 rfl rfl)
theorem dX4_stepsIn_6 : decode cX4_stepsIn 6 = .ok (.iaload, 1) := dk_46 (dk_at dksX4_stepsIn_0 6 rfl rfl)
theorem dX4_stepsIn_7 : decode cX4_stepsIn 7 = .ok (.aload_n 0, 1) := dk_42 (dk_at dksX4_stepsIn_0 7 rfl rfl)
theorem dX4_stepsIn_8 : decode cX4_stepsIn 8 = .ok (.iload_n 1, 1) := dk_27 (dk_at dksX4_stepsIn_0 8 rfl rfl)
theorem dX4_stepsIn_9 : decode cX4_stepsIn 9 = .ok (.iconst 2, 1) := dk_5 (dk_at dksX4_stepsIn_0 9 rfl rfl)
theorem dX4_stepsIn_10 : decode cX4_stepsIn 10 = .ok (.invokestatic 46, 3) := dk_184 0 46 (dk_at dksX4_stepsIn_0 10 rfl rfl)
theorem dX4_stepsIn_13 : decode cX4_stepsIn 13 = .ok (.iaload, 1) := dk_46 (dk_at dksX4_stepsIn_0 13 rfl rfl)
theorem dX4_stepsIn_14 : decode cX4_stepsIn 14 = .ok (.bipush 30, 2) := dk_16 30 (dk_at dksX4_stepsIn_0 14 rfl rfl)
theorem dX4_stepsIn_16 : decode cX4_stepsIn 16 = .ok (.idiv, 1) := dk_108 (dk_at dksX4_stepsIn_0 16 rfl rfl)
theorem dX4_stepsIn_17 : decode cX4_stepsIn 17 = .ok (.isub, 1) := dk_100 (dk_at dksX4_stepsIn_0 17 rfl rfl)
theorem dX4_stepsIn_18 : decode cX4_stepsIn 18 = .ok (.istore_n 3, 1) := dk_62 (dk_at dksX4_stepsIn_0 18 rfl rfl)
theorem dX4_stepsIn_19 : decode cX4_stepsIn 19 = .ok (.iload_n 2, 1) := dk_28 (dk_at dksX4_stepsIn_0 19 rfl rfl)
theorem dX4_stepsIn_20 : decode cX4_stepsIn 20 = .ok (.iload_n 3, 1) := dk_29 (dk_at dksX4_stepsIn_0 20 rfl rfl)
theorem dX4_stepsIn_21 : decode cX4_stepsIn 21 = .ok (.iconst 1, 1) := dk_4 (dk_at dksX4_stepsIn_0 21 rfl rfl)
theorem dX4_stepsIn_22 : decode cX4_stepsIn 22 = .ok (.if_icmp .ge 7, 3) := dk_162 0 7 (dk_at dksX4_stepsIn_1 0 rfl rfl)
theorem dX4_stepsIn_25 : decode cX4_stepsIn 25 = .ok (.iconst 1, 1) := dk_4 (dk_at dksX4_stepsIn_1 3 rfl rfl)
theorem dX4_stepsIn_26 : decode cX4_stepsIn 26 = .ok (.goto 4, 3) := dk_167 0 4 (dk_at dksX4_stepsIn_1 4 rfl rfl)
theorem dX4_stepsIn_29 : decode cX4_stepsIn 29 = .ok (.iload_n 3, 1) := dk_29 (dk_at dksX4_stepsIn_1 7 rfl rfl)
theorem dX4_stepsIn_30 : decode cX4_stepsIn 30 = .ok (.imul, 1) := dk_104 (dk_at dksX4_stepsIn_1 8 rfl rfl)
theorem dX4_stepsIn_31 : decode cX4_stepsIn 31 = .ok (.ireturn, 1) := dk_172 (dk_at dksX4_stepsIn_1 9 rfl rfl)
abbrev cX4_moves : ByteArray := prog_21_method_27_code
def yX4_moves : MethodName := ⟨RX4, "moves", "([III)V"⟩
def dkwX4_moves_1 : List UInt8 := [184, 0, 46, 29, 79, 177]
abbrev dktX4_moves_1 : List UInt8 := dkwX4_moves_1 ++ []
def dkwX4_moves_0 : List UInt8 := [42, 180, 0, 22, 28, 92, 46, 43, 28, 3, 184, 0, 46, 46, 29, 184, 0, 70, 96, 79, 43, 28, 3]
abbrev dktX4_moves_0 : List UInt8 := dkwX4_moves_0 ++ dktX4_moves_1
theorem dksX4_moves_0 : cX4_moves.data.toList.drop 0 = dktX4_moves_0 := by decide +kernel
theorem dksX4_moves_1 : cX4_moves.data.toList.drop 23 = dktX4_moves_1 := dk_seg dksX4_moves_0 23 rfl rfl
theorem dX4_moves_0 : decode cX4_moves 0 = .ok (.aload_n 0, 1) := dk_42 (dk_at dksX4_moves_0 0 rfl rfl)
theorem dX4_moves_1 : decode cX4_moves 1 = .ok (.getfield 22, 3) := dk_180 0 22 (dk_at dksX4_moves_0 1 rfl rfl)
theorem dX4_moves_4 : decode cX4_moves 4 = .ok (.iload_n 2, 1) := dk_28 (dk_at dksX4_moves_0 4 rfl rfl)
theorem dX4_moves_5 : decode cX4_moves 5 = .ok (.dup2, 1) := dk_92 (dk_at dksX4_moves_0 5 rfl rfl)
theorem dX4_moves_6 : decode cX4_moves 6 = .ok (.iaload, 1) := dk_46 (dk_at dksX4_moves_0 6 rfl rfl)
theorem dX4_moves_7 : decode cX4_moves 7 = .ok (.aload_n 1, 1) := dk_43 (dk_at dksX4_moves_0 7 rfl rfl)
theorem dX4_moves_8 : decode cX4_moves 8 = .ok (.iload_n 2, 1) := dk_28 (dk_at dksX4_moves_0 8 rfl rfl)
theorem dX4_moves_9 : decode cX4_moves 9 = .ok (.iconst 0, 1) := dk_3 (dk_at dksX4_moves_0 9 rfl rfl)
theorem dX4_moves_10 : decode cX4_moves 10 = .ok (.invokestatic 46, 3) := dk_184 0 46 (dk_at dksX4_moves_0 10 rfl rfl)
theorem dX4_moves_13 : decode cX4_moves 13 = .ok (.iaload, 1) := dk_46 (dk_at dksX4_moves_0 13 rfl rfl)
theorem dX4_moves_14 : decode cX4_moves 14 = .ok (.iload_n 3, 1) := dk_29 (dk_at dksX4_moves_0 14 rfl rfl)
theorem dX4_moves_15 : decode cX4_moves 15 = .ok (.invokestatic 70, 3) := dk_184 0 70 (dk_at dksX4_moves_0 15 rfl rfl)
theorem dX4_moves_18 : decode cX4_moves 18 = .ok (.iadd, 1) := dk_96 (dk_at dksX4_moves_0 18 rfl rfl)
theorem dX4_moves_19 : decode cX4_moves 19 = .ok (.iastore, 1) := dk_79 (dk_at dksX4_moves_0 19 rfl rfl)
theorem dX4_moves_20 : decode cX4_moves 20 = .ok (.aload_n 1, 1) := dk_43 (dk_at dksX4_moves_0 20 rfl rfl)
theorem dX4_moves_21 : decode cX4_moves 21 = .ok (.iload_n 2, 1) := dk_28 (dk_at dksX4_moves_0 21 rfl rfl)
theorem dX4_moves_22 : decode cX4_moves 22 = .ok (.iconst 0, 1) := dk_3 (dk_at dksX4_moves_0 22 rfl rfl)
theorem dX4_moves_23 : decode cX4_moves 23 = .ok (.invokestatic 46, 3) := dk_184 0 46 (dk_at dksX4_moves_1 0 rfl rfl)
theorem dX4_moves_26 : decode cX4_moves 26 = .ok (.iload_n 3, 1) := dk_29 (dk_at dksX4_moves_1 3 rfl rfl)
theorem dX4_moves_27 : decode cX4_moves 27 = .ok (.iastore, 1) := dk_79 (dk_at dksX4_moves_1 4 rfl rfl)
theorem dX4_moves_28 : decode cX4_moves 28 = .ok (.return_, 1) := dk_177 (dk_at dksX4_moves_1 5 rfl rfl)
abbrev cX4_partner : ByteArray := prog_21_method_20_code
def yX4_partner : MethodName := ⟨RX4, "partner", "(I)I"⟩
def dkwX4_partner_0 : List UInt8 := [26, 5, 112, 154, 0, 9, 26, 4, 96, 167, 0, 6, 26, 4, 100, 172]
abbrev dktX4_partner_0 : List UInt8 := dkwX4_partner_0 ++ []
theorem dksX4_partner_0 : cX4_partner.data.toList.drop 0 = dktX4_partner_0 := by decide +kernel
theorem dX4_partner_0 : decode cX4_partner 0 = .ok (.iload_n 0, 1) := dk_26 (dk_at dksX4_partner_0 0 rfl rfl)
theorem dX4_partner_1 : decode cX4_partner 1 = .ok (.iconst 2, 1) := dk_5 (dk_at dksX4_partner_0 1 rfl rfl)
theorem dX4_partner_2 : decode cX4_partner 2 = .ok (.irem, 1) := dk_112 (dk_at dksX4_partner_0 2 rfl rfl)
theorem dX4_partner_3 : decode cX4_partner 3 = .ok (.ifCond .ne 9, 3) := dk_154 0 9 (dk_at dksX4_partner_0 3 rfl rfl)
theorem dX4_partner_6 : decode cX4_partner 6 = .ok (.iload_n 0, 1) := dk_26 (dk_at dksX4_partner_0 6 rfl rfl)
theorem dX4_partner_7 : decode cX4_partner 7 = .ok (.iconst 1, 1) := dk_4 (dk_at dksX4_partner_0 7 rfl rfl)
theorem dX4_partner_8 : decode cX4_partner 8 = .ok (.iadd, 1) := dk_96 (dk_at dksX4_partner_0 8 rfl rfl)
theorem dX4_partner_9 : decode cX4_partner 9 = .ok (.goto 6, 3) := dk_167 0 6 (dk_at dksX4_partner_0 9 rfl rfl)
theorem dX4_partner_12 : decode cX4_partner 12 = .ok (.iload_n 0, 1) := dk_26 (dk_at dksX4_partner_0 12 rfl rfl)
theorem dX4_partner_13 : decode cX4_partner 13 = .ok (.iconst 1, 1) := dk_4 (dk_at dksX4_partner_0 13 rfl rfl)
theorem dX4_partner_14 : decode cX4_partner 14 = .ok (.isub, 1) := dk_100 (dk_at dksX4_partner_0 14 rfl rfl)
theorem dX4_partner_15 : decode cX4_partner 15 = .ok (.ireturn, 1) := dk_172 (dk_at dksX4_partner_0 15 rfl rfl)
abbrev cX4_placeFor : ByteArray := prog_21_method_25_code
def yX4_placeFor : MethodName := ⟨RX4, "placeFor", "(II)I"⟩
def dkwX4_placeFor_0 : List UInt8 := [26, 154, 0, 11, 8, 27, 6, 112, 100, 167, 0, 12, 6, 5, 27, 6, 108, 100, 104, 4, 96, 172]
abbrev dktX4_placeFor_0 : List UInt8 := dkwX4_placeFor_0 ++ []
theorem dksX4_placeFor_0 : cX4_placeFor.data.toList.drop 0 = dktX4_placeFor_0 := by decide +kernel
theorem dX4_placeFor_0 : decode cX4_placeFor 0 = .ok (.iload_n 0, 1) := dk_26 (dk_at dksX4_placeFor_0 0 rfl rfl)
theorem dX4_placeFor_1 : decode cX4_placeFor 1 = .ok (.ifCond .ne 11, 3) := dk_154 0 11 (dk_at dksX4_placeFor_0 1 rfl rfl)
theorem dX4_placeFor_4 : decode cX4_placeFor 4 = .ok (.iconst 5, 1) := dk_8 (dk_at dksX4_placeFor_0 4 rfl rfl)
theorem dX4_placeFor_5 : decode cX4_placeFor 5 = .ok (.iload_n 1, 1) := dk_27 (dk_at dksX4_placeFor_0 5 rfl rfl)
theorem dX4_placeFor_6 : decode cX4_placeFor 6 = .ok (.iconst 3, 1) := dk_6 (dk_at dksX4_placeFor_0 6 rfl rfl)
theorem dX4_placeFor_7 : decode cX4_placeFor 7 = .ok (.irem, 1) := dk_112 (dk_at dksX4_placeFor_0 7 rfl rfl)
theorem dX4_placeFor_8 : decode cX4_placeFor 8 = .ok (.isub, 1) := dk_100 (dk_at dksX4_placeFor_0 8 rfl rfl)
theorem dX4_placeFor_9 : decode cX4_placeFor 9 = .ok (.goto 12, 3) := dk_167 0 12 (dk_at dksX4_placeFor_0 9 rfl rfl)
theorem dX4_placeFor_12 : decode cX4_placeFor 12 = .ok (.iconst 3, 1) := dk_6 (dk_at dksX4_placeFor_0 12 rfl rfl)
theorem dX4_placeFor_13 : decode cX4_placeFor 13 = .ok (.iconst 2, 1) := dk_5 (dk_at dksX4_placeFor_0 13 rfl rfl)
theorem dX4_placeFor_14 : decode cX4_placeFor 14 = .ok (.iload_n 1, 1) := dk_27 (dk_at dksX4_placeFor_0 14 rfl rfl)
theorem dX4_placeFor_15 : decode cX4_placeFor 15 = .ok (.iconst 3, 1) := dk_6 (dk_at dksX4_placeFor_0 15 rfl rfl)
theorem dX4_placeFor_16 : decode cX4_placeFor 16 = .ok (.idiv, 1) := dk_108 (dk_at dksX4_placeFor_0 16 rfl rfl)
theorem dX4_placeFor_17 : decode cX4_placeFor 17 = .ok (.isub, 1) := dk_100 (dk_at dksX4_placeFor_0 17 rfl rfl)
theorem dX4_placeFor_18 : decode cX4_placeFor 18 = .ok (.imul, 1) := dk_104 (dk_at dksX4_placeFor_0 18 rfl rfl)
theorem dX4_placeFor_19 : decode cX4_placeFor 19 = .ok (.iconst 1, 1) := dk_4 (dk_at dksX4_placeFor_0 19 rfl rfl)
theorem dX4_placeFor_20 : decode cX4_placeFor 20 = .ok (.iadd, 1) := dk_96 (dk_at dksX4_placeFor_0 20 rfl rfl)
theorem dX4_placeFor_21 : decode cX4_placeFor 21 = .ok (.ireturn, 1) := dk_172 (dk_at dksX4_placeFor_0 21 rfl rfl)
abbrev cX4_towards : ByteArray := prog_21_method_26_code
def yX4_towards : MethodName := ⟨RX4, "towards", "(III)I"⟩
def dkwX4_towards_3 : List UInt8 := [4, 167, 0, 4, 2, 96, 54, 5, 132, 3, 255, 167, 255, 186, 6, 21, 5, 104, 21, 4, 96, 172]
abbrev dktX4_towards_3 : List UInt8 := dkwX4_towards_3 ++ []
def dkwX4_towards_2 : List UInt8 := [162, 0, 7, 4, 167, 0, 4, 2, 96, 54, 4, 167, 0, 21, 21, 5, 21, 5, 27, 6, 108, 162, 0, 7]
abbrev dktX4_towards_2 : List UInt8 := dkwX4_towards_2 ++ dktX4_towards_3
def dkwX4_towards_1 : List UInt8 := [21, 5, 27, 6, 108, 159, 0, 56, 21, 4, 27, 6, 112, 159, 0, 24, 21, 4, 21, 4, 27, 6, 112]
abbrev dktX4_towards_1 : List UInt8 := dkwX4_towards_1 ++ dktX4_towards_2
def dkwX4_towards_0 : List UInt8 := [28, 62, 26, 6, 112, 54, 4, 26, 6, 108, 54, 5, 29, 158, 0, 72, 21, 4, 27, 6, 112, 160, 0, 11]
abbrev dktX4_towards_0 : List UInt8 := dkwX4_towards_0 ++ dktX4_towards_1
theorem dksX4_towards_0 : cX4_towards.data.toList.drop 0 = dktX4_towards_0 := by decide +kernel
theorem dksX4_towards_1 : cX4_towards.data.toList.drop 24 = dktX4_towards_1 := dk_seg dksX4_towards_0 24 rfl rfl
theorem dksX4_towards_2 : cX4_towards.data.toList.drop 47 = dktX4_towards_2 := dk_seg dksX4_towards_1 23 rfl rfl
theorem dksX4_towards_3 : cX4_towards.data.toList.drop 71 = dktX4_towards_3 := dk_seg dksX4_towards_2 24 rfl rfl
theorem dX4_towards_0 : decode cX4_towards 0 = .ok (.iload_n 2, 1) := dk_28 (dk_at dksX4_towards_0 0 rfl rfl)
theorem dX4_towards_1 : decode cX4_towards 1 = .ok (.istore_n 3, 1) := dk_62 (dk_at dksX4_towards_0 1 rfl rfl)
theorem dX4_towards_2 : decode cX4_towards 2 = .ok (.iload_n 0, 1) := dk_26 (dk_at dksX4_towards_0 2 rfl rfl)
theorem dX4_towards_3 : decode cX4_towards 3 = .ok (.iconst 3, 1) := dk_6 (dk_at dksX4_towards_0 3 rfl rfl)
theorem dX4_towards_4 : decode cX4_towards 4 = .ok (.irem, 1) := dk_112 (dk_at dksX4_towards_0 4 rfl rfl)
theorem dX4_towards_5 : decode cX4_towards 5 = .ok (.istore 4, 2) := dk_54 4 (dk_at dksX4_towards_0 5 rfl rfl)
theorem dX4_towards_7 : decode cX4_towards 7 = .ok (.iload_n 0, 1) := dk_26 (dk_at dksX4_towards_0 7 rfl rfl)
theorem dX4_towards_8 : decode cX4_towards 8 = .ok (.iconst 3, 1) := dk_6 (dk_at dksX4_towards_0 8 rfl rfl)
theorem dX4_towards_9 : decode cX4_towards 9 = .ok (.idiv, 1) := dk_108 (dk_at dksX4_towards_0 9 rfl rfl)
theorem dX4_towards_10 : decode cX4_towards 10 = .ok (.istore 5, 2) := dk_54 5 (dk_at dksX4_towards_0 10 rfl rfl)
theorem dX4_towards_12 : decode cX4_towards 12 = .ok (.iload_n 3, 1) := dk_29 (dk_at dksX4_towards_0 12 rfl rfl)
theorem dX4_towards_13 : decode cX4_towards 13 = .ok (.ifCond .le 72, 3) := dk_158 0 72 (dk_at dksX4_towards_0 13 rfl rfl)
theorem dX4_towards_16 : decode cX4_towards 16 = .ok (.iload 4, 2) := dk_21 4 (dk_at dksX4_towards_0 16 rfl rfl)
theorem dX4_towards_18 : decode cX4_towards 18 = .ok (.iload_n 1, 1) := dk_27 (dk_at dksX4_towards_0 18 rfl rfl)
theorem dX4_towards_19 : decode cX4_towards 19 = .ok (.iconst 3, 1) := dk_6 (dk_at dksX4_towards_0 19 rfl rfl)
theorem dX4_towards_20 : decode cX4_towards 20 = .ok (.irem, 1) := dk_112 (dk_at dksX4_towards_0 20 rfl rfl)
theorem dX4_towards_21 : decode cX4_towards 21 = .ok (.if_icmp .ne 11, 3) := dk_160 0 11 (dk_at dksX4_towards_0 21 rfl rfl)
theorem dX4_towards_24 : decode cX4_towards 24 = .ok (.iload 5, 2) := dk_21 5 (dk_at dksX4_towards_1 0 rfl rfl)
theorem dX4_towards_26 : decode cX4_towards 26 = .ok (.iload_n 1, 1) := dk_27 (dk_at dksX4_towards_1 2 rfl rfl)
theorem dX4_towards_27 : decode cX4_towards 27 = .ok (.iconst 3, 1) := dk_6 (dk_at dksX4_towards_1 3 rfl rfl)
theorem dX4_towards_28 : decode cX4_towards 28 = .ok (.idiv, 1) := dk_108 (dk_at dksX4_towards_1 4 rfl rfl)
theorem dX4_towards_29 : decode cX4_towards 29 = .ok (.if_icmp .eq 56, 3) := dk_159 0 56 (dk_at dksX4_towards_1 5 rfl rfl)
theorem dX4_towards_32 : decode cX4_towards 32 = .ok (.iload 4, 2) := dk_21 4 (dk_at dksX4_towards_1 8 rfl rfl)
theorem dX4_towards_34 : decode cX4_towards 34 = .ok (.iload_n 1, 1) := dk_27 (dk_at dksX4_towards_1 10 rfl rfl)
theorem dX4_towards_35 : decode cX4_towards 35 = .ok (.iconst 3, 1) := dk_6 (dk_at dksX4_towards_1 11 rfl rfl)
theorem dX4_towards_36 : decode cX4_towards 36 = .ok (.irem, 1) := dk_112 (dk_at dksX4_towards_1 12 rfl rfl)
theorem dX4_towards_37 : decode cX4_towards 37 = .ok (.if_icmp .eq 24, 3) := dk_159 0 24 (dk_at dksX4_towards_1 13 rfl rfl)
theorem dX4_towards_40 : decode cX4_towards 40 = .ok (.iload 4, 2) := dk_21 4 (dk_at dksX4_towards_1 16 rfl rfl)
theorem dX4_towards_42 : decode cX4_towards 42 = .ok (.iload 4, 2) := dk_21 4 (dk_at dksX4_towards_1 18 rfl rfl)
theorem dX4_towards_44 : decode cX4_towards 44 = .ok (.iload_n 1, 1) := dk_27 (dk_at dksX4_towards_1 20 rfl rfl)
theorem dX4_towards_45 : decode cX4_towards 45 = .ok (.iconst 3, 1) := dk_6 (dk_at dksX4_towards_1 21 rfl rfl)
theorem dX4_towards_46 : decode cX4_towards 46 = .ok (.irem, 1) := dk_112 (dk_at dksX4_towards_1 22 rfl rfl)
theorem dX4_towards_47 : decode cX4_towards 47 = .ok (.if_icmp .ge 7, 3) := dk_162 0 7 (dk_at dksX4_towards_2 0 rfl rfl)
theorem dX4_towards_50 : decode cX4_towards 50 = .ok (.iconst 1, 1) := dk_4 (dk_at dksX4_towards_2 3 rfl rfl)
theorem dX4_towards_51 : decode cX4_towards 51 = .ok (.goto 4, 3) := dk_167 0 4 (dk_at dksX4_towards_2 4 rfl rfl)
theorem dX4_towards_54 : decode cX4_towards 54 = .ok (.iconst (-1), 1) := dk_2 (dk_at dksX4_towards_2 7 rfl rfl)
theorem dX4_towards_55 : decode cX4_towards 55 = .ok (.iadd, 1) := dk_96 (dk_at dksX4_towards_2 8 rfl rfl)
theorem dX4_towards_56 : decode cX4_towards 56 = .ok (.istore 4, 2) := dk_54 4 (dk_at dksX4_towards_2 9 rfl rfl)
theorem dX4_towards_58 : decode cX4_towards 58 = .ok (.goto 21, 3) := dk_167 0 21 (dk_at dksX4_towards_2 11 rfl rfl)
theorem dX4_towards_61 : decode cX4_towards 61 = .ok (.iload 5, 2) := dk_21 5 (dk_at dksX4_towards_2 14 rfl rfl)
theorem dX4_towards_63 : decode cX4_towards 63 = .ok (.iload 5, 2) := dk_21 5 (dk_at dksX4_towards_2 16 rfl rfl)
theorem dX4_towards_65 : decode cX4_towards 65 = .ok (.iload_n 1, 1) := dk_27 (dk_at dksX4_towards_2 18 rfl rfl)
theorem dX4_towards_66 : decode cX4_towards 66 = .ok (.iconst 3, 1) := dk_6 (dk_at dksX4_towards_2 19 rfl rfl)
theorem dX4_towards_67 : decode cX4_towards 67 = .ok (.idiv, 1) := dk_108 (dk_at dksX4_towards_2 20 rfl rfl)
theorem dX4_towards_68 : decode cX4_towards 68 = .ok (.if_icmp .ge 7, 3) := dk_162 0 7 (dk_at dksX4_towards_2 21 rfl rfl)
theorem dX4_towards_71 : decode cX4_towards 71 = .ok (.iconst 1, 1) := dk_4 (dk_at dksX4_towards_3 0 rfl rfl)
theorem dX4_towards_72 : decode cX4_towards 72 = .ok (.goto 4, 3) := dk_167 0 4 (dk_at dksX4_towards_3 1 rfl rfl)
theorem dX4_towards_75 : decode cX4_towards 75 = .ok (.iconst (-1), 1) := dk_2 (dk_at dksX4_towards_3 4 rfl rfl)
theorem dX4_towards_76 : decode cX4_towards 76 = .ok (.iadd, 1) := dk_96 (dk_at dksX4_towards_3 5 rfl rfl)
theorem dX4_towards_77 : decode cX4_towards 77 = .ok (.istore 5, 2) := dk_54 5 (dk_at dksX4_towards_3 6 rfl rfl)
theorem dX4_towards_79 : decode cX4_towards 79 = .ok (.iinc 3 (-1), 3) := dk_132 3 255 (dk_at dksX4_towards_3 8 rfl rfl)
theorem dX4_towards_82 : decode cX4_towards 82 = .ok (.goto (-70), 3) := dk_167 255 186 (dk_at dksX4_towards_3 11 rfl rfl)
theorem dX4_towards_85 : decode cX4_towards 85 = .ok (.iconst 3, 1) := dk_6 (dk_at dksX4_towards_3 14 rfl rfl)
theorem dX4_towards_86 : decode cX4_towards 86 = .ok (.iload 5, 2) := dk_21 5 (dk_at dksX4_towards_3 15 rfl rfl)
theorem dX4_towards_88 : decode cX4_towards 88 = .ok (.imul, 1) := dk_104 (dk_at dksX4_towards_3 17 rfl rfl)
theorem dX4_towards_89 : decode cX4_towards 89 = .ok (.iload 4, 2) := dk_21 4 (dk_at dksX4_towards_3 18 rfl rfl)
theorem dX4_towards_91 : decode cX4_towards 91 = .ok (.iadd, 1) := dk_96 (dk_at dksX4_towards_3 20 rfl rfl)
theorem dX4_towards_92 : decode cX4_towards 92 = .ok (.ireturn, 1) := dk_172 (dk_at dksX4_towards_3 21 rfl rfl)
abbrev cX4_stroke : ByteArray := prog_21_method_36_code
def yX4_stroke : MethodName := ⟨RX4, "stroke", "(II)I"⟩
def dkwX4_stroke_3 : List UInt8 := [167, 0, 20, 29, 21, 4, 28, 6, 160, 0, 7, 3, 167, 0, 5, 16, 8, 184, 0, 63, 172]
abbrev dktX4_stroke_3 : List UInt8 := dkwX4_stroke_3 ++ []
def dkwX4_stroke_2 : List UInt8 := [167, 0, 44, 28, 4, 160, 0, 8, 21, 4, 167, 0, 34, 28, 5, 160, 0, 12, 29, 21, 4, 184, 0, 87]
abbrev dktX4_stroke_2 : List UInt8 := dkwX4_stroke_2 ++ dktX4_stroke_3
def dkwX4_stroke_1 : List UInt8 := [3, 184, 0, 60, 46, 62, 42, 180, 0, 9, 27, 4, 184, 0, 60, 46, 54, 4, 28, 154, 0, 7, 29]
abbrev dktX4_stroke_1 : List UInt8 := dkwX4_stroke_1 ++ dktX4_stroke_2
def dkwX4_stroke_0 : List UInt8 := [42, 27, 182, 0, 142, 153, 0, 12, 28, 3, 7, 184, 0, 53, 154, 0, 5, 2, 172, 42, 180, 0, 9, 27]
abbrev dktX4_stroke_0 : List UInt8 := dkwX4_stroke_0 ++ dktX4_stroke_1
theorem dksX4_stroke_0 : cX4_stroke.data.toList.drop 0 = dktX4_stroke_0 := by decide +kernel
theorem dksX4_stroke_1 : cX4_stroke.data.toList.drop 24 = dktX4_stroke_1 := dk_seg dksX4_stroke_0 24 rfl rfl
theorem dksX4_stroke_2 : cX4_stroke.data.toList.drop 47 = dktX4_stroke_2 := dk_seg dksX4_stroke_1 23 rfl rfl
theorem dksX4_stroke_3 : cX4_stroke.data.toList.drop 71 = dktX4_stroke_3 := dk_seg dksX4_stroke_2 24 rfl rfl
theorem dX4_stroke_0 : decode cX4_stroke 0 = .ok (.aload_n 0, 1) := dk_42 (dk_at dksX4_stroke_0 0 rfl rfl)
theorem dX4_stroke_1 : decode cX4_stroke 1 = .ok (.iload_n 1, 1) := dk_27 (dk_at dksX4_stroke_0 1 rfl rfl)
theorem dX4_stroke_2 : decode cX4_stroke 2 = .ok (.invokevirtual 142, 3) := dk_182 0 142 (dk_at dksX4_stroke_0 2 rfl rfl)
theorem dX4_stroke_5 : decode cX4_stroke 5 = .ok (.ifCond .eq 12, 3) := dk_153 0 12 (dk_at dksX4_stroke_0 5 rfl rfl)
theorem dX4_stroke_8 : decode cX4_stroke 8 = .ok (.iload_n 2, 1) := dk_28 (dk_at dksX4_stroke_0 8 rfl rfl)
theorem dX4_stroke_9 : decode cX4_stroke 9 = .ok (.iconst 0, 1) := dk_3 (dk_at dksX4_stroke_0 9 rfl rfl)
theorem dX4_stroke_10 : decode cX4_stroke 10 = .ok (.iconst 4, 1) := dk_7 (dk_at dksX4_stroke_0 10 rfl rfl)
theorem dX4_stroke_11 : decode cX4_stroke 11 = .ok (.invokestatic 53, 3) := dk_184 0 53 (dk_at dksX4_stroke_0 11 rfl rfl)
theorem dX4_stroke_14 : decode cX4_stroke 14 = .ok (.ifCond .ne 5, 3) := dk_154 0 5 (dk_at dksX4_stroke_0 14 rfl rfl)
theorem dX4_stroke_17 : decode cX4_stroke 17 = .ok (.iconst (-1), 1) := dk_2 (dk_at dksX4_stroke_0 17 rfl rfl)
theorem dX4_stroke_18 : decode cX4_stroke 18 = .ok (.ireturn, 1) := dk_172 (dk_at dksX4_stroke_0 18 rfl rfl)
theorem dX4_stroke_19 : decode cX4_stroke 19 = .ok (.aload_n 0, 1) := dk_42 (dk_at dksX4_stroke_0 19 rfl rfl)
theorem dX4_stroke_20 : decode cX4_stroke 20 = .ok (.getfield 9, 3) := dk_180 0 9 (dk_at dksX4_stroke_0 20 rfl rfl)
theorem dX4_stroke_23 : decode cX4_stroke 23 = .ok (.iload_n 1, 1) := dk_27 (dk_at dksX4_stroke_0 23 rfl rfl)
theorem dX4_stroke_24 : decode cX4_stroke 24 = .ok (.iconst 0, 1) := dk_3 (dk_at dksX4_stroke_1 0 rfl rfl)
theorem dX4_stroke_25 : decode cX4_stroke 25 = .ok (.invokestatic 60, 3) := dk_184 0 60 (dk_at dksX4_stroke_1 1 rfl rfl)
theorem dX4_stroke_28 : decode cX4_stroke 28 = .ok (.iaload, 1) := dk_46 (dk_at dksX4_stroke_1 4 rfl rfl)
theorem dX4_stroke_29 : decode cX4_stroke 29 = .ok (.istore_n 3, 1) := dk_62 (dk_at dksX4_stroke_1 5 rfl rfl)
theorem dX4_stroke_30 : decode cX4_stroke 30 = .ok (.aload_n 0, 1) := dk_42 (dk_at dksX4_stroke_1 6 rfl rfl)
theorem dX4_stroke_31 : decode cX4_stroke 31 = .ok (.getfield 9, 3) := dk_180 0 9 (dk_at dksX4_stroke_1 7 rfl rfl)
theorem dX4_stroke_34 : decode cX4_stroke 34 = .ok (.iload_n 1, 1) := dk_27 (dk_at dksX4_stroke_1 10 rfl rfl)
theorem dX4_stroke_35 : decode cX4_stroke 35 = .ok (.iconst 1, 1) := dk_4 (dk_at dksX4_stroke_1 11 rfl rfl)
theorem dX4_stroke_36 : decode cX4_stroke 36 = .ok (.invokestatic 60, 3) := dk_184 0 60 (dk_at dksX4_stroke_1 12 rfl rfl)
theorem dX4_stroke_39 : decode cX4_stroke 39 = .ok (.iaload, 1) := dk_46 (dk_at dksX4_stroke_1 15 rfl rfl)
theorem dX4_stroke_40 : decode cX4_stroke 40 = .ok (.istore 4, 2) := dk_54 4 (dk_at dksX4_stroke_1 16 rfl rfl)
theorem dX4_stroke_42 : decode cX4_stroke 42 = .ok (.iload_n 2, 1) := dk_28 (dk_at dksX4_stroke_1 18 rfl rfl)
theorem dX4_stroke_43 : decode cX4_stroke 43 = .ok (.ifCond .ne 7, 3) := dk_154 0 7 (dk_at dksX4_stroke_1 19 rfl rfl)
theorem dX4_stroke_46 : decode cX4_stroke 46 = .ok (.iload_n 3, 1) := dk_29 (dk_at dksX4_stroke_1 22 rfl rfl)
theorem dX4_stroke_47 : decode cX4_stroke 47 = .ok (.goto 44, 3) := dk_167 0 44 (dk_at dksX4_stroke_2 0 rfl rfl)
theorem dX4_stroke_50 : decode cX4_stroke 50 = .ok (.iload_n 2, 1) := dk_28 (dk_at dksX4_stroke_2 3 rfl rfl)
theorem dX4_stroke_51 : decode cX4_stroke 51 = .ok (.iconst 1, 1) := dk_4 (dk_at dksX4_stroke_2 4 rfl rfl)
theorem dX4_stroke_52 : decode cX4_stroke 52 = .ok (.if_icmp .ne 8, 3) := dk_160 0 8 (dk_at dksX4_stroke_2 5 rfl rfl)
theorem dX4_stroke_55 : decode cX4_stroke 55 = .ok (.iload 4, 2) := dk_21 4 (dk_at dksX4_stroke_2 8 rfl rfl)
theorem dX4_stroke_57 : decode cX4_stroke 57 = .ok (.goto 34, 3) := dk_167 0 34 (dk_at dksX4_stroke_2 10 rfl rfl)
theorem dX4_stroke_60 : decode cX4_stroke 60 = .ok (.iload_n 2, 1) := dk_28 (dk_at dksX4_stroke_2 13 rfl rfl)
theorem dX4_stroke_61 : decode cX4_stroke 61 = .ok (.iconst 2, 1) := dk_5 (dk_at dksX4_stroke_2 14 rfl rfl)
theorem dX4_stroke_62 : decode cX4_stroke 62 = .ok (.if_icmp .ne 12, 3) := dk_160 0 12 (dk_at dksX4_stroke_2 15 rfl rfl)
theorem dX4_stroke_65 : decode cX4_stroke 65 = .ok (.iload_n 3, 1) := dk_29 (dk_at dksX4_stroke_2 18 rfl rfl)
theorem dX4_stroke_66 : decode cX4_stroke 66 = .ok (.iload 4, 2) := dk_21 4 (dk_at dksX4_stroke_2 19 rfl rfl)
theorem dX4_stroke_68 : decode cX4_stroke 68 = .ok (.invokestatic 87, 3) := dk_184 0 87 (dk_at dksX4_stroke_2 21 rfl rfl)
theorem dX4_stroke_71 : decode cX4_stroke 71 = .ok (.goto 20, 3) := dk_167 0 20 (dk_at dksX4_stroke_3 0 rfl rfl)
theorem dX4_stroke_74 : decode cX4_stroke 74 = .ok (.iload_n 3, 1) := dk_29 (dk_at dksX4_stroke_3 3 rfl rfl)
theorem dX4_stroke_75 : decode cX4_stroke 75 = .ok (.iload 4, 2) := dk_21 4 (dk_at dksX4_stroke_3 4 rfl rfl)
theorem dX4_stroke_77 : decode cX4_stroke 77 = .ok (.iload_n 2, 1) := dk_28 (dk_at dksX4_stroke_3 6 rfl rfl)
theorem dX4_stroke_78 : decode cX4_stroke 78 = .ok (.iconst 3, 1) := dk_6 (dk_at dksX4_stroke_3 7 rfl rfl)
theorem dX4_stroke_79 : decode cX4_stroke 79 = .ok (.if_icmp .ne 7, 3) := dk_160 0 7 (dk_at dksX4_stroke_3 8 rfl rfl)
theorem dX4_stroke_82 : decode cX4_stroke 82 = .ok (.iconst 0, 1) := dk_3 (dk_at dksX4_stroke_3 11 rfl rfl)
theorem dX4_stroke_83 : decode cX4_stroke 83 = .ok (.goto 5, 3) := dk_167 0 5 (dk_at dksX4_stroke_3 12 rfl rfl)
theorem dX4_stroke_86 : decode cX4_stroke 86 = .ok (.bipush 8, 2) := dk_16 8 (dk_at dksX4_stroke_3 15 rfl rfl)
theorem dX4_stroke_88 : decode cX4_stroke 88 = .ok (.invokestatic 63, 3) := dk_184 0 63 (dk_at dksX4_stroke_3 17 rfl rfl)
theorem dX4_stroke_91 : decode cX4_stroke 91 = .ok (.ireturn, 1) := dk_172 (dk_at dksX4_stroke_3 20 rfl rfl)
abbrev cX4_player : ByteArray := prog_21_method_37_code
def yX4_player : MethodName := ⟨RX4, "player", "(II)I"⟩
def dkwX4_player_1 : List UInt8 := [180, 0, 9, 27, 4, 184, 0, 98, 167, 0, 13, 42, 180, 0, 9, 27, 28, 184, 0, 46, 46, 172]
abbrev dktX4_player_1 : List UInt8 := dkwX4_player_1 ++ []
def dkwX4_player_0 : List UInt8 := [27, 184, 0, 135, 153, 0, 12, 28, 3, 7, 184, 0, 53, 154, 0, 5, 2, 172, 28, 7, 160, 0, 15, 42]
abbrev dktX4_player_0 : List UInt8 := dkwX4_player_0 ++ dktX4_player_1
theorem dksX4_player_0 : cX4_player.data.toList.drop 0 = dktX4_player_0 := by decide +kernel
theorem dksX4_player_1 : cX4_player.data.toList.drop 24 = dktX4_player_1 := dk_seg dksX4_player_0 24 rfl rfl
theorem dX4_player_0 : decode cX4_player 0 = .ok (.iload_n 1, 1) := dk_27 (dk_at dksX4_player_0 0 rfl rfl)
theorem dX4_player_1 : decode cX4_player 1 = .ok (.invokestatic 135, 3) := dk_184 0 135 (dk_at dksX4_player_0 1 rfl rfl)
theorem dX4_player_4 : decode cX4_player 4 = .ok (.ifCond .eq 12, 3) := dk_153 0 12 (dk_at dksX4_player_0 4 rfl rfl)
theorem dX4_player_7 : decode cX4_player 7 = .ok (.iload_n 2, 1) := dk_28 (dk_at dksX4_player_0 7 rfl rfl)
theorem dX4_player_8 : decode cX4_player 8 = .ok (.iconst 0, 1) := dk_3 (dk_at dksX4_player_0 8 rfl rfl)
theorem dX4_player_9 : decode cX4_player 9 = .ok (.iconst 4, 1) := dk_7 (dk_at dksX4_player_0 9 rfl rfl)
theorem dX4_player_10 : decode cX4_player 10 = .ok (.invokestatic 53, 3) := dk_184 0 53 (dk_at dksX4_player_0 10 rfl rfl)
theorem dX4_player_13 : decode cX4_player 13 = .ok (.ifCond .ne 5, 3) := dk_154 0 5 (dk_at dksX4_player_0 13 rfl rfl)
theorem dX4_player_16 : decode cX4_player 16 = .ok (.iconst (-1), 1) := dk_2 (dk_at dksX4_player_0 16 rfl rfl)
theorem dX4_player_17 : decode cX4_player 17 = .ok (.ireturn, 1) := dk_172 (dk_at dksX4_player_0 17 rfl rfl)
theorem dX4_player_18 : decode cX4_player 18 = .ok (.iload_n 2, 1) := dk_28 (dk_at dksX4_player_0 18 rfl rfl)
theorem dX4_player_19 : decode cX4_player 19 = .ok (.iconst 4, 1) := dk_7 (dk_at dksX4_player_0 19 rfl rfl)
theorem dX4_player_20 : decode cX4_player 20 = .ok (.if_icmp .ne 15, 3) := dk_160 0 15 (dk_at dksX4_player_0 20 rfl rfl)
theorem dX4_player_23 : decode cX4_player 23 = .ok (.aload_n 0, 1) := dk_42 (dk_at dksX4_player_0 23 rfl rfl)
theorem dX4_player_24 : decode cX4_player 24 = .ok (.getfield 9, 3) := dk_180 0 9 (dk_at dksX4_player_1 0 rfl rfl)
theorem dX4_player_27 : decode cX4_player 27 = .ok (.iload_n 1, 1) := dk_27 (dk_at dksX4_player_1 3 rfl rfl)
theorem dX4_player_28 : decode cX4_player 28 = .ok (.iconst 1, 1) := dk_4 (dk_at dksX4_player_1 4 rfl rfl)
theorem dX4_player_29 : decode cX4_player 29 = .ok (.invokestatic 98, 3) := dk_184 0 98 (dk_at dksX4_player_1 5 rfl rfl)
theorem dX4_player_32 : decode cX4_player 32 = .ok (.goto 13, 3) := dk_167 0 13 (dk_at dksX4_player_1 8 rfl rfl)
theorem dX4_player_35 : decode cX4_player 35 = .ok (.aload_n 0, 1) := dk_42 (dk_at dksX4_player_1 11 rfl rfl)
theorem dX4_player_36 : decode cX4_player 36 = .ok (.getfield 9, 3) := dk_180 0 9 (dk_at dksX4_player_1 12 rfl rfl)
theorem dX4_player_39 : decode cX4_player 39 = .ok (.iload_n 1, 1) := dk_27 (dk_at dksX4_player_1 15 rfl rfl)
theorem dX4_player_40 : decode cX4_player 40 = .ok (.iload_n 2, 1) := dk_28 (dk_at dksX4_player_1 16 rfl rfl)
theorem dX4_player_41 : decode cX4_player 41 = .ok (.invokestatic 46, 3) := dk_184 0 46 (dk_at dksX4_player_1 17 rfl rfl)
theorem dX4_player_44 : decode cX4_player 44 = .ok (.iaload, 1) := dk_46 (dk_at dksX4_player_1 20 rfl rfl)
theorem dX4_player_45 : decode cX4_player 45 = .ok (.ireturn, 1) := dk_172 (dk_at dksX4_player_1 21 rfl rfl)
abbrev cX4_side : ByteArray := prog_21_method_39_code
def yX4_side : MethodName := ⟨RX4, "side", "(II)I"⟩
def dkwX4_side_1 : List UInt8 := [160, 0, 11, 42, 27, 182, 0, 165, 167, 0, 13, 42, 180, 0, 9, 27, 28, 184, 0, 50, 46, 172]
abbrev dktX4_side_1 : List UInt8 := dkwX4_side_1 ++ []
def dkwX4_side_0 : List UInt8 := [27, 3, 4, 184, 0, 53, 153, 0, 12, 28, 3, 6, 184, 0, 53, 154, 0, 5, 2, 172, 28, 6]
abbrev dktX4_side_0 : List UInt8 := dkwX4_side_0 ++ dktX4_side_1
theorem dksX4_side_0 : cX4_side.data.toList.drop 0 = dktX4_side_0 := by decide +kernel
theorem dksX4_side_1 : cX4_side.data.toList.drop 22 = dktX4_side_1 := dk_seg dksX4_side_0 22 rfl rfl
theorem dX4_side_0 : decode cX4_side 0 = .ok (.iload_n 1, 1) := dk_27 (dk_at dksX4_side_0 0 rfl rfl)
theorem dX4_side_1 : decode cX4_side 1 = .ok (.iconst 0, 1) := dk_3 (dk_at dksX4_side_0 1 rfl rfl)
theorem dX4_side_2 : decode cX4_side 2 = .ok (.iconst 1, 1) := dk_4 (dk_at dksX4_side_0 2 rfl rfl)
theorem dX4_side_3 : decode cX4_side 3 = .ok (.invokestatic 53, 3) := dk_184 0 53 (dk_at dksX4_side_0 3 rfl rfl)
theorem dX4_side_6 : decode cX4_side 6 = .ok (.ifCond .eq 12, 3) := dk_153 0 12 (dk_at dksX4_side_0 6 rfl rfl)
theorem dX4_side_9 : decode cX4_side 9 = .ok (.iload_n 2, 1) := dk_28 (dk_at dksX4_side_0 9 rfl rfl)
theorem dX4_side_10 : decode cX4_side 10 = .ok (.iconst 0, 1) := dk_3 (dk_at dksX4_side_0 10 rfl rfl)
theorem dX4_side_11 : decode cX4_side 11 = .ok (.iconst 3, 1) := dk_6 (dk_at dksX4_side_0 11 rfl rfl)
theorem dX4_side_12 : decode cX4_side 12 = .ok (.invokestatic 53, 3) := dk_184 0 53 (dk_at dksX4_side_0 12 rfl rfl)
theorem dX4_side_15 : decode cX4_side 15 = .ok (.ifCond .ne 5, 3) := dk_154 0 5 (dk_at dksX4_side_0 15 rfl rfl)
theorem dX4_side_18 : decode cX4_side 18 = .ok (.iconst (-1), 1) := dk_2 (dk_at dksX4_side_0 18 rfl rfl)
theorem dX4_side_19 : decode cX4_side 19 = .ok (.ireturn, 1) := dk_172 (dk_at dksX4_side_0 19 rfl rfl)
theorem dX4_side_20 : decode cX4_side 20 = .ok (.iload_n 2, 1) := dk_28 (dk_at dksX4_side_0 20 rfl rfl)
theorem dX4_side_21 : decode cX4_side 21 = .ok (.iconst 3, 1) := dk_6 (dk_at dksX4_side_0 21 rfl rfl)
theorem dX4_side_22 : decode cX4_side 22 = .ok (.if_icmp .ne 11, 3) := dk_160 0 11 (dk_at dksX4_side_1 0 rfl rfl)
theorem dX4_side_25 : decode cX4_side 25 = .ok (.aload_n 0, 1) := dk_42 (dk_at dksX4_side_1 3 rfl rfl)
theorem dX4_side_26 : decode cX4_side 26 = .ok (.iload_n 1, 1) := dk_27 (dk_at dksX4_side_1 4 rfl rfl)
theorem dX4_side_27 : decode cX4_side 27 = .ok (.invokevirtual 165, 3) := dk_182 0 165 (dk_at dksX4_side_1 5 rfl rfl)
theorem dX4_side_30 : decode cX4_side 30 = .ok (.goto 13, 3) := dk_167 0 13 (dk_at dksX4_side_1 8 rfl rfl)
theorem dX4_side_33 : decode cX4_side 33 = .ok (.aload_n 0, 1) := dk_42 (dk_at dksX4_side_1 11 rfl rfl)
theorem dX4_side_34 : decode cX4_side 34 = .ok (.getfield 9, 3) := dk_180 0 9 (dk_at dksX4_side_1 12 rfl rfl)
theorem dX4_side_37 : decode cX4_side 37 = .ok (.iload_n 1, 1) := dk_27 (dk_at dksX4_side_1 15 rfl rfl)
theorem dX4_side_38 : decode cX4_side 38 = .ok (.iload_n 2, 1) := dk_28 (dk_at dksX4_side_1 16 rfl rfl)
theorem dX4_side_39 : decode cX4_side 39 = .ok (.invokestatic 50, 3) := dk_184 0 50 (dk_at dksX4_side_1 17 rfl rfl)
theorem dX4_side_42 : decode cX4_side 42 = .ok (.iaload, 1) := dk_46 (dk_at dksX4_side_1 20 rfl rfl)
theorem dX4_side_43 : decode cX4_side 43 = .ok (.ireturn, 1) := dk_172 (dk_at dksX4_side_1 21 rfl rfl)
abbrev cX4_outOfPlace : ByteArray := prog_21_method_38_code
def yX4_outOfPlace : MethodName := ⟨RX4, "outOfPlace", "(I)I"⟩
def dkwX4_outOfPlace_2 : List UInt8 := [46, 42, 180, 0, 9, 28, 3, 184, 0, 46, 46, 184, 0, 107, 184, 0, 70, 172]
abbrev dktX4_outOfPlace_2 : List UInt8 := dkwX4_outOfPlace_2 ++ []
def dkwX4_outOfPlace_1 : List UInt8 := [104, 61, 42, 180, 0, 9, 28, 184, 0, 104, 3, 184, 0, 46, 46, 42, 180, 0, 9, 27, 3, 184, 0, 50]
abbrev dktX4_outOfPlace_1 : List UInt8 := dkwX4_outOfPlace_1 ++ dktX4_outOfPlace_2
def dkwX4_outOfPlace_0 : List UInt8 := [42, 180, 0, 9, 5, 46, 184, 0, 73, 27, 160, 0, 12, 42, 180, 0, 9, 5, 46, 167, 0, 6, 5, 27]
abbrev dktX4_outOfPlace_0 : List UInt8 := dkwX4_outOfPlace_0 ++ dktX4_outOfPlace_1
theorem dksX4_outOfPlace_0 : cX4_outOfPlace.data.toList.drop 0 = dktX4_outOfPlace_0 := by decide +kernel
theorem dksX4_outOfPlace_1 : cX4_outOfPlace.data.toList.drop 24 = dktX4_outOfPlace_1 := dk_seg dksX4_outOfPlace_0 24 rfl rfl
theorem dksX4_outOfPlace_2 : cX4_outOfPlace.data.toList.drop 48 = dktX4_outOfPlace_2 := dk_seg dksX4_outOfPlace_1 24 rfl rfl
theorem dX4_outOfPlace_0 : decode cX4_outOfPlace 0 = .ok (.aload_n 0, 1) := dk_42 (dk_at dksX4_outOfPlace_0 0 rfl rfl)
theorem dX4_outOfPlace_1 : decode cX4_outOfPlace 1 = .ok (.getfield 9, 3) := dk_180 0 9 (dk_at dksX4_outOfPlace_0 1 rfl rfl)
theorem dX4_outOfPlace_4 : decode cX4_outOfPlace 4 = .ok (.iconst 2, 1) := dk_5 (dk_at dksX4_outOfPlace_0 4 rfl rfl)
theorem dX4_outOfPlace_5 : decode cX4_outOfPlace 5 = .ok (.iaload, 1) := dk_46 (dk_at dksX4_outOfPlace_0 5 rfl rfl)
theorem dX4_outOfPlace_6 : decode cX4_outOfPlace 6 = .ok (.invokestatic 73, 3) := dk_184 0 73 (dk_at dksX4_outOfPlace_0 6 rfl rfl)
theorem dX4_outOfPlace_9 : decode cX4_outOfPlace 9 = .ok (.iload_n 1, 1) := dk_27 (dk_at dksX4_outOfPlace_0 9 rfl rfl)
theorem dX4_outOfPlace_10 : decode cX4_outOfPlace 10 = .ok (.if_icmp .ne 12, 3) := dk_160 0 12 (dk_at dksX4_outOfPlace_0 10 rfl rfl)
theorem dX4_outOfPlace_13 : decode cX4_outOfPlace 13 = .ok (.aload_n 0, 1) := dk_42 (dk_at dksX4_outOfPlace_0 13 rfl rfl)
theorem dX4_outOfPlace_14 : decode cX4_outOfPlace 14 = .ok (.getfield 9, 3) := dk_180 0 9 (dk_at dksX4_outOfPlace_0 14 rfl rfl)
theorem dX4_outOfPlace_17 : decode cX4_outOfPlace 17 = .ok (.iconst 2, 1) := dk_5 (dk_at dksX4_outOfPlace_0 17 rfl rfl)
theorem dX4_outOfPlace_18 : decode cX4_outOfPlace 18 = .ok (.iaload, 1) := dk_46 (dk_at dksX4_outOfPlace_0 18 rfl rfl)
theorem dX4_outOfPlace_19 : decode cX4_outOfPlace 19 = .ok (.goto 6, 3) := dk_167 0 6 (dk_at dksX4_outOfPlace_0 19 rfl rfl)
theorem dX4_outOfPlace_22 : decode cX4_outOfPlace 22 = .ok (.iconst 2, 1) := dk_5 (dk_at dksX4_outOfPlace_0 22 rfl rfl)
theorem dX4_outOfPlace_23 : decode cX4_outOfPlace 23 = .ok (.iload_n 1, 1) := dk_27 (dk_at dksX4_outOfPlace_0 23 rfl rfl)
theorem dX4_outOfPlace_24 : decode cX4_outOfPlace 24 = .ok (.imul, 1) := dk_104 (dk_at dksX4_outOfPlace_1 0 rfl rfl)
theorem dX4_outOfPlace_25 : decode cX4_outOfPlace 25 = .ok (.istore_n 2, 1) := dk_61 (dk_at dksX4_outOfPlace_1 1 rfl rfl)
theorem dX4_outOfPlace_26 : decode cX4_outOfPlace 26 = .ok (.aload_n 0, 1) := dk_42 (dk_at dksX4_outOfPlace_1 2 rfl rfl)
theorem dX4_outOfPlace_27 : decode cX4_outOfPlace 27 = .ok (.getfield 9, 3) := dk_180 0 9 (dk_at dksX4_outOfPlace_1 3 rfl rfl)
theorem dX4_outOfPlace_30 : decode cX4_outOfPlace 30 = .ok (.iload_n 2, 1) := dk_28 (dk_at dksX4_outOfPlace_1 6 rfl rfl)
theorem dX4_outOfPlace_31 : decode cX4_outOfPlace 31 = .ok (.invokestatic 104, 3) := dk_184 0 104 (dk_at dksX4_outOfPlace_1 7 rfl rfl)
theorem dX4_outOfPlace_34 : decode cX4_outOfPlace 34 = .ok (.iconst 0, 1) := dk_3 (dk_at dksX4_outOfPlace_1 10 rfl rfl)
theorem dX4_outOfPlace_35 : decode cX4_outOfPlace 35 = .ok (.invokestatic 46, 3) := dk_184 0 46 (dk_at dksX4_outOfPlace_1 11 rfl rfl)
theorem dX4_outOfPlace_38 : decode cX4_outOfPlace 38 = .ok (.iaload, 1) := dk_46 (dk_at dksX4_outOfPlace_1 14 rfl rfl)
theorem dX4_outOfPlace_39 : decode cX4_outOfPlace 39 = .ok (.aload_n 0, 1) := dk_42 (dk_at dksX4_outOfPlace_1 15 rfl rfl)
theorem dX4_outOfPlace_40 : decode cX4_outOfPlace 40 = .ok (.getfield 9, 3) := dk_180 0 9 (dk_at dksX4_outOfPlace_1 16 rfl rfl)
theorem dX4_outOfPlace_43 : decode cX4_outOfPlace 43 = .ok (.iload_n 1, 1) := dk_27 (dk_at dksX4_outOfPlace_1 19 rfl rfl)
theorem dX4_outOfPlace_44 : decode cX4_outOfPlace 44 = .ok (.iconst 0, 1) := dk_3 (dk_at dksX4_outOfPlace_1 20 rfl rfl)
theorem dX4_outOfPlace_45 : decode cX4_outOfPlace 45 = .ok (.invokestatic 50, 3) := dk_184 0 50 (dk_at dksX4_outOfPlace_1 21 rfl rfl)
theorem dX4_outOfPlace_48 : decode cX4_outOfPlace 48 = .ok (.iaload, 1) := dk_46 (dk_at dksX4_outOfPlace_2 0 rfl rfl)
theorem dX4_outOfPlace_49 : decode cX4_outOfPlace 49 = .ok (.aload_n 0, 1) := dk_42 (dk_at dksX4_outOfPlace_2 1 rfl rfl)
theorem dX4_outOfPlace_50 : decode cX4_outOfPlace 50 = .ok (.getfield 9, 3) := dk_180 0 9 (dk_at dksX4_outOfPlace_2 2 rfl rfl)
theorem dX4_outOfPlace_53 : decode cX4_outOfPlace 53 = .ok (.iload_n 2, 1) := dk_28 (dk_at dksX4_outOfPlace_2 5 rfl rfl)
theorem dX4_outOfPlace_54 : decode cX4_outOfPlace 54 = .ok (.iconst 0, 1) := dk_3 (dk_at dksX4_outOfPlace_2 6 rfl rfl)
theorem dX4_outOfPlace_55 : decode cX4_outOfPlace 55 = .ok (.invokestatic 46, 3) := dk_184 0 46 (dk_at dksX4_outOfPlace_2 7 rfl rfl)
theorem dX4_outOfPlace_58 : decode cX4_outOfPlace 58 = .ok (.iaload, 1) := dk_46 (dk_at dksX4_outOfPlace_2 10 rfl rfl)
theorem dX4_outOfPlace_59 : decode cX4_outOfPlace 59 = .ok (.invokestatic 107, 3) := dk_184 0 107 (dk_at dksX4_outOfPlace_2 11 rfl rfl)
theorem dX4_outOfPlace_62 : decode cX4_outOfPlace 62 = .ok (.invokestatic 70, 3) := dk_184 0 70 (dk_at dksX4_outOfPlace_2 14 rfl rfl)
theorem dX4_outOfPlace_65 : decode cX4_outOfPlace 65 = .ok (.ireturn, 1) := dk_172 (dk_at dksX4_outOfPlace_2 17 rfl rfl)
abbrev cX4_learns : ByteArray := prog_21_method_40_code
def yX4_learns : MethodName := ⟨RX4, "learns", "(I)I"⟩
def dkwX4_learns_2 : List UInt8 := [46, 4, 100, 172]
abbrev dktX4_learns_2 : List UInt8 := dkwX4_learns_2 ++ []
def dkwX4_learns_1 : List UInt8 := [16, 254, 172, 42, 42, 180, 0, 31, 27, 46, 42, 180, 0, 34, 27, 46, 182, 0, 131, 42, 180, 0, 9, 3]
abbrev dktX4_learns_1 : List UInt8 := dkwX4_learns_1 ++ dktX4_learns_2
def dkwX4_learns_0 : List UInt8 := [42, 27, 182, 0, 168, 61, 28, 153, 0, 5, 28, 172, 42, 180, 0, 9, 3, 46, 16, 8, 160, 0, 6]
abbrev dktX4_learns_0 : List UInt8 := dkwX4_learns_0 ++ dktX4_learns_1
theorem dksX4_learns_0 : cX4_learns.data.toList.drop 0 = dktX4_learns_0 := by decide +kernel
theorem dksX4_learns_1 : cX4_learns.data.toList.drop 23 = dktX4_learns_1 := dk_seg dksX4_learns_0 23 rfl rfl
theorem dksX4_learns_2 : cX4_learns.data.toList.drop 47 = dktX4_learns_2 := dk_seg dksX4_learns_1 24 rfl rfl
theorem dX4_learns_0 : decode cX4_learns 0 = .ok (.aload_n 0, 1) := dk_42 (dk_at dksX4_learns_0 0 rfl rfl)
theorem dX4_learns_1 : decode cX4_learns 1 = .ok (.iload_n 1, 1) := dk_27 (dk_at dksX4_learns_0 1 rfl rfl)
theorem dX4_learns_2 : decode cX4_learns 2 = .ok (.invokevirtual 168, 3) := dk_182 0 168 (dk_at dksX4_learns_0 2 rfl rfl)
theorem dX4_learns_5 : decode cX4_learns 5 = .ok (.istore_n 2, 1) := dk_61 (dk_at dksX4_learns_0 5 rfl rfl)
theorem dX4_learns_6 : decode cX4_learns 6 = .ok (.iload_n 2, 1) := dk_28 (dk_at dksX4_learns_0 6 rfl rfl)
theorem dX4_learns_7 : decode cX4_learns 7 = .ok (.ifCond .eq 5, 3) := dk_153 0 5 (dk_at dksX4_learns_0 7 rfl rfl)
theorem dX4_learns_10 : decode cX4_learns 10 = .ok (.iload_n 2, 1) := dk_28 (dk_at dksX4_learns_0 10 rfl rfl)
theorem dX4_learns_11 : decode cX4_learns 11 = .ok (.ireturn, 1) := dk_172 (dk_at dksX4_learns_0 11 rfl rfl)
theorem dX4_learns_12 : decode cX4_learns 12 = .ok (.aload_n 0, 1) := dk_42 (dk_at dksX4_learns_0 12 rfl rfl)
theorem dX4_learns_13 : decode cX4_learns 13 = .ok (.getfield 9, 3) := dk_180 0 9 (dk_at dksX4_learns_0 13 rfl rfl)
theorem dX4_learns_16 : decode cX4_learns 16 = .ok (.iconst 0, 1) := dk_3 (dk_at dksX4_learns_0 16 rfl rfl)
theorem dX4_learns_17 : decode cX4_learns 17 = .ok (.iaload, 1) := dk_46 (dk_at dksX4_learns_0 17 rfl rfl)
theorem dX4_learns_18 : decode cX4_learns 18 = .ok (.bipush 8, 2) := dk_16 8 (dk_at dksX4_learns_0 18 rfl rfl)
theorem dX4_learns_20 : decode cX4_learns 20 = .ok (.if_icmp .ne 6, 3) := dk_160 0 6 (dk_at dksX4_learns_0 20 rfl rfl)
theorem dX4_learns_23 : decode cX4_learns 23 = .ok (.bipush (-2), 2) := dk_16 254 (dk_at dksX4_learns_1 0 rfl rfl)
theorem dX4_learns_25 : decode cX4_learns 25 = .ok (.ireturn, 1) := dk_172 (dk_at dksX4_learns_1 2 rfl rfl)
theorem dX4_learns_26 : decode cX4_learns 26 = .ok (.aload_n 0, 1) := dk_42 (dk_at dksX4_learns_1 3 rfl rfl)
theorem dX4_learns_27 : decode cX4_learns 27 = .ok (.aload_n 0, 1) := dk_42 (dk_at dksX4_learns_1 4 rfl rfl)
theorem dX4_learns_28 : decode cX4_learns 28 = .ok (.getfield 31, 3) := dk_180 0 31 (dk_at dksX4_learns_1 5 rfl rfl)
theorem dX4_learns_31 : decode cX4_learns 31 = .ok (.iload_n 1, 1) := dk_27 (dk_at dksX4_learns_1 8 rfl rfl)
theorem dX4_learns_32 : decode cX4_learns 32 = .ok (.iaload, 1) := dk_46 (dk_at dksX4_learns_1 9 rfl rfl)
theorem dX4_learns_33 : decode cX4_learns 33 = .ok (.aload_n 0, 1) := dk_42 (dk_at dksX4_learns_1 10 rfl rfl)
theorem dX4_learns_34 : decode cX4_learns 34 = .ok (.getfield 34, 3) := dk_180 0 34 (dk_at dksX4_learns_1 11 rfl rfl)
theorem dX4_learns_37 : decode cX4_learns 37 = .ok (.iload_n 1, 1) := dk_27 (dk_at dksX4_learns_1 14 rfl rfl)
theorem dX4_learns_38 : decode cX4_learns 38 = .ok (.iaload, 1) := dk_46 (dk_at dksX4_learns_1 15 rfl rfl)
theorem dX4_learns_39 : decode cX4_learns 39 = .ok (.invokevirtual 131, 3) := dk_182 0 131 (dk_at dksX4_learns_1 16 rfl rfl)
theorem dX4_learns_42 : decode cX4_learns 42 = .ok (.aload_n 0, 1) := dk_42 (dk_at dksX4_learns_1 19 rfl rfl)
theorem dX4_learns_43 : decode cX4_learns 43 = .ok (.getfield 9, 3) := dk_180 0 9 (dk_at dksX4_learns_1 20 rfl rfl)
theorem dX4_learns_46 : decode cX4_learns 46 = .ok (.iconst 0, 1) := dk_3 (dk_at dksX4_learns_1 23 rfl rfl)
theorem dX4_learns_47 : decode cX4_learns 47 = .ok (.iaload, 1) := dk_46 (dk_at dksX4_learns_2 0 rfl rfl)
theorem dX4_learns_48 : decode cX4_learns 48 = .ok (.iconst 1, 1) := dk_4 (dk_at dksX4_learns_2 1 rfl rfl)
theorem dX4_learns_49 : decode cX4_learns 49 = .ok (.isub, 1) := dk_100 (dk_at dksX4_learns_2 2 rfl rfl)
theorem dX4_learns_50 : decode cX4_learns 50 = .ok (.ireturn, 1) := dk_172 (dk_at dksX4_learns_2 3 rfl rfl)
abbrev cX4_wrongKept : ByteArray := prog_21_method_94_code
def yX4_wrongKept : MethodName := ⟨RX4, "wrongKept", "(I)I"⟩
def dkwX4_wrongKept_1 : List UInt8 := [167, 0, 19, 42, 180, 0, 28, 27, 46, 5, 160, 0, 8, 16, 244, 167, 0, 4, 3, 172]
abbrev dktX4_wrongKept_1 : List UInt8 := dkwX4_wrongKept_1 ++ []
def dkwX4_wrongKept_0 : List UInt8 := [27, 184, 1, 7, 154, 0, 7, 2, 167, 0, 33, 42, 180, 0, 28, 27, 46, 154, 0, 8, 16, 245]
abbrev dktX4_wrongKept_0 : List UInt8 := dkwX4_wrongKept_0 ++ dktX4_wrongKept_1
theorem dksX4_wrongKept_0 : cX4_wrongKept.data.toList.drop 0 = dktX4_wrongKept_0 := by decide +kernel
theorem dksX4_wrongKept_1 : cX4_wrongKept.data.toList.drop 22 = dktX4_wrongKept_1 := dk_seg dksX4_wrongKept_0 22 rfl rfl
theorem dX4_wrongKept_0 : decode cX4_wrongKept 0 = .ok (.iload_n 1, 1) := dk_27 (dk_at dksX4_wrongKept_0 0 rfl rfl)
theorem dX4_wrongKept_1 : decode cX4_wrongKept 1 = .ok (.invokestatic 263, 3) := dk_184 1 7 (dk_at dksX4_wrongKept_0 1 rfl rfl)
theorem dX4_wrongKept_4 : decode cX4_wrongKept 4 = .ok (.ifCond .ne 7, 3) := dk_154 0 7 (dk_at dksX4_wrongKept_0 4 rfl rfl)
theorem dX4_wrongKept_7 : decode cX4_wrongKept 7 = .ok (.iconst (-1), 1) := dk_2 (dk_at dksX4_wrongKept_0 7 rfl rfl)
theorem dX4_wrongKept_8 : decode cX4_wrongKept 8 = .ok (.goto 33, 3) := dk_167 0 33 (dk_at dksX4_wrongKept_0 8 rfl rfl)
theorem dX4_wrongKept_11 : decode cX4_wrongKept 11 = .ok (.aload_n 0, 1) := dk_42 (dk_at dksX4_wrongKept_0 11 rfl rfl)
theorem dX4_wrongKept_12 : decode cX4_wrongKept 12 = .ok (.getfield 28, 3) := dk_180 0 28 (dk_at dksX4_wrongKept_0 12 rfl rfl)
theorem dX4_wrongKept_15 : decode cX4_wrongKept 15 = .ok (.iload_n 1, 1) := dk_27 (dk_at dksX4_wrongKept_0 15 rfl rfl)
theorem dX4_wrongKept_16 : decode cX4_wrongKept 16 = .ok (.iaload, 1) := dk_46 (dk_at dksX4_wrongKept_0 16 rfl rfl)
theorem dX4_wrongKept_17 : decode cX4_wrongKept 17 = .ok (.ifCond .ne 8, 3) := dk_154 0 8 (dk_at dksX4_wrongKept_0 17 rfl rfl)
theorem dX4_wrongKept_20 : decode cX4_wrongKept 20 = .ok (.bipush (-11), 2) := dk_16 245 (dk_at dksX4_wrongKept_0 20 rfl rfl)
theorem dX4_wrongKept_22 : decode cX4_wrongKept 22 = .ok (.goto 19, 3) := dk_167 0 19 (dk_at dksX4_wrongKept_1 0 rfl rfl)
theorem dX4_wrongKept_25 : decode cX4_wrongKept 25 = .ok (.aload_n 0, 1) := dk_42 (dk_at dksX4_wrongKept_1 3 rfl rfl)
theorem dX4_wrongKept_26 : decode cX4_wrongKept 26 = .ok (.getfield 28, 3) := dk_180 0 28 (dk_at dksX4_wrongKept_1 4 rfl rfl)
theorem dX4_wrongKept_29 : decode cX4_wrongKept 29 = .ok (.iload_n 1, 1) := dk_27 (dk_at dksX4_wrongKept_1 7 rfl rfl)
theorem dX4_wrongKept_30 : decode cX4_wrongKept 30 = .ok (.iaload, 1) := dk_46 (dk_at dksX4_wrongKept_1 8 rfl rfl)
theorem dX4_wrongKept_31 : decode cX4_wrongKept 31 = .ok (.iconst 2, 1) := dk_5 (dk_at dksX4_wrongKept_1 9 rfl rfl)
theorem dX4_wrongKept_32 : decode cX4_wrongKept 32 = .ok (.if_icmp .ne 8, 3) := dk_160 0 8 (dk_at dksX4_wrongKept_1 10 rfl rfl)
theorem dX4_wrongKept_35 : decode cX4_wrongKept 35 = .ok (.bipush (-12), 2) := dk_16 244 (dk_at dksX4_wrongKept_1 13 rfl rfl)
theorem dX4_wrongKept_37 : decode cX4_wrongKept 37 = .ok (.goto 4, 3) := dk_167 0 4 (dk_at dksX4_wrongKept_1 15 rfl rfl)
theorem dX4_wrongKept_40 : decode cX4_wrongKept 40 = .ok (.iconst 0, 1) := dk_3 (dk_at dksX4_wrongKept_1 18 rfl rfl)
theorem dX4_wrongKept_41 : decode cX4_wrongKept 41 = .ok (.ireturn, 1) := dk_172 (dk_at dksX4_wrongKept_1 19 rfl rfl)
abbrev cX4_stands : ByteArray := prog_21_method_41_code
def yX4_stands : MethodName := ⟨RX4, "stands", "(III)I"⟩
def dkwX4_stands_2 : List UInt8 := [42, 180, 0, 9, 27, 4, 184, 0, 46, 29, 79, 21, 4, 172]
abbrev dktX4_stands_2 : List UInt8 := dkwX4_stands_2 ++ []
def dkwX4_stands_1 : List UInt8 := [172, 42, 180, 0, 9, 27, 3, 184, 0, 46, 46, 54, 4, 42, 180, 0, 9, 27, 3, 184, 0, 46, 28, 79]
abbrev dktX4_stands_1 : List UInt8 := dkwX4_stands_1 ++ dktX4_stands_2
def dkwX4_stands_0 : List UInt8 := [27, 184, 0, 135, 153, 0, 19, 28, 184, 0, 139, 153, 0, 12, 29, 4, 7, 184, 0, 53, 154, 0, 5, 2]
abbrev dktX4_stands_0 : List UInt8 := dkwX4_stands_0 ++ dktX4_stands_1
theorem dksX4_stands_0 : cX4_stands.data.toList.drop 0 = dktX4_stands_0 := by decide +kernel
theorem dksX4_stands_1 : cX4_stands.data.toList.drop 24 = dktX4_stands_1 := dk_seg dksX4_stands_0 24 rfl rfl
theorem dksX4_stands_2 : cX4_stands.data.toList.drop 48 = dktX4_stands_2 := dk_seg dksX4_stands_1 24 rfl rfl
theorem dX4_stands_0 : decode cX4_stands 0 = .ok (.iload_n 1, 1) := dk_27 (dk_at dksX4_stands_0 0 rfl rfl)
theorem dX4_stands_1 : decode cX4_stands 1 = .ok (.invokestatic 135, 3) := dk_184 0 135 (dk_at dksX4_stands_0 1 rfl rfl)
theorem dX4_stands_4 : decode cX4_stands 4 = .ok (.ifCond .eq 19, 3) := dk_153 0 19 (dk_at dksX4_stands_0 4 rfl rfl)
theorem dX4_stands_7 : decode cX4_stands 7 = .ok (.iload_n 2, 1) := dk_28 (dk_at dksX4_stands_0 7 rfl rfl)
theorem dX4_stands_8 : decode cX4_stands 8 = .ok (.invokestatic 139, 3) := dk_184 0 139 (dk_at dksX4_stands_0 8 rfl rfl)
theorem dX4_stands_11 : decode cX4_stands 11 = .ok (.ifCond .eq 12, 3) := dk_153 0 12 (dk_at dksX4_stands_0 11 rfl rfl)
theorem dX4_stands_14 : decode cX4_stands 14 = .ok (.iload_n 3, 1) := dk_29 (dk_at dksX4_stands_0 14 rfl rfl)
theorem dX4_stands_15 : decode cX4_stands 15 = .ok (.iconst 1, 1) := dk_4 (dk_at dksX4_stands_0 15 rfl rfl)
theorem dX4_stands_16 : decode cX4_stands 16 = .ok (.iconst 4, 1) := dk_7 (dk_at dksX4_stands_0 16 rfl rfl)
theorem dX4_stands_17 : decode cX4_stands 17 = .ok (.invokestatic 53, 3) := dk_184 0 53 (dk_at dksX4_stands_0 17 rfl rfl)
theorem dX4_stands_20 : decode cX4_stands 20 = .ok (.ifCond .ne 5, 3) := dk_154 0 5 (dk_at dksX4_stands_0 20 rfl rfl)
theorem dX4_stands_23 : decode cX4_stands 23 = .ok (.iconst (-1), 1) := dk_2 (dk_at dksX4_stands_0 23 rfl rfl)
theorem dX4_stands_24 : decode cX4_stands 24 = .ok (.ireturn, 1) := dk_172 (dk_at dksX4_stands_1 0 rfl rfl)
theorem dX4_stands_25 : decode cX4_stands 25 = .ok (.aload_n 0, 1) := dk_42 (dk_at dksX4_stands_1 1 rfl rfl)
theorem dX4_stands_26 : decode cX4_stands 26 = .ok (.getfield 9, 3) := dk_180 0 9 (dk_at dksX4_stands_1 2 rfl rfl)
theorem dX4_stands_29 : decode cX4_stands 29 = .ok (.iload_n 1, 1) := dk_27 (dk_at dksX4_stands_1 5 rfl rfl)
theorem dX4_stands_30 : decode cX4_stands 30 = .ok (.iconst 0, 1) := dk_3 (dk_at dksX4_stands_1 6 rfl rfl)
theorem dX4_stands_31 : decode cX4_stands 31 = .ok (.invokestatic 46, 3) := dk_184 0 46 (dk_at dksX4_stands_1 7 rfl rfl)
theorem dX4_stands_34 : decode cX4_stands 34 = .ok (.iaload, 1) := dk_46 (dk_at dksX4_stands_1 10 rfl rfl)
theorem dX4_stands_35 : decode cX4_stands 35 = .ok (.istore 4, 2) := dk_54 4 (dk_at dksX4_stands_1 11 rfl rfl)
theorem dX4_stands_37 : decode cX4_stands 37 = .ok (.aload_n 0, 1) := dk_42 (dk_at dksX4_stands_1 13 rfl rfl)
theorem dX4_stands_38 : decode cX4_stands 38 = .ok (.getfield 9, 3) := dk_180 0 9 (dk_at dksX4_stands_1 14 rfl rfl)
theorem dX4_stands_41 : decode cX4_stands 41 = .ok (.iload_n 1, 1) := dk_27 (dk_at dksX4_stands_1 17 rfl rfl)
theorem dX4_stands_42 : decode cX4_stands 42 = .ok (.iconst 0, 1) := dk_3 (dk_at dksX4_stands_1 18 rfl rfl)
theorem dX4_stands_43 : decode cX4_stands 43 = .ok (.invokestatic 46, 3) := dk_184 0 46 (dk_at dksX4_stands_1 19 rfl rfl)
theorem dX4_stands_46 : decode cX4_stands 46 = .ok (.iload_n 2, 1) := dk_28 (dk_at dksX4_stands_1 22 rfl rfl)
theorem dX4_stands_47 : decode cX4_stands 47 = .ok (.iastore, 1) := dk_79 (dk_at dksX4_stands_1 23 rfl rfl)
theorem dX4_stands_48 : decode cX4_stands 48 = .ok (.aload_n 0, 1) := dk_42 (dk_at dksX4_stands_2 0 rfl rfl)
theorem dX4_stands_49 : decode cX4_stands 49 = .ok (.getfield 9, 3) := dk_180 0 9 (dk_at dksX4_stands_2 1 rfl rfl)
theorem dX4_stands_52 : decode cX4_stands 52 = .ok (.iload_n 1, 1) := dk_27 (dk_at dksX4_stands_2 4 rfl rfl)
theorem dX4_stands_53 : decode cX4_stands 53 = .ok (.iconst 1, 1) := dk_4 (dk_at dksX4_stands_2 5 rfl rfl)
theorem dX4_stands_54 : decode cX4_stands 54 = .ok (.invokestatic 46, 3) := dk_184 0 46 (dk_at dksX4_stands_2 6 rfl rfl)
theorem dX4_stands_57 : decode cX4_stands 57 = .ok (.iload_n 3, 1) := dk_29 (dk_at dksX4_stands_2 9 rfl rfl)
theorem dX4_stands_58 : decode cX4_stands 58 = .ok (.iastore, 1) := dk_79 (dk_at dksX4_stands_2 10 rfl rfl)
theorem dX4_stands_59 : decode cX4_stands 59 = .ok (.iload 4, 2) := dk_21 4 (dk_at dksX4_stands_2 11 rfl rfl)
theorem dX4_stands_61 : decode cX4_stands 61 = .ok (.ireturn, 1) := dk_172 (dk_at dksX4_stands_2 13 rfl rfl)
abbrev cX4_tires : ByteArray := prog_21_method_42_code
def yX4_tires : MethodName := ⟨RX4, "tires", "(II)I"⟩
def dkwX4_tires_1 : List UInt8 := [5, 184, 0, 46, 46, 62, 42, 180, 0, 9, 27, 5, 184, 0, 46, 28, 79, 29, 172]
abbrev dktX4_tires_1 : List UInt8 := dkwX4_tires_1 ++ []
def dkwX4_tires_0 : List UInt8 := [27, 184, 0, 135, 153, 0, 13, 28, 3, 16, 99, 184, 0, 53, 154, 0, 5, 2, 172, 42, 180, 0, 9, 27]
abbrev dktX4_tires_0 : List UInt8 := dkwX4_tires_0 ++ dktX4_tires_1
theorem dksX4_tires_0 : cX4_tires.data.toList.drop 0 = dktX4_tires_0 := by decide +kernel
theorem dksX4_tires_1 : cX4_tires.data.toList.drop 24 = dktX4_tires_1 := dk_seg dksX4_tires_0 24 rfl rfl
theorem dX4_tires_0 : decode cX4_tires 0 = .ok (.iload_n 1, 1) := dk_27 (dk_at dksX4_tires_0 0 rfl rfl)
theorem dX4_tires_1 : decode cX4_tires 1 = .ok (.invokestatic 135, 3) := dk_184 0 135 (dk_at dksX4_tires_0 1 rfl rfl)
theorem dX4_tires_4 : decode cX4_tires 4 = .ok (.ifCond .eq 13, 3) := dk_153 0 13 (dk_at dksX4_tires_0 4 rfl rfl)
theorem dX4_tires_7 : decode cX4_tires 7 = .ok (.iload_n 2, 1) := dk_28 (dk_at dksX4_tires_0 7 rfl rfl)
theorem dX4_tires_8 : decode cX4_tires 8 = .ok (.iconst 0, 1) := dk_3 (dk_at dksX4_tires_0 8 rfl rfl)
theorem dX4_tires_9 : decode cX4_tires 9 = .ok (.bipush 99, 2) := dk_16 99 (dk_at dksX4_tires_0 9 rfl rfl)
theorem dX4_tires_11 : decode cX4_tires 11 = .ok (.invokestatic 53, 3) := dk_184 0 53 (dk_at dksX4_tires_0 11 rfl rfl)
theorem dX4_tires_14 : decode cX4_tires 14 = .ok (.ifCond .ne 5, 3) := dk_154 0 5 (dk_at dksX4_tires_0 14 rfl rfl)
theorem dX4_tires_17 : decode cX4_tires 17 = .ok (.iconst (-1), 1) := dk_2 (dk_at dksX4_tires_0 17 rfl rfl)
theorem dX4_tires_18 : decode cX4_tires 18 = .ok (.ireturn, 1) := dk_172 (dk_at dksX4_tires_0 18 rfl rfl)
theorem dX4_tires_19 : decode cX4_tires 19 = .ok (.aload_n 0, 1) := dk_42 (dk_at dksX4_tires_0 19 rfl rfl)
theorem dX4_tires_20 : decode cX4_tires 20 = .ok (.getfield 9, 3) := dk_180 0 9 (dk_at dksX4_tires_0 20 rfl rfl)
theorem dX4_tires_23 : decode cX4_tires 23 = .ok (.iload_n 1, 1) := dk_27 (dk_at dksX4_tires_0 23 rfl rfl)
theorem dX4_tires_24 : decode cX4_tires 24 = .ok (.iconst 2, 1) := dk_5 (dk_at dksX4_tires_1 0 rfl rfl)
theorem dX4_tires_25 : decode cX4_tires 25 = .ok (.invokestatic 46, 3) := dk_184 0 46 (dk_at dksX4_tires_1 1 rfl rfl)
theorem dX4_tires_28 : decode cX4_tires 28 = .ok (.iaload, 1) := dk_46 (dk_at dksX4_tires_1 4 rfl rfl)
theorem dX4_tires_29 : decode cX4_tires 29 = .ok (.istore_n 3, 1) := dk_62 (dk_at dksX4_tires_1 5 rfl rfl)
theorem dX4_tires_30 : decode cX4_tires 30 = .ok (.aload_n 0, 1) := dk_42 (dk_at dksX4_tires_1 6 rfl rfl)
theorem dX4_tires_31 : decode cX4_tires 31 = .ok (.getfield 9, 3) := dk_180 0 9 (dk_at dksX4_tires_1 7 rfl rfl)
theorem dX4_tires_34 : decode cX4_tires 34 = .ok (.iload_n 1, 1) := dk_27 (dk_at dksX4_tires_1 10 rfl rfl)
theorem dX4_tires_35 : decode cX4_tires 35 = .ok (.iconst 2, 1) := dk_5 (dk_at dksX4_tires_1 11 rfl rfl)
theorem dX4_tires_36 : decode cX4_tires 36 = .ok (.invokestatic 46, 3) := dk_184 0 46 (dk_at dksX4_tires_1 12 rfl rfl)
theorem dX4_tires_39 : decode cX4_tires 39 = .ok (.iload_n 2, 1) := dk_28 (dk_at dksX4_tires_1 15 rfl rfl)
theorem dX4_tires_40 : decode cX4_tires 40 = .ok (.iastore, 1) := dk_79 (dk_at dksX4_tires_1 16 rfl rfl)
theorem dX4_tires_41 : decode cX4_tires 41 = .ok (.iload_n 3, 1) := dk_29 (dk_at dksX4_tires_1 17 rfl rfl)
theorem dX4_tires_42 : decode cX4_tires 42 = .ok (.ireturn, 1) := dk_172 (dk_at dksX4_tires_1 18 rfl rfl)
abbrev cX4_hands : ByteArray := prog_21_method_43_code
def yX4_hands : MethodName := ⟨RX4, "hands", "(I)I"⟩
def dkwX4_hands_1 : List UInt8 := [180, 0, 9, 27, 6, 184, 0, 46, 46, 172]
abbrev dktX4_hands_1 : List UInt8 := dkwX4_hands_1 ++ []
def dkwX4_hands_0 : List UInt8 := [27, 184, 0, 135, 154, 0, 5, 2, 172, 42, 180, 0, 9, 27, 6, 184, 0, 46, 92, 46, 4, 130, 79, 42]
abbrev dktX4_hands_0 : List UInt8 := dkwX4_hands_0 ++ dktX4_hands_1
theorem dksX4_hands_0 : cX4_hands.data.toList.drop 0 = dktX4_hands_0 := by decide +kernel
theorem dksX4_hands_1 : cX4_hands.data.toList.drop 24 = dktX4_hands_1 := dk_seg dksX4_hands_0 24 rfl rfl
theorem dX4_hands_0 : decode cX4_hands 0 = .ok (.iload_n 1, 1) := dk_27 (dk_at dksX4_hands_0 0 rfl rfl)
theorem dX4_hands_1 : decode cX4_hands 1 = .ok (.invokestatic 135, 3) := dk_184 0 135 (dk_at dksX4_hands_0 1 rfl rfl)
theorem dX4_hands_4 : decode cX4_hands 4 = .ok (.ifCond .ne 5, 3) := dk_154 0 5 (dk_at dksX4_hands_0 4 rfl rfl)
theorem dX4_hands_7 : decode cX4_hands 7 = .ok (.iconst (-1), 1) := dk_2 (dk_at dksX4_hands_0 7 rfl rfl)
theorem dX4_hands_8 : decode cX4_hands 8 = .ok (.ireturn, 1) := dk_172 (dk_at dksX4_hands_0 8 rfl rfl)
theorem dX4_hands_9 : decode cX4_hands 9 = .ok (.aload_n 0, 1) := dk_42 (dk_at dksX4_hands_0 9 rfl rfl)
theorem dX4_hands_10 : decode cX4_hands 10 = .ok (.getfield 9, 3) := dk_180 0 9 (dk_at dksX4_hands_0 10 rfl rfl)
theorem dX4_hands_13 : decode cX4_hands 13 = .ok (.iload_n 1, 1) := dk_27 (dk_at dksX4_hands_0 13 rfl rfl)
theorem dX4_hands_14 : decode cX4_hands 14 = .ok (.iconst 3, 1) := dk_6 (dk_at dksX4_hands_0 14 rfl rfl)
theorem dX4_hands_15 : decode cX4_hands 15 = .ok (.invokestatic 46, 3) := dk_184 0 46 (dk_at dksX4_hands_0 15 rfl rfl)
theorem dX4_hands_18 : decode cX4_hands 18 = .ok (.dup2, 1) := dk_92 (dk_at dksX4_hands_0 18 rfl rfl)
theorem dX4_hands_19 : decode cX4_hands 19 = .ok (.iaload, 1) := dk_46 (dk_at dksX4_hands_0 19 rfl rfl)
theorem dX4_hands_20 : decode cX4_hands 20 = .ok (.iconst 1, 1) := dk_4 (dk_at dksX4_hands_0 20 rfl rfl)
theorem dX4_hands_21 : decode cX4_hands 21 = .ok (.ixor, 1) := dk_130 (dk_at dksX4_hands_0 21 rfl rfl)
theorem dX4_hands_22 : decode cX4_hands 22 = .ok (.iastore, 1) := dk_79 (dk_at dksX4_hands_0 22 rfl rfl)
theorem dX4_hands_23 : decode cX4_hands 23 = .ok (.aload_n 0, 1) := dk_42 (dk_at dksX4_hands_0 23 rfl rfl)
theorem dX4_hands_24 : decode cX4_hands 24 = .ok (.getfield 9, 3) := dk_180 0 9 (dk_at dksX4_hands_1 0 rfl rfl)
theorem dX4_hands_27 : decode cX4_hands 27 = .ok (.iload_n 1, 1) := dk_27 (dk_at dksX4_hands_1 3 rfl rfl)
theorem dX4_hands_28 : decode cX4_hands 28 = .ok (.iconst 3, 1) := dk_6 (dk_at dksX4_hands_1 4 rfl rfl)
theorem dX4_hands_29 : decode cX4_hands 29 = .ok (.invokestatic 46, 3) := dk_184 0 46 (dk_at dksX4_hands_1 5 rfl rfl)
theorem dX4_hands_32 : decode cX4_hands 32 = .ok (.iaload, 1) := dk_46 (dk_at dksX4_hands_1 8 rfl rfl)
theorem dX4_hands_33 : decode cX4_hands 33 = .ok (.ireturn, 1) := dk_172 (dk_at dksX4_hands_1 9 rfl rfl)
abbrev cX4_forms : ByteArray := prog_21_method_44_code
def yX4_forms : MethodName := ⟨RX4, "forms", "(III)I"⟩
def dkwX4_forms_2 : List UInt8 := [54, 4, 42, 180, 0, 9, 27, 28, 184, 0, 50, 29, 79, 21, 4, 172]
abbrev dktX4_forms_2 : List UInt8 := dkwX4_forms_2 ++ []
def dkwX4_forms_1 : List UInt8 := [4, 167, 0, 4, 6, 184, 0, 53, 154, 0, 5, 2, 172, 42, 180, 0, 9, 27, 28, 184, 0, 50, 46]
abbrev dktX4_forms_1 : List UInt8 := dkwX4_forms_1 ++ dktX4_forms_2
def dkwX4_forms_0 : List UInt8 := [27, 3, 4, 184, 0, 53, 153, 0, 29, 28, 3, 4, 184, 0, 53, 153, 0, 20, 29, 3, 28, 154, 0, 7]
abbrev dktX4_forms_0 : List UInt8 := dkwX4_forms_0 ++ dktX4_forms_1
theorem dksX4_forms_0 : cX4_forms.data.toList.drop 0 = dktX4_forms_0 := by decide +kernel
theorem dksX4_forms_1 : cX4_forms.data.toList.drop 24 = dktX4_forms_1 := dk_seg dksX4_forms_0 24 rfl rfl
theorem dksX4_forms_2 : cX4_forms.data.toList.drop 47 = dktX4_forms_2 := dk_seg dksX4_forms_1 23 rfl rfl
theorem dX4_forms_0 : decode cX4_forms 0 = .ok (.iload_n 1, 1) := dk_27 (dk_at dksX4_forms_0 0 rfl rfl)
theorem dX4_forms_1 : decode cX4_forms 1 = .ok (.iconst 0, 1) := dk_3 (dk_at dksX4_forms_0 1 rfl rfl)
theorem dX4_forms_2 : decode cX4_forms 2 = .ok (.iconst 1, 1) := dk_4 (dk_at dksX4_forms_0 2 rfl rfl)
theorem dX4_forms_3 : decode cX4_forms 3 = .ok (.invokestatic 53, 3) := dk_184 0 53 (dk_at dksX4_forms_0 3 rfl rfl)
theorem dX4_forms_6 : decode cX4_forms 6 = .ok (.ifCond .eq 29, 3) := dk_153 0 29 (dk_at dksX4_forms_0 6 rfl rfl)
theorem dX4_forms_9 : decode cX4_forms 9 = .ok (.iload_n 2, 1) := dk_28 (dk_at dksX4_forms_0 9 rfl rfl)
theorem dX4_forms_10 : decode cX4_forms 10 = .ok (.iconst 0, 1) := dk_3 (dk_at dksX4_forms_0 10 rfl rfl)
theorem dX4_forms_11 : decode cX4_forms 11 = .ok (.iconst 1, 1) := dk_4 (dk_at dksX4_forms_0 11 rfl rfl)
theorem dX4_forms_12 : decode cX4_forms 12 = .ok (.invokestatic 53, 3) := dk_184 0 53 (dk_at dksX4_forms_0 12 rfl rfl)
theorem dX4_forms_15 : decode cX4_forms 15 = .ok (.ifCond .eq 20, 3) := dk_153 0 20 (dk_at dksX4_forms_0 15 rfl rfl)
theorem dX4_forms_18 : decode cX4_forms 18 = .ok (.iload_n 3, 1) := dk_29 (dk_at dksX4_forms_0 18 rfl rfl)
theorem dX4_forms_19 : decode cX4_forms 19 = .ok (.iconst 0, 1) := dk_3 (dk_at dksX4_forms_0 19 rfl rfl)
theorem dX4_forms_20 : decode cX4_forms 20 = .ok (.iload_n 2, 1) := dk_28 (dk_at dksX4_forms_0 20 rfl rfl)
theorem dX4_forms_21 : decode cX4_forms 21 = .ok (.ifCond .ne 7, 3) := dk_154 0 7 (dk_at dksX4_forms_0 21 rfl rfl)
theorem dX4_forms_24 : decode cX4_forms 24 = .ok (.iconst 1, 1) := dk_4 (dk_at dksX4_forms_1 0 rfl rfl)
theorem dX4_forms_25 : decode cX4_forms 25 = .ok (.goto 4, 3) := dk_167 0 4 (dk_at dksX4_forms_1 1 rfl rfl)
theorem dX4_forms_28 : decode cX4_forms 28 = .ok (.iconst 3, 1) := dk_6 (dk_at dksX4_forms_1 4 rfl rfl)
theorem dX4_forms_29 : decode cX4_forms 29 = .ok (.invokestatic 53, 3) := dk_184 0 53 (dk_at dksX4_forms_1 5 rfl rfl)
theorem dX4_forms_32 : decode cX4_forms 32 = .ok (.ifCond .ne 5, 3) := dk_154 0 5 (dk_at dksX4_forms_1 8 rfl rfl)
theorem dX4_forms_35 : decode cX4_forms 35 = .ok (.iconst (-1), 1) := dk_2 (dk_at dksX4_forms_1 11 rfl rfl)
theorem dX4_forms_36 : decode cX4_forms 36 = .ok (.ireturn, 1) := dk_172 (dk_at dksX4_forms_1 12 rfl rfl)
theorem dX4_forms_37 : decode cX4_forms 37 = .ok (.aload_n 0, 1) := dk_42 (dk_at dksX4_forms_1 13 rfl rfl)
theorem dX4_forms_38 : decode cX4_forms 38 = .ok (.getfield 9, 3) := dk_180 0 9 (dk_at dksX4_forms_1 14 rfl rfl)
theorem dX4_forms_41 : decode cX4_forms 41 = .ok (.iload_n 1, 1) := dk_27 (dk_at dksX4_forms_1 17 rfl rfl)
theorem dX4_forms_42 : decode cX4_forms 42 = .ok (.iload_n 2, 1) := dk_28 (dk_at dksX4_forms_1 18 rfl rfl)
theorem dX4_forms_43 : decode cX4_forms 43 = .ok (.invokestatic 50, 3) := dk_184 0 50 (dk_at dksX4_forms_1 19 rfl rfl)
theorem dX4_forms_46 : decode cX4_forms 46 = .ok (.iaload, 1) := dk_46 (dk_at dksX4_forms_1 22 rfl rfl)
theorem dX4_forms_47 : decode cX4_forms 47 = .ok (.istore 4, 2) := dk_54 4 (dk_at dksX4_forms_2 0 rfl rfl)
theorem dX4_forms_49 : decode cX4_forms 49 = .ok (.aload_n 0, 1) := dk_42 (dk_at dksX4_forms_2 2 rfl rfl)
theorem dX4_forms_50 : decode cX4_forms 50 = .ok (.getfield 9, 3) := dk_180 0 9 (dk_at dksX4_forms_2 3 rfl rfl)
theorem dX4_forms_53 : decode cX4_forms 53 = .ok (.iload_n 1, 1) := dk_27 (dk_at dksX4_forms_2 6 rfl rfl)
theorem dX4_forms_54 : decode cX4_forms 54 = .ok (.iload_n 2, 1) := dk_28 (dk_at dksX4_forms_2 7 rfl rfl)
theorem dX4_forms_55 : decode cX4_forms 55 = .ok (.invokestatic 50, 3) := dk_184 0 50 (dk_at dksX4_forms_2 8 rfl rfl)
theorem dX4_forms_58 : decode cX4_forms 58 = .ok (.iload_n 3, 1) := dk_29 (dk_at dksX4_forms_2 11 rfl rfl)
theorem dX4_forms_59 : decode cX4_forms 59 = .ok (.iastore, 1) := dk_79 (dk_at dksX4_forms_2 12 rfl rfl)
theorem dX4_forms_60 : decode cX4_forms 60 = .ok (.iload 4, 2) := dk_21 4 (dk_at dksX4_forms_2 13 rfl rfl)
theorem dX4_forms_62 : decode cX4_forms 62 = .ok (.ireturn, 1) := dk_172 (dk_at dksX4_forms_2 15 rfl rfl)
abbrev cX4_blows : ByteArray := prog_21_method_45_code
def yX4_blows : MethodName := ⟨RX4, "blows", "(I)I"⟩
def dkwX4_blows_1 : List UInt8 := [6, 27, 4, 100, 79, 28, 172]
abbrev dktX4_blows_1 : List UInt8 := dkwX4_blows_1 ++ []
def dkwX4_blows_0 : List UInt8 := [27, 3, 5, 184, 0, 53, 154, 0, 5, 2, 172, 42, 180, 0, 9, 6, 46, 4, 96, 61, 42, 180, 0, 9]
abbrev dktX4_blows_0 : List UInt8 := dkwX4_blows_0 ++ dktX4_blows_1
theorem dksX4_blows_0 : cX4_blows.data.toList.drop 0 = dktX4_blows_0 := by decide +kernel
theorem dksX4_blows_1 : cX4_blows.data.toList.drop 24 = dktX4_blows_1 := dk_seg dksX4_blows_0 24 rfl rfl
theorem dX4_blows_0 : decode cX4_blows 0 = .ok (.iload_n 1, 1) := dk_27 (dk_at dksX4_blows_0 0 rfl rfl)
theorem dX4_blows_1 : decode cX4_blows 1 = .ok (.iconst 0, 1) := dk_3 (dk_at dksX4_blows_0 1 rfl rfl)
theorem dX4_blows_2 : decode cX4_blows 2 = .ok (.iconst 2, 1) := dk_5 (dk_at dksX4_blows_0 2 rfl rfl)
theorem dX4_blows_3 : decode cX4_blows 3 = .ok (.invokestatic 53, 3) := dk_184 0 53 (dk_at dksX4_blows_0 3 rfl rfl)
theorem dX4_blows_6 : decode cX4_blows 6 = .ok (.ifCond .ne 5, 3) := dk_154 0 5 (dk_at dksX4_blows_0 6 rfl rfl)
theorem dX4_blows_9 : decode cX4_blows 9 = .ok (.iconst (-1), 1) := dk_2 (dk_at dksX4_blows_0 9 rfl rfl)
theorem dX4_blows_10 : decode cX4_blows 10 = .ok (.ireturn, 1) := dk_172 (dk_at dksX4_blows_0 10 rfl rfl)
theorem dX4_blows_11 : decode cX4_blows 11 = .ok (.aload_n 0, 1) := dk_42 (dk_at dksX4_blows_0 11 rfl rfl)
theorem dX4_blows_12 : decode cX4_blows 12 = .ok (.getfield 9, 3) := dk_180 0 9 (dk_at dksX4_blows_0 12 rfl rfl)
theorem dX4_blows_15 : decode cX4_blows 15 = .ok (.iconst 3, 1) := dk_6 (dk_at dksX4_blows_0 15 rfl rfl)
theorem dX4_blows_16 : decode cX4_blows 16 = .ok (.iaload, 1) := dk_46 (dk_at dksX4_blows_0 16 rfl rfl)
theorem dX4_blows_17 : decode cX4_blows 17 = .ok (.iconst 1, 1) := dk_4 (dk_at dksX4_blows_0 17 rfl rfl)
theorem dX4_blows_18 : decode cX4_blows 18 = .ok (.iadd, 1) := dk_96 (dk_at dksX4_blows_0 18 rfl rfl)
theorem dX4_blows_19 : decode cX4_blows 19 = .ok (.istore_n 2, 1) := dk_61 (dk_at dksX4_blows_0 19 rfl rfl)
theorem dX4_blows_20 : decode cX4_blows 20 = .ok (.aload_n 0, 1) := dk_42 (dk_at dksX4_blows_0 20 rfl rfl)
theorem dX4_blows_21 : decode cX4_blows 21 = .ok (.getfield 9, 3) := dk_180 0 9 (dk_at dksX4_blows_0 21 rfl rfl)
theorem dX4_blows_24 : decode cX4_blows 24 = .ok (.iconst 3, 1) := dk_6 (dk_at dksX4_blows_1 0 rfl rfl)
theorem dX4_blows_25 : decode cX4_blows 25 = .ok (.iload_n 1, 1) := dk_27 (dk_at dksX4_blows_1 1 rfl rfl)
theorem dX4_blows_26 : decode cX4_blows 26 = .ok (.iconst 1, 1) := dk_4 (dk_at dksX4_blows_1 2 rfl rfl)
theorem dX4_blows_27 : decode cX4_blows 27 = .ok (.isub, 1) := dk_100 (dk_at dksX4_blows_1 3 rfl rfl)
theorem dX4_blows_28 : decode cX4_blows 28 = .ok (.iastore, 1) := dk_79 (dk_at dksX4_blows_1 4 rfl rfl)
theorem dX4_blows_29 : decode cX4_blows 29 = .ok (.iload_n 2, 1) := dk_28 (dk_at dksX4_blows_1 5 rfl rfl)
theorem dX4_blows_30 : decode cX4_blows 30 = .ok (.ireturn, 1) := dk_172 (dk_at dksX4_blows_1 6 rfl rfl)
abbrev cX4_hit : ByteArray := prog_21_method_46_code
def yX4_hit : MethodName := ⟨RX4, "hit", "(II)I"⟩
def dkwX4_hit_1 : List UInt8 := [16, 253, 172, 42, 42, 180, 0, 9, 27, 28, 182, 0, 149, 62, 42, 180, 0, 9, 5, 46, 172]
abbrev dktX4_hit_1 : List UInt8 := dkwX4_hit_1 ++ []
def dkwX4_hit_0 : List UInt8 := [42, 27, 182, 0, 142, 153, 0, 10, 28, 184, 0, 139, 154, 0, 5, 2, 172, 42, 182, 0, 145, 153, 0, 6]
abbrev dktX4_hit_0 : List UInt8 := dkwX4_hit_0 ++ dktX4_hit_1
theorem dksX4_hit_0 : cX4_hit.data.toList.drop 0 = dktX4_hit_0 := by decide +kernel
theorem dksX4_hit_1 : cX4_hit.data.toList.drop 24 = dktX4_hit_1 := dk_seg dksX4_hit_0 24 rfl rfl
theorem dX4_hit_0 : decode cX4_hit 0 = .ok (.aload_n 0, 1) := dk_42 (dk_at dksX4_hit_0 0 rfl rfl)
theorem dX4_hit_1 : decode cX4_hit 1 = .ok (.iload_n 1, 1) := dk_27 (dk_at dksX4_hit_0 1 rfl rfl)
theorem dX4_hit_2 : decode cX4_hit 2 = .ok (.invokevirtual 142, 3) := dk_182 0 142 (dk_at dksX4_hit_0 2 rfl rfl)
theorem dX4_hit_5 : decode cX4_hit 5 = .ok (.ifCond .eq 10, 3) := dk_153 0 10 (dk_at dksX4_hit_0 5 rfl rfl)
theorem dX4_hit_8 : decode cX4_hit 8 = .ok (.iload_n 2, 1) := dk_28 (dk_at dksX4_hit_0 8 rfl rfl)
theorem dX4_hit_9 : decode cX4_hit 9 = .ok (.invokestatic 139, 3) := dk_184 0 139 (dk_at dksX4_hit_0 9 rfl rfl)
theorem dX4_hit_12 : decode cX4_hit 12 = .ok (.ifCond .ne 5, 3) := dk_154 0 5 (dk_at dksX4_hit_0 12 rfl rfl)
theorem dX4_hit_15 : decode cX4_hit 15 = .ok (.iconst (-1), 1) := dk_2 (dk_at dksX4_hit_0 15 rfl rfl)
theorem dX4_hit_16 : decode cX4_hit 16 = .ok (.ireturn, 1) := dk_172 (dk_at dksX4_hit_0 16 rfl rfl)
theorem dX4_hit_17 : decode cX4_hit 17 = .ok (.aload_n 0, 1) := dk_42 (dk_at dksX4_hit_0 17 rfl rfl)
theorem dX4_hit_18 : decode cX4_hit 18 = .ok (.invokevirtual 145, 3) := dk_182 0 145 (dk_at dksX4_hit_0 18 rfl rfl)
theorem dX4_hit_21 : decode cX4_hit 21 = .ok (.ifCond .eq 6, 3) := dk_153 0 6 (dk_at dksX4_hit_0 21 rfl rfl)
theorem dX4_hit_24 : decode cX4_hit 24 = .ok (.bipush (-3), 2) := dk_16 253 (dk_at dksX4_hit_1 0 rfl rfl)
theorem dX4_hit_26 : decode cX4_hit 26 = .ok (.ireturn, 1) := dk_172 (dk_at dksX4_hit_1 2 rfl rfl)
theorem dX4_hit_27 : decode cX4_hit 27 = .ok (.aload_n 0, 1) := dk_42 (dk_at dksX4_hit_1 3 rfl rfl)
theorem dX4_hit_28 : decode cX4_hit 28 = .ok (.aload_n 0, 1) := dk_42 (dk_at dksX4_hit_1 4 rfl rfl)
theorem dX4_hit_29 : decode cX4_hit 29 = .ok (.getfield 9, 3) := dk_180 0 9 (dk_at dksX4_hit_1 5 rfl rfl)
theorem dX4_hit_32 : decode cX4_hit 32 = .ok (.iload_n 1, 1) := dk_27 (dk_at dksX4_hit_1 8 rfl rfl)
theorem dX4_hit_33 : decode cX4_hit 33 = .ok (.iload_n 2, 1) := dk_28 (dk_at dksX4_hit_1 9 rfl rfl)
theorem dX4_hit_34 : decode cX4_hit 34 = .ok (.invokevirtual 149, 3) := dk_182 0 149 (dk_at dksX4_hit_1 10 rfl rfl)
theorem dX4_hit_37 : decode cX4_hit 37 = .ok (.istore_n 3, 1) := dk_62 (dk_at dksX4_hit_1 13 rfl rfl)
theorem dX4_hit_38 : decode cX4_hit 38 = .ok (.aload_n 0, 1) := dk_42 (dk_at dksX4_hit_1 14 rfl rfl)
theorem dX4_hit_39 : decode cX4_hit 39 = .ok (.getfield 9, 3) := dk_180 0 9 (dk_at dksX4_hit_1 15 rfl rfl)
theorem dX4_hit_42 : decode cX4_hit 42 = .ok (.iconst 2, 1) := dk_5 (dk_at dksX4_hit_1 18 rfl rfl)
theorem dX4_hit_43 : decode cX4_hit 43 = .ok (.iaload, 1) := dk_46 (dk_at dksX4_hit_1 19 rfl rfl)
theorem dX4_hit_44 : decode cX4_hit 44 = .ok (.ireturn, 1) := dk_172 (dk_at dksX4_hit_1 20 rfl rfl)
abbrev cX4_whose : ByteArray := prog_21_method_51_code
def yX4_whose : MethodName := ⟨RX4, "whose", "(II)I"⟩
def dkwX4_whose_0 : List UInt8 := [42, 27, 28, 182, 0, 174, 153, 0, 12, 42, 27, 28, 182, 0, 177, 167, 0, 4, 2, 172]
abbrev dktX4_whose_0 : List UInt8 := dkwX4_whose_0 ++ []
theorem dksX4_whose_0 : cX4_whose.data.toList.drop 0 = dktX4_whose_0 := by decide +kernel
theorem dX4_whose_0 : decode cX4_whose 0 = .ok (.aload_n 0, 1) := dk_42 (dk_at dksX4_whose_0 0 rfl rfl)
theorem dX4_whose_1 : decode cX4_whose 1 = .ok (.iload_n 1, 1) := dk_27 (dk_at dksX4_whose_0 1 rfl rfl)
theorem dX4_whose_2 : decode cX4_whose 2 = .ok (.iload_n 2, 1) := dk_28 (dk_at dksX4_whose_0 2 rfl rfl)
theorem dX4_whose_3 : decode cX4_whose 3 = .ok (.invokevirtual 174, 3) := dk_182 0 174 (dk_at dksX4_whose_0 3 rfl rfl)
theorem dX4_whose_6 : decode cX4_whose 6 = .ok (.ifCond .eq 12, 3) := dk_153 0 12 (dk_at dksX4_whose_0 6 rfl rfl)
theorem dX4_whose_9 : decode cX4_whose 9 = .ok (.aload_n 0, 1) := dk_42 (dk_at dksX4_whose_0 9 rfl rfl)
theorem dX4_whose_10 : decode cX4_whose 10 = .ok (.iload_n 1, 1) := dk_27 (dk_at dksX4_whose_0 10 rfl rfl)
theorem dX4_whose_11 : decode cX4_whose 11 = .ok (.iload_n 2, 1) := dk_28 (dk_at dksX4_whose_0 11 rfl rfl)
theorem dX4_whose_12 : decode cX4_whose 12 = .ok (.invokevirtual 177, 3) := dk_182 0 177 (dk_at dksX4_whose_0 12 rfl rfl)
theorem dX4_whose_15 : decode cX4_whose 15 = .ok (.goto 4, 3) := dk_167 0 4 (dk_at dksX4_whose_0 15 rfl rfl)
theorem dX4_whose_18 : decode cX4_whose 18 = .ok (.iconst (-1), 1) := dk_2 (dk_at dksX4_whose_0 18 rfl rfl)
theorem dX4_whose_19 : decode cX4_whose 19 = .ok (.ireturn, 1) := dk_172 (dk_at dksX4_whose_0 19 rfl rfl)
abbrev cX4_isHit : ByteArray := prog_21_method_50_code
def yX4_isHit : MethodName := ⟨RX4, "isHit", "(II)Z"⟩
def dkwX4_isHit_0 : List UInt8 := [42, 27, 182, 0, 142, 153, 0, 14, 28, 184, 0, 139, 153, 0, 7, 4, 167, 0, 4, 3, 172]
abbrev dktX4_isHit_0 : List UInt8 := dkwX4_isHit_0 ++ []
theorem dksX4_isHit_0 : cX4_isHit.data.toList.drop 0 = dktX4_isHit_0 := by decide +kernel
theorem dX4_isHit_0 : decode cX4_isHit 0 = .ok (.aload_n 0, 1) := dk_42 (dk_at dksX4_isHit_0 0 rfl rfl)
theorem dX4_isHit_1 : decode cX4_isHit 1 = .ok (.iload_n 1, 1) := dk_27 (dk_at dksX4_isHit_0 1 rfl rfl)
theorem dX4_isHit_2 : decode cX4_isHit 2 = .ok (.invokevirtual 142, 3) := dk_182 0 142 (dk_at dksX4_isHit_0 2 rfl rfl)
theorem dX4_isHit_5 : decode cX4_isHit 5 = .ok (.ifCond .eq 14, 3) := dk_153 0 14 (dk_at dksX4_isHit_0 5 rfl rfl)
theorem dX4_isHit_8 : decode cX4_isHit 8 = .ok (.iload_n 2, 1) := dk_28 (dk_at dksX4_isHit_0 8 rfl rfl)
theorem dX4_isHit_9 : decode cX4_isHit 9 = .ok (.invokestatic 139, 3) := dk_184 0 139 (dk_at dksX4_isHit_0 9 rfl rfl)
theorem dX4_isHit_12 : decode cX4_isHit 12 = .ok (.ifCond .eq 7, 3) := dk_153 0 7 (dk_at dksX4_isHit_0 12 rfl rfl)
theorem dX4_isHit_15 : decode cX4_isHit 15 = .ok (.iconst 1, 1) := dk_4 (dk_at dksX4_isHit_0 15 rfl rfl)
theorem dX4_isHit_16 : decode cX4_isHit 16 = .ok (.goto 4, 3) := dk_167 0 4 (dk_at dksX4_isHit_0 16 rfl rfl)
theorem dX4_isHit_19 : decode cX4_isHit 19 = .ok (.iconst 0, 1) := dk_3 (dk_at dksX4_isHit_0 19 rfl rfl)
theorem dX4_isHit_20 : decode cX4_isHit 20 = .ok (.ireturn, 1) := dk_172 (dk_at dksX4_isHit_0 20 rfl rfl)
abbrev cX4_whoseNow : ByteArray := prog_21_method_48_code
def yX4_whoseNow : MethodName := ⟨RX4, "whoseNow", "(II)I"⟩
def dkwX4_whoseNow_0 : List UInt8 := [42, 180, 0, 9, 42, 182, 0, 171, 42, 180, 0, 9, 27, 28, 184, 0, 77, 184, 0, 84, 172]
abbrev dktX4_whoseNow_0 : List UInt8 := dkwX4_whoseNow_0 ++ []
theorem dksX4_whoseNow_0 : cX4_whoseNow.data.toList.drop 0 = dktX4_whoseNow_0 := by decide +kernel
theorem dX4_whoseNow_0 : decode cX4_whoseNow 0 = .ok (.aload_n 0, 1) := dk_42 (dk_at dksX4_whoseNow_0 0 rfl rfl)
theorem dX4_whoseNow_1 : decode cX4_whoseNow 1 = .ok (.getfield 9, 3) := dk_180 0 9 (dk_at dksX4_whoseNow_0 1 rfl rfl)
theorem dX4_whoseNow_4 : decode cX4_whoseNow 4 = .ok (.aload_n 0, 1) := dk_42 (dk_at dksX4_whoseNow_0 4 rfl rfl)
theorem dX4_whoseNow_5 : decode cX4_whoseNow 5 = .ok (.invokevirtual 171, 3) := dk_182 0 171 (dk_at dksX4_whoseNow_0 5 rfl rfl)
theorem dX4_whoseNow_8 : decode cX4_whoseNow 8 = .ok (.aload_n 0, 1) := dk_42 (dk_at dksX4_whoseNow_0 8 rfl rfl)
theorem dX4_whoseNow_9 : decode cX4_whoseNow 9 = .ok (.getfield 9, 3) := dk_180 0 9 (dk_at dksX4_whoseNow_0 9 rfl rfl)
theorem dX4_whoseNow_12 : decode cX4_whoseNow 12 = .ok (.iload_n 1, 1) := dk_27 (dk_at dksX4_whoseNow_0 12 rfl rfl)
theorem dX4_whoseNow_13 : decode cX4_whoseNow 13 = .ok (.iload_n 2, 1) := dk_28 (dk_at dksX4_whoseNow_0 13 rfl rfl)
theorem dX4_whoseNow_14 : decode cX4_whoseNow 14 = .ok (.invokestatic 77, 3) := dk_184 0 77 (dk_at dksX4_whoseNow_0 14 rfl rfl)
theorem dX4_whoseNow_17 : decode cX4_whoseNow 17 = .ok (.invokestatic 84, 3) := dk_184 0 84 (dk_at dksX4_whoseNow_0 17 rfl rfl)
theorem dX4_whoseNow_20 : decode cX4_whoseNow 20 = .ok (.ireturn, 1) := dk_172 (dk_at dksX4_whoseNow_0 20 rfl rfl)
abbrev cX4_otherSide : ByteArray := prog_21_method_47_code
def yX4_otherSide : MethodName := ⟨RX4, "otherSide", "()I"⟩
def dkwX4_otherSide_0 : List UInt8 := [4, 42, 180, 0, 9, 5, 46, 184, 0, 73, 100, 172]
abbrev dktX4_otherSide_0 : List UInt8 := dkwX4_otherSide_0 ++ []
theorem dksX4_otherSide_0 : cX4_otherSide.data.toList.drop 0 = dktX4_otherSide_0 := by decide +kernel
theorem dX4_otherSide_0 : decode cX4_otherSide 0 = .ok (.iconst 1, 1) := dk_4 (dk_at dksX4_otherSide_0 0 rfl rfl)
theorem dX4_otherSide_1 : decode cX4_otherSide 1 = .ok (.aload_n 0, 1) := dk_42 (dk_at dksX4_otherSide_0 1 rfl rfl)
theorem dX4_otherSide_2 : decode cX4_otherSide 2 = .ok (.getfield 9, 3) := dk_180 0 9 (dk_at dksX4_otherSide_0 2 rfl rfl)
theorem dX4_otherSide_5 : decode cX4_otherSide 5 = .ok (.iconst 2, 1) := dk_5 (dk_at dksX4_otherSide_0 5 rfl rfl)
theorem dX4_otherSide_6 : decode cX4_otherSide 6 = .ok (.iaload, 1) := dk_46 (dk_at dksX4_otherSide_0 6 rfl rfl)
theorem dX4_otherSide_7 : decode cX4_otherSide 7 = .ok (.invokestatic 73, 3) := dk_184 0 73 (dk_at dksX4_otherSide_0 7 rfl rfl)
theorem dX4_otherSide_10 : decode cX4_otherSide 10 = .ok (.isub, 1) := dk_100 (dk_at dksX4_otherSide_0 10 rfl rfl)
theorem dX4_otherSide_11 : decode cX4_otherSide 11 = .ok (.ireturn, 1) := dk_172 (dk_at dksX4_otherSide_0 11 rfl rfl)
abbrev cX4_wins : ByteArray := prog_21_method_52_code
def yX4_wins : MethodName := ⟨RX4, "wins", "(II)I"⟩
def dkwX4_wins_1 : List UInt8 := [167, 0, 4, 3, 172]
abbrev dktX4_wins_1 : List UInt8 := dkwX4_wins_1 ++ []
def dkwX4_wins_0 : List UInt8 := [42, 27, 28, 182, 0, 174, 154, 0, 7, 2, 167, 0, 17, 42, 27, 28, 182, 0, 180, 153, 0, 7, 4]
abbrev dktX4_wins_0 : List UInt8 := dkwX4_wins_0 ++ dktX4_wins_1
theorem dksX4_wins_0 : cX4_wins.data.toList.drop 0 = dktX4_wins_0 := by decide +kernel
theorem dksX4_wins_1 : cX4_wins.data.toList.drop 23 = dktX4_wins_1 := dk_seg dksX4_wins_0 23 rfl rfl
theorem dX4_wins_0 : decode cX4_wins 0 = .ok (.aload_n 0, 1) := dk_42 (dk_at dksX4_wins_0 0 rfl rfl)
theorem dX4_wins_1 : decode cX4_wins 1 = .ok (.iload_n 1, 1) := dk_27 (dk_at dksX4_wins_0 1 rfl rfl)
theorem dX4_wins_2 : decode cX4_wins 2 = .ok (.iload_n 2, 1) := dk_28 (dk_at dksX4_wins_0 2 rfl rfl)
theorem dX4_wins_3 : decode cX4_wins 3 = .ok (.invokevirtual 174, 3) := dk_182 0 174 (dk_at dksX4_wins_0 3 rfl rfl)
theorem dX4_wins_6 : decode cX4_wins 6 = .ok (.ifCond .ne 7, 3) := dk_154 0 7 (dk_at dksX4_wins_0 6 rfl rfl)
theorem dX4_wins_9 : decode cX4_wins 9 = .ok (.iconst (-1), 1) := dk_2 (dk_at dksX4_wins_0 9 rfl rfl)
theorem dX4_wins_10 : decode cX4_wins 10 = .ok (.goto 17, 3) := dk_167 0 17 (dk_at dksX4_wins_0 10 rfl rfl)
theorem dX4_wins_13 : decode cX4_wins 13 = .ok (.aload_n 0, 1) := dk_42 (dk_at dksX4_wins_0 13 rfl rfl)
theorem dX4_wins_14 : decode cX4_wins 14 = .ok (.iload_n 1, 1) := dk_27 (dk_at dksX4_wins_0 14 rfl rfl)
theorem dX4_wins_15 : decode cX4_wins 15 = .ok (.iload_n 2, 1) := dk_28 (dk_at dksX4_wins_0 15 rfl rfl)
theorem dX4_wins_16 : decode cX4_wins 16 = .ok (.invokevirtual 180, 3) := dk_182 0 180 (dk_at dksX4_wins_0 16 rfl rfl)
theorem dX4_wins_19 : decode cX4_wins 19 = .ok (.ifCond .eq 7, 3) := dk_153 0 7 (dk_at dksX4_wins_0 19 rfl rfl)
theorem dX4_wins_22 : decode cX4_wins 22 = .ok (.iconst 1, 1) := dk_4 (dk_at dksX4_wins_0 22 rfl rfl)
theorem dX4_wins_23 : decode cX4_wins 23 = .ok (.goto 4, 3) := dk_167 0 4 (dk_at dksX4_wins_1 0 rfl rfl)
theorem dX4_wins_26 : decode cX4_wins 26 = .ok (.iconst 0, 1) := dk_3 (dk_at dksX4_wins_1 3 rfl rfl)
theorem dX4_wins_27 : decode cX4_wins 27 = .ok (.ireturn, 1) := dk_172 (dk_at dksX4_wins_1 4 rfl rfl)
abbrev cX4_isWon : ByteArray := prog_21_method_49_code
def yX4_isWon : MethodName := ⟨RX4, "isWon", "(II)Z"⟩
def dkwX4_isWon_0 : List UInt8 := [42, 180, 0, 9, 42, 180, 0, 13, 184, 0, 158, 42, 42, 180, 0, 13, 27, 28, 182, 0, 149, 172]
abbrev dktX4_isWon_0 : List UInt8 := dkwX4_isWon_0 ++ []
theorem dksX4_isWon_0 : cX4_isWon.data.toList.drop 0 = dktX4_isWon_0 := by decide +kernel
theorem dX4_isWon_0 : decode cX4_isWon 0 = .ok (.aload_n 0, 1) := dk_42 (dk_at dksX4_isWon_0 0 rfl rfl)
theorem dX4_isWon_1 : decode cX4_isWon 1 = .ok (.getfield 9, 3) := dk_180 0 9 (dk_at dksX4_isWon_0 1 rfl rfl)
theorem dX4_isWon_4 : decode cX4_isWon 4 = .ok (.aload_n 0, 1) := dk_42 (dk_at dksX4_isWon_0 4 rfl rfl)
theorem dX4_isWon_5 : decode cX4_isWon 5 = .ok (.getfield 13, 3) := dk_180 0 13 (dk_at dksX4_isWon_0 5 rfl rfl)
theorem dX4_isWon_8 : decode cX4_isWon 8 = .ok (.invokestatic 158, 3) := dk_184 0 158 (dk_at dksX4_isWon_0 8 rfl rfl)
theorem dX4_isWon_11 : decode cX4_isWon 11 = .ok (.aload_n 0, 1) := dk_42 (dk_at dksX4_isWon_0 11 rfl rfl)
theorem dX4_isWon_12 : decode cX4_isWon 12 = .ok (.aload_n 0, 1) := dk_42 (dk_at dksX4_isWon_0 12 rfl rfl)
theorem dX4_isWon_13 : decode cX4_isWon 13 = .ok (.getfield 13, 3) := dk_180 0 13 (dk_at dksX4_isWon_0 13 rfl rfl)
theorem dX4_isWon_16 : decode cX4_isWon 16 = .ok (.iload_n 1, 1) := dk_27 (dk_at dksX4_isWon_0 16 rfl rfl)
theorem dX4_isWon_17 : decode cX4_isWon 17 = .ok (.iload_n 2, 1) := dk_28 (dk_at dksX4_isWon_0 17 rfl rfl)
theorem dX4_isWon_18 : decode cX4_isWon 18 = .ok (.invokevirtual 149, 3) := dk_182 0 149 (dk_at dksX4_isWon_0 18 rfl rfl)
theorem dX4_isWon_21 : decode cX4_isWon 21 = .ok (.ireturn, 1) := dk_172 (dk_at dksX4_isWon_0 21 rfl rfl)
abbrev cX4_falls : ByteArray := prog_21_method_53_code
def yX4_falls : MethodName := ⟨RX4, "falls", "(II)I"⟩
def dkwX4_falls_0 : List UInt8 := [42, 27, 28, 182, 0, 174, 153, 0, 15, 42, 180, 0, 9, 27, 28, 184, 0, 77, 167, 0, 4, 2, 172]
abbrev dktX4_falls_0 : List UInt8 := dkwX4_falls_0 ++ []
theorem dksX4_falls_0 : cX4_falls.data.toList.drop 0 = dktX4_falls_0 := by decide +kernel
theorem dX4_falls_0 : decode cX4_falls 0 = .ok (.aload_n 0, 1) := dk_42 (dk_at dksX4_falls_0 0 rfl rfl)
theorem dX4_falls_1 : decode cX4_falls 1 = .ok (.iload_n 1, 1) := dk_27 (dk_at dksX4_falls_0 1 rfl rfl)
theorem dX4_falls_2 : decode cX4_falls 2 = .ok (.iload_n 2, 1) := dk_28 (dk_at dksX4_falls_0 2 rfl rfl)
theorem dX4_falls_3 : decode cX4_falls 3 = .ok (.invokevirtual 174, 3) := dk_182 0 174 (dk_at dksX4_falls_0 3 rfl rfl)
theorem dX4_falls_6 : decode cX4_falls 6 = .ok (.ifCond .eq 15, 3) := dk_153 0 15 (dk_at dksX4_falls_0 6 rfl rfl)
theorem dX4_falls_9 : decode cX4_falls 9 = .ok (.aload_n 0, 1) := dk_42 (dk_at dksX4_falls_0 9 rfl rfl)
theorem dX4_falls_10 : decode cX4_falls 10 = .ok (.getfield 9, 3) := dk_180 0 9 (dk_at dksX4_falls_0 10 rfl rfl)
theorem dX4_falls_13 : decode cX4_falls 13 = .ok (.iload_n 1, 1) := dk_27 (dk_at dksX4_falls_0 13 rfl rfl)
theorem dX4_falls_14 : decode cX4_falls 14 = .ok (.iload_n 2, 1) := dk_28 (dk_at dksX4_falls_0 14 rfl rfl)
theorem dX4_falls_15 : decode cX4_falls 15 = .ok (.invokestatic 77, 3) := dk_184 0 77 (dk_at dksX4_falls_0 15 rfl rfl)
theorem dX4_falls_18 : decode cX4_falls 18 = .ok (.goto 4, 3) := dk_167 0 4 (dk_at dksX4_falls_0 18 rfl rfl)
theorem dX4_falls_21 : decode cX4_falls 21 = .ok (.iconst (-1), 1) := dk_2 (dk_at dksX4_falls_0 21 rfl rfl)
theorem dX4_falls_22 : decode cX4_falls 22 = .ok (.ireturn, 1) := dk_172 (dk_at dksX4_falls_0 22 rfl rfl)
abbrev cX4_open : ByteArray := prog_21_method_55_code
def yX4_open : MethodName := ⟨RX4, "open", "(I)I"⟩
def dkwX4_open_0 : List UInt8 := [42, 27, 182, 0, 142, 153, 0, 11, 42, 27, 182, 0, 183, 167, 0, 4, 2, 172]
abbrev dktX4_open_0 : List UInt8 := dkwX4_open_0 ++ []
theorem dksX4_open_0 : cX4_open.data.toList.drop 0 = dktX4_open_0 := by decide +kernel
theorem dX4_open_0 : decode cX4_open 0 = .ok (.aload_n 0, 1) := dk_42 (dk_at dksX4_open_0 0 rfl rfl)
theorem dX4_open_1 : decode cX4_open 1 = .ok (.iload_n 1, 1) := dk_27 (dk_at dksX4_open_0 1 rfl rfl)
theorem dX4_open_2 : decode cX4_open 2 = .ok (.invokevirtual 142, 3) := dk_182 0 142 (dk_at dksX4_open_0 2 rfl rfl)
theorem dX4_open_5 : decode cX4_open 5 = .ok (.ifCond .eq 11, 3) := dk_153 0 11 (dk_at dksX4_open_0 5 rfl rfl)
theorem dX4_open_8 : decode cX4_open 8 = .ok (.aload_n 0, 1) := dk_42 (dk_at dksX4_open_0 8 rfl rfl)
theorem dX4_open_9 : decode cX4_open 9 = .ok (.iload_n 1, 1) := dk_27 (dk_at dksX4_open_0 9 rfl rfl)
theorem dX4_open_10 : decode cX4_open 10 = .ok (.invokevirtual 183, 3) := dk_182 0 183 (dk_at dksX4_open_0 10 rfl rfl)
theorem dX4_open_13 : decode cX4_open 13 = .ok (.goto 4, 3) := dk_167 0 4 (dk_at dksX4_open_0 13 rfl rfl)
theorem dX4_open_16 : decode cX4_open 16 = .ok (.iconst (-1), 1) := dk_2 (dk_at dksX4_open_0 16 rfl rfl)
theorem dX4_open_17 : decode cX4_open 17 = .ok (.ireturn, 1) := dk_172 (dk_at dksX4_open_0 17 rfl rfl)
abbrev cX4_openTo : ByteArray := prog_21_method_54_code
def yX4_openTo : MethodName := ⟨RX4, "openTo", "(I)I"⟩
def dkwX4_openTo_1 : List UInt8 := [167, 0, 4, 3, 128, 61, 132, 3, 1, 167, 255, 228, 28, 172]
abbrev dktX4_openTo_1 : List UInt8 := dkwX4_openTo_1 ++ []
def dkwX4_openTo_0 : List UInt8 := [3, 61, 3, 62, 29, 16, 9, 162, 0, 28, 28, 42, 27, 29, 182, 0, 180, 153, 0, 9, 4, 29, 120]
abbrev dktX4_openTo_0 : List UInt8 := dkwX4_openTo_0 ++ dktX4_openTo_1
theorem dksX4_openTo_0 : cX4_openTo.data.toList.drop 0 = dktX4_openTo_0 := by decide +kernel
theorem dksX4_openTo_1 : cX4_openTo.data.toList.drop 23 = dktX4_openTo_1 := dk_seg dksX4_openTo_0 23 rfl rfl
theorem dX4_openTo_0 : decode cX4_openTo 0 = .ok (.iconst 0, 1) := dk_3 (dk_at dksX4_openTo_0 0 rfl rfl)
theorem dX4_openTo_1 : decode cX4_openTo 1 = .ok (.istore_n 2, 1) := dk_61 (dk_at dksX4_openTo_0 1 rfl rfl)
theorem dX4_openTo_2 : decode cX4_openTo 2 = .ok (.iconst 0, 1) := dk_3 (dk_at dksX4_openTo_0 2 rfl rfl)
theorem dX4_openTo_3 : decode cX4_openTo 3 = .ok (.istore_n 3, 1) := dk_62 (dk_at dksX4_openTo_0 3 rfl rfl)
theorem dX4_openTo_4 : decode cX4_openTo 4 = .ok (.iload_n 3, 1) := dk_29 (dk_at dksX4_openTo_0 4 rfl rfl)
theorem dX4_openTo_5 : decode cX4_openTo 5 = .ok (.bipush 9, 2) := dk_16 9 (dk_at dksX4_openTo_0 5 rfl rfl)
theorem dX4_openTo_7 : decode cX4_openTo 7 = .ok (.if_icmp .ge 28, 3) := dk_162 0 28 (dk_at dksX4_openTo_0 7 rfl rfl)
theorem dX4_openTo_10 : decode cX4_openTo 10 = .ok (.iload_n 2, 1) := dk_28 (dk_at dksX4_openTo_0 10 rfl rfl)
theorem dX4_openTo_11 : decode cX4_openTo 11 = .ok (.aload_n 0, 1) := dk_42 (dk_at dksX4_openTo_0 11 rfl rfl)
theorem dX4_openTo_12 : decode cX4_openTo 12 = .ok (.iload_n 1, 1) := dk_27 (dk_at dksX4_openTo_0 12 rfl rfl)
theorem dX4_openTo_13 : decode cX4_openTo 13 = .ok (.iload_n 3, 1) := dk_29 (dk_at dksX4_openTo_0 13 rfl rfl)
theorem dX4_openTo_14 : decode cX4_openTo 14 = .ok (.invokevirtual 180, 3) := dk_182 0 180 (dk_at dksX4_openTo_0 14 rfl rfl)
theorem dX4_openTo_17 : decode cX4_openTo 17 = .ok (.ifCond .eq 9, 3) := dk_153 0 9 (dk_at dksX4_openTo_0 17 rfl rfl)
theorem dX4_openTo_20 : decode cX4_openTo 20 = .ok (.iconst 1, 1) := dk_4 (dk_at dksX4_openTo_0 20 rfl rfl)
theorem dX4_openTo_21 : decode cX4_openTo 21 = .ok (.iload_n 3, 1) := dk_29 (dk_at dksX4_openTo_0 21 rfl rfl)
theorem dX4_openTo_22 : decode cX4_openTo 22 = .ok (.ishl, 1) := dk_120 (dk_at dksX4_openTo_0 22 rfl rfl)
theorem dX4_openTo_23 : decode cX4_openTo 23 = .ok (.goto 4, 3) := dk_167 0 4 (dk_at dksX4_openTo_1 0 rfl rfl)
theorem dX4_openTo_26 : decode cX4_openTo 26 = .ok (.iconst 0, 1) := dk_3 (dk_at dksX4_openTo_1 3 rfl rfl)
theorem dX4_openTo_27 : decode cX4_openTo 27 = .ok (.ior, 1) := dk_128 (dk_at dksX4_openTo_1 4 rfl rfl)
theorem dX4_openTo_28 : decode cX4_openTo 28 = .ok (.istore_n 2, 1) := dk_61 (dk_at dksX4_openTo_1 5 rfl rfl)
theorem dX4_openTo_29 : decode cX4_openTo 29 = .ok (.iinc 3 1, 3) := dk_132 3 1 (dk_at dksX4_openTo_1 6 rfl rfl)
theorem dX4_openTo_32 : decode cX4_openTo 32 = .ok (.goto (-28), 3) := dk_167 255 228 (dk_at dksX4_openTo_1 9 rfl rfl)
theorem dX4_openTo_35 : decode cX4_openTo 35 = .ok (.iload_n 2, 1) := dk_28 (dk_at dksX4_openTo_1 12 rfl rfl)
theorem dX4_openTo_36 : decode cX4_openTo 36 = .ok (.ireturn, 1) := dk_172 (dk_at dksX4_openTo_1 13 rfl rfl)
abbrev cX4_forced : ByteArray := prog_21_method_56_code
def yX4_forced : MethodName := ⟨RX4, "forced", "()I"⟩
def dkwX4_forced_2 : List UInt8 := [167, 255, 212, 16, 252, 172]
abbrev dktX4_forced_2 : List UInt8 := dkwX4_forced_2 ++ []
def dkwX4_forced_1 : List UInt8 := [182, 0, 180, 153, 0, 16, 16, 10, 27, 16, 9, 108, 104, 27, 16, 9, 112, 96, 172, 132, 1, 1]
abbrev dktX4_forced_1 : List UInt8 := dkwX4_forced_1 ++ dktX4_forced_2
def dkwX4_forced_0 : List UInt8 := [3, 60, 27, 16, 9, 42, 180, 0, 9, 3, 46, 104, 162, 0, 37, 42, 27, 16, 9, 108, 27, 16, 9, 112]
abbrev dktX4_forced_0 : List UInt8 := dkwX4_forced_0 ++ dktX4_forced_1
theorem dksX4_forced_0 : cX4_forced.data.toList.drop 0 = dktX4_forced_0 := by decide +kernel
theorem dksX4_forced_1 : cX4_forced.data.toList.drop 24 = dktX4_forced_1 := dk_seg dksX4_forced_0 24 rfl rfl
theorem dksX4_forced_2 : cX4_forced.data.toList.drop 46 = dktX4_forced_2 := dk_seg dksX4_forced_1 22 rfl rfl
theorem dX4_forced_0 : decode cX4_forced 0 = .ok (.iconst 0, 1) := dk_3 (dk_at dksX4_forced_0 0 rfl rfl)
theorem dX4_forced_1 : decode cX4_forced 1 = .ok (.istore_n 1, 1) := dk_60 (dk_at dksX4_forced_0 1 rfl rfl)
theorem dX4_forced_2 : decode cX4_forced 2 = .ok (.iload_n 1, 1) := dk_27 (dk_at dksX4_forced_0 2 rfl rfl)
theorem dX4_forced_3 : decode cX4_forced 3 = .ok (.bipush 9, 2) := dk_16 9 (dk_at dksX4_forced_0 3 rfl rfl)
theorem dX4_forced_5 : decode cX4_forced 5 = .ok (.aload_n 0, 1) := dk_42 (dk_at dksX4_forced_0 5 rfl rfl)
theorem dX4_forced_6 : decode cX4_forced 6 = .ok (.getfield 9, 3) := dk_180 0 9 (dk_at dksX4_forced_0 6 rfl rfl)
theorem dX4_forced_9 : decode cX4_forced 9 = .ok (.iconst 0, 1) := dk_3 (dk_at dksX4_forced_0 9 rfl rfl)
theorem dX4_forced_10 : decode cX4_forced 10 = .ok (.iaload, 1) := dk_46 (dk_at dksX4_forced_0 10 rfl rfl)
theorem dX4_forced_11 : decode cX4_forced 11 = .ok (.imul, 1) := dk_104 (dk_at dksX4_forced_0 11 rfl rfl)
theorem dX4_forced_12 : decode cX4_forced 12 = .ok (.if_icmp .ge 37, 3) := dk_162 0 37 (dk_at dksX4_forced_0 12 rfl rfl)
theorem dX4_forced_15 : decode cX4_forced 15 = .ok (.aload_n 0, 1) := dk_42 (dk_at dksX4_forced_0 15 rfl rfl)
theorem dX4_forced_16 : decode cX4_forced 16 = .ok (.iload_n 1, 1) := dk_27 (dk_at dksX4_forced_0 16 rfl rfl)
theorem dX4_forced_17 : decode cX4_forced 17 = .ok (.bipush 9, 2) := dk_16 9 (dk_at dksX4_forced_0 17 rfl rfl)
theorem dX4_forced_19 : decode cX4_forced 19 = .ok (.idiv, 1) := dk_108 (dk_at dksX4_forced_0 19 rfl rfl)
theorem dX4_forced_20 : decode cX4_forced 20 = .ok (.iload_n 1, 1) := dk_27 (dk_at dksX4_forced_0 20 rfl rfl)
theorem dX4_forced_21 : decode cX4_forced 21 = .ok (.bipush 9, 2) := dk_16 9 (dk_at dksX4_forced_0 21 rfl rfl)
theorem dX4_forced_23 : decode cX4_forced 23 = .ok (.irem, 1) := dk_112 (dk_at dksX4_forced_0 23 rfl rfl)
theorem dX4_forced_24 : decode cX4_forced 24 = .ok (.invokevirtual 180, 3) := dk_182 0 180 (dk_at dksX4_forced_1 0 rfl rfl)
theorem dX4_forced_27 : decode cX4_forced 27 = .ok (.ifCond .eq 16, 3) := dk_153 0 16 (dk_at dksX4_forced_1 3 rfl rfl)
theorem dX4_forced_30 : decode cX4_forced 30 = .ok (.bipush 10, 2) := dk_16 10 (dk_at dksX4_forced_1 6 rfl rfl)
theorem dX4_forced_32 : decode cX4_forced 32 = .ok (.iload_n 1, 1) := dk_27 (dk_at dksX4_forced_1 8 rfl rfl)
theorem dX4_forced_33 : decode cX4_forced 33 = .ok (.bipush 9, 2) := dk_16 9 (dk_at dksX4_forced_1 9 rfl rfl)
theorem dX4_forced_35 : decode cX4_forced 35 = .ok (.idiv, 1) := dk_108 (dk_at dksX4_forced_1 11 rfl rfl)
theorem dX4_forced_36 : decode cX4_forced 36 = .ok (.imul, 1) := dk_104 (dk_at dksX4_forced_1 12 rfl rfl)
theorem dX4_forced_37 : decode cX4_forced 37 = .ok (.iload_n 1, 1) := dk_27 (dk_at dksX4_forced_1 13 rfl rfl)
theorem dX4_forced_38 : decode cX4_forced 38 = .ok (.bipush 9, 2) := dk_16 9 (dk_at dksX4_forced_1 14 rfl rfl)
theorem dX4_forced_40 : decode cX4_forced 40 = .ok (.irem, 1) := dk_112 (dk_at dksX4_forced_1 16 rfl rfl)
theorem dX4_forced_41 : decode cX4_forced 41 = .ok (.iadd, 1) := dk_96 (dk_at dksX4_forced_1 17 rfl rfl)
theorem dX4_forced_42 : decode cX4_forced 42 = .ok (.ireturn, 1) := dk_172 (dk_at dksX4_forced_1 18 rfl rfl)
theorem dX4_forced_43 : decode cX4_forced 43 = .ok (.iinc 1 1, 3) := dk_132 1 1 (dk_at dksX4_forced_1 19 rfl rfl)
theorem dX4_forced_46 : decode cX4_forced 46 = .ok (.goto (-44), 3) := dk_167 255 212 (dk_at dksX4_forced_2 0 rfl rfl)
theorem dX4_forced_49 : decode cX4_forced 49 = .ok (.bipush (-4), 2) := dk_16 252 (dk_at dksX4_forced_2 3 rfl rfl)
theorem dX4_forced_51 : decode cX4_forced 51 = .ok (.ireturn, 1) := dk_172 (dk_at dksX4_forced_2 5 rfl rfl)
abbrev cX4_farthest : ByteArray := prog_21_method_58_code
def yX4_farthest : MethodName := ⟨RX4, "farthest", "(II)I"⟩
def dkwX4_farthest_2 : List UInt8 := [21, 4, 62, 132, 4, 1, 167, 255, 227, 28, 154, 0, 7, 29, 167, 0, 9, 42, 27, 29, 182, 0, 186, 172]
abbrev dktX4_farthest_2 : List UInt8 := dkwX4_farthest_2 ++ []
def dkwX4_farthest_1 : List UInt8 := [21, 4, 16, 9, 162, 0, 28, 42, 27, 21, 4, 182, 0, 186, 42, 27, 29, 182, 0, 186, 164, 0, 6]
abbrev dktX4_farthest_1 : List UInt8 := dkwX4_farthest_1 ++ dktX4_farthest_2
def dkwX4_farthest_0 : List UInt8 := [42, 27, 182, 0, 142, 153, 0, 12, 28, 3, 4, 184, 0, 53, 154, 0, 5, 2, 172, 3, 62, 3, 54, 4]
abbrev dktX4_farthest_0 : List UInt8 := dkwX4_farthest_0 ++ dktX4_farthest_1
theorem dksX4_farthest_0 : cX4_farthest.data.toList.drop 0 = dktX4_farthest_0 := by decide +kernel
theorem dksX4_farthest_1 : cX4_farthest.data.toList.drop 24 = dktX4_farthest_1 := dk_seg dksX4_farthest_0 24 rfl rfl
theorem dksX4_farthest_2 : cX4_farthest.data.toList.drop 47 = dktX4_farthest_2 := dk_seg dksX4_farthest_1 23 rfl rfl
theorem dX4_farthest_0 : decode cX4_farthest 0 = .ok (.aload_n 0, 1) := dk_42 (dk_at dksX4_farthest_0 0 rfl rfl)
theorem dX4_farthest_1 : decode cX4_farthest 1 = .ok (.iload_n 1, 1) := dk_27 (dk_at dksX4_farthest_0 1 rfl rfl)
theorem dX4_farthest_2 : decode cX4_farthest 2 = .ok (.invokevirtual 142, 3) := dk_182 0 142 (dk_at dksX4_farthest_0 2 rfl rfl)
theorem dX4_farthest_5 : decode cX4_farthest 5 = .ok (.ifCond .eq 12, 3) := dk_153 0 12 (dk_at dksX4_farthest_0 5 rfl rfl)
theorem dX4_farthest_8 : decode cX4_farthest 8 = .ok (.iload_n 2, 1) := dk_28 (dk_at dksX4_farthest_0 8 rfl rfl)
theorem dX4_farthest_9 : decode cX4_farthest 9 = .ok (.iconst 0, 1) := dk_3 (dk_at dksX4_farthest_0 9 rfl rfl)
theorem dX4_farthest_10 : decode cX4_farthest 10 = .ok (.iconst 1, 1) := dk_4 (dk_at dksX4_farthest_0 10 rfl rfl)
theorem dX4_farthest_11 : decode cX4_farthest 11 = .ok (.invokestatic 53, 3) := dk_184 0 53 (dk_at dksX4_farthest_0 11 rfl rfl)
theorem dX4_farthest_14 : decode cX4_farthest 14 = .ok (.ifCond .ne 5, 3) := dk_154 0 5 (dk_at dksX4_farthest_0 14 rfl rfl)
theorem dX4_farthest_17 : decode cX4_farthest 17 = .ok (.iconst (-1), 1) := dk_2 (dk_at dksX4_farthest_0 17 rfl rfl)
theorem dX4_farthest_18 : decode cX4_farthest 18 = .ok (.ireturn, 1) := dk_172 (dk_at dksX4_farthest_0 18 rfl rfl)
theorem dX4_farthest_19 : decode cX4_farthest 19 = .ok (.iconst 0, 1) := dk_3 (dk_at dksX4_farthest_0 19 rfl rfl)
theorem dX4_farthest_20 : decode cX4_farthest 20 = .ok (.istore_n 3, 1) := dk_62 (dk_at dksX4_farthest_0 20 rfl rfl)
theorem dX4_farthest_21 : decode cX4_farthest 21 = .ok (.iconst 0, 1) := dk_3 (dk_at dksX4_farthest_0 21 rfl rfl)
theorem dX4_farthest_22 : decode cX4_farthest 22 = .ok (.istore 4, 2) := dk_54 4 (dk_at dksX4_farthest_0 22 rfl rfl)
theorem dX4_farthest_24 : decode cX4_farthest 24 = .ok (.iload 4, 2) := dk_21 4 (dk_at dksX4_farthest_1 0 rfl rfl)
theorem dX4_farthest_26 : decode cX4_farthest 26 = .ok (.bipush 9, 2) := dk_16 9 (dk_at dksX4_farthest_1 2 rfl rfl)
theorem dX4_farthest_28 : decode cX4_farthest 28 = .ok (.if_icmp .ge 28, 3) := dk_162 0 28 (dk_at dksX4_farthest_1 4 rfl rfl)
theorem dX4_farthest_31 : decode cX4_farthest 31 = .ok (.aload_n 0, 1) := dk_42 (dk_at dksX4_farthest_1 7 rfl rfl)
theorem dX4_farthest_32 : decode cX4_farthest 32 = .ok (.iload_n 1, 1) := dk_27 (dk_at dksX4_farthest_1 8 rfl rfl)
theorem dX4_farthest_33 : decode cX4_farthest 33 = .ok (.iload 4, 2) := dk_21 4 (dk_at dksX4_farthest_1 9 rfl rfl)
theorem dX4_farthest_35 : decode cX4_farthest 35 = .ok (.invokevirtual 186, 3) := dk_182 0 186 (dk_at dksX4_farthest_1 11 rfl rfl)
theorem dX4_farthest_38 : decode cX4_farthest 38 = .ok (.aload_n 0, 1) := dk_42 (dk_at dksX4_farthest_1 14 rfl rfl)
theorem dX4_farthest_39 : decode cX4_farthest 39 = .ok (.iload_n 1, 1) := dk_27 (dk_at dksX4_farthest_1 15 rfl rfl)
theorem dX4_farthest_40 : decode cX4_farthest 40 = .ok (.iload_n 3, 1) := dk_29 (dk_at dksX4_farthest_1 16 rfl rfl)
theorem dX4_farthest_41 : decode cX4_farthest 41 = .ok (.invokevirtual 186, 3) := dk_182 0 186 (dk_at dksX4_farthest_1 17 rfl rfl)
theorem dX4_farthest_44 : decode cX4_farthest 44 = .ok (.if_icmp .le 6, 3) := dk_164 0 6 (dk_at dksX4_farthest_1 20 rfl rfl)
theorem dX4_farthest_47 : decode cX4_farthest 47 = .ok (.iload 4, 2) := dk_21 4 (dk_at dksX4_farthest_2 0 rfl rfl)
theorem dX4_farthest_49 : decode cX4_farthest 49 = .ok (.istore_n 3, 1) := dk_62 (dk_at dksX4_farthest_2 2 rfl rfl)
theorem dX4_farthest_50 : decode cX4_farthest 50 = .ok (.iinc 4 1, 3) := dk_132 4 1 (dk_at dksX4_farthest_2 3 rfl rfl)
theorem dX4_farthest_53 : decode cX4_farthest 53 = .ok (.goto (-29), 3) := dk_167 255 227 (dk_at dksX4_farthest_2 6 rfl rfl)
theorem dX4_farthest_56 : decode cX4_farthest 56 = .ok (.iload_n 2, 1) := dk_28 (dk_at dksX4_farthest_2 9 rfl rfl)
theorem dX4_farthest_57 : decode cX4_farthest 57 = .ok (.ifCond .ne 7, 3) := dk_154 0 7 (dk_at dksX4_farthest_2 10 rfl rfl)
theorem dX4_farthest_60 : decode cX4_farthest 60 = .ok (.iload_n 3, 1) := dk_29 (dk_at dksX4_farthest_2 13 rfl rfl)
theorem dX4_farthest_61 : decode cX4_farthest 61 = .ok (.goto 9, 3) := dk_167 0 9 (dk_at dksX4_farthest_2 14 rfl rfl)
theorem dX4_farthest_64 : decode cX4_farthest 64 = .ok (.aload_n 0, 1) := dk_42 (dk_at dksX4_farthest_2 17 rfl rfl)
theorem dX4_farthest_65 : decode cX4_farthest 65 = .ok (.iload_n 1, 1) := dk_27 (dk_at dksX4_farthest_2 18 rfl rfl)
theorem dX4_farthest_66 : decode cX4_farthest 66 = .ok (.iload_n 3, 1) := dk_29 (dk_at dksX4_farthest_2 19 rfl rfl)
theorem dX4_farthest_67 : decode cX4_farthest 67 = .ok (.invokevirtual 186, 3) := dk_182 0 186 (dk_at dksX4_farthest_2 20 rfl rfl)
theorem dX4_farthest_70 : decode cX4_farthest 70 = .ok (.ireturn, 1) := dk_172 (dk_at dksX4_farthest_2 23 rfl rfl)
abbrev cX4_leads : ByteArray := prog_21_method_57_code
def yX4_leads : MethodName := ⟨RX4, "leads", "(II)I"⟩
def dkwX4_leads_1 : List UInt8 := [184, 0, 46, 46, 42, 180, 0, 9, 27, 28, 184, 0, 77, 184, 0, 70, 172]
abbrev dktX4_leads_1 : List UInt8 := dkwX4_leads_1 ++ []
def dkwX4_leads_0 : List UInt8 := [42, 27, 28, 182, 0, 177, 62, 29, 16, 9, 160, 0, 8, 16, 99, 167, 0, 25, 42, 180, 0, 9, 29, 3]
abbrev dktX4_leads_0 : List UInt8 := dkwX4_leads_0 ++ dktX4_leads_1
theorem dksX4_leads_0 : cX4_leads.data.toList.drop 0 = dktX4_leads_0 := by decide +kernel
theorem dksX4_leads_1 : cX4_leads.data.toList.drop 24 = dktX4_leads_1 := dk_seg dksX4_leads_0 24 rfl rfl
theorem dX4_leads_0 : decode cX4_leads 0 = .ok (.aload_n 0, 1) := dk_42 (dk_at dksX4_leads_0 0 rfl rfl)
theorem dX4_leads_1 : decode cX4_leads 1 = .ok (.iload_n 1, 1) := dk_27 (dk_at dksX4_leads_0 1 rfl rfl)
theorem dX4_leads_2 : decode cX4_leads 2 = .ok (.iload_n 2, 1) := dk_28 (dk_at dksX4_leads_0 2 rfl rfl)
theorem dX4_leads_3 : decode cX4_leads 3 = .ok (.invokevirtual 177, 3) := dk_182 0 177 (dk_at dksX4_leads_0 3 rfl rfl)
theorem dX4_leads_6 : decode cX4_leads 6 = .ok (.istore_n 3, 1) := dk_62 (dk_at dksX4_leads_0 6 rfl rfl)
theorem dX4_leads_7 : decode cX4_leads 7 = .ok (.iload_n 3, 1) := dk_29 (dk_at dksX4_leads_0 7 rfl rfl)
theorem dX4_leads_8 : decode cX4_leads 8 = .ok (.bipush 9, 2) := dk_16 9 (dk_at dksX4_leads_0 8 rfl rfl)
theorem dX4_leads_10 : decode cX4_leads 10 = .ok (.if_icmp .ne 8, 3) := dk_160 0 8 (dk_at dksX4_leads_0 10 rfl rfl)
theorem dX4_leads_13 : decode cX4_leads 13 = .ok (.bipush 99, 2) := dk_16 99 (dk_at dksX4_leads_0 13 rfl rfl)
theorem dX4_leads_15 : decode cX4_leads 15 = .ok (.goto 25, 3) := dk_167 0 25 (dk_at dksX4_leads_0 15 rfl rfl)
theorem dX4_leads_18 : decode cX4_leads 18 = .ok (.aload_n 0, 1) := dk_42 (dk_at dksX4_leads_0 18 rfl rfl)
theorem dX4_leads_19 : decode cX4_leads 19 = .ok (.getfield 9, 3) := dk_180 0 9 (dk_at dksX4_leads_0 19 rfl rfl)
theorem dX4_leads_22 : decode cX4_leads 22 = .ok (.iload_n 3, 1) := dk_29 (dk_at dksX4_leads_0 22 rfl rfl)
theorem dX4_leads_23 : decode cX4_leads 23 = .ok (.iconst 0, 1) := dk_3 (dk_at dksX4_leads_0 23 rfl rfl)
theorem dX4_leads_24 : decode cX4_leads 24 = .ok (.invokestatic 46, 3) := dk_184 0 46 (dk_at dksX4_leads_1 0 rfl rfl)
theorem dX4_leads_27 : decode cX4_leads 27 = .ok (.iaload, 1) := dk_46 (dk_at dksX4_leads_1 3 rfl rfl)
theorem dX4_leads_28 : decode cX4_leads 28 = .ok (.aload_n 0, 1) := dk_42 (dk_at dksX4_leads_1 4 rfl rfl)
theorem dX4_leads_29 : decode cX4_leads 29 = .ok (.getfield 9, 3) := dk_180 0 9 (dk_at dksX4_leads_1 5 rfl rfl)
theorem dX4_leads_32 : decode cX4_leads 32 = .ok (.iload_n 1, 1) := dk_27 (dk_at dksX4_leads_1 8 rfl rfl)
theorem dX4_leads_33 : decode cX4_leads 33 = .ok (.iload_n 2, 1) := dk_28 (dk_at dksX4_leads_1 9 rfl rfl)
theorem dX4_leads_34 : decode cX4_leads 34 = .ok (.invokestatic 77, 3) := dk_184 0 77 (dk_at dksX4_leads_1 10 rfl rfl)
theorem dX4_leads_37 : decode cX4_leads 37 = .ok (.invokestatic 70, 3) := dk_184 0 70 (dk_at dksX4_leads_1 13 rfl rfl)
theorem dX4_leads_40 : decode cX4_leads 40 = .ok (.ireturn, 1) := dk_172 (dk_at dksX4_leads_1 16 rfl rfl)
abbrev cX4_atWhom : ByteArray := prog_21_method_59_code
def yX4_atWhom : MethodName := ⟨RX4, "atWhom", "(I)I"⟩
def dkwX4_atWhom_3 : List UInt8 := [5, 184, 0, 46, 46, 62, 132, 4, 1, 167, 255, 195, 28, 172]
abbrev dktX4_atWhom_3 : List UInt8 := dkwX4_atWhom_3 ++ []
def dkwX4_atWhom_2 : List UInt8 := [184, 0, 46, 46, 29, 163, 0, 6, 167, 0, 22, 21, 4, 61, 42, 180, 0, 13, 42, 180, 0, 13, 5, 46]
abbrev dktX4_atWhom_2 : List UInt8 := dkwX4_atWhom_2 ++ dktX4_atWhom_3
def dkwX4_atWhom_1 : List UInt8 := [162, 0, 60, 42, 27, 21, 4, 182, 0, 180, 154, 0, 44, 42, 180, 0, 13, 42, 180, 0, 13, 5, 46, 5]
abbrev dktX4_atWhom_1 : List UInt8 := dkwX4_atWhom_1 ++ dktX4_atWhom_2
def dkwX4_atWhom_0 : List UInt8 := [42, 27, 182, 0, 142, 154, 0, 5, 2, 172, 16, 252, 61, 2, 62, 3, 54, 4, 21, 4, 16, 9]
abbrev dktX4_atWhom_0 : List UInt8 := dkwX4_atWhom_0 ++ dktX4_atWhom_1
theorem dksX4_atWhom_0 : cX4_atWhom.data.toList.drop 0 = dktX4_atWhom_0 := by decide +kernel
theorem dksX4_atWhom_1 : cX4_atWhom.data.toList.drop 22 = dktX4_atWhom_1 := dk_seg dksX4_atWhom_0 22 rfl rfl
theorem dksX4_atWhom_2 : cX4_atWhom.data.toList.drop 46 = dktX4_atWhom_2 := dk_seg dksX4_atWhom_1 24 rfl rfl
theorem dksX4_atWhom_3 : cX4_atWhom.data.toList.drop 70 = dktX4_atWhom_3 := dk_seg dksX4_atWhom_2 24 rfl rfl
theorem dX4_atWhom_0 : decode cX4_atWhom 0 = .ok (.aload_n 0, 1) := dk_42 (dk_at dksX4_atWhom_0 0 rfl rfl)
theorem dX4_atWhom_1 : decode cX4_atWhom 1 = .ok (.iload_n 1, 1) := dk_27 (dk_at dksX4_atWhom_0 1 rfl rfl)
theorem dX4_atWhom_2 : decode cX4_atWhom 2 = .ok (.invokevirtual 142, 3) := dk_182 0 142 (dk_at dksX4_atWhom_0 2 rfl rfl)
theorem dX4_atWhom_5 : decode cX4_atWhom 5 = .ok (.ifCond .ne 5, 3) := dk_154 0 5 (dk_at dksX4_atWhom_0 5 rfl rfl)
theorem dX4_atWhom_8 : decode cX4_atWhom 8 = .ok (.iconst (-1), 1) := dk_2 (dk_at dksX4_atWhom_0 8 rfl rfl)
theorem dX4_atWhom_9 : decode cX4_atWhom 9 = .ok (.ireturn, 1) := dk_172 (dk_at dksX4_atWhom_0 9 rfl rfl)
theorem dX4_atWhom_10 : decode cX4_atWhom 10 = .ok (.bipush (-4), 2) := dk_16 252 (dk_at dksX4_atWhom_0 10 rfl rfl)
theorem dX4_atWhom_12 : decode cX4_atWhom 12 = .ok (.istore_n 2, 1) := dk_61 (dk_at dksX4_atWhom_0 12 rfl rfl)
theorem dX4_atWhom_13 : decode cX4_atWhom 13 = .ok (.iconst (-1), 1) := dk_2 (dk_at dksX4_atWhom_0 13 rfl rfl)
theorem dX4_atWhom_14 : decode cX4_atWhom 14 = .ok (.istore_n 3, 1) := dk_62 (dk_at dksX4_atWhom_0 14 rfl rfl)
theorem dX4_atWhom_15 : decode cX4_atWhom 15 = .ok (.iconst 0, 1) := dk_3 (dk_at dksX4_atWhom_0 15 rfl rfl)
theorem dX4_atWhom_16 : decode cX4_atWhom 16 = .ok (.istore 4, 2) := dk_54 4 (dk_at dksX4_atWhom_0 16 rfl rfl)
theorem dX4_atWhom_18 : decode cX4_atWhom 18 = .ok (.iload 4, 2) := dk_21 4 (dk_at dksX4_atWhom_0 18 rfl rfl)
theorem dX4_atWhom_20 : decode cX4_atWhom 20 = .ok (.bipush 9, 2) := dk_16 9 (dk_at dksX4_atWhom_0 20 rfl rfl)
theorem dX4_atWhom_22 : decode cX4_atWhom 22 = .ok (.if_icmp .ge 60, 3) := dk_162 0 60 (dk_at dksX4_atWhom_1 0 rfl rfl)
theorem dX4_atWhom_25 : decode cX4_atWhom 25 = .ok (.aload_n 0, 1) := dk_42 (dk_at dksX4_atWhom_1 3 rfl rfl)
theorem dX4_atWhom_26 : decode cX4_atWhom 26 = .ok (.iload_n 1, 1) := dk_27 (dk_at dksX4_atWhom_1 4 rfl rfl)
theorem dX4_atWhom_27 : decode cX4_atWhom 27 = .ok (.iload 4, 2) := dk_21 4 (dk_at dksX4_atWhom_1 5 rfl rfl)
theorem dX4_atWhom_29 : decode cX4_atWhom 29 = .ok (.invokevirtual 180, 3) := dk_182 0 180 (dk_at dksX4_atWhom_1 7 rfl rfl)
theorem dX4_atWhom_32 : decode cX4_atWhom 32 = .ok (.ifCond .ne 44, 3) := dk_154 0 44 (dk_at dksX4_atWhom_1 10 rfl rfl)
theorem dX4_atWhom_35 : decode cX4_atWhom 35 = .ok (.aload_n 0, 1) := dk_42 (dk_at dksX4_atWhom_1 13 rfl rfl)
theorem dX4_atWhom_36 : decode cX4_atWhom 36 = .ok (.getfield 13, 3) := dk_180 0 13 (dk_at dksX4_atWhom_1 14 rfl rfl)
theorem dX4_atWhom_39 : decode cX4_atWhom 39 = .ok (.aload_n 0, 1) := dk_42 (dk_at dksX4_atWhom_1 17 rfl rfl)
theorem dX4_atWhom_40 : decode cX4_atWhom 40 = .ok (.getfield 13, 3) := dk_180 0 13 (dk_at dksX4_atWhom_1 18 rfl rfl)
theorem dX4_atWhom_43 : decode cX4_atWhom 43 = .ok (.iconst 2, 1) := dk_5 (dk_at dksX4_atWhom_1 21 rfl rfl)
theorem dX4_atWhom_44 : decode cX4_atWhom 44 = .ok (.iaload, 1) := dk_46 (dk_at dksX4_atWhom_1 22 rfl rfl)
theorem dX4_atWhom_45 : decode cX4_atWhom 45 = .ok (.iconst 2, 1) := dk_5 (dk_at dksX4_atWhom_1 23 rfl rfl)
theorem dX4_atWhom_46 : decode cX4_atWhom 46 = .ok (.invokestatic 46, 3) := dk_184 0 46 (dk_at dksX4_atWhom_2 0 rfl rfl)
theorem dX4_atWhom_49 : decode cX4_atWhom 49 = .ok (.iaload, 1) := dk_46 (dk_at dksX4_atWhom_2 3 rfl rfl)
theorem dX4_atWhom_50 : decode cX4_atWhom 50 = .ok (.iload_n 3, 1) := dk_29 (dk_at dksX4_atWhom_2 4 rfl rfl)
theorem dX4_atWhom_51 : decode cX4_atWhom 51 = .ok (.if_icmp .gt 6, 3) := dk_163 0 6 (dk_at dksX4_atWhom_2 5 rfl rfl)
theorem dX4_atWhom_54 : decode cX4_atWhom 54 = .ok (.goto 22, 3) := dk_167 0 22 (dk_at dksX4_atWhom_2 8 rfl rfl)
theorem dX4_atWhom_57 : decode cX4_atWhom 57 = .ok (.iload 4, 2) := dk_21 4 (dk_at dksX4_atWhom_2 11 rfl rfl)
theorem dX4_atWhom_59 : decode cX4_atWhom 59 = .ok (.istore_n 2, 1) := dk_61 (dk_at dksX4_atWhom_2 13 rfl rfl)
theorem dX4_atWhom_60 : decode cX4_atWhom 60 = .ok (.aload_n 0, 1) := dk_42 (dk_at dksX4_atWhom_2 14 rfl rfl)
theorem dX4_atWhom_61 : decode cX4_atWhom 61 = .ok (.getfield 13, 3) := dk_180 0 13 (dk_at dksX4_atWhom_2 15 rfl rfl)
theorem dX4_atWhom_64 : decode cX4_atWhom 64 = .ok (.aload_n 0, 1) := dk_42 (dk_at dksX4_atWhom_2 18 rfl rfl)
theorem dX4_atWhom_65 : decode cX4_atWhom 65 = .ok (.getfield 13, 3) := dk_180 0 13 (dk_at dksX4_atWhom_2 19 rfl rfl)
theorem dX4_atWhom_68 : decode cX4_atWhom 68 = .ok (.iconst 2, 1) := dk_5 (dk_at dksX4_atWhom_2 22 rfl rfl)
theorem dX4_atWhom_69 : decode cX4_atWhom 69 = .ok (.iaload, 1) := dk_46 (dk_at dksX4_atWhom_2 23 rfl rfl)
theorem dX4_atWhom_70 : decode cX4_atWhom 70 = .ok (.iconst 2, 1) := dk_5 (dk_at dksX4_atWhom_3 0 rfl rfl)
theorem dX4_atWhom_71 : decode cX4_atWhom 71 = .ok (.invokestatic 46, 3) := dk_184 0 46 (dk_at dksX4_atWhom_3 1 rfl rfl)
theorem dX4_atWhom_74 : decode cX4_atWhom 74 = .ok (.iaload, 1) := dk_46 (dk_at dksX4_atWhom_3 4 rfl rfl)
theorem dX4_atWhom_75 : decode cX4_atWhom 75 = .ok (.istore_n 3, 1) := dk_62 (dk_at dksX4_atWhom_3 5 rfl rfl)
theorem dX4_atWhom_76 : decode cX4_atWhom 76 = .ok (.iinc 4 1, 3) := dk_132 4 1 (dk_at dksX4_atWhom_3 6 rfl rfl)
theorem dX4_atWhom_79 : decode cX4_atWhom 79 = .ok (.goto (-61), 3) := dk_167 255 195 (dk_at dksX4_atWhom_3 9 rfl rfl)
theorem dX4_atWhom_82 : decode cX4_atWhom 82 = .ok (.iload_n 2, 1) := dk_28 (dk_at dksX4_atWhom_3 12 rfl rfl)
theorem dX4_atWhom_83 : decode cX4_atWhom 83 = .ok (.ireturn, 1) := dk_172 (dk_at dksX4_atWhom_3 13 rfl rfl)
abbrev cX4_fewest : ByteArray := prog_21_method_61_code
def yX4_fewest : MethodName := ⟨RX4, "fewest", "(I)I"⟩
def dkwX4_fewest_4 : List UInt8 := [108, 104, 21, 4, 16, 9, 112, 96, 172, 132, 5, 1, 167, 255, 213, 132, 4, 1, 167, 255, 198, 16, 252, 172]
abbrev dktX4_fewest_4 : List UInt8 := dkwX4_fewest_4 ++ []
def dkwX4_fewest_3 : List UInt8 := [21, 4, 21, 5, 182, 0, 192, 153, 0, 26, 27, 154, 0, 7, 6, 167, 0, 17, 16, 10, 21, 4, 16, 9]
abbrev dktX4_fewest_3 : List UInt8 := dkwX4_fewest_3 ++ dktX4_fewest_4
def dkwX4_fewest_2 : List UInt8 := [3, 46, 104, 62, 3, 54, 4, 21, 4, 29, 162, 0, 58, 3, 54, 5, 21, 5, 29, 162, 0, 43, 42]
abbrev dktX4_fewest_2 : List UInt8 := dkwX4_fewest_2 ++ dktX4_fewest_3
def dkwX4_fewest_1 : List UInt8 := [182, 0, 189, 61, 28, 155, 0, 13, 27, 154, 0, 7, 4, 167, 0, 4, 28, 172, 16, 9, 42, 180, 0, 9]
abbrev dktX4_fewest_1 : List UInt8 := dkwX4_fewest_1 ++ dktX4_fewest_2
def dkwX4_fewest_0 : List UInt8 := [27, 3, 4, 184, 0, 53, 154, 0, 5, 2, 172, 42, 180, 0, 9, 3, 46, 154, 0, 6, 16, 253, 172, 42]
abbrev dktX4_fewest_0 : List UInt8 := dkwX4_fewest_0 ++ dktX4_fewest_1
theorem dksX4_fewest_0 : cX4_fewest.data.toList.drop 0 = dktX4_fewest_0 := by decide +kernel
theorem dksX4_fewest_1 : cX4_fewest.data.toList.drop 24 = dktX4_fewest_1 := dk_seg dksX4_fewest_0 24 rfl rfl
theorem dksX4_fewest_2 : cX4_fewest.data.toList.drop 48 = dktX4_fewest_2 := dk_seg dksX4_fewest_1 24 rfl rfl
theorem dksX4_fewest_3 : cX4_fewest.data.toList.drop 71 = dktX4_fewest_3 := dk_seg dksX4_fewest_2 23 rfl rfl
theorem dksX4_fewest_4 : cX4_fewest.data.toList.drop 95 = dktX4_fewest_4 := dk_seg dksX4_fewest_3 24 rfl rfl
theorem dX4_fewest_0 : decode cX4_fewest 0 = .ok (.iload_n 1, 1) := dk_27 (dk_at dksX4_fewest_0 0 rfl rfl)
theorem dX4_fewest_1 : decode cX4_fewest 1 = .ok (.iconst 0, 1) := dk_3 (dk_at dksX4_fewest_0 1 rfl rfl)
theorem dX4_fewest_2 : decode cX4_fewest 2 = .ok (.iconst 1, 1) := dk_4 (dk_at dksX4_fewest_0 2 rfl rfl)
theorem dX4_fewest_3 : decode cX4_fewest 3 = .ok (.invokestatic 53, 3) := dk_184 0 53 (dk_at dksX4_fewest_0 3 rfl rfl)
theorem dX4_fewest_6 : decode cX4_fewest 6 = .ok (.ifCond .ne 5, 3) := dk_154 0 5 (dk_at dksX4_fewest_0 6 rfl rfl)
theorem dX4_fewest_9 : decode cX4_fewest 9 = .ok (.iconst (-1), 1) := dk_2 (dk_at dksX4_fewest_0 9 rfl rfl)
theorem dX4_fewest_10 : decode cX4_fewest 10 = .ok (.ireturn, 1) := dk_172 (dk_at dksX4_fewest_0 10 rfl rfl)
theorem dX4_fewest_11 : decode cX4_fewest 11 = .ok (.aload_n 0, 1) := dk_42 (dk_at dksX4_fewest_0 11 rfl rfl)
theorem dX4_fewest_12 : decode cX4_fewest 12 = .ok (.getfield 9, 3) := dk_180 0 9 (dk_at dksX4_fewest_0 12 rfl rfl)
theorem dX4_fewest_15 : decode cX4_fewest 15 = .ok (.iconst 0, 1) := dk_3 (dk_at dksX4_fewest_0 15 rfl rfl)
theorem dX4_fewest_16 : decode cX4_fewest 16 = .ok (.iaload, 1) := dk_46 (dk_at dksX4_fewest_0 16 rfl rfl)
theorem dX4_fewest_17 : decode cX4_fewest 17 = .ok (.ifCond .ne 6, 3) := dk_154 0 6 (dk_at dksX4_fewest_0 17 rfl rfl)
theorem dX4_fewest_20 : decode cX4_fewest 20 = .ok (.bipush (-3), 2) := dk_16 253 (dk_at dksX4_fewest_0 20 rfl rfl)
theorem dX4_fewest_22 : decode cX4_fewest 22 = .ok (.ireturn, 1) := dk_172 (dk_at dksX4_fewest_0 22 rfl rfl)
theorem dX4_fewest_23 : decode cX4_fewest 23 = .ok (.aload_n 0, 1) := dk_42 (dk_at dksX4_fewest_0 23 rfl rfl)
theorem dX4_fewest_24 : decode cX4_fewest 24 = .ok (.invokevirtual 189, 3) := dk_182 0 189 (dk_at dksX4_fewest_1 0 rfl rfl)
theorem dX4_fewest_27 : decode cX4_fewest 27 = .ok (.istore_n 2, 1) := dk_61 (dk_at dksX4_fewest_1 3 rfl rfl)
theorem dX4_fewest_28 : decode cX4_fewest 28 = .ok (.iload_n 2, 1) := dk_28 (dk_at dksX4_fewest_1 4 rfl rfl)
theorem dX4_fewest_29 : decode cX4_fewest 29 = .ok (.ifCond .lt 13, 3) := dk_155 0 13 (dk_at dksX4_fewest_1 5 rfl rfl)
theorem dX4_fewest_32 : decode cX4_fewest 32 = .ok (.iload_n 1, 1) := dk_27 (dk_at dksX4_fewest_1 8 rfl rfl)
theorem dX4_fewest_33 : decode cX4_fewest 33 = .ok (.ifCond .ne 7, 3) := dk_154 0 7 (dk_at dksX4_fewest_1 9 rfl rfl)
theorem dX4_fewest_36 : decode cX4_fewest 36 = .ok (.iconst 1, 1) := dk_4 (dk_at dksX4_fewest_1 12 rfl rfl)
theorem dX4_fewest_37 : decode cX4_fewest 37 = .ok (.goto 4, 3) := dk_167 0 4 (dk_at dksX4_fewest_1 13 rfl rfl)
theorem dX4_fewest_40 : decode cX4_fewest 40 = .ok (.iload_n 2, 1) := dk_28 (dk_at dksX4_fewest_1 16 rfl rfl)
theorem dX4_fewest_41 : decode cX4_fewest 41 = .ok (.ireturn, 1) := dk_172 (dk_at dksX4_fewest_1 17 rfl rfl)
theorem dX4_fewest_42 : decode cX4_fewest 42 = .ok (.bipush 9, 2) := dk_16 9 (dk_at dksX4_fewest_1 18 rfl rfl)
theorem dX4_fewest_44 : decode cX4_fewest 44 = .ok (.aload_n 0, 1) := dk_42 (dk_at dksX4_fewest_1 20 rfl rfl)
theorem dX4_fewest_45 : decode cX4_fewest 45 = .ok (.getfield 9, 3) := dk_180 0 9 (dk_at dksX4_fewest_1 21 rfl rfl)
theorem dX4_fewest_48 : decode cX4_fewest 48 = .ok (.iconst 0, 1) := dk_3 (dk_at dksX4_fewest_2 0 rfl rfl)
theorem dX4_fewest_49 : decode cX4_fewest 49 = .ok (.iaload, 1) := dk_46 (dk_at dksX4_fewest_2 1 rfl rfl)
theorem dX4_fewest_50 : decode cX4_fewest 50 = .ok (.imul, 1) := dk_104 (dk_at dksX4_fewest_2 2 rfl rfl)
theorem dX4_fewest_51 : decode cX4_fewest 51 = .ok (.istore_n 3, 1) := dk_62 (dk_at dksX4_fewest_2 3 rfl rfl)
theorem dX4_fewest_52 : decode cX4_fewest 52 = .ok (.iconst 0, 1) := dk_3 (dk_at dksX4_fewest_2 4 rfl rfl)
theorem dX4_fewest_53 : decode cX4_fewest 53 = .ok (.istore 4, 2) := dk_54 4 (dk_at dksX4_fewest_2 5 rfl rfl)
theorem dX4_fewest_55 : decode cX4_fewest 55 = .ok (.iload 4, 2) := dk_21 4 (dk_at dksX4_fewest_2 7 rfl rfl)
theorem dX4_fewest_57 : decode cX4_fewest 57 = .ok (.iload_n 3, 1) := dk_29 (dk_at dksX4_fewest_2 9 rfl rfl)
theorem dX4_fewest_58 : decode cX4_fewest 58 = .ok (.if_icmp .ge 58, 3) := dk_162 0 58 (dk_at dksX4_fewest_2 10 rfl rfl)
theorem dX4_fewest_61 : decode cX4_fewest 61 = .ok (.iconst 0, 1) := dk_3 (dk_at dksX4_fewest_2 13 rfl rfl)
theorem dX4_fewest_62 : decode cX4_fewest 62 = .ok (.istore 5, 2) := dk_54 5 (dk_at dksX4_fewest_2 14 rfl rfl)
theorem dX4_fewest_64 : decode cX4_fewest 64 = .ok (.iload 5, 2) := dk_21 5 (dk_at dksX4_fewest_2 16 rfl rfl)
theorem dX4_fewest_66 : decode cX4_fewest 66 = .ok (.iload_n 3, 1) := dk_29 (dk_at dksX4_fewest_2 18 rfl rfl)
theorem dX4_fewest_67 : decode cX4_fewest 67 = .ok (.if_icmp .ge 43, 3) := dk_162 0 43 (dk_at dksX4_fewest_2 19 rfl rfl)
theorem dX4_fewest_70 : decode cX4_fewest 70 = .ok (.aload_n 0, 1) := dk_42 (dk_at dksX4_fewest_2 22 rfl rfl)
theorem dX4_fewest_71 : decode cX4_fewest 71 = .ok (.iload 4, 2) := dk_21 4 (dk_at dksX4_fewest_3 0 rfl rfl)
theorem dX4_fewest_73 : decode cX4_fewest 73 = .ok (.iload 5, 2) := dk_21 5 (dk_at dksX4_fewest_3 2 rfl rfl)
theorem dX4_fewest_75 : decode cX4_fewest 75 = .ok (.invokevirtual 192, 3) := dk_182 0 192 (dk_at dksX4_fewest_3 4 rfl rfl)
theorem dX4_fewest_78 : decode cX4_fewest 78 = .ok (.ifCond .eq 26, 3) := dk_153 0 26 (dk_at dksX4_fewest_3 7 rfl rfl)
theorem dX4_fewest_81 : decode cX4_fewest 81 = .ok (.iload_n 1, 1) := dk_27 (dk_at dksX4_fewest_3 10 rfl rfl)
theorem dX4_fewest_82 : decode cX4_fewest 82 = .ok (.ifCond .ne 7, 3) := dk_154 0 7 (dk_at dksX4_fewest_3 11 rfl rfl)
theorem dX4_fewest_85 : decode cX4_fewest 85 = .ok (.iconst 3, 1) := dk_6 (dk_at dksX4_fewest_3 14 rfl rfl)
theorem dX4_fewest_86 : decode cX4_fewest 86 = .ok (.goto 17, 3) := dk_167 0 17 (dk_at dksX4_fewest_3 15 rfl rfl)
theorem dX4_fewest_89 : decode cX4_fewest 89 = .ok (.bipush 10, 2) := dk_16 10 (dk_at dksX4_fewest_3 18 rfl rfl)
theorem dX4_fewest_91 : decode cX4_fewest 91 = .ok (.iload 4, 2) := dk_21 4 (dk_at dksX4_fewest_3 20 rfl rfl)
theorem dX4_fewest_93 : decode cX4_fewest 93 = .ok (.bipush 9, 2) := dk_16 9 (dk_at dksX4_fewest_3 22 rfl rfl)
theorem dX4_fewest_95 : decode cX4_fewest 95 = .ok (.idiv, 1) := dk_108 (dk_at dksX4_fewest_4 0 rfl rfl)
theorem dX4_fewest_96 : decode cX4_fewest 96 = .ok (.imul, 1) := dk_104 (dk_at dksX4_fewest_4 1 rfl rfl)
theorem dX4_fewest_97 : decode cX4_fewest 97 = .ok (.iload 4, 2) := dk_21 4 (dk_at dksX4_fewest_4 2 rfl rfl)
theorem dX4_fewest_99 : decode cX4_fewest 99 = .ok (.bipush 9, 2) := dk_16 9 (dk_at dksX4_fewest_4 4 rfl rfl)
theorem dX4_fewest_101 : decode cX4_fewest 101 = .ok (.irem, 1) := dk_112 (dk_at dksX4_fewest_4 6 rfl rfl)
theorem dX4_fewest_102 : decode cX4_fewest 102 = .ok (.iadd, 1) := dk_96 (dk_at dksX4_fewest_4 7 rfl rfl)
theorem dX4_fewest_103 : decode cX4_fewest 103 = .ok (.ireturn, 1) := dk_172 (dk_at dksX4_fewest_4 8 rfl rfl)
theorem dX4_fewest_104 : decode cX4_fewest 104 = .ok (.iinc 5 1, 3) := dk_132 5 1 (dk_at dksX4_fewest_4 9 rfl rfl)
theorem dX4_fewest_107 : decode cX4_fewest 107 = .ok (.goto (-43), 3) := dk_167 255 213 (dk_at dksX4_fewest_4 12 rfl rfl)
theorem dX4_fewest_110 : decode cX4_fewest 110 = .ok (.iinc 4 1, 3) := dk_132 4 1 (dk_at dksX4_fewest_4 15 rfl rfl)
theorem dX4_fewest_113 : decode cX4_fewest 113 = .ok (.goto (-58), 3) := dk_167 255 198 (dk_at dksX4_fewest_4 18 rfl rfl)
theorem dX4_fewest_116 : decode cX4_fewest 116 = .ok (.bipush (-4), 2) := dk_16 252 (dk_at dksX4_fewest_4 21 rfl rfl)
theorem dX4_fewest_118 : decode cX4_fewest 118 = .ok (.ireturn, 1) := dk_172 (dk_at dksX4_fewest_4 23 rfl rfl)
abbrev cX4_isWonInThree : ByteArray := prog_21_method_60_code
def yX4_isWonInThree : MethodName := ⟨RX4, "isWonInThree", "(II)Z"⟩
def dkwX4_isWonInThree_2 : List UInt8 := [172]
abbrev dktX4_isWonInThree_2 : List UInt8 := dkwX4_isWonInThree_2 ++ []
def dkwX4_isWonInThree_1 : List UInt8 := [182, 0, 149, 153, 0, 5, 3, 172, 42, 42, 180, 0, 13, 28, 16, 9, 108, 28, 16, 9, 112, 182, 0, 149]
abbrev dktX4_isWonInThree_1 : List UInt8 := dkwX4_isWonInThree_1 ++ dktX4_isWonInThree_2
def dkwX4_isWonInThree_0 : List UInt8 := [42, 27, 16, 9, 108, 27, 16, 9, 112, 182, 0, 180, 154, 0, 16, 42, 42, 180, 0, 13, 3, 7]
abbrev dktX4_isWonInThree_0 : List UInt8 := dkwX4_isWonInThree_0 ++ dktX4_isWonInThree_1
theorem dksX4_isWonInThree_0 : cX4_isWonInThree.data.toList.drop 0 = dktX4_isWonInThree_0 := by decide +kernel
theorem dksX4_isWonInThree_1 : cX4_isWonInThree.data.toList.drop 22 = dktX4_isWonInThree_1 := dk_seg dksX4_isWonInThree_0 22 rfl rfl
theorem dksX4_isWonInThree_2 : cX4_isWonInThree.data.toList.drop 46 = dktX4_isWonInThree_2 := dk_seg dksX4_isWonInThree_1 24 rfl rfl
theorem dX4_isWonInThree_0 : decode cX4_isWonInThree 0 = .ok (.aload_n 0, 1) := dk_42 (dk_at dksX4_isWonInThree_0 0 rfl rfl)
theorem dX4_isWonInThree_1 : decode cX4_isWonInThree 1 = .ok (.iload_n 1, 1) := dk_27 (dk_at dksX4_isWonInThree_0 1 rfl rfl)
theorem dX4_isWonInThree_2 : decode cX4_isWonInThree 2 = .ok (.bipush 9, 2) := dk_16 9 (dk_at dksX4_isWonInThree_0 2 rfl rfl)
theorem dX4_isWonInThree_4 : decode cX4_isWonInThree 4 = .ok (.idiv, 1) := dk_108 (dk_at dksX4_isWonInThree_0 4 rfl rfl)
theorem dX4_isWonInThree_5 : decode cX4_isWonInThree 5 = .ok (.iload_n 1, 1) := dk_27 (dk_at dksX4_isWonInThree_0 5 rfl rfl)
theorem dX4_isWonInThree_6 : decode cX4_isWonInThree 6 = .ok (.bipush 9, 2) := dk_16 9 (dk_at dksX4_isWonInThree_0 6 rfl rfl)
theorem dX4_isWonInThree_8 : decode cX4_isWonInThree 8 = .ok (.irem, 1) := dk_112 (dk_at dksX4_isWonInThree_0 8 rfl rfl)
theorem dX4_isWonInThree_9 : decode cX4_isWonInThree 9 = .ok (.invokevirtual 180, 3) := dk_182 0 180 (dk_at dksX4_isWonInThree_0 9 rfl rfl)
theorem dX4_isWonInThree_12 : decode cX4_isWonInThree 12 = .ok (.ifCond .ne 16, 3) := dk_154 0 16 (dk_at dksX4_isWonInThree_0 12 rfl rfl)
theorem dX4_isWonInThree_15 : decode cX4_isWonInThree 15 = .ok (.aload_n 0, 1) := dk_42 (dk_at dksX4_isWonInThree_0 15 rfl rfl)
theorem dX4_isWonInThree_16 : decode cX4_isWonInThree 16 = .ok (.aload_n 0, 1) := dk_42 (dk_at dksX4_isWonInThree_0 16 rfl rfl)
theorem dX4_isWonInThree_17 : decode cX4_isWonInThree 17 = .ok (.getfield 13, 3) := dk_180 0 13 (dk_at dksX4_isWonInThree_0 17 rfl rfl)
theorem dX4_isWonInThree_20 : decode cX4_isWonInThree 20 = .ok (.iconst 0, 1) := dk_3 (dk_at dksX4_isWonInThree_0 20 rfl rfl)
theorem dX4_isWonInThree_21 : decode cX4_isWonInThree 21 = .ok (.iconst 4, 1) := dk_7 (dk_at dksX4_isWonInThree_0 21 rfl rfl)
theorem dX4_isWonInThree_22 : decode cX4_isWonInThree 22 = .ok (.invokevirtual 149, 3) := dk_182 0 149 (dk_at dksX4_isWonInThree_1 0 rfl rfl)
theorem dX4_isWonInThree_25 : decode cX4_isWonInThree 25 = .ok (.ifCond .eq 5, 3) := dk_153 0 5 (dk_at dksX4_isWonInThree_1 3 rfl rfl)
theorem dX4_isWonInThree_28 : decode cX4_isWonInThree 28 = .ok (.iconst 0, 1) := dk_3 (dk_at dksX4_isWonInThree_1 6 rfl rfl)
theorem dX4_isWonInThree_29 : decode cX4_isWonInThree 29 = .ok (.ireturn, 1) := dk_172 (dk_at dksX4_isWonInThree_1 7 rfl rfl)
theorem dX4_isWonInThree_30 : decode cX4_isWonInThree 30 = .ok (.aload_n 0, 1) := dk_42 (dk_at dksX4_isWonInThree_1 8 rfl rfl)
theorem dX4_isWonInThree_31 : decode cX4_isWonInThree 31 = .ok (.aload_n 0, 1) := dk_42 (dk_at dksX4_isWonInThree_1 9 rfl rfl)
theorem dX4_isWonInThree_32 : decode cX4_isWonInThree 32 = .ok (.getfield 13, 3) := dk_180 0 13 (dk_at dksX4_isWonInThree_1 10 rfl rfl)
theorem dX4_isWonInThree_35 : decode cX4_isWonInThree 35 = .ok (.iload_n 2, 1) := dk_28 (dk_at dksX4_isWonInThree_1 13 rfl rfl)
theorem dX4_isWonInThree_36 : decode cX4_isWonInThree 36 = .ok (.bipush 9, 2) := dk_16 9 (dk_at dksX4_isWonInThree_1 14 rfl rfl)
theorem dX4_isWonInThree_38 : decode cX4_isWonInThree 38 = .ok (.idiv, 1) := dk_108 (dk_at dksX4_isWonInThree_1 16 rfl rfl)
theorem dX4_isWonInThree_39 : decode cX4_isWonInThree 39 = .ok (.iload_n 2, 1) := dk_28 (dk_at dksX4_isWonInThree_1 17 rfl rfl)
theorem dX4_isWonInThree_40 : decode cX4_isWonInThree 40 = .ok (.bipush 9, 2) := dk_16 9 (dk_at dksX4_isWonInThree_1 18 rfl rfl)
theorem dX4_isWonInThree_42 : decode cX4_isWonInThree 42 = .ok (.irem, 1) := dk_112 (dk_at dksX4_isWonInThree_1 20 rfl rfl)
theorem dX4_isWonInThree_43 : decode cX4_isWonInThree 43 = .ok (.invokevirtual 149, 3) := dk_182 0 149 (dk_at dksX4_isWonInThree_1 21 rfl rfl)
theorem dX4_isWonInThree_46 : decode cX4_isWonInThree 46 = .ok (.ireturn, 1) := dk_172 (dk_at dksX4_isWonInThree_2 0 rfl rfl)
abbrev cX4_bestForm : ByteArray := prog_21_method_64_code
def yX4_bestForm : MethodName := ⟨RX4, "bestForm", "(II)I"⟩
def dkwX4_bestForm_0 : List UInt8 := [42, 27, 3, 5, 28, 182, 0, 199, 172]
abbrev dktX4_bestForm_0 : List UInt8 := dkwX4_bestForm_0 ++ []
theorem dksX4_bestForm_0 : cX4_bestForm.data.toList.drop 0 = dktX4_bestForm_0 := by decide +kernel
theorem dX4_bestForm_0 : decode cX4_bestForm 0 = .ok (.aload_n 0, 1) := dk_42 (dk_at dksX4_bestForm_0 0 rfl rfl)
theorem dX4_bestForm_1 : decode cX4_bestForm 1 = .ok (.iload_n 1, 1) := dk_27 (dk_at dksX4_bestForm_0 1 rfl rfl)
theorem dX4_bestForm_2 : decode cX4_bestForm 2 = .ok (.iconst 0, 1) := dk_3 (dk_at dksX4_bestForm_0 2 rfl rfl)
theorem dX4_bestForm_3 : decode cX4_bestForm 3 = .ok (.iconst 2, 1) := dk_5 (dk_at dksX4_bestForm_0 3 rfl rfl)
theorem dX4_bestForm_4 : decode cX4_bestForm 4 = .ok (.iload_n 2, 1) := dk_28 (dk_at dksX4_bestForm_0 4 rfl rfl)
theorem dX4_bestForm_5 : decode cX4_bestForm 5 = .ok (.invokevirtual 199, 3) := dk_182 0 199 (dk_at dksX4_bestForm_0 5 rfl rfl)
theorem dX4_bestForm_8 : decode cX4_bestForm 8 = .ok (.ireturn, 1) := dk_172 (dk_at dksX4_bestForm_0 8 rfl rfl)
abbrev cX4_bestOf : ByteArray := prog_21_method_63_code
def yX4_bestOf : MethodName := ⟨RX4, "bestOf", "(IIII)I"⟩
def dkwX4_bestOf_5 : List UInt8 := [154, 0, 8, 21, 5, 167, 0, 5, 21, 6, 172]
abbrev dktX4_bestOf_5 : List UInt8 := dkwX4_bestOf_5 ++ []
def dkwX4_bestOf_4 : List UInt8 := [21, 6, 163, 0, 6, 167, 0, 11, 21, 7, 54, 5, 21, 8, 54, 6, 132, 7, 1, 167, 255, 187, 21, 4]
abbrev dktX4_bestOf_4 : List UInt8 := dkwX4_bestOf_4 ++ dktX4_bestOf_5
def dkwX4_bestOf_3 : List UInt8 := [21, 9, 182, 0, 195, 153, 0, 7, 4, 167, 0, 4, 3, 96, 54, 8, 132, 9, 1, 167, 255, 223, 21, 8]
abbrev dktX4_bestOf_3 : List UInt8 := dkwX4_bestOf_3 ++ dktX4_bestOf_4
def dkwX4_bestOf_2 : List UInt8 := [162, 0, 69, 3, 54, 8, 3, 54, 9, 21, 9, 16, 9, 162, 0, 32, 21, 8, 42, 27, 28, 21, 7]
abbrev dktX4_bestOf_2 : List UInt8 := dkwX4_bestOf_2 ++ dktX4_bestOf_3
def dkwX4_bestOf_1 : List UInt8 := [180, 0, 9, 3, 46, 154, 0, 6, 16, 253, 172, 3, 54, 5, 2, 54, 6, 3, 54, 7, 21, 7, 29]
abbrev dktX4_bestOf_1 : List UInt8 := dkwX4_bestOf_1 ++ dktX4_bestOf_2
def dkwX4_bestOf_0 : List UInt8 := [27, 3, 4, 184, 0, 53, 153, 0, 13, 21, 4, 3, 4, 184, 0, 53, 154, 0, 5, 2, 172, 42]
abbrev dktX4_bestOf_0 : List UInt8 := dkwX4_bestOf_0 ++ dktX4_bestOf_1
theorem dksX4_bestOf_0 : cX4_bestOf.data.toList.drop 0 = dktX4_bestOf_0 := by decide +kernel
theorem dksX4_bestOf_1 : cX4_bestOf.data.toList.drop 22 = dktX4_bestOf_1 := dk_seg dksX4_bestOf_0 22 rfl rfl
theorem dksX4_bestOf_2 : cX4_bestOf.data.toList.drop 45 = dktX4_bestOf_2 := dk_seg dksX4_bestOf_1 23 rfl rfl
theorem dksX4_bestOf_3 : cX4_bestOf.data.toList.drop 68 = dktX4_bestOf_3 := dk_seg dksX4_bestOf_2 23 rfl rfl
theorem dksX4_bestOf_4 : cX4_bestOf.data.toList.drop 92 = dktX4_bestOf_4 := dk_seg dksX4_bestOf_3 24 rfl rfl
theorem dksX4_bestOf_5 : cX4_bestOf.data.toList.drop 116 = dktX4_bestOf_5 := dk_seg dksX4_bestOf_4 24 rfl rfl
theorem dX4_bestOf_0 : decode cX4_bestOf 0 = .ok (.iload_n 1, 1) := dk_27 (dk_at dksX4_bestOf_0 0 rfl rfl)
theorem dX4_bestOf_1 : decode cX4_bestOf 1 = .ok (.iconst 0, 1) := dk_3 (dk_at dksX4_bestOf_0 1 rfl rfl)
theorem dX4_bestOf_2 : decode cX4_bestOf 2 = .ok (.iconst 1, 1) := dk_4 (dk_at dksX4_bestOf_0 2 rfl rfl)
theorem dX4_bestOf_3 : decode cX4_bestOf 3 = .ok (.invokestatic 53, 3) := dk_184 0 53 (dk_at dksX4_bestOf_0 3 rfl rfl)
theorem dX4_bestOf_6 : decode cX4_bestOf 6 = .ok (.ifCond .eq 13, 3) := dk_153 0 13 (dk_at dksX4_bestOf_0 6 rfl rfl)
theorem dX4_bestOf_9 : decode cX4_bestOf 9 = .ok (.iload 4, 2) := dk_21 4 (dk_at dksX4_bestOf_0 9 rfl rfl)
theorem dX4_bestOf_11 : decode cX4_bestOf 11 = .ok (.iconst 0, 1) := dk_3 (dk_at dksX4_bestOf_0 11 rfl rfl)
theorem dX4_bestOf_12 : decode cX4_bestOf 12 = .ok (.iconst 1, 1) := dk_4 (dk_at dksX4_bestOf_0 12 rfl rfl)
theorem dX4_bestOf_13 : decode cX4_bestOf 13 = .ok (.invokestatic 53, 3) := dk_184 0 53 (dk_at dksX4_bestOf_0 13 rfl rfl)
theorem dX4_bestOf_16 : decode cX4_bestOf 16 = .ok (.ifCond .ne 5, 3) := dk_154 0 5 (dk_at dksX4_bestOf_0 16 rfl rfl)
theorem dX4_bestOf_19 : decode cX4_bestOf 19 = .ok (.iconst (-1), 1) := dk_2 (dk_at dksX4_bestOf_0 19 rfl rfl)
theorem dX4_bestOf_20 : decode cX4_bestOf 20 = .ok (.ireturn, 1) := dk_172 (dk_at dksX4_bestOf_0 20 rfl rfl)
theorem dX4_bestOf_21 : decode cX4_bestOf 21 = .ok (.aload_n 0, 1) := dk_42 (dk_at dksX4_bestOf_0 21 rfl rfl)
theorem dX4_bestOf_22 : decode cX4_bestOf 22 = .ok (.getfield 9, 3) := dk_180 0 9 (dk_at dksX4_bestOf_1 0 rfl rfl)
theorem dX4_bestOf_25 : decode cX4_bestOf 25 = .ok (.iconst 0, 1) := dk_3 (dk_at dksX4_bestOf_1 3 rfl rfl)
theorem dX4_bestOf_26 : decode cX4_bestOf 26 = .ok (.iaload, 1) := dk_46 (dk_at dksX4_bestOf_1 4 rfl rfl)
theorem dX4_bestOf_27 : decode cX4_bestOf 27 = .ok (.ifCond .ne 6, 3) := dk_154 0 6 (dk_at dksX4_bestOf_1 5 rfl rfl)
theorem dX4_bestOf_30 : decode cX4_bestOf 30 = .ok (.bipush (-3), 2) := dk_16 253 (dk_at dksX4_bestOf_1 8 rfl rfl)
theorem dX4_bestOf_32 : decode cX4_bestOf 32 = .ok (.ireturn, 1) := dk_172 (dk_at dksX4_bestOf_1 10 rfl rfl)
theorem dX4_bestOf_33 : decode cX4_bestOf 33 = .ok (.iconst 0, 1) := dk_3 (dk_at dksX4_bestOf_1 11 rfl rfl)
theorem dX4_bestOf_34 : decode cX4_bestOf 34 = .ok (.istore 5, 2) := dk_54 5 (dk_at dksX4_bestOf_1 12 rfl rfl)
theorem dX4_bestOf_36 : decode cX4_bestOf 36 = .ok (.iconst (-1), 1) := dk_2 (dk_at dksX4_bestOf_1 14 rfl rfl)
theorem dX4_bestOf_37 : decode cX4_bestOf 37 = .ok (.istore 6, 2) := dk_54 6 (dk_at dksX4_bestOf_1 15 rfl rfl)
theorem dX4_bestOf_39 : decode cX4_bestOf 39 = .ok (.iconst 0, 1) := dk_3 (dk_at dksX4_bestOf_1 17 rfl rfl)
theorem dX4_bestOf_40 : decode cX4_bestOf 40 = .ok (.istore 7, 2) := dk_54 7 (dk_at dksX4_bestOf_1 18 rfl rfl)
theorem dX4_bestOf_42 : decode cX4_bestOf 42 = .ok (.iload 7, 2) := dk_21 7 (dk_at dksX4_bestOf_1 20 rfl rfl)
theorem dX4_bestOf_44 : decode cX4_bestOf 44 = .ok (.iload_n 3, 1) := dk_29 (dk_at dksX4_bestOf_1 22 rfl rfl)
theorem dX4_bestOf_45 : decode cX4_bestOf 45 = .ok (.if_icmp .ge 69, 3) := dk_162 0 69 (dk_at dksX4_bestOf_2 0 rfl rfl)
theorem dX4_bestOf_48 : decode cX4_bestOf 48 = .ok (.iconst 0, 1) := dk_3 (dk_at dksX4_bestOf_2 3 rfl rfl)
theorem dX4_bestOf_49 : decode cX4_bestOf 49 = .ok (.istore 8, 2) := dk_54 8 (dk_at dksX4_bestOf_2 4 rfl rfl)
theorem dX4_bestOf_51 : decode cX4_bestOf 51 = .ok (.iconst 0, 1) := dk_3 (dk_at dksX4_bestOf_2 6 rfl rfl)
theorem dX4_bestOf_52 : decode cX4_bestOf 52 = .ok (.istore 9, 2) := dk_54 9 (dk_at dksX4_bestOf_2 7 rfl rfl)
theorem dX4_bestOf_54 : decode cX4_bestOf 54 = .ok (.iload 9, 2) := dk_21 9 (dk_at dksX4_bestOf_2 9 rfl rfl)
theorem dX4_bestOf_56 : decode cX4_bestOf 56 = .ok (.bipush 9, 2) := dk_16 9 (dk_at dksX4_bestOf_2 11 rfl rfl)
theorem dX4_bestOf_58 : decode cX4_bestOf 58 = .ok (.if_icmp .ge 32, 3) := dk_162 0 32 (dk_at dksX4_bestOf_2 13 rfl rfl)
theorem dX4_bestOf_61 : decode cX4_bestOf 61 = .ok (.iload 8, 2) := dk_21 8 (dk_at dksX4_bestOf_2 16 rfl rfl)
theorem dX4_bestOf_63 : decode cX4_bestOf 63 = .ok (.aload_n 0, 1) := dk_42 (dk_at dksX4_bestOf_2 18 rfl rfl)
theorem dX4_bestOf_64 : decode cX4_bestOf 64 = .ok (.iload_n 1, 1) := dk_27 (dk_at dksX4_bestOf_2 19 rfl rfl)
theorem dX4_bestOf_65 : decode cX4_bestOf 65 = .ok (.iload_n 2, 1) := dk_28 (dk_at dksX4_bestOf_2 20 rfl rfl)
theorem dX4_bestOf_66 : decode cX4_bestOf 66 = .ok (.iload 7, 2) := dk_21 7 (dk_at dksX4_bestOf_2 21 rfl rfl)
theorem dX4_bestOf_68 : decode cX4_bestOf 68 = .ok (.iload 9, 2) := dk_21 9 (dk_at dksX4_bestOf_3 0 rfl rfl)
theorem dX4_bestOf_70 : decode cX4_bestOf 70 = .ok (.invokevirtual 195, 3) := dk_182 0 195 (dk_at dksX4_bestOf_3 2 rfl rfl)
theorem dX4_bestOf_73 : decode cX4_bestOf 73 = .ok (.ifCond .eq 7, 3) := dk_153 0 7 (dk_at dksX4_bestOf_3 5 rfl rfl)
theorem dX4_bestOf_76 : decode cX4_bestOf 76 = .ok (.iconst 1, 1) := dk_4 (dk_at dksX4_bestOf_3 8 rfl rfl)
theorem dX4_bestOf_77 : decode cX4_bestOf 77 = .ok (.goto 4, 3) := dk_167 0 4 (dk_at dksX4_bestOf_3 9 rfl rfl)
theorem dX4_bestOf_80 : decode cX4_bestOf 80 = .ok (.iconst 0, 1) := dk_3 (dk_at dksX4_bestOf_3 12 rfl rfl)
theorem dX4_bestOf_81 : decode cX4_bestOf 81 = .ok (.iadd, 1) := dk_96 (dk_at dksX4_bestOf_3 13 rfl rfl)
theorem dX4_bestOf_82 : decode cX4_bestOf 82 = .ok (.istore 8, 2) := dk_54 8 (dk_at dksX4_bestOf_3 14 rfl rfl)
theorem dX4_bestOf_84 : decode cX4_bestOf 84 = .ok (.iinc 9 1, 3) := dk_132 9 1 (dk_at dksX4_bestOf_3 16 rfl rfl)
theorem dX4_bestOf_87 : decode cX4_bestOf 87 = .ok (.goto (-33), 3) := dk_167 255 223 (dk_at dksX4_bestOf_3 19 rfl rfl)
theorem dX4_bestOf_90 : decode cX4_bestOf 90 = .ok (.iload 8, 2) := dk_21 8 (dk_at dksX4_bestOf_3 22 rfl rfl)
theorem dX4_bestOf_92 : decode cX4_bestOf 92 = .ok (.iload 6, 2) := dk_21 6 (dk_at dksX4_bestOf_4 0 rfl rfl)
theorem dX4_bestOf_94 : decode cX4_bestOf 94 = .ok (.if_icmp .gt 6, 3) := dk_163 0 6 (dk_at dksX4_bestOf_4 2 rfl rfl)
theorem dX4_bestOf_97 : decode cX4_bestOf 97 = .ok (.goto 11, 3) := dk_167 0 11 (dk_at dksX4_bestOf_4 5 rfl rfl)
theorem dX4_bestOf_100 : decode cX4_bestOf 100 = .ok (.iload 7, 2) := dk_21 7 (dk_at dksX4_bestOf_4 8 rfl rfl)
theorem dX4_bestOf_102 : decode cX4_bestOf 102 = .ok (.istore 5, 2) := dk_54 5 (dk_at dksX4_bestOf_4 10 rfl rfl)
theorem dX4_bestOf_104 : decode cX4_bestOf 104 = .ok (.iload 8, 2) := dk_21 8 (dk_at dksX4_bestOf_4 12 rfl rfl)
theorem dX4_bestOf_106 : decode cX4_bestOf 106 = .ok (.istore 6, 2) := dk_54 6 (dk_at dksX4_bestOf_4 14 rfl rfl)
theorem dX4_bestOf_108 : decode cX4_bestOf 108 = .ok (.iinc 7 1, 3) := dk_132 7 1 (dk_at dksX4_bestOf_4 16 rfl rfl)
theorem dX4_bestOf_111 : decode cX4_bestOf 111 = .ok (.goto (-69), 3) := dk_167 255 187 (dk_at dksX4_bestOf_4 19 rfl rfl)
theorem dX4_bestOf_114 : decode cX4_bestOf 114 = .ok (.iload 4, 2) := dk_21 4 (dk_at dksX4_bestOf_4 22 rfl rfl)
theorem dX4_bestOf_116 : decode cX4_bestOf 116 = .ok (.ifCond .ne 8, 3) := dk_154 0 8 (dk_at dksX4_bestOf_5 0 rfl rfl)
theorem dX4_bestOf_119 : decode cX4_bestOf 119 = .ok (.iload 5, 2) := dk_21 5 (dk_at dksX4_bestOf_5 3 rfl rfl)
theorem dX4_bestOf_121 : decode cX4_bestOf 121 = .ok (.goto 5, 3) := dk_167 0 5 (dk_at dksX4_bestOf_5 5 rfl rfl)
theorem dX4_bestOf_124 : decode cX4_bestOf 124 = .ok (.iload 6, 2) := dk_21 6 (dk_at dksX4_bestOf_5 8 rfl rfl)
theorem dX4_bestOf_126 : decode cX4_bestOf 126 = .ok (.ireturn, 1) := dk_172 (dk_at dksX4_bestOf_5 10 rfl rfl)
abbrev cX4_isHeld : ByteArray := prog_21_method_62_code
def yX4_isHeld : MethodName := ⟨RX4, "isHeld", "(IIII)Z"⟩
def dkwX4_isHeld_4 : List UInt8 := [167, 0, 4, 3, 172]
abbrev dktX4_isHeld_4 : List UInt8 := dkwX4_isHeld_4 ++ []
def dkwX4_isHeld_3 : List UInt8 := [182, 0, 149, 154, 0, 20, 42, 42, 180, 0, 13, 3, 16, 8, 21, 4, 100, 182, 0, 149, 154, 0, 7, 4]
abbrev dktX4_isHeld_3 : List UInt8 := dkwX4_isHeld_3 ++ dktX4_isHeld_4
def dkwX4_isHeld_2 : List UInt8 := [42, 180, 0, 13, 3, 21, 4, 182, 0, 149, 153, 0, 5, 3, 172, 42, 42, 180, 0, 13, 3, 7]
abbrev dktX4_isHeld_2 : List UInt8 := dkwX4_isHeld_2 ++ dktX4_isHeld_3
def dkwX4_isHeld_1 : List UInt8 := [180, 0, 13, 5, 46, 184, 0, 73, 27, 160, 0, 14, 42, 180, 0, 13, 5, 5, 4, 27, 100, 104, 79, 42]
abbrev dktX4_isHeld_1 : List UInt8 := dkwX4_isHeld_1 ++ dktX4_isHeld_2
def dkwX4_isHeld_0 : List UInt8 := [42, 180, 0, 9, 42, 180, 0, 13, 184, 0, 158, 42, 180, 0, 13, 27, 28, 184, 0, 50, 29, 79, 42]
abbrev dktX4_isHeld_0 : List UInt8 := dkwX4_isHeld_0 ++ dktX4_isHeld_1
theorem dksX4_isHeld_0 : cX4_isHeld.data.toList.drop 0 = dktX4_isHeld_0 := by decide +kernel
theorem dksX4_isHeld_1 : cX4_isHeld.data.toList.drop 23 = dktX4_isHeld_1 := dk_seg dksX4_isHeld_0 23 rfl rfl
theorem dksX4_isHeld_2 : cX4_isHeld.data.toList.drop 47 = dktX4_isHeld_2 := dk_seg dksX4_isHeld_1 24 rfl rfl
theorem dksX4_isHeld_3 : cX4_isHeld.data.toList.drop 69 = dktX4_isHeld_3 := dk_seg dksX4_isHeld_2 22 rfl rfl
theorem dksX4_isHeld_4 : cX4_isHeld.data.toList.drop 93 = dktX4_isHeld_4 := dk_seg dksX4_isHeld_3 24 rfl rfl
theorem dX4_isHeld_0 : decode cX4_isHeld 0 = .ok (.aload_n 0, 1) := dk_42 (dk_at dksX4_isHeld_0 0 rfl rfl)
theorem dX4_isHeld_1 : decode cX4_isHeld 1 = .ok (.getfield 9, 3) := dk_180 0 9 (dk_at dksX4_isHeld_0 1 rfl rfl)
theorem dX4_isHeld_4 : decode cX4_isHeld 4 = .ok (.aload_n 0, 1) := dk_42 (dk_at dksX4_isHeld_0 4 rfl rfl)
theorem dX4_isHeld_5 : decode cX4_isHeld 5 = .ok (.getfield 13, 3) := dk_180 0 13 (dk_at dksX4_isHeld_0 5 rfl rfl)
theorem dX4_isHeld_8 : decode cX4_isHeld 8 = .ok (.invokestatic 158, 3) := dk_184 0 158 (dk_at dksX4_isHeld_0 8 rfl rfl)
theorem dX4_isHeld_11 : decode cX4_isHeld 11 = .ok (.aload_n 0, 1) := dk_42 (dk_at dksX4_isHeld_0 11 rfl rfl)
theorem dX4_isHeld_12 : decode cX4_isHeld 12 = .ok (.getfield 13, 3) := dk_180 0 13 (dk_at dksX4_isHeld_0 12 rfl rfl)
theorem dX4_isHeld_15 : decode cX4_isHeld 15 = .ok (.iload_n 1, 1) := dk_27 (dk_at dksX4_isHeld_0 15 rfl rfl)
theorem dX4_isHeld_16 : decode cX4_isHeld 16 = .ok (.iload_n 2, 1) := dk_28 (dk_at dksX4_isHeld_0 16 rfl rfl)
theorem dX4_isHeld_17 : decode cX4_isHeld 17 = .ok (.invokestatic 50, 3) := dk_184 0 50 (dk_at dksX4_isHeld_0 17 rfl rfl)
theorem dX4_isHeld_20 : decode cX4_isHeld 20 = .ok (.iload_n 3, 1) := dk_29 (dk_at dksX4_isHeld_0 20 rfl rfl)
theorem dX4_isHeld_21 : decode cX4_isHeld 21 = .ok (.iastore, 1) := dk_79 (dk_at dksX4_isHeld_0 21 rfl rfl)
theorem dX4_isHeld_22 : decode cX4_isHeld 22 = .ok (.aload_n 0, 1) := dk_42 (dk_at dksX4_isHeld_0 22 rfl rfl)
theorem dX4_isHeld_23 : decode cX4_isHeld 23 = .ok (.getfield 13, 3) := dk_180 0 13 (dk_at dksX4_isHeld_1 0 rfl rfl)
theorem dX4_isHeld_26 : decode cX4_isHeld 26 = .ok (.iconst 2, 1) := dk_5 (dk_at dksX4_isHeld_1 3 rfl rfl)
theorem dX4_isHeld_27 : decode cX4_isHeld 27 = .ok (.iaload, 1) := dk_46 (dk_at dksX4_isHeld_1 4 rfl rfl)
theorem dX4_isHeld_28 : decode cX4_isHeld 28 = .ok (.invokestatic 73, 3) := dk_184 0 73 (dk_at dksX4_isHeld_1 5 rfl rfl)
theorem dX4_isHeld_31 : decode cX4_isHeld 31 = .ok (.iload_n 1, 1) := dk_27 (dk_at dksX4_isHeld_1 8 rfl rfl)
theorem dX4_isHeld_32 : decode cX4_isHeld 32 = .ok (.if_icmp .ne 14, 3) := dk_160 0 14 (dk_at dksX4_isHeld_1 9 rfl rfl)
theorem dX4_isHeld_35 : decode cX4_isHeld 35 = .ok (.aload_n 0, 1) := dk_42 (dk_at dksX4_isHeld_1 12 rfl rfl)
theorem dX4_isHeld_36 : decode cX4_isHeld 36 = .ok (.getfield 13, 3) := dk_180 0 13 (dk_at dksX4_isHeld_1 13 rfl rfl)
theorem dX4_isHeld_39 : decode cX4_isHeld 39 = .ok (.iconst 2, 1) := dk_5 (dk_at dksX4_isHeld_1 16 rfl rfl)
theorem dX4_isHeld_40 : decode cX4_isHeld 40 = .ok (.iconst 2, 1) := dk_5 (dk_at dksX4_isHeld_1 17 rfl rfl)
theorem dX4_isHeld_41 : decode cX4_isHeld 41 = .ok (.iconst 1, 1) := dk_4 (dk_at dksX4_isHeld_1 18 rfl rfl)
theorem dX4_isHeld_42 : decode cX4_isHeld 42 = .ok (.iload_n 1, 1) := dk_27 (dk_at dksX4_isHeld_1 19 rfl rfl)
theorem dX4_isHeld_43 : decode cX4_isHeld 43 = .ok (.isub, 1) := dk_100 (dk_at dksX4_isHeld_1 20 rfl rfl)
theorem dX4_isHeld_44 : decode cX4_isHeld 44 = .ok (.imul, 1) := dk_104 (dk_at dksX4_isHeld_1 21 rfl rfl)
theorem dX4_isHeld_45 : decode cX4_isHeld 45 = .ok (.iastore, 1) := dk_79 (dk_at dksX4_isHeld_1 22 rfl rfl)
theorem dX4_isHeld_46 : decode cX4_isHeld 46 = .ok (.aload_n 0, 1) := dk_42 (dk_at dksX4_isHeld_1 23 rfl rfl)
theorem dX4_isHeld_47 : decode cX4_isHeld 47 = .ok (.aload_n 0, 1) := dk_42 (dk_at dksX4_isHeld_2 0 rfl rfl)
theorem dX4_isHeld_48 : decode cX4_isHeld 48 = .ok (.getfield 13, 3) := dk_180 0 13 (dk_at dksX4_isHeld_2 1 rfl rfl)
theorem dX4_isHeld_51 : decode cX4_isHeld 51 = .ok (.iconst 0, 1) := dk_3 (dk_at dksX4_isHeld_2 4 rfl rfl)
theorem dX4_isHeld_52 : decode cX4_isHeld 52 = .ok (.iload 4, 2) := dk_21 4 (dk_at dksX4_isHeld_2 5 rfl rfl)
theorem dX4_isHeld_54 : decode cX4_isHeld 54 = .ok (.invokevirtual 149, 3) := dk_182 0 149 (dk_at dksX4_isHeld_2 7 rfl rfl)
theorem dX4_isHeld_57 : decode cX4_isHeld 57 = .ok (.ifCond .eq 5, 3) := dk_153 0 5 (dk_at dksX4_isHeld_2 10 rfl rfl)
theorem dX4_isHeld_60 : decode cX4_isHeld 60 = .ok (.iconst 0, 1) := dk_3 (dk_at dksX4_isHeld_2 13 rfl rfl)
theorem dX4_isHeld_61 : decode cX4_isHeld 61 = .ok (.ireturn, 1) := dk_172 (dk_at dksX4_isHeld_2 14 rfl rfl)
theorem dX4_isHeld_62 : decode cX4_isHeld 62 = .ok (.aload_n 0, 1) := dk_42 (dk_at dksX4_isHeld_2 15 rfl rfl)
theorem dX4_isHeld_63 : decode cX4_isHeld 63 = .ok (.aload_n 0, 1) := dk_42 (dk_at dksX4_isHeld_2 16 rfl rfl)
theorem dX4_isHeld_64 : decode cX4_isHeld 64 = .ok (.getfield 13, 3) := dk_180 0 13 (dk_at dksX4_isHeld_2 17 rfl rfl)
theorem dX4_isHeld_67 : decode cX4_isHeld 67 = .ok (.iconst 0, 1) := dk_3 (dk_at dksX4_isHeld_2 20 rfl rfl)
theorem dX4_isHeld_68 : decode cX4_isHeld 68 = .ok (.iconst 4, 1) := dk_7 (dk_at dksX4_isHeld_2 21 rfl rfl)
theorem dX4_isHeld_69 : decode cX4_isHeld 69 = .ok (.invokevirtual 149, 3) := dk_182 0 149 (dk_at dksX4_isHeld_3 0 rfl rfl)
theorem dX4_isHeld_72 : decode cX4_isHeld 72 = .ok (.ifCond .ne 20, 3) := dk_154 0 20 (dk_at dksX4_isHeld_3 3 rfl rfl)
theorem dX4_isHeld_75 : decode cX4_isHeld 75 = .ok (.aload_n 0, 1) := dk_42 (dk_at dksX4_isHeld_3 6 rfl rfl)
theorem dX4_isHeld_76 : decode cX4_isHeld 76 = .ok (.aload_n 0, 1) := dk_42 (dk_at dksX4_isHeld_3 7 rfl rfl)
theorem dX4_isHeld_77 : decode cX4_isHeld 77 = .ok (.getfield 13, 3) := dk_180 0 13 (dk_at dksX4_isHeld_3 8 rfl rfl)
theorem dX4_isHeld_80 : decode cX4_isHeld 80 = .ok (.iconst 0, 1) := dk_3 (dk_at dksX4_isHeld_3 11 rfl rfl)
theorem dX4_isHeld_81 : decode cX4_isHeld 81 = .ok (.bipush 8, 2) := dk_16 8 (dk_at dksX4_isHeld_3 12 rfl rfl)
theorem dX4_isHeld_83 : decode cX4_isHeld 83 = .ok (.iload 4, 2) := dk_21 4 (dk_at dksX4_isHeld_3 14 rfl rfl)
theorem dX4_isHeld_85 : decode cX4_isHeld 85 = .ok (.isub, 1) := dk_100 (dk_at dksX4_isHeld_3 16 rfl rfl)
theorem dX4_isHeld_86 : decode cX4_isHeld 86 = .ok (.invokevirtual 149, 3) := dk_182 0 149 (dk_at dksX4_isHeld_3 17 rfl rfl)
theorem dX4_isHeld_89 : decode cX4_isHeld 89 = .ok (.ifCond .ne 7, 3) := dk_154 0 7 (dk_at dksX4_isHeld_3 20 rfl rfl)
theorem dX4_isHeld_92 : decode cX4_isHeld 92 = .ok (.iconst 1, 1) := dk_4 (dk_at dksX4_isHeld_3 23 rfl rfl)
theorem dX4_isHeld_93 : decode cX4_isHeld 93 = .ok (.goto 4, 3) := dk_167 0 4 (dk_at dksX4_isHeld_4 0 rfl rfl)
theorem dX4_isHeld_96 : decode cX4_isHeld 96 = .ok (.iconst 0, 1) := dk_3 (dk_at dksX4_isHeld_4 3 rfl rfl)
theorem dX4_isHeld_97 : decode cX4_isHeld 97 = .ok (.ireturn, 1) := dk_172 (dk_at dksX4_isHeld_4 4 rfl rfl)
abbrev cX4_bestHabit : ByteArray := prog_21_method_65_code
def yX4_bestHabit : MethodName := ⟨RX4, "bestHabit", "(II)I"⟩
def dkwX4_bestHabit_0 : List UInt8 := [42, 27, 4, 7, 28, 182, 0, 199, 172]
abbrev dktX4_bestHabit_0 : List UInt8 := dkwX4_bestHabit_0 ++ []
theorem dksX4_bestHabit_0 : cX4_bestHabit.data.toList.drop 0 = dktX4_bestHabit_0 := by decide +kernel
theorem dX4_bestHabit_0 : decode cX4_bestHabit 0 = .ok (.aload_n 0, 1) := dk_42 (dk_at dksX4_bestHabit_0 0 rfl rfl)
theorem dX4_bestHabit_1 : decode cX4_bestHabit 1 = .ok (.iload_n 1, 1) := dk_27 (dk_at dksX4_bestHabit_0 1 rfl rfl)
theorem dX4_bestHabit_2 : decode cX4_bestHabit 2 = .ok (.iconst 1, 1) := dk_4 (dk_at dksX4_bestHabit_0 2 rfl rfl)
theorem dX4_bestHabit_3 : decode cX4_bestHabit 3 = .ok (.iconst 4, 1) := dk_7 (dk_at dksX4_bestHabit_0 3 rfl rfl)
theorem dX4_bestHabit_4 : decode cX4_bestHabit 4 = .ok (.iload_n 2, 1) := dk_28 (dk_at dksX4_bestHabit_0 4 rfl rfl)
theorem dX4_bestHabit_5 : decode cX4_bestHabit 5 = .ok (.invokevirtual 199, 3) := dk_182 0 199 (dk_at dksX4_bestHabit_0 5 rfl rfl)
theorem dX4_bestHabit_8 : decode cX4_bestHabit 8 = .ok (.ireturn, 1) := dk_172 (dk_at dksX4_bestHabit_0 8 rfl rfl)
abbrev cX4_change : ByteArray := prog_21_method_66_code
def yX4_change : MethodName := ⟨RX4, "change", "(IIII)I"⟩
def dkwX4_change_2 : List UInt8 := [167, 0, 4, 5, 184, 0, 46, 46, 172]
abbrev dktX4_change_2 : List UInt8 := dkwX4_change_2 ++ []
def dkwX4_change_1 : List UInt8 := [154, 0, 5, 2, 172, 42, 27, 28, 182, 0, 180, 54, 5, 42, 180, 0, 13, 29, 21, 4, 154, 0, 7, 3]
abbrev dktX4_change_1 : List UInt8 := dkwX4_change_1 ++ dktX4_change_2
def dkwX4_change_0 : List UInt8 := [42, 27, 28, 182, 0, 174, 153, 0, 20, 29, 184, 0, 135, 153, 0, 13, 21, 4, 3, 4, 184, 0, 53]
abbrev dktX4_change_0 : List UInt8 := dkwX4_change_0 ++ dktX4_change_1
theorem dksX4_change_0 : cX4_change.data.toList.drop 0 = dktX4_change_0 := by decide +kernel
theorem dksX4_change_1 : cX4_change.data.toList.drop 23 = dktX4_change_1 := dk_seg dksX4_change_0 23 rfl rfl
theorem dksX4_change_2 : cX4_change.data.toList.drop 47 = dktX4_change_2 := dk_seg dksX4_change_1 24 rfl rfl
theorem dX4_change_0 : decode cX4_change 0 = .ok (.aload_n 0, 1) := dk_42 (dk_at dksX4_change_0 0 rfl rfl)
theorem dX4_change_1 : decode cX4_change 1 = .ok (.iload_n 1, 1) := dk_27 (dk_at dksX4_change_0 1 rfl rfl)
theorem dX4_change_2 : decode cX4_change 2 = .ok (.iload_n 2, 1) := dk_28 (dk_at dksX4_change_0 2 rfl rfl)
theorem dX4_change_3 : decode cX4_change 3 = .ok (.invokevirtual 174, 3) := dk_182 0 174 (dk_at dksX4_change_0 3 rfl rfl)
theorem dX4_change_6 : decode cX4_change 6 = .ok (.ifCond .eq 20, 3) := dk_153 0 20 (dk_at dksX4_change_0 6 rfl rfl)
theorem dX4_change_9 : decode cX4_change 9 = .ok (.iload_n 3, 1) := dk_29 (dk_at dksX4_change_0 9 rfl rfl)
theorem dX4_change_10 : decode cX4_change 10 = .ok (.invokestatic 135, 3) := dk_184 0 135 (dk_at dksX4_change_0 10 rfl rfl)
theorem dX4_change_13 : decode cX4_change 13 = .ok (.ifCond .eq 13, 3) := dk_153 0 13 (dk_at dksX4_change_0 13 rfl rfl)
theorem dX4_change_16 : decode cX4_change 16 = .ok (.iload 4, 2) := dk_21 4 (dk_at dksX4_change_0 16 rfl rfl)
theorem dX4_change_18 : decode cX4_change 18 = .ok (.iconst 0, 1) := dk_3 (dk_at dksX4_change_0 18 rfl rfl)
theorem dX4_change_19 : decode cX4_change 19 = .ok (.iconst 1, 1) := dk_4 (dk_at dksX4_change_0 19 rfl rfl)
theorem dX4_change_20 : decode cX4_change 20 = .ok (.invokestatic 53, 3) := dk_184 0 53 (dk_at dksX4_change_0 20 rfl rfl)
theorem dX4_change_23 : decode cX4_change 23 = .ok (.ifCond .ne 5, 3) := dk_154 0 5 (dk_at dksX4_change_1 0 rfl rfl)
theorem dX4_change_26 : decode cX4_change 26 = .ok (.iconst (-1), 1) := dk_2 (dk_at dksX4_change_1 3 rfl rfl)
theorem dX4_change_27 : decode cX4_change 27 = .ok (.ireturn, 1) := dk_172 (dk_at dksX4_change_1 4 rfl rfl)
theorem dX4_change_28 : decode cX4_change 28 = .ok (.aload_n 0, 1) := dk_42 (dk_at dksX4_change_1 5 rfl rfl)
theorem dX4_change_29 : decode cX4_change 29 = .ok (.iload_n 1, 1) := dk_27 (dk_at dksX4_change_1 6 rfl rfl)
theorem dX4_change_30 : decode cX4_change 30 = .ok (.iload_n 2, 1) := dk_28 (dk_at dksX4_change_1 7 rfl rfl)
theorem dX4_change_31 : decode cX4_change 31 = .ok (.invokevirtual 180, 3) := dk_182 0 180 (dk_at dksX4_change_1 8 rfl rfl)
theorem dX4_change_34 : decode cX4_change 34 = .ok (.istore 5, 2) := dk_54 5 (dk_at dksX4_change_1 11 rfl rfl)
theorem dX4_change_36 : decode cX4_change 36 = .ok (.aload_n 0, 1) := dk_42 (dk_at dksX4_change_1 13 rfl rfl)
theorem dX4_change_37 : decode cX4_change 37 = .ok (.getfield 13, 3) := dk_180 0 13 (dk_at dksX4_change_1 14 rfl rfl)
theorem dX4_change_40 : decode cX4_change 40 = .ok (.iload_n 3, 1) := dk_29 (dk_at dksX4_change_1 17 rfl rfl)
theorem dX4_change_41 : decode cX4_change 41 = .ok (.iload 4, 2) := dk_21 4 (dk_at dksX4_change_1 18 rfl rfl)
theorem dX4_change_43 : decode cX4_change 43 = .ok (.ifCond .ne 7, 3) := dk_154 0 7 (dk_at dksX4_change_1 20 rfl rfl)
theorem dX4_change_46 : decode cX4_change 46 = .ok (.iconst 0, 1) := dk_3 (dk_at dksX4_change_1 23 rfl rfl)
theorem dX4_change_47 : decode cX4_change 47 = .ok (.goto 4, 3) := dk_167 0 4 (dk_at dksX4_change_2 0 rfl rfl)
theorem dX4_change_50 : decode cX4_change 50 = .ok (.iconst 2, 1) := dk_5 (dk_at dksX4_change_2 3 rfl rfl)
theorem dX4_change_51 : decode cX4_change 51 = .ok (.invokestatic 46, 3) := dk_184 0 46 (dk_at dksX4_change_2 4 rfl rfl)
theorem dX4_change_54 : decode cX4_change 54 = .ok (.iaload, 1) := dk_46 (dk_at dksX4_change_2 7 rfl rfl)
theorem dX4_change_55 : decode cX4_change 55 = .ok (.ireturn, 1) := dk_172 (dk_at dksX4_change_2 8 rfl rfl)
abbrev cX4_rally : ByteArray := prog_21_method_69_code
def yX4_rally : MethodName := ⟨RX4, "rally", "(II)I"⟩
def dkwX4_rally_1 : List UInt8 := [27, 182, 0, 212, 28, 154, 0, 10, 42, 180, 0, 203, 167, 0, 7, 42, 180, 0, 206, 172]
abbrev dktX4_rally_1 : List UInt8 := dkwX4_rally_1 ++ []
def dkwX4_rally_0 : List UInt8 := [28, 3, 4, 184, 0, 53, 154, 0, 5, 2, 172, 42, 27, 182, 0, 209, 62, 29, 153, 0, 5, 29, 172, 42]
abbrev dktX4_rally_0 : List UInt8 := dkwX4_rally_0 ++ dktX4_rally_1
theorem dksX4_rally_0 : cX4_rally.data.toList.drop 0 = dktX4_rally_0 := by decide +kernel
theorem dksX4_rally_1 : cX4_rally.data.toList.drop 24 = dktX4_rally_1 := dk_seg dksX4_rally_0 24 rfl rfl
theorem dX4_rally_0 : decode cX4_rally 0 = .ok (.iload_n 2, 1) := dk_28 (dk_at dksX4_rally_0 0 rfl rfl)
theorem dX4_rally_1 : decode cX4_rally 1 = .ok (.iconst 0, 1) := dk_3 (dk_at dksX4_rally_0 1 rfl rfl)
theorem dX4_rally_2 : decode cX4_rally 2 = .ok (.iconst 1, 1) := dk_4 (dk_at dksX4_rally_0 2 rfl rfl)
theorem dX4_rally_3 : decode cX4_rally 3 = .ok (.invokestatic 53, 3) := dk_184 0 53 (dk_at dksX4_rally_0 3 rfl rfl)
theorem dX4_rally_6 : decode cX4_rally 6 = .ok (.ifCond .ne 5, 3) := dk_154 0 5 (dk_at dksX4_rally_0 6 rfl rfl)
theorem dX4_rally_9 : decode cX4_rally 9 = .ok (.iconst (-1), 1) := dk_2 (dk_at dksX4_rally_0 9 rfl rfl)
theorem dX4_rally_10 : decode cX4_rally 10 = .ok (.ireturn, 1) := dk_172 (dk_at dksX4_rally_0 10 rfl rfl)
theorem dX4_rally_11 : decode cX4_rally 11 = .ok (.aload_n 0, 1) := dk_42 (dk_at dksX4_rally_0 11 rfl rfl)
theorem dX4_rally_12 : decode cX4_rally 12 = .ok (.iload_n 1, 1) := dk_27 (dk_at dksX4_rally_0 12 rfl rfl)
theorem dX4_rally_13 : decode cX4_rally 13 = .ok (.invokevirtual 209, 3) := dk_182 0 209 (dk_at dksX4_rally_0 13 rfl rfl)
theorem dX4_rally_16 : decode cX4_rally 16 = .ok (.istore_n 3, 1) := dk_62 (dk_at dksX4_rally_0 16 rfl rfl)
theorem dX4_rally_17 : decode cX4_rally 17 = .ok (.iload_n 3, 1) := dk_29 (dk_at dksX4_rally_0 17 rfl rfl)
theorem dX4_rally_18 : decode cX4_rally 18 = .ok (.ifCond .eq 5, 3) := dk_153 0 5 (dk_at dksX4_rally_0 18 rfl rfl)
theorem dX4_rally_21 : decode cX4_rally 21 = .ok (.iload_n 3, 1) := dk_29 (dk_at dksX4_rally_0 21 rfl rfl)
theorem dX4_rally_22 : decode cX4_rally 22 = .ok (.ireturn, 1) := dk_172 (dk_at dksX4_rally_0 22 rfl rfl)
theorem dX4_rally_23 : decode cX4_rally 23 = .ok (.aload_n 0, 1) := dk_42 (dk_at dksX4_rally_0 23 rfl rfl)
theorem dX4_rally_24 : decode cX4_rally 24 = .ok (.iload_n 1, 1) := dk_27 (dk_at dksX4_rally_1 0 rfl rfl)
theorem dX4_rally_25 : decode cX4_rally 25 = .ok (.invokevirtual 212, 3) := dk_182 0 212 (dk_at dksX4_rally_1 1 rfl rfl)
theorem dX4_rally_28 : decode cX4_rally 28 = .ok (.iload_n 2, 1) := dk_28 (dk_at dksX4_rally_1 4 rfl rfl)
theorem dX4_rally_29 : decode cX4_rally 29 = .ok (.ifCond .ne 10, 3) := dk_154 0 10 (dk_at dksX4_rally_1 5 rfl rfl)
theorem dX4_rally_32 : decode cX4_rally 32 = .ok (.aload_n 0, 1) := dk_42 (dk_at dksX4_rally_1 8 rfl rfl)
theorem dX4_rally_33 : decode cX4_rally 33 = .ok (.getfield 203, 3) := dk_180 0 203 (dk_at dksX4_rally_1 9 rfl rfl)
theorem dX4_rally_36 : decode cX4_rally 36 = .ok (.goto 7, 3) := dk_167 0 7 (dk_at dksX4_rally_1 12 rfl rfl)
theorem dX4_rally_39 : decode cX4_rally 39 = .ok (.aload_n 0, 1) := dk_42 (dk_at dksX4_rally_1 15 rfl rfl)
theorem dX4_rally_40 : decode cX4_rally 40 = .ok (.getfield 206, 3) := dk_180 0 206 (dk_at dksX4_rally_1 16 rfl rfl)
theorem dX4_rally_43 : decode cX4_rally 43 = .ok (.ireturn, 1) := dk_172 (dk_at dksX4_rally_1 19 rfl rfl)
abbrev cX4_wrongRally : ByteArray := prog_21_method_67_code
def yX4_wrongRally : MethodName := ⟨RX4, "wrongRally", "(I)I"⟩
def dkwX4_wrongRally_3 : List UInt8 := [154, 0, 6, 16, 243, 61, 132, 3, 2, 167, 255, 205, 28, 172]
abbrev dktX4_wrongRally_3 : List UInt8 := dkwX4_wrongRally_3 ++ []
def dkwX4_wrongRally_2 : List UInt8 := [16, 100, 27, 104, 29, 96, 46, 42, 180, 0, 43, 16, 100, 27, 104, 29, 96, 4, 96, 46, 182, 0, 174]
abbrev dktX4_wrongRally_2 : List UInt8 := dkwX4_wrongRally_2 ++ dktX4_wrongRally_3
def dkwX4_wrongRally_1 : List UInt8 := [16, 243, 61, 3, 62, 28, 154, 0, 53, 29, 42, 180, 0, 40, 27, 46, 162, 0, 43, 42, 42, 180, 0, 43]
abbrev dktX4_wrongRally_1 : List UInt8 := dkwX4_wrongRally_1 ++ dktX4_wrongRally_2
def dkwX4_wrongRally_0 : List UInt8 := [42, 27, 2, 182, 0, 152, 61, 28, 154, 0, 18, 42, 180, 0, 40, 27, 46, 5, 112, 4, 160, 0, 6]
abbrev dktX4_wrongRally_0 : List UInt8 := dkwX4_wrongRally_0 ++ dktX4_wrongRally_1
theorem dksX4_wrongRally_0 : cX4_wrongRally.data.toList.drop 0 = dktX4_wrongRally_0 := by decide +kernel
theorem dksX4_wrongRally_1 : cX4_wrongRally.data.toList.drop 23 = dktX4_wrongRally_1 := dk_seg dksX4_wrongRally_0 23 rfl rfl
theorem dksX4_wrongRally_2 : cX4_wrongRally.data.toList.drop 47 = dktX4_wrongRally_2 := dk_seg dksX4_wrongRally_1 24 rfl rfl
theorem dksX4_wrongRally_3 : cX4_wrongRally.data.toList.drop 70 = dktX4_wrongRally_3 := dk_seg dksX4_wrongRally_2 23 rfl rfl
theorem dX4_wrongRally_0 : decode cX4_wrongRally 0 = .ok (.aload_n 0, 1) := dk_42 (dk_at dksX4_wrongRally_0 0 rfl rfl)
theorem dX4_wrongRally_1 : decode cX4_wrongRally 1 = .ok (.iload_n 1, 1) := dk_27 (dk_at dksX4_wrongRally_0 1 rfl rfl)
theorem dX4_wrongRally_2 : decode cX4_wrongRally 2 = .ok (.iconst (-1), 1) := dk_2 (dk_at dksX4_wrongRally_0 2 rfl rfl)
theorem dX4_wrongRally_3 : decode cX4_wrongRally 3 = .ok (.invokevirtual 152, 3) := dk_182 0 152 (dk_at dksX4_wrongRally_0 3 rfl rfl)
theorem dX4_wrongRally_6 : decode cX4_wrongRally 6 = .ok (.istore_n 2, 1) := dk_61 (dk_at dksX4_wrongRally_0 6 rfl rfl)
theorem dX4_wrongRally_7 : decode cX4_wrongRally 7 = .ok (.iload_n 2, 1) := dk_28 (dk_at dksX4_wrongRally_0 7 rfl rfl)
theorem dX4_wrongRally_8 : decode cX4_wrongRally 8 = .ok (.ifCond .ne 18, 3) := dk_154 0 18 (dk_at dksX4_wrongRally_0 8 rfl rfl)
theorem dX4_wrongRally_11 : decode cX4_wrongRally 11 = .ok (.aload_n 0, 1) := dk_42 (dk_at dksX4_wrongRally_0 11 rfl rfl)
theorem dX4_wrongRally_12 : decode cX4_wrongRally 12 = .ok (.getfield 40, 3) := dk_180 0 40 (dk_at dksX4_wrongRally_0 12 rfl rfl)
theorem dX4_wrongRally_15 : decode cX4_wrongRally 15 = .ok (.iload_n 1, 1) := dk_27 (dk_at dksX4_wrongRally_0 15 rfl rfl)
theorem dX4_wrongRally_16 : decode cX4_wrongRally 16 = .ok (.iaload, 1) := dk_46 (dk_at dksX4_wrongRally_0 16 rfl rfl)
theorem dX4_wrongRally_17 : decode cX4_wrongRally 17 = .ok (.iconst 2, 1) := dk_5 (dk_at dksX4_wrongRally_0 17 rfl rfl)
theorem dX4_wrongRally_18 : decode cX4_wrongRally 18 = .ok (.irem, 1) := dk_112 (dk_at dksX4_wrongRally_0 18 rfl rfl)
theorem dX4_wrongRally_19 : decode cX4_wrongRally 19 = .ok (.iconst 1, 1) := dk_4 (dk_at dksX4_wrongRally_0 19 rfl rfl)
theorem dX4_wrongRally_20 : decode cX4_wrongRally 20 = .ok (.if_icmp .ne 6, 3) := dk_160 0 6 (dk_at dksX4_wrongRally_0 20 rfl rfl)
theorem dX4_wrongRally_23 : decode cX4_wrongRally 23 = .ok (.bipush (-13), 2) := dk_16 243 (dk_at dksX4_wrongRally_1 0 rfl rfl)
theorem dX4_wrongRally_25 : decode cX4_wrongRally 25 = .ok (.istore_n 2, 1) := dk_61 (dk_at dksX4_wrongRally_1 2 rfl rfl)
theorem dX4_wrongRally_26 : decode cX4_wrongRally 26 = .ok (.iconst 0, 1) := dk_3 (dk_at dksX4_wrongRally_1 3 rfl rfl)
theorem dX4_wrongRally_27 : decode cX4_wrongRally 27 = .ok (.istore_n 3, 1) := dk_62 (dk_at dksX4_wrongRally_1 4 rfl rfl)
theorem dX4_wrongRally_28 : decode cX4_wrongRally 28 = .ok (.iload_n 2, 1) := dk_28 (dk_at dksX4_wrongRally_1 5 rfl rfl)
theorem dX4_wrongRally_29 : decode cX4_wrongRally 29 = .ok (.ifCond .ne 53, 3) := dk_154 0 53 (dk_at dksX4_wrongRally_1 6 rfl rfl)
theorem dX4_wrongRally_32 : decode cX4_wrongRally 32 = .ok (.iload_n 3, 1) := dk_29 (dk_at dksX4_wrongRally_1 9 rfl rfl)
theorem dX4_wrongRally_33 : decode cX4_wrongRally 33 = .ok (.aload_n 0, 1) := dk_42 (dk_at dksX4_wrongRally_1 10 rfl rfl)
theorem dX4_wrongRally_34 : decode cX4_wrongRally 34 = .ok (.getfield 40, 3) := dk_180 0 40 (dk_at dksX4_wrongRally_1 11 rfl rfl)
theorem dX4_wrongRally_37 : decode cX4_wrongRally 37 = .ok (.iload_n 1, 1) := dk_27 (dk_at dksX4_wrongRally_1 14 rfl rfl)
theorem dX4_wrongRally_38 : decode cX4_wrongRally 38 = .ok (.iaload, 1) := dk_46 (dk_at dksX4_wrongRally_1 15 rfl rfl)
theorem dX4_wrongRally_39 : decode cX4_wrongRally 39 = .ok (.if_icmp .ge 43, 3) := dk_162 0 43 (dk_at dksX4_wrongRally_1 16 rfl rfl)
theorem dX4_wrongRally_42 : decode cX4_wrongRally 42 = .ok (.aload_n 0, 1) := dk_42 (dk_at dksX4_wrongRally_1 19 rfl rfl)
theorem dX4_wrongRally_43 : decode cX4_wrongRally 43 = .ok (.aload_n 0, 1) := dk_42 (dk_at dksX4_wrongRally_1 20 rfl rfl)
theorem dX4_wrongRally_44 : decode cX4_wrongRally 44 = .ok (.getfield 43, 3) := dk_180 0 43 (dk_at dksX4_wrongRally_1 21 rfl rfl)
theorem dX4_wrongRally_47 : decode cX4_wrongRally 47 = .ok (.bipush 100, 2) := dk_16 100 (dk_at dksX4_wrongRally_2 0 rfl rfl)
theorem dX4_wrongRally_49 : decode cX4_wrongRally 49 = .ok (.iload_n 1, 1) := dk_27 (dk_at dksX4_wrongRally_2 2 rfl rfl)
theorem dX4_wrongRally_50 : decode cX4_wrongRally 50 = .ok (.imul, 1) := dk_104 (dk_at dksX4_wrongRally_2 3 rfl rfl)
theorem dX4_wrongRally_51 : decode cX4_wrongRally 51 = .ok (.iload_n 3, 1) := dk_29 (dk_at dksX4_wrongRally_2 4 rfl rfl)
theorem dX4_wrongRally_52 : decode cX4_wrongRally 52 = .ok (.iadd, 1) := dk_96 (dk_at dksX4_wrongRally_2 5 rfl rfl)
theorem dX4_wrongRally_53 : decode cX4_wrongRally 53 = .ok (.iaload, 1) := dk_46 (dk_at dksX4_wrongRally_2 6 rfl rfl)
theorem dX4_wrongRally_54 : decode cX4_wrongRally 54 = .ok (.aload_n 0, 1) := dk_42 (dk_at dksX4_wrongRally_2 7 rfl rfl)
theorem dX4_wrongRally_55 : decode cX4_wrongRally 55 = .ok (.getfield 43, 3) := dk_180 0 43 (dk_at dksX4_wrongRally_2 8 rfl rfl)
theorem dX4_wrongRally_58 : decode cX4_wrongRally 58 = .ok (.bipush 100, 2) := dk_16 100 (dk_at dksX4_wrongRally_2 11 rfl rfl)
theorem dX4_wrongRally_60 : decode cX4_wrongRally 60 = .ok (.iload_n 1, 1) := dk_27 (dk_at dksX4_wrongRally_2 13 rfl rfl)
theorem dX4_wrongRally_61 : decode cX4_wrongRally 61 = .ok (.imul, 1) := dk_104 (dk_at dksX4_wrongRally_2 14 rfl rfl)
theorem dX4_wrongRally_62 : decode cX4_wrongRally 62 = .ok (.iload_n 3, 1) := dk_29 (dk_at dksX4_wrongRally_2 15 rfl rfl)
theorem dX4_wrongRally_63 : decode cX4_wrongRally 63 = .ok (.iadd, 1) := dk_96 (dk_at dksX4_wrongRally_2 16 rfl rfl)
theorem dX4_wrongRally_64 : decode cX4_wrongRally 64 = .ok (.iconst 1, 1) := dk_4 (dk_at dksX4_wrongRally_2 17 rfl rfl)
theorem dX4_wrongRally_65 : decode cX4_wrongRally 65 = .ok (.iadd, 1) := dk_96 (dk_at dksX4_wrongRally_2 18 rfl rfl)
theorem dX4_wrongRally_66 : decode cX4_wrongRally 66 = .ok (.iaload, 1) := dk_46 (dk_at dksX4_wrongRally_2 19 rfl rfl)
theorem dX4_wrongRally_67 : decode cX4_wrongRally 67 = .ok (.invokevirtual 174, 3) := dk_182 0 174 (dk_at dksX4_wrongRally_2 20 rfl rfl)
theorem dX4_wrongRally_70 : decode cX4_wrongRally 70 = .ok (.ifCond .ne 6, 3) := dk_154 0 6 (dk_at dksX4_wrongRally_3 0 rfl rfl)
theorem dX4_wrongRally_73 : decode cX4_wrongRally 73 = .ok (.bipush (-13), 2) := dk_16 243 (dk_at dksX4_wrongRally_3 3 rfl rfl)
theorem dX4_wrongRally_75 : decode cX4_wrongRally 75 = .ok (.istore_n 2, 1) := dk_61 (dk_at dksX4_wrongRally_3 5 rfl rfl)
theorem dX4_wrongRally_76 : decode cX4_wrongRally 76 = .ok (.iinc 3 2, 3) := dk_132 3 2 (dk_at dksX4_wrongRally_3 6 rfl rfl)
theorem dX4_wrongRally_79 : decode cX4_wrongRally 79 = .ok (.goto (-51), 3) := dk_167 255 205 (dk_at dksX4_wrongRally_3 9 rfl rfl)
theorem dX4_wrongRally_82 : decode cX4_wrongRally 82 = .ok (.iload_n 2, 1) := dk_28 (dk_at dksX4_wrongRally_3 12 rfl rfl)
theorem dX4_wrongRally_83 : decode cX4_wrongRally 83 = .ok (.ireturn, 1) := dk_172 (dk_at dksX4_wrongRally_3 13 rfl rfl)
abbrev cX4_rallies : ByteArray := prog_21_method_68_code
def yX4_rallies : MethodName := ⟨RX4, "rallies", "(I)V"⟩
def dkwX4_rallies_5 : List UInt8 := [181, 0, 203, 132, 2, 2, 167, 255, 175, 177]
abbrev dktX4_rallies_5 : List UInt8 := dkwX4_rallies_5 ++ []
def dkwX4_rallies_4 : List UInt8 := [96, 4, 96, 46, 182, 0, 149, 153, 0, 8, 42, 29, 181, 0, 206, 42, 89, 180, 0, 203, 4, 96]
abbrev dktX4_rallies_4 : List UInt8 := dkwX4_rallies_4 ++ dktX4_rallies_5
def dkwX4_rallies_3 : List UInt8 := [42, 180, 0, 13, 42, 180, 0, 43, 16, 100, 27, 104, 28, 96, 46, 42, 180, 0, 43, 16, 100, 27, 104, 28]
abbrev dktX4_rallies_3 : List UInt8 := dkwX4_rallies_3 ++ dktX4_rallies_4
def dkwX4_rallies_2 : List UInt8 := [27, 46, 162, 0, 77, 42, 180, 0, 206, 5, 160, 0, 69, 42, 180, 0, 13, 5, 46, 184, 0, 73, 62, 42]
abbrev dktX4_rallies_2 : List UInt8 := dkwX4_rallies_2 ++ dktX4_rallies_3
def dkwX4_rallies_1 : List UInt8 := [79, 132, 2, 1, 167, 255, 241, 42, 3, 181, 0, 203, 42, 5, 181, 0, 206, 3, 61, 28, 42, 180, 0, 40]
abbrev dktX4_rallies_1 : List UInt8 := dkwX4_rallies_1 ++ dktX4_rallies_2
def dkwX4_rallies_0 : List UInt8 := [42, 180, 0, 9, 42, 180, 0, 13, 184, 0, 158, 3, 61, 28, 7, 162, 0, 16, 42, 180, 0, 22, 28, 3]
abbrev dktX4_rallies_0 : List UInt8 := dkwX4_rallies_0 ++ dktX4_rallies_1
theorem dksX4_rallies_0 : cX4_rallies.data.toList.drop 0 = dktX4_rallies_0 := by decide +kernel
theorem dksX4_rallies_1 : cX4_rallies.data.toList.drop 24 = dktX4_rallies_1 := dk_seg dksX4_rallies_0 24 rfl rfl
theorem dksX4_rallies_2 : cX4_rallies.data.toList.drop 48 = dktX4_rallies_2 := dk_seg dksX4_rallies_1 24 rfl rfl
theorem dksX4_rallies_3 : cX4_rallies.data.toList.drop 72 = dktX4_rallies_3 := dk_seg dksX4_rallies_2 24 rfl rfl
theorem dksX4_rallies_4 : cX4_rallies.data.toList.drop 96 = dktX4_rallies_4 := dk_seg dksX4_rallies_3 24 rfl rfl
theorem dksX4_rallies_5 : cX4_rallies.data.toList.drop 118 = dktX4_rallies_5 := dk_seg dksX4_rallies_4 22 rfl rfl
theorem dX4_rallies_0 : decode cX4_rallies 0 = .ok (.aload_n 0, 1) := dk_42 (dk_at dksX4_rallies_0 0 rfl rfl)
theorem dX4_rallies_1 : decode cX4_rallies 1 = .ok (.getfield 9, 3) := dk_180 0 9 (dk_at dksX4_rallies_0 1 rfl rfl)
theorem dX4_rallies_4 : decode cX4_rallies 4 = .ok (.aload_n 0, 1) := dk_42 (dk_at dksX4_rallies_0 4 rfl rfl)
theorem dX4_rallies_5 : decode cX4_rallies 5 = .ok (.getfield 13, 3) := dk_180 0 13 (dk_at dksX4_rallies_0 5 rfl rfl)
theorem dX4_rallies_8 : decode cX4_rallies 8 = .ok (.invokestatic 158, 3) := dk_184 0 158 (dk_at dksX4_rallies_0 8 rfl rfl)
theorem dX4_rallies_11 : decode cX4_rallies 11 = .ok (.iconst 0, 1) := dk_3 (dk_at dksX4_rallies_0 11 rfl rfl)
theorem dX4_rallies_12 : decode cX4_rallies 12 = .ok (.istore_n 2, 1) := dk_61 (dk_at dksX4_rallies_0 12 rfl rfl)
theorem dX4_rallies_13 : decode cX4_rallies 13 = .ok (.iload_n 2, 1) := dk_28 (dk_at dksX4_rallies_0 13 rfl rfl)
theorem dX4_rallies_14 : decode cX4_rallies 14 = .ok (.iconst 4, 1) := dk_7 (dk_at dksX4_rallies_0 14 rfl rfl)
theorem dX4_rallies_15 : decode cX4_rallies 15 = .ok (.if_icmp .ge 16, 3) := dk_162 0 16 (dk_at dksX4_rallies_0 15 rfl rfl)
theorem dX4_rallies_18 : decode cX4_rallies 18 = .ok (.aload_n 0, 1) := dk_42 (dk_at dksX4_rallies_0 18 rfl rfl)
theorem dX4_rallies_19 : decode cX4_rallies 19 = .ok (.getfield 22, 3) := dk_180 0 22 (dk_at dksX4_rallies_0 19 rfl rfl)
theorem dX4_rallies_22 : decode cX4_rallies 22 = .ok (.iload_n 2, 1) := dk_28 (dk_at dksX4_rallies_0 22 rfl rfl)
theorem dX4_rallies_23 : decode cX4_rallies 23 = .ok (.iconst 0, 1) := dk_3 (dk_at dksX4_rallies_0 23 rfl rfl)
theorem dX4_rallies_24 : decode cX4_rallies 24 = .ok (.iastore, 1) := dk_79 (dk_at dksX4_rallies_1 0 rfl rfl)
theorem dX4_rallies_25 : decode cX4_rallies 25 = .ok (.iinc 2 1, 3) := dk_132 2 1 (dk_at dksX4_rallies_1 1 rfl rfl)
theorem dX4_rallies_28 : decode cX4_rallies 28 = .ok (.goto (-15), 3) := dk_167 255 241 (dk_at dksX4_rallies_1 4 rfl rfl)
theorem dX4_rallies_31 : decode cX4_rallies 31 = .ok (.aload_n 0, 1) := dk_42 (dk_at dksX4_rallies_1 7 rfl rfl)
theorem dX4_rallies_32 : decode cX4_rallies 32 = .ok (.iconst 0, 1) := dk_3 (dk_at dksX4_rallies_1 8 rfl rfl)
theorem dX4_rallies_33 : decode cX4_rallies 33 = .ok (.putfield 203, 3) := dk_181 0 203 (dk_at dksX4_rallies_1 9 rfl rfl)
theorem dX4_rallies_36 : decode cX4_rallies 36 = .ok (.aload_n 0, 1) := dk_42 (dk_at dksX4_rallies_1 12 rfl rfl)
theorem dX4_rallies_37 : decode cX4_rallies 37 = .ok (.iconst 2, 1) := dk_5 (dk_at dksX4_rallies_1 13 rfl rfl)
theorem dX4_rallies_38 : decode cX4_rallies 38 = .ok (.putfield 206, 3) := dk_181 0 206 (dk_at dksX4_rallies_1 14 rfl rfl)
theorem dX4_rallies_41 : decode cX4_rallies 41 = .ok (.iconst 0, 1) := dk_3 (dk_at dksX4_rallies_1 17 rfl rfl)
theorem dX4_rallies_42 : decode cX4_rallies 42 = .ok (.istore_n 2, 1) := dk_61 (dk_at dksX4_rallies_1 18 rfl rfl)
theorem dX4_rallies_43 : decode cX4_rallies 43 = .ok (.iload_n 2, 1) := dk_28 (dk_at dksX4_rallies_1 19 rfl rfl)
theorem dX4_rallies_44 : decode cX4_rallies 44 = .ok (.aload_n 0, 1) := dk_42 (dk_at dksX4_rallies_1 20 rfl rfl)
theorem dX4_rallies_45 : decode cX4_rallies 45 = .ok (.getfield 40, 3) := dk_180 0 40 (dk_at dksX4_rallies_1 21 rfl rfl)
theorem dX4_rallies_48 : decode cX4_rallies 48 = .ok (.iload_n 1, 1) := dk_27 (dk_at dksX4_rallies_2 0 rfl rfl)
theorem dX4_rallies_49 : decode cX4_rallies 49 = .ok (.iaload, 1) := dk_46 (dk_at dksX4_rallies_2 1 rfl rfl)
theorem dX4_rallies_50 : decode cX4_rallies 50 = .ok (.if_icmp .ge 77, 3) := dk_162 0 77 (dk_at dksX4_rallies_2 2 rfl rfl)
theorem dX4_rallies_53 : decode cX4_rallies 53 = .ok (.aload_n 0, 1) := dk_42 (dk_at dksX4_rallies_2 5 rfl rfl)
theorem dX4_rallies_54 : decode cX4_rallies 54 = .ok (.getfield 206, 3) := dk_180 0 206 (dk_at dksX4_rallies_2 6 rfl rfl)
theorem dX4_rallies_57 : decode cX4_rallies 57 = .ok (.iconst 2, 1) := dk_5 (dk_at dksX4_rallies_2 9 rfl rfl)
theorem dX4_rallies_58 : decode cX4_rallies 58 = .ok (.if_icmp .ne 69, 3) := dk_160 0 69 (dk_at dksX4_rallies_2 10 rfl rfl)
theorem dX4_rallies_61 : decode cX4_rallies 61 = .ok (.aload_n 0, 1) := dk_42 (dk_at dksX4_rallies_2 13 rfl rfl)
theorem dX4_rallies_62 : decode cX4_rallies 62 = .ok (.getfield 13, 3) := dk_180 0 13 (dk_at dksX4_rallies_2 14 rfl rfl)
theorem dX4_rallies_65 : decode cX4_rallies 65 = .ok (.iconst 2, 1) := dk_5 (dk_at dksX4_rallies_2 17 rfl rfl)
theorem dX4_rallies_66 : decode cX4_rallies 66 = .ok (.iaload, 1) := dk_46 (dk_at dksX4_rallies_2 18 rfl rfl)
theorem dX4_rallies_67 : decode cX4_rallies 67 = .ok (.invokestatic 73, 3) := dk_184 0 73 (dk_at dksX4_rallies_2 19 rfl rfl)
theorem dX4_rallies_70 : decode cX4_rallies 70 = .ok (.istore_n 3, 1) := dk_62 (dk_at dksX4_rallies_2 22 rfl rfl)
theorem dX4_rallies_71 : decode cX4_rallies 71 = .ok (.aload_n 0, 1) := dk_42 (dk_at dksX4_rallies_2 23 rfl rfl)
theorem dX4_rallies_72 : decode cX4_rallies 72 = .ok (.aload_n 0, 1) := dk_42 (dk_at dksX4_rallies_3 0 rfl rfl)
theorem dX4_rallies_73 : decode cX4_rallies 73 = .ok (.getfield 13, 3) := dk_180 0 13 (dk_at dksX4_rallies_3 1 rfl rfl)
theorem dX4_rallies_76 : decode cX4_rallies 76 = .ok (.aload_n 0, 1) := dk_42 (dk_at dksX4_rallies_3 4 rfl rfl)
theorem dX4_rallies_77 : decode cX4_rallies 77 = .ok (.getfield 43, 3) := dk_180 0 43 (dk_at dksX4_rallies_3 5 rfl rfl)
theorem dX4_rallies_80 : decode cX4_rallies 80 = .ok (.bipush 100, 2) := dk_16 100 (dk_at dksX4_rallies_3 8 rfl rfl)
theorem dX4_rallies_82 : decode cX4_rallies 82 = .ok (.iload_n 1, 1) := dk_27 (dk_at dksX4_rallies_3 10 rfl rfl)
theorem dX4_rallies_83 : decode cX4_rallies 83 = .ok (.imul, 1) := dk_104 (dk_at dksX4_rallies_3 11 rfl rfl)
theorem dX4_rallies_84 : decode cX4_rallies 84 = .ok (.iload_n 2, 1) := dk_28 (dk_at dksX4_rallies_3 12 rfl rfl)
theorem dX4_rallies_85 : decode cX4_rallies 85 = .ok (.iadd, 1) := dk_96 (dk_at dksX4_rallies_3 13 rfl rfl)
theorem dX4_rallies_86 : decode cX4_rallies 86 = .ok (.iaload, 1) := dk_46 (dk_at dksX4_rallies_3 14 rfl rfl)
theorem dX4_rallies_87 : decode cX4_rallies 87 = .ok (.aload_n 0, 1) := dk_42 (dk_at dksX4_rallies_3 15 rfl rfl)
theorem dX4_rallies_88 : decode cX4_rallies 88 = .ok (.getfield 43, 3) := dk_180 0 43 (dk_at dksX4_rallies_3 16 rfl rfl)
theorem dX4_rallies_91 : decode cX4_rallies 91 = .ok (.bipush 100, 2) := dk_16 100 (dk_at dksX4_rallies_3 19 rfl rfl)
theorem dX4_rallies_93 : decode cX4_rallies 93 = .ok (.iload_n 1, 1) := dk_27 (dk_at dksX4_rallies_3 21 rfl rfl)
theorem dX4_rallies_94 : decode cX4_rallies 94 = .ok (.imul, 1) := dk_104 (dk_at dksX4_rallies_3 22 rfl rfl)
theorem dX4_rallies_95 : decode cX4_rallies 95 = .ok (.iload_n 2, 1) := dk_28 (dk_at dksX4_rallies_3 23 rfl rfl)
theorem dX4_rallies_96 : decode cX4_rallies 96 = .ok (.iadd, 1) := dk_96 (dk_at dksX4_rallies_4 0 rfl rfl)
theorem dX4_rallies_97 : decode cX4_rallies 97 = .ok (.iconst 1, 1) := dk_4 (dk_at dksX4_rallies_4 1 rfl rfl)
theorem dX4_rallies_98 : decode cX4_rallies 98 = .ok (.iadd, 1) := dk_96 (dk_at dksX4_rallies_4 2 rfl rfl)
theorem dX4_rallies_99 : decode cX4_rallies 99 = .ok (.iaload, 1) := dk_46 (dk_at dksX4_rallies_4 3 rfl rfl)
theorem dX4_rallies_100 : decode cX4_rallies 100 = .ok (.invokevirtual 149, 3) := dk_182 0 149 (dk_at dksX4_rallies_4 4 rfl rfl)
theorem dX4_rallies_103 : decode cX4_rallies 103 = .ok (.ifCond .eq 8, 3) := dk_153 0 8 (dk_at dksX4_rallies_4 7 rfl rfl)
theorem dX4_rallies_106 : decode cX4_rallies 106 = .ok (.aload_n 0, 1) := dk_42 (dk_at dksX4_rallies_4 10 rfl rfl)
theorem dX4_rallies_107 : decode cX4_rallies 107 = .ok (.iload_n 3, 1) := dk_29 (dk_at dksX4_rallies_4 11 rfl rfl)
theorem dX4_rallies_108 : decode cX4_rallies 108 = .ok (.putfield 206, 3) := dk_181 0 206 (dk_at dksX4_rallies_4 12 rfl rfl)
theorem dX4_rallies_111 : decode cX4_rallies 111 = .ok (.aload_n 0, 1) := dk_42 (dk_at dksX4_rallies_4 15 rfl rfl)
theorem dX4_rallies_112 : decode cX4_rallies 112 = .ok (.dup, 1) := dk_89 (dk_at dksX4_rallies_4 16 rfl rfl)
theorem dX4_rallies_113 : decode cX4_rallies 113 = .ok (.getfield 203, 3) := dk_180 0 203 (dk_at dksX4_rallies_4 17 rfl rfl)
theorem dX4_rallies_116 : decode cX4_rallies 116 = .ok (.iconst 1, 1) := dk_4 (dk_at dksX4_rallies_4 20 rfl rfl)
theorem dX4_rallies_117 : decode cX4_rallies 117 = .ok (.iadd, 1) := dk_96 (dk_at dksX4_rallies_4 21 rfl rfl)
theorem dX4_rallies_118 : decode cX4_rallies 118 = .ok (.putfield 203, 3) := dk_181 0 203 (dk_at dksX4_rallies_5 0 rfl rfl)
theorem dX4_rallies_121 : decode cX4_rallies 121 = .ok (.iinc 2 2, 3) := dk_132 2 2 (dk_at dksX4_rallies_5 3 rfl rfl)
theorem dX4_rallies_124 : decode cX4_rallies 124 = .ok (.goto (-81), 3) := dk_167 255 175 (dk_at dksX4_rallies_5 6 rfl rfl)
theorem dX4_rallies_127 : decode cX4_rallies 127 = .ok (.return_, 1) := dk_177 (dk_at dksX4_rallies_5 9 rfl rfl)
abbrev cX4_ways : ByteArray := prog_21_method_70_code
def yX4_ways : MethodName := ⟨RX4, "ways", "(II)I"⟩
def dkwX4_ways_1 : List UInt8 := [182, 0, 212, 42, 180, 0, 22, 28, 46, 172]
abbrev dktX4_ways_1 : List UInt8 := dkwX4_ways_1 ++ []
def dkwX4_ways_0 : List UInt8 := [28, 184, 0, 135, 154, 0, 5, 2, 172, 42, 27, 182, 0, 209, 62, 29, 153, 0, 5, 29, 172, 42, 27]
abbrev dktX4_ways_0 : List UInt8 := dkwX4_ways_0 ++ dktX4_ways_1
theorem dksX4_ways_0 : cX4_ways.data.toList.drop 0 = dktX4_ways_0 := by decide +kernel
theorem dksX4_ways_1 : cX4_ways.data.toList.drop 23 = dktX4_ways_1 := dk_seg dksX4_ways_0 23 rfl rfl
theorem dX4_ways_0 : decode cX4_ways 0 = .ok (.iload_n 2, 1) := dk_28 (dk_at dksX4_ways_0 0 rfl rfl)
theorem dX4_ways_1 : decode cX4_ways 1 = .ok (.invokestatic 135, 3) := dk_184 0 135 (dk_at dksX4_ways_0 1 rfl rfl)
theorem dX4_ways_4 : decode cX4_ways 4 = .ok (.ifCond .ne 5, 3) := dk_154 0 5 (dk_at dksX4_ways_0 4 rfl rfl)
theorem dX4_ways_7 : decode cX4_ways 7 = .ok (.iconst (-1), 1) := dk_2 (dk_at dksX4_ways_0 7 rfl rfl)
theorem dX4_ways_8 : decode cX4_ways 8 = .ok (.ireturn, 1) := dk_172 (dk_at dksX4_ways_0 8 rfl rfl)
theorem dX4_ways_9 : decode cX4_ways 9 = .ok (.aload_n 0, 1) := dk_42 (dk_at dksX4_ways_0 9 rfl rfl)
theorem dX4_ways_10 : decode cX4_ways 10 = .ok (.iload_n 1, 1) := dk_27 (dk_at dksX4_ways_0 10 rfl rfl)
theorem dX4_ways_11 : decode cX4_ways 11 = .ok (.invokevirtual 209, 3) := dk_182 0 209 (dk_at dksX4_ways_0 11 rfl rfl)
theorem dX4_ways_14 : decode cX4_ways 14 = .ok (.istore_n 3, 1) := dk_62 (dk_at dksX4_ways_0 14 rfl rfl)
theorem dX4_ways_15 : decode cX4_ways 15 = .ok (.iload_n 3, 1) := dk_29 (dk_at dksX4_ways_0 15 rfl rfl)
theorem dX4_ways_16 : decode cX4_ways 16 = .ok (.ifCond .eq 5, 3) := dk_153 0 5 (dk_at dksX4_ways_0 16 rfl rfl)
theorem dX4_ways_19 : decode cX4_ways 19 = .ok (.iload_n 3, 1) := dk_29 (dk_at dksX4_ways_0 19 rfl rfl)
theorem dX4_ways_20 : decode cX4_ways 20 = .ok (.ireturn, 1) := dk_172 (dk_at dksX4_ways_0 20 rfl rfl)
theorem dX4_ways_21 : decode cX4_ways 21 = .ok (.aload_n 0, 1) := dk_42 (dk_at dksX4_ways_0 21 rfl rfl)
theorem dX4_ways_22 : decode cX4_ways 22 = .ok (.iload_n 1, 1) := dk_27 (dk_at dksX4_ways_0 22 rfl rfl)
theorem dX4_ways_23 : decode cX4_ways 23 = .ok (.invokevirtual 212, 3) := dk_182 0 212 (dk_at dksX4_ways_1 0 rfl rfl)
theorem dX4_ways_26 : decode cX4_ways 26 = .ok (.aload_n 0, 1) := dk_42 (dk_at dksX4_ways_1 3 rfl rfl)
theorem dX4_ways_27 : decode cX4_ways 27 = .ok (.getfield 22, 3) := dk_180 0 22 (dk_at dksX4_ways_1 4 rfl rfl)
theorem dX4_ways_30 : decode cX4_ways 30 = .ok (.iload_n 2, 1) := dk_28 (dk_at dksX4_ways_1 7 rfl rfl)
theorem dX4_ways_31 : decode cX4_ways 31 = .ok (.iaload, 1) := dk_46 (dk_at dksX4_ways_1 8 rfl rfl)
theorem dX4_ways_32 : decode cX4_ways 32 = .ok (.ireturn, 1) := dk_172 (dk_at dksX4_ways_1 9 rfl rfl)
abbrev cX4_spent : ByteArray := prog_21_method_71_code
def yX4_spent : MethodName := ⟨RX4, "spent", "(I)I"⟩
def dkwX4_spent_2 : List UInt8 := [46, 164, 0, 6, 21, 4, 62, 132, 4, 1, 167, 255, 220, 29, 172]
abbrev dktX4_spent_2 : List UInt8 := dkwX4_spent_2 ++ []
def dkwX4_spent_1 : List UInt8 := [7, 162, 0, 36, 42, 180, 0, 13, 21, 4, 5, 184, 0, 46, 46, 42, 180, 0, 13, 29, 5, 184, 0, 46]
abbrev dktX4_spent_1 : List UInt8 := dkwX4_spent_1 ++ dktX4_spent_2
def dkwX4_spent_0 : List UInt8 := [42, 27, 182, 0, 209, 61, 28, 153, 0, 5, 28, 172, 42, 27, 182, 0, 212, 3, 62, 3, 54, 4, 21, 4]
abbrev dktX4_spent_0 : List UInt8 := dkwX4_spent_0 ++ dktX4_spent_1
theorem dksX4_spent_0 : cX4_spent.data.toList.drop 0 = dktX4_spent_0 := by decide +kernel
theorem dksX4_spent_1 : cX4_spent.data.toList.drop 24 = dktX4_spent_1 := dk_seg dksX4_spent_0 24 rfl rfl
theorem dksX4_spent_2 : cX4_spent.data.toList.drop 48 = dktX4_spent_2 := dk_seg dksX4_spent_1 24 rfl rfl
theorem dX4_spent_0 : decode cX4_spent 0 = .ok (.aload_n 0, 1) := dk_42 (dk_at dksX4_spent_0 0 rfl rfl)
theorem dX4_spent_1 : decode cX4_spent 1 = .ok (.iload_n 1, 1) := dk_27 (dk_at dksX4_spent_0 1 rfl rfl)
theorem dX4_spent_2 : decode cX4_spent 2 = .ok (.invokevirtual 209, 3) := dk_182 0 209 (dk_at dksX4_spent_0 2 rfl rfl)
theorem dX4_spent_5 : decode cX4_spent 5 = .ok (.istore_n 2, 1) := dk_61 (dk_at dksX4_spent_0 5 rfl rfl)
theorem dX4_spent_6 : decode cX4_spent 6 = .ok (.iload_n 2, 1) := dk_28 (dk_at dksX4_spent_0 6 rfl rfl)
theorem dX4_spent_7 : decode cX4_spent 7 = .ok (.ifCond .eq 5, 3) := dk_153 0 5 (dk_at dksX4_spent_0 7 rfl rfl)
theorem dX4_spent_10 : decode cX4_spent 10 = .ok (.iload_n 2, 1) := dk_28 (dk_at dksX4_spent_0 10 rfl rfl)
theorem dX4_spent_11 : decode cX4_spent 11 = .ok (.ireturn, 1) := dk_172 (dk_at dksX4_spent_0 11 rfl rfl)
theorem dX4_spent_12 : decode cX4_spent 12 = .ok (.aload_n 0, 1) := dk_42 (dk_at dksX4_spent_0 12 rfl rfl)
theorem dX4_spent_13 : decode cX4_spent 13 = .ok (.iload_n 1, 1) := dk_27 (dk_at dksX4_spent_0 13 rfl rfl)
theorem dX4_spent_14 : decode cX4_spent 14 = .ok (.invokevirtual 212, 3) := dk_182 0 212 (dk_at dksX4_spent_0 14 rfl rfl)
theorem dX4_spent_17 : decode cX4_spent 17 = .ok (.iconst 0, 1) := dk_3 (dk_at dksX4_spent_0 17 rfl rfl)
theorem dX4_spent_18 : decode cX4_spent 18 = .ok (.istore_n 3, 1) := dk_62 (dk_at dksX4_spent_0 18 rfl rfl)
theorem dX4_spent_19 : decode cX4_spent 19 = .ok (.iconst 0, 1) := dk_3 (dk_at dksX4_spent_0 19 rfl rfl)
theorem dX4_spent_20 : decode cX4_spent 20 = .ok (.istore 4, 2) := dk_54 4 (dk_at dksX4_spent_0 20 rfl rfl)
theorem dX4_spent_22 : decode cX4_spent 22 = .ok (.iload 4, 2) := dk_21 4 (dk_at dksX4_spent_0 22 rfl rfl)
theorem dX4_spent_24 : decode cX4_spent 24 = .ok (.iconst 4, 1) := dk_7 (dk_at dksX4_spent_1 0 rfl rfl)
theorem dX4_spent_25 : decode cX4_spent 25 = .ok (.if_icmp .ge 36, 3) := dk_162 0 36 (dk_at dksX4_spent_1 1 rfl rfl)
theorem dX4_spent_28 : decode cX4_spent 28 = .ok (.aload_n 0, 1) := dk_42 (dk_at dksX4_spent_1 4 rfl rfl)
theorem dX4_spent_29 : decode cX4_spent 29 = .ok (.getfield 13, 3) := dk_180 0 13 (dk_at dksX4_spent_1 5 rfl rfl)
theorem dX4_spent_32 : decode cX4_spent 32 = .ok (.iload 4, 2) := dk_21 4 (dk_at dksX4_spent_1 8 rfl rfl)
theorem dX4_spent_34 : decode cX4_spent 34 = .ok (.iconst 2, 1) := dk_5 (dk_at dksX4_spent_1 10 rfl rfl)
theorem dX4_spent_35 : decode cX4_spent 35 = .ok (.invokestatic 46, 3) := dk_184 0 46 (dk_at dksX4_spent_1 11 rfl rfl)
theorem dX4_spent_38 : decode cX4_spent 38 = .ok (.iaload, 1) := dk_46 (dk_at dksX4_spent_1 14 rfl rfl)
theorem dX4_spent_39 : decode cX4_spent 39 = .ok (.aload_n 0, 1) := dk_42 (dk_at dksX4_spent_1 15 rfl rfl)
theorem dX4_spent_40 : decode cX4_spent 40 = .ok (.getfield 13, 3) := dk_180 0 13 (dk_at dksX4_spent_1 16 rfl rfl)
theorem dX4_spent_43 : decode cX4_spent 43 = .ok (.iload_n 3, 1) := dk_29 (dk_at dksX4_spent_1 19 rfl rfl)
theorem dX4_spent_44 : decode cX4_spent 44 = .ok (.iconst 2, 1) := dk_5 (dk_at dksX4_spent_1 20 rfl rfl)
theorem dX4_spent_45 : decode cX4_spent 45 = .ok (.invokestatic 46, 3) := dk_184 0 46 (dk_at dksX4_spent_1 21 rfl rfl)
theorem dX4_spent_48 : decode cX4_spent 48 = .ok (.iaload, 1) := dk_46 (dk_at dksX4_spent_2 0 rfl rfl)
theorem dX4_spent_49 : decode cX4_spent 49 = .ok (.if_icmp .le 6, 3) := dk_164 0 6 (dk_at dksX4_spent_2 1 rfl rfl)
theorem dX4_spent_52 : decode cX4_spent 52 = .ok (.iload 4, 2) := dk_21 4 (dk_at dksX4_spent_2 4 rfl rfl)
theorem dX4_spent_54 : decode cX4_spent 54 = .ok (.istore_n 3, 1) := dk_62 (dk_at dksX4_spent_2 6 rfl rfl)
theorem dX4_spent_55 : decode cX4_spent 55 = .ok (.iinc 4 1, 3) := dk_132 4 1 (dk_at dksX4_spent_2 7 rfl rfl)
theorem dX4_spent_58 : decode cX4_spent 58 = .ok (.goto (-36), 3) := dk_167 255 220 (dk_at dksX4_spent_2 10 rfl rfl)
theorem dX4_spent_61 : decode cX4_spent 61 = .ok (.iload_n 3, 1) := dk_29 (dk_at dksX4_spent_2 13 rfl rfl)
theorem dX4_spent_62 : decode cX4_spent 62 = .ok (.ireturn, 1) := dk_172 (dk_at dksX4_spent_2 14 rfl rfl)
abbrev cX4_whatIs : ByteArray := prog_21_method_74_code
def yX4_whatIs : MethodName := ⟨RX4, "whatIs", "(III)I"⟩
def dkwX4_whatIs_9 : List UInt8 := [21, 5, 172]
abbrev dktX4_whatIs_9 : List UInt8 := dkwX4_whatIs_9 ++ []
def dkwX4_whatIs_8 : List UInt8 := [21, 5, 21, 7, 153, 0, 10, 4, 21, 6, 120, 167, 0, 4, 3, 128, 54, 5, 132, 6, 1, 167, 255, 112]
abbrev dktX4_whatIs_8 : List UInt8 := dkwX4_whatIs_8 ++ dktX4_whatIs_9
def dkwX4_whatIs_7 : List UInt8 := [28, 21, 8, 184, 0, 77, 160, 0, 7, 4, 167, 0, 4, 3, 126, 54, 7, 132, 8, 1, 167, 255, 197]
abbrev dktX4_whatIs_7 : List UInt8 := dkwX4_whatIs_7 ++ dktX4_whatIs_8
def dkwX4_whatIs_6 : List UInt8 := [21, 8, 182, 0, 220, 154, 0, 28, 42, 180, 0, 43, 16, 100, 27, 104, 21, 8, 96, 46, 42, 180, 0, 13]
abbrev dktX4_whatIs_6 : List UInt8 := dkwX4_whatIs_6 ++ dktX4_whatIs_7
def dkwX4_whatIs_5 : List UInt8 := [21, 6, 4, 100, 79, 3, 54, 8, 21, 8, 42, 180, 0, 40, 27, 46, 162, 0, 54, 21, 7, 42, 27]
abbrev dktX4_whatIs_5 : List UInt8 := dkwX4_whatIs_5 ++ dktX4_whatIs_6
def dkwX4_whatIs_4 : List UInt8 := [154, 0, 18, 42, 180, 0, 13, 28, 3, 184, 0, 60, 21, 6, 79, 167, 0, 13, 42, 180, 0, 13, 6]
abbrev dktX4_whatIs_4 : List UInt8 := dkwX4_whatIs_4 ++ dktX4_whatIs_5
def dkwX4_whatIs_3 : List UInt8 := [167, 0, 4, 6, 162, 0, 135, 4, 54, 7, 42, 180, 0, 9, 42, 180, 0, 13, 184, 0, 158, 29]
abbrev dktX4_whatIs_3 : List UInt8 := dkwX4_whatIs_3 ++ dktX4_whatIs_4
def dkwX4_whatIs_2 : List UInt8 := [54, 4, 21, 4, 153, 0, 6, 21, 4, 172, 3, 54, 5, 3, 54, 6, 21, 6, 29, 154, 0, 8, 16, 8]
abbrev dktX4_whatIs_2 : List UInt8 := dkwX4_whatIs_2 ++ dktX4_whatIs_3
def dkwX4_whatIs_1 : List UInt8 := [182, 0, 152, 54, 4, 21, 4, 154, 0, 18, 42, 180, 0, 40, 27, 46, 16, 9, 164, 0, 7, 16, 243]
abbrev dktX4_whatIs_1 : List UInt8 := dkwX4_whatIs_1 ++ dktX4_whatIs_2
def dkwX4_whatIs_0 : List UInt8 := [42, 28, 182, 0, 142, 153, 0, 12, 29, 3, 4, 184, 0, 53, 154, 0, 5, 2, 172, 42, 27, 2]
abbrev dktX4_whatIs_0 : List UInt8 := dkwX4_whatIs_0 ++ dktX4_whatIs_1
theorem dksX4_whatIs_0 : cX4_whatIs.data.toList.drop 0 = dktX4_whatIs_0 := by decide +kernel
theorem dksX4_whatIs_1 : cX4_whatIs.data.toList.drop 22 = dktX4_whatIs_1 := dk_seg dksX4_whatIs_0 22 rfl rfl
theorem dksX4_whatIs_2 : cX4_whatIs.data.toList.drop 45 = dktX4_whatIs_2 := dk_seg dksX4_whatIs_1 23 rfl rfl
theorem dksX4_whatIs_3 : cX4_whatIs.data.toList.drop 69 = dktX4_whatIs_3 := dk_seg dksX4_whatIs_2 24 rfl rfl
theorem dksX4_whatIs_4 : cX4_whatIs.data.toList.drop 91 = dktX4_whatIs_4 := dk_seg dksX4_whatIs_3 22 rfl rfl
theorem dksX4_whatIs_5 : cX4_whatIs.data.toList.drop 114 = dktX4_whatIs_5 := dk_seg dksX4_whatIs_4 23 rfl rfl
theorem dksX4_whatIs_6 : cX4_whatIs.data.toList.drop 137 = dktX4_whatIs_6 := dk_seg dksX4_whatIs_5 23 rfl rfl
theorem dksX4_whatIs_7 : cX4_whatIs.data.toList.drop 161 = dktX4_whatIs_7 := dk_seg dksX4_whatIs_6 24 rfl rfl
theorem dksX4_whatIs_8 : cX4_whatIs.data.toList.drop 184 = dktX4_whatIs_8 := dk_seg dksX4_whatIs_7 23 rfl rfl
theorem dksX4_whatIs_9 : cX4_whatIs.data.toList.drop 208 = dktX4_whatIs_9 := dk_seg dksX4_whatIs_8 24 rfl rfl
theorem dX4_whatIs_0 : decode cX4_whatIs 0 = .ok (.aload_n 0, 1) := dk_42 (dk_at dksX4_whatIs_0 0 rfl rfl)
theorem dX4_whatIs_1 : decode cX4_whatIs 1 = .ok (.iload_n 2, 1) := dk_28 (dk_at dksX4_whatIs_0 1 rfl rfl)
theorem dX4_whatIs_2 : decode cX4_whatIs 2 = .ok (.invokevirtual 142, 3) := dk_182 0 142 (dk_at dksX4_whatIs_0 2 rfl rfl)
theorem dX4_whatIs_5 : decode cX4_whatIs 5 = .ok (.ifCond .eq 12, 3) := dk_153 0 12 (dk_at dksX4_whatIs_0 5 rfl rfl)
theorem dX4_whatIs_8 : decode cX4_whatIs 8 = .ok (.iload_n 3, 1) := dk_29 (dk_at dksX4_whatIs_0 8 rfl rfl)
theorem dX4_whatIs_9 : decode cX4_whatIs 9 = .ok (.iconst 0, 1) := dk_3 (dk_at dksX4_whatIs_0 9 rfl rfl)
theorem dX4_whatIs_10 : decode cX4_whatIs 10 = .ok (.iconst 1, 1) := dk_4 (dk_at dksX4_whatIs_0 10 rfl rfl)
theorem dX4_whatIs_11 : decode cX4_whatIs 11 = .ok (.invokestatic 53, 3) := dk_184 0 53 (dk_at dksX4_whatIs_0 11 rfl rfl)
theorem dX4_whatIs_14 : decode cX4_whatIs 14 = .ok (.ifCond .ne 5, 3) := dk_154 0 5 (dk_at dksX4_whatIs_0 14 rfl rfl)
theorem dX4_whatIs_17 : decode cX4_whatIs 17 = .ok (.iconst (-1), 1) := dk_2 (dk_at dksX4_whatIs_0 17 rfl rfl)
theorem dX4_whatIs_18 : decode cX4_whatIs 18 = .ok (.ireturn, 1) := dk_172 (dk_at dksX4_whatIs_0 18 rfl rfl)
theorem dX4_whatIs_19 : decode cX4_whatIs 19 = .ok (.aload_n 0, 1) := dk_42 (dk_at dksX4_whatIs_0 19 rfl rfl)
theorem dX4_whatIs_20 : decode cX4_whatIs 20 = .ok (.iload_n 1, 1) := dk_27 (dk_at dksX4_whatIs_0 20 rfl rfl)
theorem dX4_whatIs_21 : decode cX4_whatIs 21 = .ok (.iconst (-1), 1) := dk_2 (dk_at dksX4_whatIs_0 21 rfl rfl)
theorem dX4_whatIs_22 : decode cX4_whatIs 22 = .ok (.invokevirtual 152, 3) := dk_182 0 152 (dk_at dksX4_whatIs_1 0 rfl rfl)
theorem dX4_whatIs_25 : decode cX4_whatIs 25 = .ok (.istore 4, 2) := dk_54 4 (dk_at dksX4_whatIs_1 3 rfl rfl)
theorem dX4_whatIs_27 : decode cX4_whatIs 27 = .ok (.iload 4, 2) := dk_21 4 (dk_at dksX4_whatIs_1 5 rfl rfl)
theorem dX4_whatIs_29 : decode cX4_whatIs 29 = .ok (.ifCond .ne 18, 3) := dk_154 0 18 (dk_at dksX4_whatIs_1 7 rfl rfl)
theorem dX4_whatIs_32 : decode cX4_whatIs 32 = .ok (.aload_n 0, 1) := dk_42 (dk_at dksX4_whatIs_1 10 rfl rfl)
theorem dX4_whatIs_33 : decode cX4_whatIs 33 = .ok (.getfield 40, 3) := dk_180 0 40 (dk_at dksX4_whatIs_1 11 rfl rfl)
theorem dX4_whatIs_36 : decode cX4_whatIs 36 = .ok (.iload_n 1, 1) := dk_27 (dk_at dksX4_whatIs_1 14 rfl rfl)
theorem dX4_whatIs_37 : decode cX4_whatIs 37 = .ok (.iaload, 1) := dk_46 (dk_at dksX4_whatIs_1 15 rfl rfl)
theorem dX4_whatIs_38 : decode cX4_whatIs 38 = .ok (.bipush 9, 2) := dk_16 9 (dk_at dksX4_whatIs_1 16 rfl rfl)
theorem dX4_whatIs_40 : decode cX4_whatIs 40 = .ok (.if_icmp .le 7, 3) := dk_164 0 7 (dk_at dksX4_whatIs_1 18 rfl rfl)
theorem dX4_whatIs_43 : decode cX4_whatIs 43 = .ok (.bipush (-13), 2) := dk_16 243 (dk_at dksX4_whatIs_1 21 rfl rfl)
theorem dX4_whatIs_45 : decode cX4_whatIs 45 = .ok (.istore 4, 2) := dk_54 4 (dk_at dksX4_whatIs_2 0 rfl rfl)
theorem dX4_whatIs_47 : decode cX4_whatIs 47 = .ok (.iload 4, 2) := dk_21 4 (dk_at dksX4_whatIs_2 2 rfl rfl)
theorem dX4_whatIs_49 : decode cX4_whatIs 49 = .ok (.ifCond .eq 6, 3) := dk_153 0 6 (dk_at dksX4_whatIs_2 4 rfl rfl)
theorem dX4_whatIs_52 : decode cX4_whatIs 52 = .ok (.iload 4, 2) := dk_21 4 (dk_at dksX4_whatIs_2 7 rfl rfl)
theorem dX4_whatIs_54 : decode cX4_whatIs 54 = .ok (.ireturn, 1) := dk_172 (dk_at dksX4_whatIs_2 9 rfl rfl)
theorem dX4_whatIs_55 : decode cX4_whatIs 55 = .ok (.iconst 0, 1) := dk_3 (dk_at dksX4_whatIs_2 10 rfl rfl)
theorem dX4_whatIs_56 : decode cX4_whatIs 56 = .ok (.istore 5, 2) := dk_54 5 (dk_at dksX4_whatIs_2 11 rfl rfl)
theorem dX4_whatIs_58 : decode cX4_whatIs 58 = .ok (.iconst 0, 1) := dk_3 (dk_at dksX4_whatIs_2 13 rfl rfl)
theorem dX4_whatIs_59 : decode cX4_whatIs 59 = .ok (.istore 6, 2) := dk_54 6 (dk_at dksX4_whatIs_2 14 rfl rfl)
theorem dX4_whatIs_61 : decode cX4_whatIs 61 = .ok (.iload 6, 2) := dk_21 6 (dk_at dksX4_whatIs_2 16 rfl rfl)
theorem dX4_whatIs_63 : decode cX4_whatIs 63 = .ok (.iload_n 3, 1) := dk_29 (dk_at dksX4_whatIs_2 18 rfl rfl)
theorem dX4_whatIs_64 : decode cX4_whatIs 64 = .ok (.ifCond .ne 8, 3) := dk_154 0 8 (dk_at dksX4_whatIs_2 19 rfl rfl)
theorem dX4_whatIs_67 : decode cX4_whatIs 67 = .ok (.bipush 8, 2) := dk_16 8 (dk_at dksX4_whatIs_2 22 rfl rfl)
theorem dX4_whatIs_69 : decode cX4_whatIs 69 = .ok (.goto 4, 3) := dk_167 0 4 (dk_at dksX4_whatIs_3 0 rfl rfl)
theorem dX4_whatIs_72 : decode cX4_whatIs 72 = .ok (.iconst 3, 1) := dk_6 (dk_at dksX4_whatIs_3 3 rfl rfl)
theorem dX4_whatIs_73 : decode cX4_whatIs 73 = .ok (.if_icmp .ge 135, 3) := dk_162 0 135 (dk_at dksX4_whatIs_3 4 rfl rfl)
theorem dX4_whatIs_76 : decode cX4_whatIs 76 = .ok (.iconst 1, 1) := dk_4 (dk_at dksX4_whatIs_3 7 rfl rfl)
theorem dX4_whatIs_77 : decode cX4_whatIs 77 = .ok (.istore 7, 2) := dk_54 7 (dk_at dksX4_whatIs_3 8 rfl rfl)
theorem dX4_whatIs_79 : decode cX4_whatIs 79 = .ok (.aload_n 0, 1) := dk_42 (dk_at dksX4_whatIs_3 10 rfl rfl)
theorem dX4_whatIs_80 : decode cX4_whatIs 80 = .ok (.getfield 9, 3) := dk_180 0 9 (dk_at dksX4_whatIs_3 11 rfl rfl)
theorem dX4_whatIs_83 : decode cX4_whatIs 83 = .ok (.aload_n 0, 1) := dk_42 (dk_at dksX4_whatIs_3 14 rfl rfl)
theorem dX4_whatIs_84 : decode cX4_whatIs 84 = .ok (.getfield 13, 3) := dk_180 0 13 (dk_at dksX4_whatIs_3 15 rfl rfl)
theorem dX4_whatIs_87 : decode cX4_whatIs 87 = .ok (.invokestatic 158, 3) := dk_184 0 158 (dk_at dksX4_whatIs_3 18 rfl rfl)
theorem dX4_whatIs_90 : decode cX4_whatIs 90 = .ok (.iload_n 3, 1) := dk_29 (dk_at dksX4_whatIs_3 21 rfl rfl)
theorem dX4_whatIs_91 : decode cX4_whatIs 91 = .ok (.ifCond .ne 18, 3) := dk_154 0 18 (dk_at dksX4_whatIs_4 0 rfl rfl)
theorem dX4_whatIs_94 : decode cX4_whatIs 94 = .ok (.aload_n 0, 1) := dk_42 (dk_at dksX4_whatIs_4 3 rfl rfl)
theorem dX4_whatIs_95 : decode cX4_whatIs 95 = .ok (.getfield 13, 3) := dk_180 0 13 (dk_at dksX4_whatIs_4 4 rfl rfl)
theorem dX4_whatIs_98 : decode cX4_whatIs 98 = .ok (.iload_n 2, 1) := dk_28 (dk_at dksX4_whatIs_4 7 rfl rfl)
theorem dX4_whatIs_99 : decode cX4_whatIs 99 = .ok (.iconst 0, 1) := dk_3 (dk_at dksX4_whatIs_4 8 rfl rfl)
theorem dX4_whatIs_100 : decode cX4_whatIs 100 = .ok (.invokestatic 60, 3) := dk_184 0 60 (dk_at dksX4_whatIs_4 9 rfl rfl)
theorem dX4_whatIs_103 : decode cX4_whatIs 103 = .ok (.iload 6, 2) := dk_21 6 (dk_at dksX4_whatIs_4 12 rfl rfl)
theorem dX4_whatIs_105 : decode cX4_whatIs 105 = .ok (.iastore, 1) := dk_79 (dk_at dksX4_whatIs_4 14 rfl rfl)
theorem dX4_whatIs_106 : decode cX4_whatIs 106 = .ok (.goto 13, 3) := dk_167 0 13 (dk_at dksX4_whatIs_4 15 rfl rfl)
theorem dX4_whatIs_109 : decode cX4_whatIs 109 = .ok (.aload_n 0, 1) := dk_42 (dk_at dksX4_whatIs_4 18 rfl rfl)
theorem dX4_whatIs_110 : decode cX4_whatIs 110 = .ok (.getfield 13, 3) := dk_180 0 13 (dk_at dksX4_whatIs_4 19 rfl rfl)
theorem dX4_whatIs_113 : decode cX4_whatIs 113 = .ok (.iconst 3, 1) := dk_6 (dk_at dksX4_whatIs_4 22 rfl rfl)
theorem dX4_whatIs_114 : decode cX4_whatIs 114 = .ok (.iload 6, 2) := dk_21 6 (dk_at dksX4_whatIs_5 0 rfl rfl)
theorem dX4_whatIs_116 : decode cX4_whatIs 116 = .ok (.iconst 1, 1) := dk_4 (dk_at dksX4_whatIs_5 2 rfl rfl)
theorem dX4_whatIs_117 : decode cX4_whatIs 117 = .ok (.isub, 1) := dk_100 (dk_at dksX4_whatIs_5 3 rfl rfl)
theorem dX4_whatIs_118 : decode cX4_whatIs 118 = .ok (.iastore, 1) := dk_79 (dk_at dksX4_whatIs_5 4 rfl rfl)
theorem dX4_whatIs_119 : decode cX4_whatIs 119 = .ok (.iconst 0, 1) := dk_3 (dk_at dksX4_whatIs_5 5 rfl rfl)
theorem dX4_whatIs_120 : decode cX4_whatIs 120 = .ok (.istore 8, 2) := dk_54 8 (dk_at dksX4_whatIs_5 6 rfl rfl)
theorem dX4_whatIs_122 : decode cX4_whatIs 122 = .ok (.iload 8, 2) := dk_21 8 (dk_at dksX4_whatIs_5 8 rfl rfl)
theorem dX4_whatIs_124 : decode cX4_whatIs 124 = .ok (.aload_n 0, 1) := dk_42 (dk_at dksX4_whatIs_5 10 rfl rfl)
theorem dX4_whatIs_125 : decode cX4_whatIs 125 = .ok (.getfield 40, 3) := dk_180 0 40 (dk_at dksX4_whatIs_5 11 rfl rfl)
theorem dX4_whatIs_128 : decode cX4_whatIs 128 = .ok (.iload_n 1, 1) := dk_27 (dk_at dksX4_whatIs_5 14 rfl rfl)
theorem dX4_whatIs_129 : decode cX4_whatIs 129 = .ok (.iaload, 1) := dk_46 (dk_at dksX4_whatIs_5 15 rfl rfl)
theorem dX4_whatIs_130 : decode cX4_whatIs 130 = .ok (.if_icmp .ge 54, 3) := dk_162 0 54 (dk_at dksX4_whatIs_5 16 rfl rfl)
theorem dX4_whatIs_133 : decode cX4_whatIs 133 = .ok (.iload 7, 2) := dk_21 7 (dk_at dksX4_whatIs_5 19 rfl rfl)
theorem dX4_whatIs_135 : decode cX4_whatIs 135 = .ok (.aload_n 0, 1) := dk_42 (dk_at dksX4_whatIs_5 21 rfl rfl)
theorem dX4_whatIs_136 : decode cX4_whatIs 136 = .ok (.iload_n 1, 1) := dk_27 (dk_at dksX4_whatIs_5 22 rfl rfl)
theorem dX4_whatIs_137 : decode cX4_whatIs 137 = .ok (.iload 8, 2) := dk_21 8 (dk_at dksX4_whatIs_6 0 rfl rfl)
theorem dX4_whatIs_139 : decode cX4_whatIs 139 = .ok (.invokevirtual 220, 3) := dk_182 0 220 (dk_at dksX4_whatIs_6 2 rfl rfl)
theorem dX4_whatIs_142 : decode cX4_whatIs 142 = .ok (.ifCond .ne 28, 3) := dk_154 0 28 (dk_at dksX4_whatIs_6 5 rfl rfl)
theorem dX4_whatIs_145 : decode cX4_whatIs 145 = .ok (.aload_n 0, 1) := dk_42 (dk_at dksX4_whatIs_6 8 rfl rfl)
theorem dX4_whatIs_146 : decode cX4_whatIs 146 = .ok (.getfield 43, 3) := dk_180 0 43 (dk_at dksX4_whatIs_6 9 rfl rfl)
theorem dX4_whatIs_149 : decode cX4_whatIs 149 = .ok (.bipush 100, 2) := dk_16 100 (dk_at dksX4_whatIs_6 12 rfl rfl)
theorem dX4_whatIs_151 : decode cX4_whatIs 151 = .ok (.iload_n 1, 1) := dk_27 (dk_at dksX4_whatIs_6 14 rfl rfl)
theorem dX4_whatIs_152 : decode cX4_whatIs 152 = .ok (.imul, 1) := dk_104 (dk_at dksX4_whatIs_6 15 rfl rfl)
theorem dX4_whatIs_153 : decode cX4_whatIs 153 = .ok (.iload 8, 2) := dk_21 8 (dk_at dksX4_whatIs_6 16 rfl rfl)
theorem dX4_whatIs_155 : decode cX4_whatIs 155 = .ok (.iadd, 1) := dk_96 (dk_at dksX4_whatIs_6 18 rfl rfl)
theorem dX4_whatIs_156 : decode cX4_whatIs 156 = .ok (.iaload, 1) := dk_46 (dk_at dksX4_whatIs_6 19 rfl rfl)
theorem dX4_whatIs_157 : decode cX4_whatIs 157 = .ok (.aload_n 0, 1) := dk_42 (dk_at dksX4_whatIs_6 20 rfl rfl)
theorem dX4_whatIs_158 : decode cX4_whatIs 158 = .ok (.getfield 13, 3) := dk_180 0 13 (dk_at dksX4_whatIs_6 21 rfl rfl)
theorem dX4_whatIs_161 : decode cX4_whatIs 161 = .ok (.iload_n 2, 1) := dk_28 (dk_at dksX4_whatIs_7 0 rfl rfl)
theorem dX4_whatIs_162 : decode cX4_whatIs 162 = .ok (.iload 8, 2) := dk_21 8 (dk_at dksX4_whatIs_7 1 rfl rfl)
theorem dX4_whatIs_164 : decode cX4_whatIs 164 = .ok (.invokestatic 77, 3) := dk_184 0 77 (dk_at dksX4_whatIs_7 3 rfl rfl)
theorem dX4_whatIs_167 : decode cX4_whatIs 167 = .ok (.if_icmp .ne 7, 3) := dk_160 0 7 (dk_at dksX4_whatIs_7 6 rfl rfl)
theorem dX4_whatIs_170 : decode cX4_whatIs 170 = .ok (.iconst 1, 1) := dk_4 (dk_at dksX4_whatIs_7 9 rfl rfl)
theorem dX4_whatIs_171 : decode cX4_whatIs 171 = .ok (.goto 4, 3) := dk_167 0 4 (dk_at dksX4_whatIs_7 10 rfl rfl)
theorem dX4_whatIs_174 : decode cX4_whatIs 174 = .ok (.iconst 0, 1) := dk_3 (dk_at dksX4_whatIs_7 13 rfl rfl)
theorem dX4_whatIs_175 : decode cX4_whatIs 175 = .ok (.iand, 1) := dk_126 (dk_at dksX4_whatIs_7 14 rfl rfl)
theorem dX4_whatIs_176 : decode cX4_whatIs 176 = .ok (.istore 7, 2) := dk_54 7 (dk_at dksX4_whatIs_7 15 rfl rfl)
theorem dX4_whatIs_178 : decode cX4_whatIs 178 = .ok (.iinc 8 1, 3) := dk_132 8 1 (dk_at dksX4_whatIs_7 17 rfl rfl)
theorem dX4_whatIs_181 : decode cX4_whatIs 181 = .ok (.goto (-59), 3) := dk_167 255 197 (dk_at dksX4_whatIs_7 20 rfl rfl)
theorem dX4_whatIs_184 : decode cX4_whatIs 184 = .ok (.iload 5, 2) := dk_21 5 (dk_at dksX4_whatIs_8 0 rfl rfl)
theorem dX4_whatIs_186 : decode cX4_whatIs 186 = .ok (.iload 7, 2) := dk_21 7 (dk_at dksX4_whatIs_8 2 rfl rfl)
theorem dX4_whatIs_188 : decode cX4_whatIs 188 = .ok (.ifCond .eq 10, 3) := dk_153 0 10 (dk_at dksX4_whatIs_8 4 rfl rfl)
theorem dX4_whatIs_191 : decode cX4_whatIs 191 = .ok (.iconst 1, 1) := dk_4 (dk_at dksX4_whatIs_8 7 rfl rfl)
theorem dX4_whatIs_192 : decode cX4_whatIs 192 = .ok (.iload 6, 2) := dk_21 6 (dk_at dksX4_whatIs_8 8 rfl rfl)
theorem dX4_whatIs_194 : decode cX4_whatIs 194 = .ok (.ishl, 1) := dk_120 (dk_at dksX4_whatIs_8 10 rfl rfl)
theorem dX4_whatIs_195 : decode cX4_whatIs 195 = .ok (.goto 4, 3) := dk_167 0 4 (dk_at dksX4_whatIs_8 11 rfl rfl)
theorem dX4_whatIs_198 : decode cX4_whatIs 198 = .ok (.iconst 0, 1) := dk_3 (dk_at dksX4_whatIs_8 14 rfl rfl)
theorem dX4_whatIs_199 : decode cX4_whatIs 199 = .ok (.ior, 1) := dk_128 (dk_at dksX4_whatIs_8 15 rfl rfl)
theorem dX4_whatIs_200 : decode cX4_whatIs 200 = .ok (.istore 5, 2) := dk_54 5 (dk_at dksX4_whatIs_8 16 rfl rfl)
theorem dX4_whatIs_202 : decode cX4_whatIs 202 = .ok (.iinc 6 1, 3) := dk_132 6 1 (dk_at dksX4_whatIs_8 18 rfl rfl)
theorem dX4_whatIs_205 : decode cX4_whatIs 205 = .ok (.goto (-144), 3) := dk_167 255 112 (dk_at dksX4_whatIs_8 21 rfl rfl)
theorem dX4_whatIs_208 : decode cX4_whatIs 208 = .ok (.iload 5, 2) := dk_21 5 (dk_at dksX4_whatIs_9 0 rfl rfl)
theorem dX4_whatIs_210 : decode cX4_whatIs 210 = .ok (.ireturn, 1) := dk_172 (dk_at dksX4_whatIs_9 2 rfl rfl)
abbrev cX4_isSkipped : ByteArray := prog_21_method_73_code
def yX4_isSkipped : MethodName := ⟨RX4, "isSkipped", "(II)Z"⟩
def dkwX4_isSkipped_1 : List UInt8 := [167, 0, 4, 3, 172]
abbrev dktX4_isSkipped_1 : List UInt8 := dkwX4_isSkipped_1 ++ []
def dkwX4_isSkipped_0 : List UInt8 := [42, 180, 0, 43, 16, 100, 27, 104, 28, 96, 46, 42, 180, 0, 37, 27, 46, 184, 0, 217, 160, 0, 7, 4]
abbrev dktX4_isSkipped_0 : List UInt8 := dkwX4_isSkipped_0 ++ dktX4_isSkipped_1
theorem dksX4_isSkipped_0 : cX4_isSkipped.data.toList.drop 0 = dktX4_isSkipped_0 := by decide +kernel
theorem dksX4_isSkipped_1 : cX4_isSkipped.data.toList.drop 24 = dktX4_isSkipped_1 := dk_seg dksX4_isSkipped_0 24 rfl rfl
theorem dX4_isSkipped_0 : decode cX4_isSkipped 0 = .ok (.aload_n 0, 1) := dk_42 (dk_at dksX4_isSkipped_0 0 rfl rfl)
theorem dX4_isSkipped_1 : decode cX4_isSkipped 1 = .ok (.getfield 43, 3) := dk_180 0 43 (dk_at dksX4_isSkipped_0 1 rfl rfl)
theorem dX4_isSkipped_4 : decode cX4_isSkipped 4 = .ok (.bipush 100, 2) := dk_16 100 (dk_at dksX4_isSkipped_0 4 rfl rfl)
theorem dX4_isSkipped_6 : decode cX4_isSkipped 6 = .ok (.iload_n 1, 1) := dk_27 (dk_at dksX4_isSkipped_0 6 rfl rfl)
theorem dX4_isSkipped_7 : decode cX4_isSkipped 7 = .ok (.imul, 1) := dk_104 (dk_at dksX4_isSkipped_0 7 rfl rfl)
theorem dX4_isSkipped_8 : decode cX4_isSkipped 8 = .ok (.iload_n 2, 1) := dk_28 (dk_at dksX4_isSkipped_0 8 rfl rfl)
theorem dX4_isSkipped_9 : decode cX4_isSkipped 9 = .ok (.iadd, 1) := dk_96 (dk_at dksX4_isSkipped_0 9 rfl rfl)
theorem dX4_isSkipped_10 : decode cX4_isSkipped 10 = .ok (.iaload, 1) := dk_46 (dk_at dksX4_isSkipped_0 10 rfl rfl)
theorem dX4_isSkipped_11 : decode cX4_isSkipped 11 = .ok (.aload_n 0, 1) := dk_42 (dk_at dksX4_isSkipped_0 11 rfl rfl)
theorem dX4_isSkipped_12 : decode cX4_isSkipped 12 = .ok (.getfield 37, 3) := dk_180 0 37 (dk_at dksX4_isSkipped_0 12 rfl rfl)
theorem dX4_isSkipped_15 : decode cX4_isSkipped 15 = .ok (.iload_n 1, 1) := dk_27 (dk_at dksX4_isSkipped_0 15 rfl rfl)
theorem dX4_isSkipped_16 : decode cX4_isSkipped 16 = .ok (.iaload, 1) := dk_46 (dk_at dksX4_isSkipped_0 16 rfl rfl)
theorem dX4_isSkipped_17 : decode cX4_isSkipped 17 = .ok (.invokestatic 217, 3) := dk_184 0 217 (dk_at dksX4_isSkipped_0 17 rfl rfl)
theorem dX4_isSkipped_20 : decode cX4_isSkipped 20 = .ok (.if_icmp .ne 7, 3) := dk_160 0 7 (dk_at dksX4_isSkipped_0 20 rfl rfl)
theorem dX4_isSkipped_23 : decode cX4_isSkipped 23 = .ok (.iconst 1, 1) := dk_4 (dk_at dksX4_isSkipped_0 23 rfl rfl)
theorem dX4_isSkipped_24 : decode cX4_isSkipped 24 = .ok (.goto 4, 3) := dk_167 0 4 (dk_at dksX4_isSkipped_1 0 rfl rfl)
theorem dX4_isSkipped_27 : decode cX4_isSkipped 27 = .ok (.iconst 0, 1) := dk_3 (dk_at dksX4_isSkipped_1 3 rfl rfl)
theorem dX4_isSkipped_28 : decode cX4_isSkipped 28 = .ok (.ireturn, 1) := dk_172 (dk_at dksX4_isSkipped_1 4 rfl rfl)
abbrev cX4_leastOf : ByteArray := prog_21_method_72_code
def yX4_leastOf : MethodName := ⟨RX4, "leastOf", "(I)I"⟩
def dkwX4_leastOf_0 : List UInt8 := [26, 154, 0, 8, 16, 128, 167, 0, 16, 26, 4, 160, 0, 9, 17, 128, 0, 167, 0, 5, 18, 216, 172]
abbrev dktX4_leastOf_0 : List UInt8 := dkwX4_leastOf_0 ++ []
theorem dksX4_leastOf_0 : cX4_leastOf.data.toList.drop 0 = dktX4_leastOf_0 := by decide +kernel
theorem dX4_leastOf_0 : decode cX4_leastOf 0 = .ok (.iload_n 0, 1) := dk_26 (dk_at dksX4_leastOf_0 0 rfl rfl)
theorem dX4_leastOf_1 : decode cX4_leastOf 1 = .ok (.ifCond .ne 8, 3) := dk_154 0 8 (dk_at dksX4_leastOf_0 1 rfl rfl)
theorem dX4_leastOf_4 : decode cX4_leastOf 4 = .ok (.bipush (-128), 2) := dk_16 128 (dk_at dksX4_leastOf_0 4 rfl rfl)
theorem dX4_leastOf_6 : decode cX4_leastOf 6 = .ok (.goto 16, 3) := dk_167 0 16 (dk_at dksX4_leastOf_0 6 rfl rfl)
theorem dX4_leastOf_9 : decode cX4_leastOf 9 = .ok (.iload_n 0, 1) := dk_26 (dk_at dksX4_leastOf_0 9 rfl rfl)
theorem dX4_leastOf_10 : decode cX4_leastOf 10 = .ok (.iconst 1, 1) := dk_4 (dk_at dksX4_leastOf_0 10 rfl rfl)
theorem dX4_leastOf_11 : decode cX4_leastOf 11 = .ok (.if_icmp .ne 9, 3) := dk_160 0 9 (dk_at dksX4_leastOf_0 11 rfl rfl)
theorem dX4_leastOf_14 : decode cX4_leastOf 14 = .ok (.sipush (-32768), 3) := dk_17 128 0 (dk_at dksX4_leastOf_0 14 rfl rfl)
theorem dX4_leastOf_17 : decode cX4_leastOf 17 = .ok (.goto 5, 3) := dk_167 0 5 (dk_at dksX4_leastOf_0 17 rfl rfl)
theorem dX4_leastOf_20 : decode cX4_leastOf 20 = .ok (.ldc 216, 2) := dk_18 216 (dk_at dksX4_leastOf_0 20 rfl rfl)
theorem dX4_leastOf_22 : decode cX4_leastOf 22 = .ok (.ireturn, 1) := dk_172 (dk_at dksX4_leastOf_0 22 rfl rfl)
abbrev cX4_habits : ByteArray := prog_21_method_75_code
def yX4_habits : MethodName := ⟨RX4, "habits", "(I)I"⟩
def dkwX4_habits_7 : List UInt8 := [153, 0, 10, 4, 21, 4, 120, 167, 0, 4, 3, 128, 62, 132, 4, 1, 167, 255, 126, 29, 172]
abbrev dktX4_habits_7 : List UInt8 := dkwX4_habits_7 ++ []
def dkwX4_habits_6 : List UInt8 := [184, 0, 84, 160, 0, 7, 4, 167, 0, 4, 3, 126, 54, 5, 132, 6, 1, 167, 255, 186, 29, 21, 5]
abbrev dktX4_habits_6 : List UInt8 := dkwX4_habits_6 ++ dktX4_habits_7
def dkwX4_habits_5 : List UInt8 := [104, 21, 6, 96, 46, 42, 180, 0, 13, 42, 182, 0, 171, 42, 180, 0, 13, 3, 21, 6, 184, 0, 77]
abbrev dktX4_habits_5 : List UInt8 := dkwX4_habits_5 ++ dktX4_habits_6
def dkwX4_habits_4 : List UInt8 := [27, 46, 162, 0, 65, 21, 5, 42, 27, 21, 6, 182, 0, 220, 154, 0, 39, 42, 180, 0, 43, 16, 100, 27]
abbrev dktX4_habits_4 : List UInt8 := dkwX4_habits_4 ++ dktX4_habits_5
def dkwX4_habits_3 : List UInt8 := [42, 180, 0, 13, 42, 182, 0, 171, 4, 184, 0, 50, 21, 4, 79, 3, 54, 6, 21, 6, 42, 180, 0, 40]
abbrev dktX4_habits_3 : List UInt8 := dkwX4_habits_3 ++ dktX4_habits_4
def dkwX4_habits_2 : List UInt8 := [62, 3, 54, 4, 21, 4, 7, 162, 0, 130, 4, 54, 5, 42, 180, 0, 9, 42, 180, 0, 13, 184, 0, 158]
abbrev dktX4_habits_2 : List UInt8 := dkwX4_habits_2 ++ dktX4_habits_3
def dkwX4_habits_1 : List UInt8 := [61, 28, 154, 0, 15, 42, 180, 0, 9, 3, 46, 154, 0, 6, 16, 253, 61, 28, 153, 0, 5, 28, 172, 3]
abbrev dktX4_habits_1 : List UInt8 := dkwX4_habits_1 ++ dktX4_habits_2
def dkwX4_habits_0 : List UInt8 := [42, 27, 2, 182, 0, 152, 61, 28, 154, 0, 17, 42, 180, 0, 40, 27, 46, 16, 9, 164, 0, 6, 16, 243]
abbrev dktX4_habits_0 : List UInt8 := dkwX4_habits_0 ++ dktX4_habits_1
theorem dksX4_habits_0 : cX4_habits.data.toList.drop 0 = dktX4_habits_0 := by decide +kernel
theorem dksX4_habits_1 : cX4_habits.data.toList.drop 24 = dktX4_habits_1 := dk_seg dksX4_habits_0 24 rfl rfl
theorem dksX4_habits_2 : cX4_habits.data.toList.drop 48 = dktX4_habits_2 := dk_seg dksX4_habits_1 24 rfl rfl
theorem dksX4_habits_3 : cX4_habits.data.toList.drop 72 = dktX4_habits_3 := dk_seg dksX4_habits_2 24 rfl rfl
theorem dksX4_habits_4 : cX4_habits.data.toList.drop 96 = dktX4_habits_4 := dk_seg dksX4_habits_3 24 rfl rfl
theorem dksX4_habits_5 : cX4_habits.data.toList.drop 120 = dktX4_habits_5 := dk_seg dksX4_habits_4 24 rfl rfl
theorem dksX4_habits_6 : cX4_habits.data.toList.drop 143 = dktX4_habits_6 := dk_seg dksX4_habits_5 23 rfl rfl
theorem dksX4_habits_7 : cX4_habits.data.toList.drop 166 = dktX4_habits_7 := dk_seg dksX4_habits_6 23 rfl rfl
theorem dX4_habits_0 : decode cX4_habits 0 = .ok (.aload_n 0, 1) := dk_42 (dk_at dksX4_habits_0 0 rfl rfl)
theorem dX4_habits_1 : decode cX4_habits 1 = .ok (.iload_n 1, 1) := dk_27 (dk_at dksX4_habits_0 1 rfl rfl)
theorem dX4_habits_2 : decode cX4_habits 2 = .ok (.iconst (-1), 1) := dk_2 (dk_at dksX4_habits_0 2 rfl rfl)
theorem dX4_habits_3 : decode cX4_habits 3 = .ok (.invokevirtual 152, 3) := dk_182 0 152 (dk_at dksX4_habits_0 3 rfl rfl)
theorem dX4_habits_6 : decode cX4_habits 6 = .ok (.istore_n 2, 1) := dk_61 (dk_at dksX4_habits_0 6 rfl rfl)
theorem dX4_habits_7 : decode cX4_habits 7 = .ok (.iload_n 2, 1) := dk_28 (dk_at dksX4_habits_0 7 rfl rfl)
theorem dX4_habits_8 : decode cX4_habits 8 = .ok (.ifCond .ne 17, 3) := dk_154 0 17 (dk_at dksX4_habits_0 8 rfl rfl)
theorem dX4_habits_11 : decode cX4_habits 11 = .ok (.aload_n 0, 1) := dk_42 (dk_at dksX4_habits_0 11 rfl rfl)
theorem dX4_habits_12 : decode cX4_habits 12 = .ok (.getfield 40, 3) := dk_180 0 40 (dk_at dksX4_habits_0 12 rfl rfl)
theorem dX4_habits_15 : decode cX4_habits 15 = .ok (.iload_n 1, 1) := dk_27 (dk_at dksX4_habits_0 15 rfl rfl)
theorem dX4_habits_16 : decode cX4_habits 16 = .ok (.iaload, 1) := dk_46 (dk_at dksX4_habits_0 16 rfl rfl)
theorem dX4_habits_17 : decode cX4_habits 17 = .ok (.bipush 9, 2) := dk_16 9 (dk_at dksX4_habits_0 17 rfl rfl)
theorem dX4_habits_19 : decode cX4_habits 19 = .ok (.if_icmp .le 6, 3) := dk_164 0 6 (dk_at dksX4_habits_0 19 rfl rfl)
theorem dX4_habits_22 : decode cX4_habits 22 = .ok (.bipush (-13), 2) := dk_16 243 (dk_at dksX4_habits_0 22 rfl rfl)
theorem dX4_habits_24 : decode cX4_habits 24 = .ok (.istore_n 2, 1) := dk_61 (dk_at dksX4_habits_1 0 rfl rfl)
theorem dX4_habits_25 : decode cX4_habits 25 = .ok (.iload_n 2, 1) := dk_28 (dk_at dksX4_habits_1 1 rfl rfl)
theorem dX4_habits_26 : decode cX4_habits 26 = .ok (.ifCond .ne 15, 3) := dk_154 0 15 (dk_at dksX4_habits_1 2 rfl rfl)
theorem dX4_habits_29 : decode cX4_habits 29 = .ok (.aload_n 0, 1) := dk_42 (dk_at dksX4_habits_1 5 rfl rfl)
theorem dX4_habits_30 : decode cX4_habits 30 = .ok (.getfield 9, 3) := dk_180 0 9 (dk_at dksX4_habits_1 6 rfl rfl)
theorem dX4_habits_33 : decode cX4_habits 33 = .ok (.iconst 0, 1) := dk_3 (dk_at dksX4_habits_1 9 rfl rfl)
theorem dX4_habits_34 : decode cX4_habits 34 = .ok (.iaload, 1) := dk_46 (dk_at dksX4_habits_1 10 rfl rfl)
theorem dX4_habits_35 : decode cX4_habits 35 = .ok (.ifCond .ne 6, 3) := dk_154 0 6 (dk_at dksX4_habits_1 11 rfl rfl)
theorem dX4_habits_38 : decode cX4_habits 38 = .ok (.bipush (-3), 2) := dk_16 253 (dk_at dksX4_habits_1 14 rfl rfl)
theorem dX4_habits_40 : decode cX4_habits 40 = .ok (.istore_n 2, 1) := dk_61 (dk_at dksX4_habits_1 16 rfl rfl)
theorem dX4_habits_41 : decode cX4_habits 41 = .ok (.iload_n 2, 1) := dk_28 (dk_at dksX4_habits_1 17 rfl rfl)
theorem dX4_habits_42 : decode cX4_habits 42 = .ok (.ifCond .eq 5, 3) := dk_153 0 5 (dk_at dksX4_habits_1 18 rfl rfl)
theorem dX4_habits_45 : decode cX4_habits 45 = .ok (.iload_n 2, 1) := dk_28 (dk_at dksX4_habits_1 21 rfl rfl)
theorem dX4_habits_46 : decode cX4_habits 46 = .ok (.ireturn, 1) := dk_172 (dk_at dksX4_habits_1 22 rfl rfl)
theorem dX4_habits_47 : decode cX4_habits 47 = .ok (.iconst 0, 1) := dk_3 (dk_at dksX4_habits_1 23 rfl rfl)
theorem dX4_habits_48 : decode cX4_habits 48 = .ok (.istore_n 3, 1) := dk_62 (dk_at dksX4_habits_2 0 rfl rfl)
theorem dX4_habits_49 : decode cX4_habits 49 = .ok (.iconst 0, 1) := dk_3 (dk_at dksX4_habits_2 1 rfl rfl)
theorem dX4_habits_50 : decode cX4_habits 50 = .ok (.istore 4, 2) := dk_54 4 (dk_at dksX4_habits_2 2 rfl rfl)
theorem dX4_habits_52 : decode cX4_habits 52 = .ok (.iload 4, 2) := dk_21 4 (dk_at dksX4_habits_2 4 rfl rfl)
theorem dX4_habits_54 : decode cX4_habits 54 = .ok (.iconst 4, 1) := dk_7 (dk_at dksX4_habits_2 6 rfl rfl)
theorem dX4_habits_55 : decode cX4_habits 55 = .ok (.if_icmp .ge 130, 3) := dk_162 0 130 (dk_at dksX4_habits_2 7 rfl rfl)
theorem dX4_habits_58 : decode cX4_habits 58 = .ok (.iconst 1, 1) := dk_4 (dk_at dksX4_habits_2 10 rfl rfl)
theorem dX4_habits_59 : decode cX4_habits 59 = .ok (.istore 5, 2) := dk_54 5 (dk_at dksX4_habits_2 11 rfl rfl)
theorem dX4_habits_61 : decode cX4_habits 61 = .ok (.aload_n 0, 1) := dk_42 (dk_at dksX4_habits_2 13 rfl rfl)
theorem dX4_habits_62 : decode cX4_habits 62 = .ok (.getfield 9, 3) := dk_180 0 9 (dk_at dksX4_habits_2 14 rfl rfl)
theorem dX4_habits_65 : decode cX4_habits 65 = .ok (.aload_n 0, 1) := dk_42 (dk_at dksX4_habits_2 17 rfl rfl)
theorem dX4_habits_66 : decode cX4_habits 66 = .ok (.getfield 13, 3) := dk_180 0 13 (dk_at dksX4_habits_2 18 rfl rfl)
theorem dX4_habits_69 : decode cX4_habits 69 = .ok (.invokestatic 158, 3) := dk_184 0 158 (dk_at dksX4_habits_2 21 rfl rfl)
theorem dX4_habits_72 : decode cX4_habits 72 = .ok (.aload_n 0, 1) := dk_42 (dk_at dksX4_habits_3 0 rfl rfl)
theorem dX4_habits_73 : decode cX4_habits 73 = .ok (.getfield 13, 3) := dk_180 0 13 (dk_at dksX4_habits_3 1 rfl rfl)
theorem dX4_habits_76 : decode cX4_habits 76 = .ok (.aload_n 0, 1) := dk_42 (dk_at dksX4_habits_3 4 rfl rfl)
theorem dX4_habits_77 : decode cX4_habits 77 = .ok (.invokevirtual 171, 3) := dk_182 0 171 (dk_at dksX4_habits_3 5 rfl rfl)
theorem dX4_habits_80 : decode cX4_habits 80 = .ok (.iconst 1, 1) := dk_4 (dk_at dksX4_habits_3 8 rfl rfl)
theorem dX4_habits_81 : decode cX4_habits 81 = .ok (.invokestatic 50, 3) := dk_184 0 50 (dk_at dksX4_habits_3 9 rfl rfl)
theorem dX4_habits_84 : decode cX4_habits 84 = .ok (.iload 4, 2) := dk_21 4 (dk_at dksX4_habits_3 12 rfl rfl)
theorem dX4_habits_86 : decode cX4_habits 86 = .ok (.iastore, 1) := dk_79 (dk_at dksX4_habits_3 14 rfl rfl)
theorem dX4_habits_87 : decode cX4_habits 87 = .ok (.iconst 0, 1) := dk_3 (dk_at dksX4_habits_3 15 rfl rfl)
theorem dX4_habits_88 : decode cX4_habits 88 = .ok (.istore 6, 2) := dk_54 6 (dk_at dksX4_habits_3 16 rfl rfl)
theorem dX4_habits_90 : decode cX4_habits 90 = .ok (.iload 6, 2) := dk_21 6 (dk_at dksX4_habits_3 18 rfl rfl)
theorem dX4_habits_92 : decode cX4_habits 92 = .ok (.aload_n 0, 1) := dk_42 (dk_at dksX4_habits_3 20 rfl rfl)
theorem dX4_habits_93 : decode cX4_habits 93 = .ok (.getfield 40, 3) := dk_180 0 40 (dk_at dksX4_habits_3 21 rfl rfl)
theorem dX4_habits_96 : decode cX4_habits 96 = .ok (.iload_n 1, 1) := dk_27 (dk_at dksX4_habits_4 0 rfl rfl)
theorem dX4_habits_97 : decode cX4_habits 97 = .ok (.iaload, 1) := dk_46 (dk_at dksX4_habits_4 1 rfl rfl)
theorem dX4_habits_98 : decode cX4_habits 98 = .ok (.if_icmp .ge 65, 3) := dk_162 0 65 (dk_at dksX4_habits_4 2 rfl rfl)
theorem dX4_habits_101 : decode cX4_habits 101 = .ok (.iload 5, 2) := dk_21 5 (dk_at dksX4_habits_4 5 rfl rfl)
theorem dX4_habits_103 : decode cX4_habits 103 = .ok (.aload_n 0, 1) := dk_42 (dk_at dksX4_habits_4 7 rfl rfl)
theorem dX4_habits_104 : decode cX4_habits 104 = .ok (.iload_n 1, 1) := dk_27 (dk_at dksX4_habits_4 8 rfl rfl)
theorem dX4_habits_105 : decode cX4_habits 105 = .ok (.iload 6, 2) := dk_21 6 (dk_at dksX4_habits_4 9 rfl rfl)
theorem dX4_habits_107 : decode cX4_habits 107 = .ok (.invokevirtual 220, 3) := dk_182 0 220 (dk_at dksX4_habits_4 11 rfl rfl)
theorem dX4_habits_110 : decode cX4_habits 110 = .ok (.ifCond .ne 39, 3) := dk_154 0 39 (dk_at dksX4_habits_4 14 rfl rfl)
theorem dX4_habits_113 : decode cX4_habits 113 = .ok (.aload_n 0, 1) := dk_42 (dk_at dksX4_habits_4 17 rfl rfl)
theorem dX4_habits_114 : decode cX4_habits 114 = .ok (.getfield 43, 3) := dk_180 0 43 (dk_at dksX4_habits_4 18 rfl rfl)
theorem dX4_habits_117 : decode cX4_habits 117 = .ok (.bipush 100, 2) := dk_16 100 (dk_at dksX4_habits_4 21 rfl rfl)
theorem dX4_habits_119 : decode cX4_habits 119 = .ok (.iload_n 1, 1) := dk_27 (dk_at dksX4_habits_4 23 rfl rfl)
theorem dX4_habits_120 : decode cX4_habits 120 = .ok (.imul, 1) := dk_104 (dk_at dksX4_habits_5 0 rfl rfl)
theorem dX4_habits_121 : decode cX4_habits 121 = .ok (.iload 6, 2) := dk_21 6 (dk_at dksX4_habits_5 1 rfl rfl)
theorem dX4_habits_123 : decode cX4_habits 123 = .ok (.iadd, 1) := dk_96 (dk_at dksX4_habits_5 3 rfl rfl)
theorem dX4_habits_124 : decode cX4_habits 124 = .ok (.iaload, 1) := dk_46 (dk_at dksX4_habits_5 4 rfl rfl)
theorem dX4_habits_125 : decode cX4_habits 125 = .ok (.aload_n 0, 1) := dk_42 (dk_at dksX4_habits_5 5 rfl rfl)
theorem dX4_habits_126 : decode cX4_habits 126 = .ok (.getfield 13, 3) := dk_180 0 13 (dk_at dksX4_habits_5 6 rfl rfl)
theorem dX4_habits_129 : decode cX4_habits 129 = .ok (.aload_n 0, 1) := dk_42 (dk_at dksX4_habits_5 9 rfl rfl)
theorem dX4_habits_130 : decode cX4_habits 130 = .ok (.invokevirtual 171, 3) := dk_182 0 171 (dk_at dksX4_habits_5 10 rfl rfl)
theorem dX4_habits_133 : decode cX4_habits 133 = .ok (.aload_n 0, 1) := dk_42 (dk_at dksX4_habits_5 13 rfl rfl)
theorem dX4_habits_134 : decode cX4_habits 134 = .ok (.getfield 13, 3) := dk_180 0 13 (dk_at dksX4_habits_5 14 rfl rfl)
theorem dX4_habits_137 : decode cX4_habits 137 = .ok (.iconst 0, 1) := dk_3 (dk_at dksX4_habits_5 17 rfl rfl)
theorem dX4_habits_138 : decode cX4_habits 138 = .ok (.iload 6, 2) := dk_21 6 (dk_at dksX4_habits_5 18 rfl rfl)
theorem dX4_habits_140 : decode cX4_habits 140 = .ok (.invokestatic 77, 3) := dk_184 0 77 (dk_at dksX4_habits_5 20 rfl rfl)
theorem dX4_habits_143 : decode cX4_habits 143 = .ok (.invokestatic 84, 3) := dk_184 0 84 (dk_at dksX4_habits_6 0 rfl rfl)
theorem dX4_habits_146 : decode cX4_habits 146 = .ok (.if_icmp .ne 7, 3) := dk_160 0 7 (dk_at dksX4_habits_6 3 rfl rfl)
theorem dX4_habits_149 : decode cX4_habits 149 = .ok (.iconst 1, 1) := dk_4 (dk_at dksX4_habits_6 6 rfl rfl)
theorem dX4_habits_150 : decode cX4_habits 150 = .ok (.goto 4, 3) := dk_167 0 4 (dk_at dksX4_habits_6 7 rfl rfl)
theorem dX4_habits_153 : decode cX4_habits 153 = .ok (.iconst 0, 1) := dk_3 (dk_at dksX4_habits_6 10 rfl rfl)
theorem dX4_habits_154 : decode cX4_habits 154 = .ok (.iand, 1) := dk_126 (dk_at dksX4_habits_6 11 rfl rfl)
theorem dX4_habits_155 : decode cX4_habits 155 = .ok (.istore 5, 2) := dk_54 5 (dk_at dksX4_habits_6 12 rfl rfl)
theorem dX4_habits_157 : decode cX4_habits 157 = .ok (.iinc 6 1, 3) := dk_132 6 1 (dk_at dksX4_habits_6 14 rfl rfl)
theorem dX4_habits_160 : decode cX4_habits 160 = .ok (.goto (-70), 3) := dk_167 255 186 (dk_at dksX4_habits_6 17 rfl rfl)
theorem dX4_habits_163 : decode cX4_habits 163 = .ok (.iload_n 3, 1) := dk_29 (dk_at dksX4_habits_6 20 rfl rfl)
theorem dX4_habits_164 : decode cX4_habits 164 = .ok (.iload 5, 2) := dk_21 5 (dk_at dksX4_habits_6 21 rfl rfl)
theorem dX4_habits_166 : decode cX4_habits 166 = .ok (.ifCond .eq 10, 3) := dk_153 0 10 (dk_at dksX4_habits_7 0 rfl rfl)
theorem dX4_habits_169 : decode cX4_habits 169 = .ok (.iconst 1, 1) := dk_4 (dk_at dksX4_habits_7 3 rfl rfl)
theorem dX4_habits_170 : decode cX4_habits 170 = .ok (.iload 4, 2) := dk_21 4 (dk_at dksX4_habits_7 4 rfl rfl)
theorem dX4_habits_172 : decode cX4_habits 172 = .ok (.ishl, 1) := dk_120 (dk_at dksX4_habits_7 6 rfl rfl)
theorem dX4_habits_173 : decode cX4_habits 173 = .ok (.goto 4, 3) := dk_167 0 4 (dk_at dksX4_habits_7 7 rfl rfl)
theorem dX4_habits_176 : decode cX4_habits 176 = .ok (.iconst 0, 1) := dk_3 (dk_at dksX4_habits_7 10 rfl rfl)
theorem dX4_habits_177 : decode cX4_habits 177 = .ok (.ior, 1) := dk_128 (dk_at dksX4_habits_7 11 rfl rfl)
theorem dX4_habits_178 : decode cX4_habits 178 = .ok (.istore_n 3, 1) := dk_62 (dk_at dksX4_habits_7 12 rfl rfl)
theorem dX4_habits_179 : decode cX4_habits 179 = .ok (.iinc 4 1, 3) := dk_132 4 1 (dk_at dksX4_habits_7 13 rfl rfl)
theorem dX4_habits_182 : decode cX4_habits 182 = .ok (.goto (-130), 3) := dk_167 255 126 (dk_at dksX4_habits_7 16 rfl rfl)
theorem dX4_habits_185 : decode cX4_habits 185 = .ok (.iload_n 3, 1) := dk_29 (dk_at dksX4_habits_7 19 rfl rfl)
theorem dX4_habits_186 : decode cX4_habits 186 = .ok (.ireturn, 1) := dk_172 (dk_at dksX4_habits_7 20 rfl rfl)
abbrev cX4_two : ByteArray := prog_21_method_77_code
def yX4_two : MethodName := ⟨RX4, "two", "()I"⟩
def dkwX4_two_3 : List UInt8 := [132, 1, 1, 167, 255, 195, 16, 252, 172]
abbrev dktX4_two_3 : List UInt8 := dkwX4_two_3 ++ []
def dkwX4_two_2 : List UInt8 := [28, 4, 29, 100, 182, 0, 223, 42, 4, 28, 29, 182, 0, 223, 161, 0, 10, 16, 10, 28, 104, 29, 96, 172]
abbrev dktX4_two_2 : List UInt8 := dkwX4_two_2 ++ dktX4_two_3
def dkwX4_two_1 : List UInt8 := [5, 112, 62, 42, 3, 4, 28, 100, 29, 182, 0, 223, 42, 3, 28, 29, 182, 0, 223, 161, 0, 29, 42, 4]
abbrev dktX4_two_1 : List UInt8 := dkwX4_two_1 ++ dktX4_two_2
def dkwX4_two_0 : List UInt8 := [42, 180, 0, 9, 3, 46, 154, 0, 6, 16, 253, 172, 3, 60, 27, 7, 162, 0, 62, 27, 5, 108, 61, 27]
abbrev dktX4_two_0 : List UInt8 := dkwX4_two_0 ++ dktX4_two_1
theorem dksX4_two_0 : cX4_two.data.toList.drop 0 = dktX4_two_0 := by decide +kernel
theorem dksX4_two_1 : cX4_two.data.toList.drop 24 = dktX4_two_1 := dk_seg dksX4_two_0 24 rfl rfl
theorem dksX4_two_2 : cX4_two.data.toList.drop 48 = dktX4_two_2 := dk_seg dksX4_two_1 24 rfl rfl
theorem dksX4_two_3 : cX4_two.data.toList.drop 72 = dktX4_two_3 := dk_seg dksX4_two_2 24 rfl rfl
theorem dX4_two_0 : decode cX4_two 0 = .ok (.aload_n 0, 1) := dk_42 (dk_at dksX4_two_0 0 rfl rfl)
theorem dX4_two_1 : decode cX4_two 1 = .ok (.getfield 9, 3) := dk_180 0 9 (dk_at dksX4_two_0 1 rfl rfl)
theorem dX4_two_4 : decode cX4_two 4 = .ok (.iconst 0, 1) := dk_3 (dk_at dksX4_two_0 4 rfl rfl)
theorem dX4_two_5 : decode cX4_two 5 = .ok (.iaload, 1) := dk_46 (dk_at dksX4_two_0 5 rfl rfl)
theorem dX4_two_6 : decode cX4_two 6 = .ok (.ifCond .ne 6, 3) := dk_154 0 6 (dk_at dksX4_two_0 6 rfl rfl)
theorem dX4_two_9 : decode cX4_two 9 = .ok (.bipush (-3), 2) := dk_16 253 (dk_at dksX4_two_0 9 rfl rfl)
theorem dX4_two_11 : decode cX4_two 11 = .ok (.ireturn, 1) := dk_172 (dk_at dksX4_two_0 11 rfl rfl)
theorem dX4_two_12 : decode cX4_two 12 = .ok (.iconst 0, 1) := dk_3 (dk_at dksX4_two_0 12 rfl rfl)
theorem dX4_two_13 : decode cX4_two 13 = .ok (.istore_n 1, 1) := dk_60 (dk_at dksX4_two_0 13 rfl rfl)
theorem dX4_two_14 : decode cX4_two 14 = .ok (.iload_n 1, 1) := dk_27 (dk_at dksX4_two_0 14 rfl rfl)
theorem dX4_two_15 : decode cX4_two 15 = .ok (.iconst 4, 1) := dk_7 (dk_at dksX4_two_0 15 rfl rfl)
theorem dX4_two_16 : decode cX4_two 16 = .ok (.if_icmp .ge 62, 3) := dk_162 0 62 (dk_at dksX4_two_0 16 rfl rfl)
theorem dX4_two_19 : decode cX4_two 19 = .ok (.iload_n 1, 1) := dk_27 (dk_at dksX4_two_0 19 rfl rfl)
theorem dX4_two_20 : decode cX4_two 20 = .ok (.iconst 2, 1) := dk_5 (dk_at dksX4_two_0 20 rfl rfl)
theorem dX4_two_21 : decode cX4_two 21 = .ok (.idiv, 1) := dk_108 (dk_at dksX4_two_0 21 rfl rfl)
theorem dX4_two_22 : decode cX4_two 22 = .ok (.istore_n 2, 1) := dk_61 (dk_at dksX4_two_0 22 rfl rfl)
theorem dX4_two_23 : decode cX4_two 23 = .ok (.iload_n 1, 1) := dk_27 (dk_at dksX4_two_0 23 rfl rfl)
theorem dX4_two_24 : decode cX4_two 24 = .ok (.iconst 2, 1) := dk_5 (dk_at dksX4_two_1 0 rfl rfl)
theorem dX4_two_25 : decode cX4_two 25 = .ok (.irem, 1) := dk_112 (dk_at dksX4_two_1 1 rfl rfl)
theorem dX4_two_26 : decode cX4_two 26 = .ok (.istore_n 3, 1) := dk_62 (dk_at dksX4_two_1 2 rfl rfl)
theorem dX4_two_27 : decode cX4_two 27 = .ok (.aload_n 0, 1) := dk_42 (dk_at dksX4_two_1 3 rfl rfl)
theorem dX4_two_28 : decode cX4_two 28 = .ok (.iconst 0, 1) := dk_3 (dk_at dksX4_two_1 4 rfl rfl)
theorem dX4_two_29 : decode cX4_two 29 = .ok (.iconst 1, 1) := dk_4 (dk_at dksX4_two_1 5 rfl rfl)
theorem dX4_two_30 : decode cX4_two 30 = .ok (.iload_n 2, 1) := dk_28 (dk_at dksX4_two_1 6 rfl rfl)
theorem dX4_two_31 : decode cX4_two 31 = .ok (.isub, 1) := dk_100 (dk_at dksX4_two_1 7 rfl rfl)
theorem dX4_two_32 : decode cX4_two 32 = .ok (.iload_n 3, 1) := dk_29 (dk_at dksX4_two_1 8 rfl rfl)
theorem dX4_two_33 : decode cX4_two 33 = .ok (.invokevirtual 223, 3) := dk_182 0 223 (dk_at dksX4_two_1 9 rfl rfl)
theorem dX4_two_36 : decode cX4_two 36 = .ok (.aload_n 0, 1) := dk_42 (dk_at dksX4_two_1 12 rfl rfl)
theorem dX4_two_37 : decode cX4_two 37 = .ok (.iconst 0, 1) := dk_3 (dk_at dksX4_two_1 13 rfl rfl)
theorem dX4_two_38 : decode cX4_two 38 = .ok (.iload_n 2, 1) := dk_28 (dk_at dksX4_two_1 14 rfl rfl)
theorem dX4_two_39 : decode cX4_two 39 = .ok (.iload_n 3, 1) := dk_29 (dk_at dksX4_two_1 15 rfl rfl)
theorem dX4_two_40 : decode cX4_two 40 = .ok (.invokevirtual 223, 3) := dk_182 0 223 (dk_at dksX4_two_1 16 rfl rfl)
theorem dX4_two_43 : decode cX4_two 43 = .ok (.if_icmp .lt 29, 3) := dk_161 0 29 (dk_at dksX4_two_1 19 rfl rfl)
theorem dX4_two_46 : decode cX4_two 46 = .ok (.aload_n 0, 1) := dk_42 (dk_at dksX4_two_1 22 rfl rfl)
theorem dX4_two_47 : decode cX4_two 47 = .ok (.iconst 1, 1) := dk_4 (dk_at dksX4_two_1 23 rfl rfl)
theorem dX4_two_48 : decode cX4_two 48 = .ok (.iload_n 2, 1) := dk_28 (dk_at dksX4_two_2 0 rfl rfl)
theorem dX4_two_49 : decode cX4_two 49 = .ok (.iconst 1, 1) := dk_4 (dk_at dksX4_two_2 1 rfl rfl)
theorem dX4_two_50 : decode cX4_two 50 = .ok (.iload_n 3, 1) := dk_29 (dk_at dksX4_two_2 2 rfl rfl)
theorem dX4_two_51 : decode cX4_two 51 = .ok (.isub, 1) := dk_100 (dk_at dksX4_two_2 3 rfl rfl)
theorem dX4_two_52 : decode cX4_two 52 = .ok (.invokevirtual 223, 3) := dk_182 0 223 (dk_at dksX4_two_2 4 rfl rfl)
theorem dX4_two_55 : decode cX4_two 55 = .ok (.aload_n 0, 1) := dk_42 (dk_at dksX4_two_2 7 rfl rfl)
theorem dX4_two_56 : decode cX4_two 56 = .ok (.iconst 1, 1) := dk_4 (dk_at dksX4_two_2 8 rfl rfl)
theorem dX4_two_57 : decode cX4_two 57 = .ok (.iload_n 2, 1) := dk_28 (dk_at dksX4_two_2 9 rfl rfl)
theorem dX4_two_58 : decode cX4_two 58 = .ok (.iload_n 3, 1) := dk_29 (dk_at dksX4_two_2 10 rfl rfl)
theorem dX4_two_59 : decode cX4_two 59 = .ok (.invokevirtual 223, 3) := dk_182 0 223 (dk_at dksX4_two_2 11 rfl rfl)
theorem dX4_two_62 : decode cX4_two 62 = .ok (.if_icmp .lt 10, 3) := dk_161 0 10 (dk_at dksX4_two_2 14 rfl rfl)
theorem dX4_two_65 : decode cX4_two 65 = .ok (.bipush 10, 2) := dk_16 10 (dk_at dksX4_two_2 17 rfl rfl)
theorem dX4_two_67 : decode cX4_two 67 = .ok (.iload_n 2, 1) := dk_28 (dk_at dksX4_two_2 19 rfl rfl)
theorem dX4_two_68 : decode cX4_two 68 = .ok (.imul, 1) := dk_104 (dk_at dksX4_two_2 20 rfl rfl)
theorem dX4_two_69 : decode cX4_two 69 = .ok (.iload_n 3, 1) := dk_29 (dk_at dksX4_two_2 21 rfl rfl)
theorem dX4_two_70 : decode cX4_two 70 = .ok (.iadd, 1) := dk_96 (dk_at dksX4_two_2 22 rfl rfl)
theorem dX4_two_71 : decode cX4_two 71 = .ok (.ireturn, 1) := dk_172 (dk_at dksX4_two_2 23 rfl rfl)
theorem dX4_two_72 : decode cX4_two 72 = .ok (.iinc 1 1, 3) := dk_132 1 1 (dk_at dksX4_two_3 0 rfl rfl)
theorem dX4_two_75 : decode cX4_two 75 = .ok (.goto (-61), 3) := dk_167 255 195 (dk_at dksX4_two_3 3 rfl rfl)
theorem dX4_two_78 : decode cX4_two 78 = .ok (.bipush (-4), 2) := dk_16 252 (dk_at dksX4_two_3 6 rfl rfl)
theorem dX4_two_80 : decode cX4_two 80 = .ok (.ireturn, 1) := dk_172 (dk_at dksX4_two_3 8 rfl rfl)
abbrev cX4_costBy2 : ByteArray := prog_21_method_76_code
def yX4_costBy2 : MethodName := ⟨RX4, "costBy2", "(III)I"⟩
def dkwX4_costBy2_5 : List UInt8 := [104, 4, 96, 5, 184, 0, 46, 46, 96, 21, 4, 27, 160, 0, 8, 16, 9, 167, 0, 4, 3, 100, 172]
abbrev dktX4_costBy2_5 : List UInt8 := dkwX4_costBy2_5 ++ []
def dkwX4_costBy2_4 : List UInt8 := [132, 5, 1, 167, 255, 200, 42, 180, 0, 13, 5, 27, 104, 5, 184, 0, 46, 46, 42, 180, 0, 13, 5, 27]
abbrev dktX4_costBy2_4 : List UInt8 := dkwX4_costBy2_4 ++ dktX4_costBy2_5
def dkwX4_costBy2_3 : List UInt8 := [21, 5, 5, 112, 154, 0, 7, 3, 167, 0, 5, 16, 8, 182, 0, 149, 153, 0, 7, 21, 6, 54, 4]
abbrev dktX4_costBy2_3 : List UInt8 := dkwX4_costBy2_3 ++ dktX4_costBy2_4
def dkwX4_costBy2_2 : List UInt8 := [21, 4, 5, 160, 0, 49, 42, 180, 0, 13, 5, 46, 184, 0, 73, 54, 6, 42, 42, 180, 0, 13, 3]
abbrev dktX4_costBy2_2 : List UInt8 := dkwX4_costBy2_2 ++ dktX4_costBy2_3
def dkwX4_costBy2_1 : List UInt8 := [180, 0, 13, 4, 3, 184, 0, 50, 29, 79, 5, 54, 4, 3, 54, 5, 21, 5, 16, 6, 162, 0, 55]
abbrev dktX4_costBy2_1 : List UInt8 := dkwX4_costBy2_1 ++ dktX4_costBy2_2
def dkwX4_costBy2_0 : List UInt8 := [42, 180, 0, 9, 42, 180, 0, 13, 184, 0, 158, 42, 180, 0, 13, 3, 3, 184, 0, 50, 28, 79, 42]
abbrev dktX4_costBy2_0 : List UInt8 := dkwX4_costBy2_0 ++ dktX4_costBy2_1
theorem dksX4_costBy2_0 : cX4_costBy2.data.toList.drop 0 = dktX4_costBy2_0 := by decide +kernel
theorem dksX4_costBy2_1 : cX4_costBy2.data.toList.drop 23 = dktX4_costBy2_1 := dk_seg dksX4_costBy2_0 23 rfl rfl
theorem dksX4_costBy2_2 : cX4_costBy2.data.toList.drop 46 = dktX4_costBy2_2 := dk_seg dksX4_costBy2_1 23 rfl rfl
theorem dksX4_costBy2_3 : cX4_costBy2.data.toList.drop 69 = dktX4_costBy2_3 := dk_seg dksX4_costBy2_2 23 rfl rfl
theorem dksX4_costBy2_4 : cX4_costBy2.data.toList.drop 92 = dktX4_costBy2_4 := dk_seg dksX4_costBy2_3 23 rfl rfl
theorem dksX4_costBy2_5 : cX4_costBy2.data.toList.drop 116 = dktX4_costBy2_5 := dk_seg dksX4_costBy2_4 24 rfl rfl
theorem dX4_costBy2_0 : decode cX4_costBy2 0 = .ok (.aload_n 0, 1) := dk_42 (dk_at dksX4_costBy2_0 0 rfl rfl)
theorem dX4_costBy2_1 : decode cX4_costBy2 1 = .ok (.getfield 9, 3) := dk_180 0 9 (dk_at dksX4_costBy2_0 1 rfl rfl)
theorem dX4_costBy2_4 : decode cX4_costBy2 4 = .ok (.aload_n 0, 1) := dk_42 (dk_at dksX4_costBy2_0 4 rfl rfl)
theorem dX4_costBy2_5 : decode cX4_costBy2 5 = .ok (.getfield 13, 3) := dk_180 0 13 (dk_at dksX4_costBy2_0 5 rfl rfl)
theorem dX4_costBy2_8 : decode cX4_costBy2 8 = .ok (.invokestatic 158, 3) := dk_184 0 158 (dk_at dksX4_costBy2_0 8 rfl rfl)
theorem dX4_costBy2_11 : decode cX4_costBy2 11 = .ok (.aload_n 0, 1) := dk_42 (dk_at dksX4_costBy2_0 11 rfl rfl)
theorem dX4_costBy2_12 : decode cX4_costBy2 12 = .ok (.getfield 13, 3) := dk_180 0 13 (dk_at dksX4_costBy2_0 12 rfl rfl)
theorem dX4_costBy2_15 : decode cX4_costBy2 15 = .ok (.iconst 0, 1) := dk_3 (dk_at dksX4_costBy2_0 15 rfl rfl)
theorem dX4_costBy2_16 : decode cX4_costBy2 16 = .ok (.iconst 0, 1) := dk_3 (dk_at dksX4_costBy2_0 16 rfl rfl)
theorem dX4_costBy2_17 : decode cX4_costBy2 17 = .ok (.invokestatic 50, 3) := dk_184 0 50 (dk_at dksX4_costBy2_0 17 rfl rfl)
theorem dX4_costBy2_20 : decode cX4_costBy2 20 = .ok (.iload_n 2, 1) := dk_28 (dk_at dksX4_costBy2_0 20 rfl rfl)
theorem dX4_costBy2_21 : decode cX4_costBy2 21 = .ok (.iastore, 1) := dk_79 (dk_at dksX4_costBy2_0 21 rfl rfl)
theorem dX4_costBy2_22 : decode cX4_costBy2 22 = .ok (.aload_n 0, 1) := dk_42 (dk_at dksX4_costBy2_0 22 rfl rfl)
theorem dX4_costBy2_23 : decode cX4_costBy2 23 = .ok (.getfield 13, 3) := dk_180 0 13 (dk_at dksX4_costBy2_1 0 rfl rfl)
theorem dX4_costBy2_26 : decode cX4_costBy2 26 = .ok (.iconst 1, 1) := dk_4 (dk_at dksX4_costBy2_1 3 rfl rfl)
theorem dX4_costBy2_27 : decode cX4_costBy2 27 = .ok (.iconst 0, 1) := dk_3 (dk_at dksX4_costBy2_1 4 rfl rfl)
theorem dX4_costBy2_28 : decode cX4_costBy2 28 = .ok (.invokestatic 50, 3) := dk_184 0 50 (dk_at dksX4_costBy2_1 5 rfl rfl)
theorem dX4_costBy2_31 : decode cX4_costBy2 31 = .ok (.iload_n 3, 1) := dk_29 (dk_at dksX4_costBy2_1 8 rfl rfl)
theorem dX4_costBy2_32 : decode cX4_costBy2 32 = .ok (.iastore, 1) := dk_79 (dk_at dksX4_costBy2_1 9 rfl rfl)
theorem dX4_costBy2_33 : decode cX4_costBy2 33 = .ok (.iconst 2, 1) := dk_5 (dk_at dksX4_costBy2_1 10 rfl rfl)
theorem dX4_costBy2_34 : decode cX4_costBy2 34 = .ok (.istore 4, 2) := dk_54 4 (dk_at dksX4_costBy2_1 11 rfl rfl)
theorem dX4_costBy2_36 : decode cX4_costBy2 36 = .ok (.iconst 0, 1) := dk_3 (dk_at dksX4_costBy2_1 13 rfl rfl)
theorem dX4_costBy2_37 : decode cX4_costBy2 37 = .ok (.istore 5, 2) := dk_54 5 (dk_at dksX4_costBy2_1 14 rfl rfl)
theorem dX4_costBy2_39 : decode cX4_costBy2 39 = .ok (.iload 5, 2) := dk_21 5 (dk_at dksX4_costBy2_1 16 rfl rfl)
theorem dX4_costBy2_41 : decode cX4_costBy2 41 = .ok (.bipush 6, 2) := dk_16 6 (dk_at dksX4_costBy2_1 18 rfl rfl)
theorem dX4_costBy2_43 : decode cX4_costBy2 43 = .ok (.if_icmp .ge 55, 3) := dk_162 0 55 (dk_at dksX4_costBy2_1 20 rfl rfl)
theorem dX4_costBy2_46 : decode cX4_costBy2 46 = .ok (.iload 4, 2) := dk_21 4 (dk_at dksX4_costBy2_2 0 rfl rfl)
theorem dX4_costBy2_48 : decode cX4_costBy2 48 = .ok (.iconst 2, 1) := dk_5 (dk_at dksX4_costBy2_2 2 rfl rfl)
theorem dX4_costBy2_49 : decode cX4_costBy2 49 = .ok (.if_icmp .ne 49, 3) := dk_160 0 49 (dk_at dksX4_costBy2_2 3 rfl rfl)
theorem dX4_costBy2_52 : decode cX4_costBy2 52 = .ok (.aload_n 0, 1) := dk_42 (dk_at dksX4_costBy2_2 6 rfl rfl)
theorem dX4_costBy2_53 : decode cX4_costBy2 53 = .ok (.getfield 13, 3) := dk_180 0 13 (dk_at dksX4_costBy2_2 7 rfl rfl)
theorem dX4_costBy2_56 : decode cX4_costBy2 56 = .ok (.iconst 2, 1) := dk_5 (dk_at dksX4_costBy2_2 10 rfl rfl)
theorem dX4_costBy2_57 : decode cX4_costBy2 57 = .ok (.iaload, 1) := dk_46 (dk_at dksX4_costBy2_2 11 rfl rfl)
theorem dX4_costBy2_58 : decode cX4_costBy2 58 = .ok (.invokestatic 73, 3) := dk_184 0 73 (dk_at dksX4_costBy2_2 12 rfl rfl)
theorem dX4_costBy2_61 : decode cX4_costBy2 61 = .ok (.istore 6, 2) := dk_54 6 (dk_at dksX4_costBy2_2 15 rfl rfl)
theorem dX4_costBy2_63 : decode cX4_costBy2 63 = .ok (.aload_n 0, 1) := dk_42 (dk_at dksX4_costBy2_2 17 rfl rfl)
theorem dX4_costBy2_64 : decode cX4_costBy2 64 = .ok (.aload_n 0, 1) := dk_42 (dk_at dksX4_costBy2_2 18 rfl rfl)
theorem dX4_costBy2_65 : decode cX4_costBy2 65 = .ok (.getfield 13, 3) := dk_180 0 13 (dk_at dksX4_costBy2_2 19 rfl rfl)
theorem dX4_costBy2_68 : decode cX4_costBy2 68 = .ok (.iconst 0, 1) := dk_3 (dk_at dksX4_costBy2_2 22 rfl rfl)
theorem dX4_costBy2_69 : decode cX4_costBy2 69 = .ok (.iload 5, 2) := dk_21 5 (dk_at dksX4_costBy2_3 0 rfl rfl)
theorem dX4_costBy2_71 : decode cX4_costBy2 71 = .ok (.iconst 2, 1) := dk_5 (dk_at dksX4_costBy2_3 2 rfl rfl)
theorem dX4_costBy2_72 : decode cX4_costBy2 72 = .ok (.irem, 1) := dk_112 (dk_at dksX4_costBy2_3 3 rfl rfl)
theorem dX4_costBy2_73 : decode cX4_costBy2 73 = .ok (.ifCond .ne 7, 3) := dk_154 0 7 (dk_at dksX4_costBy2_3 4 rfl rfl)
theorem dX4_costBy2_76 : decode cX4_costBy2 76 = .ok (.iconst 0, 1) := dk_3 (dk_at dksX4_costBy2_3 7 rfl rfl)
theorem dX4_costBy2_77 : decode cX4_costBy2 77 = .ok (.goto 5, 3) := dk_167 0 5 (dk_at dksX4_costBy2_3 8 rfl rfl)
theorem dX4_costBy2_80 : decode cX4_costBy2 80 = .ok (.bipush 8, 2) := dk_16 8 (dk_at dksX4_costBy2_3 11 rfl rfl)
theorem dX4_costBy2_82 : decode cX4_costBy2 82 = .ok (.invokevirtual 149, 3) := dk_182 0 149 (dk_at dksX4_costBy2_3 13 rfl rfl)
theorem dX4_costBy2_85 : decode cX4_costBy2 85 = .ok (.ifCond .eq 7, 3) := dk_153 0 7 (dk_at dksX4_costBy2_3 16 rfl rfl)
theorem dX4_costBy2_88 : decode cX4_costBy2 88 = .ok (.iload 6, 2) := dk_21 6 (dk_at dksX4_costBy2_3 19 rfl rfl)
theorem dX4_costBy2_90 : decode cX4_costBy2 90 = .ok (.istore 4, 2) := dk_54 4 (dk_at dksX4_costBy2_3 21 rfl rfl)
theorem dX4_costBy2_92 : decode cX4_costBy2 92 = .ok (.iinc 5 1, 3) := dk_132 5 1 (dk_at dksX4_costBy2_4 0 rfl rfl)
theorem dX4_costBy2_95 : decode cX4_costBy2 95 = .ok (.goto (-56), 3) := dk_167 255 200 (dk_at dksX4_costBy2_4 3 rfl rfl)
theorem dX4_costBy2_98 : decode cX4_costBy2 98 = .ok (.aload_n 0, 1) := dk_42 (dk_at dksX4_costBy2_4 6 rfl rfl)
theorem dX4_costBy2_99 : decode cX4_costBy2 99 = .ok (.getfield 13, 3) := dk_180 0 13 (dk_at dksX4_costBy2_4 7 rfl rfl)
theorem dX4_costBy2_102 : decode cX4_costBy2 102 = .ok (.iconst 2, 1) := dk_5 (dk_at dksX4_costBy2_4 10 rfl rfl)
theorem dX4_costBy2_103 : decode cX4_costBy2 103 = .ok (.iload_n 1, 1) := dk_27 (dk_at dksX4_costBy2_4 11 rfl rfl)
theorem dX4_costBy2_104 : decode cX4_costBy2 104 = .ok (.imul, 1) := dk_104 (dk_at dksX4_costBy2_4 12 rfl rfl)
theorem dX4_costBy2_105 : decode cX4_costBy2 105 = .ok (.iconst 2, 1) := dk_5 (dk_at dksX4_costBy2_4 13 rfl rfl)
theorem dX4_costBy2_106 : decode cX4_costBy2 106 = .ok (.invokestatic 46, 3) := dk_184 0 46 (dk_at dksX4_costBy2_4 14 rfl rfl)
theorem dX4_costBy2_109 : decode cX4_costBy2 109 = .ok (.iaload, 1) := dk_46 (dk_at dksX4_costBy2_4 17 rfl rfl)
theorem dX4_costBy2_110 : decode cX4_costBy2 110 = .ok (.aload_n 0, 1) := dk_42 (dk_at dksX4_costBy2_4 18 rfl rfl)
theorem dX4_costBy2_111 : decode cX4_costBy2 111 = .ok (.getfield 13, 3) := dk_180 0 13 (dk_at dksX4_costBy2_4 19 rfl rfl)
theorem dX4_costBy2_114 : decode cX4_costBy2 114 = .ok (.iconst 2, 1) := dk_5 (dk_at dksX4_costBy2_4 22 rfl rfl)
theorem dX4_costBy2_115 : decode cX4_costBy2 115 = .ok (.iload_n 1, 1) := dk_27 (dk_at dksX4_costBy2_4 23 rfl rfl)
theorem dX4_costBy2_116 : decode cX4_costBy2 116 = .ok (.imul, 1) := dk_104 (dk_at dksX4_costBy2_5 0 rfl rfl)
theorem dX4_costBy2_117 : decode cX4_costBy2 117 = .ok (.iconst 1, 1) := dk_4 (dk_at dksX4_costBy2_5 1 rfl rfl)
theorem dX4_costBy2_118 : decode cX4_costBy2 118 = .ok (.iadd, 1) := dk_96 (dk_at dksX4_costBy2_5 2 rfl rfl)
theorem dX4_costBy2_119 : decode cX4_costBy2 119 = .ok (.iconst 2, 1) := dk_5 (dk_at dksX4_costBy2_5 3 rfl rfl)
theorem dX4_costBy2_120 : decode cX4_costBy2 120 = .ok (.invokestatic 46, 3) := dk_184 0 46 (dk_at dksX4_costBy2_5 4 rfl rfl)
theorem dX4_costBy2_123 : decode cX4_costBy2 123 = .ok (.iaload, 1) := dk_46 (dk_at dksX4_costBy2_5 7 rfl rfl)
theorem dX4_costBy2_124 : decode cX4_costBy2 124 = .ok (.iadd, 1) := dk_96 (dk_at dksX4_costBy2_5 8 rfl rfl)
theorem dX4_costBy2_125 : decode cX4_costBy2 125 = .ok (.iload 4, 2) := dk_21 4 (dk_at dksX4_costBy2_5 9 rfl rfl)
theorem dX4_costBy2_127 : decode cX4_costBy2 127 = .ok (.iload_n 1, 1) := dk_27 (dk_at dksX4_costBy2_5 11 rfl rfl)
theorem dX4_costBy2_128 : decode cX4_costBy2 128 = .ok (.if_icmp .ne 8, 3) := dk_160 0 8 (dk_at dksX4_costBy2_5 12 rfl rfl)
theorem dX4_costBy2_131 : decode cX4_costBy2 131 = .ok (.bipush 9, 2) := dk_16 9 (dk_at dksX4_costBy2_5 15 rfl rfl)
theorem dX4_costBy2_133 : decode cX4_costBy2 133 = .ok (.goto 4, 3) := dk_167 0 4 (dk_at dksX4_costBy2_5 17 rfl rfl)
theorem dX4_costBy2_136 : decode cX4_costBy2 136 = .ok (.iconst 0, 1) := dk_3 (dk_at dksX4_costBy2_5 20 rfl rfl)
theorem dX4_costBy2_137 : decode cX4_costBy2 137 = .ok (.isub, 1) := dk_100 (dk_at dksX4_costBy2_5 21 rfl rfl)
theorem dX4_costBy2_138 : decode cX4_costBy2 138 = .ok (.ireturn, 1) := dk_172 (dk_at dksX4_costBy2_5 22 rfl rfl)
abbrev cX4_draughts : ByteArray := prog_21_method_81_code
def yX4_draughts : MethodName := ⟨RX4, "draughts", "(III)J"⟩
def dkwX4_draughts_6 : List UInt8 := [97, 55, 4, 132, 8, 1, 167, 255, 183, 22, 4, 22, 6, 29, 184, 0, 238, 173]
abbrev dktX4_draughts_6 : List UInt8 := dkwX4_draughts_6 ++ []
def dkwX4_draughts_5 : List UInt8 := [132, 11, 1, 167, 255, 224, 22, 4, 42, 27, 21, 8, 182, 0, 235, 153, 0, 8, 22, 9, 167, 0, 4, 9]
abbrev dktX4_draughts_5 : List UInt8 := dkwX4_draughts_5 ++ dktX4_draughts_6
def dkwX4_draughts_4 : List UInt8 := [22, 9, 21, 8, 21, 11, 184, 0, 230, 153, 0, 7, 10, 167, 0, 7, 28, 4, 100, 133, 105, 55, 9]
abbrev dktX4_draughts_4 : List UInt8 := dkwX4_draughts_4 ++ dktX4_draughts_5
def dkwX4_draughts_3 : List UInt8 := [3, 54, 8, 21, 8, 4, 27, 120, 162, 0, 71, 10, 55, 9, 3, 54, 11, 21, 11, 27, 162, 0, 32]
abbrev dktX4_draughts_3 : List UInt8 := dkwX4_draughts_3 ++ dktX4_draughts_4
def dkwX4_draughts_2 : List UInt8 := [55, 6, 3, 54, 8, 21, 8, 27, 162, 0, 16, 22, 6, 28, 133, 105, 55, 6, 132, 8, 1, 167, 255, 240]
abbrev dktX4_draughts_2 : List UInt8 := dkwX4_draughts_2 ++ dktX4_draughts_3
def dkwX4_draughts_1 : List UInt8 := [184, 0, 53, 153, 0, 12, 29, 3, 4, 184, 0, 53, 154, 0, 7, 20, 0, 233, 173, 9, 55, 4, 10]
abbrev dktX4_draughts_1 : List UInt8 := dkwX4_draughts_1 ++ dktX4_draughts_2
def dkwX4_draughts_0 : List UInt8 := [27, 3, 8, 184, 0, 53, 153, 0, 32, 27, 42, 180, 0, 9, 3, 46, 163, 0, 22, 28, 5, 16, 20]
abbrev dktX4_draughts_0 : List UInt8 := dkwX4_draughts_0 ++ dktX4_draughts_1
theorem dksX4_draughts_0 : cX4_draughts.data.toList.drop 0 = dktX4_draughts_0 := by decide +kernel
theorem dksX4_draughts_1 : cX4_draughts.data.toList.drop 23 = dktX4_draughts_1 := dk_seg dksX4_draughts_0 23 rfl rfl
theorem dksX4_draughts_2 : cX4_draughts.data.toList.drop 46 = dktX4_draughts_2 := dk_seg dksX4_draughts_1 23 rfl rfl
theorem dksX4_draughts_3 : cX4_draughts.data.toList.drop 70 = dktX4_draughts_3 := dk_seg dksX4_draughts_2 24 rfl rfl
theorem dksX4_draughts_4 : cX4_draughts.data.toList.drop 93 = dktX4_draughts_4 := dk_seg dksX4_draughts_3 23 rfl rfl
theorem dksX4_draughts_5 : cX4_draughts.data.toList.drop 116 = dktX4_draughts_5 := dk_seg dksX4_draughts_4 23 rfl rfl
theorem dksX4_draughts_6 : cX4_draughts.data.toList.drop 140 = dktX4_draughts_6 := dk_seg dksX4_draughts_5 24 rfl rfl
theorem dX4_draughts_0 : decode cX4_draughts 0 = .ok (.iload_n 1, 1) := dk_27 (dk_at dksX4_draughts_0 0 rfl rfl)
theorem dX4_draughts_1 : decode cX4_draughts 1 = .ok (.iconst 0, 1) := dk_3 (dk_at dksX4_draughts_0 1 rfl rfl)
theorem dX4_draughts_2 : decode cX4_draughts 2 = .ok (.iconst 5, 1) := dk_8 (dk_at dksX4_draughts_0 2 rfl rfl)
theorem dX4_draughts_3 : decode cX4_draughts 3 = .ok (.invokestatic 53, 3) := dk_184 0 53 (dk_at dksX4_draughts_0 3 rfl rfl)
theorem dX4_draughts_6 : decode cX4_draughts 6 = .ok (.ifCond .eq 32, 3) := dk_153 0 32 (dk_at dksX4_draughts_0 6 rfl rfl)
theorem dX4_draughts_9 : decode cX4_draughts 9 = .ok (.iload_n 1, 1) := dk_27 (dk_at dksX4_draughts_0 9 rfl rfl)
theorem dX4_draughts_10 : decode cX4_draughts 10 = .ok (.aload_n 0, 1) := dk_42 (dk_at dksX4_draughts_0 10 rfl rfl)
theorem dX4_draughts_11 : decode cX4_draughts 11 = .ok (.getfield 9, 3) := dk_180 0 9 (dk_at dksX4_draughts_0 11 rfl rfl)
theorem dX4_draughts_14 : decode cX4_draughts 14 = .ok (.iconst 0, 1) := dk_3 (dk_at dksX4_draughts_0 14 rfl rfl)
theorem dX4_draughts_15 : decode cX4_draughts 15 = .ok (.iaload, 1) := dk_46 (dk_at dksX4_draughts_0 15 rfl rfl)
theorem dX4_draughts_16 : decode cX4_draughts 16 = .ok (.if_icmp .gt 22, 3) := dk_163 0 22 (dk_at dksX4_draughts_0 16 rfl rfl)
theorem dX4_draughts_19 : decode cX4_draughts 19 = .ok (.iload_n 2, 1) := dk_28 (dk_at dksX4_draughts_0 19 rfl rfl)
theorem dX4_draughts_20 : decode cX4_draughts 20 = .ok (.iconst 2, 1) := dk_5 (dk_at dksX4_draughts_0 20 rfl rfl)
theorem dX4_draughts_21 : decode cX4_draughts 21 = .ok (.bipush 20, 2) := dk_16 20 (dk_at dksX4_draughts_0 21 rfl rfl)
theorem dX4_draughts_23 : decode cX4_draughts 23 = .ok (.invokestatic 53, 3) := dk_184 0 53 (dk_at dksX4_draughts_1 0 rfl rfl)
theorem dX4_draughts_26 : decode cX4_draughts 26 = .ok (.ifCond .eq 12, 3) := dk_153 0 12 (dk_at dksX4_draughts_1 3 rfl rfl)
theorem dX4_draughts_29 : decode cX4_draughts 29 = .ok (.iload_n 3, 1) := dk_29 (dk_at dksX4_draughts_1 6 rfl rfl)
theorem dX4_draughts_30 : decode cX4_draughts 30 = .ok (.iconst 0, 1) := dk_3 (dk_at dksX4_draughts_1 7 rfl rfl)
theorem dX4_draughts_31 : decode cX4_draughts 31 = .ok (.iconst 1, 1) := dk_4 (dk_at dksX4_draughts_1 8 rfl rfl)
theorem dX4_draughts_32 : decode cX4_draughts 32 = .ok (.invokestatic 53, 3) := dk_184 0 53 (dk_at dksX4_draughts_1 9 rfl rfl)
theorem dX4_draughts_35 : decode cX4_draughts 35 = .ok (.ifCond .ne 7, 3) := dk_154 0 7 (dk_at dksX4_draughts_1 12 rfl rfl)
theorem dX4_draughts_38 : decode cX4_draughts 38 = .ok (.ldc2_w 233, 3) := dk_20 0 233 (dk_at dksX4_draughts_1 15 rfl rfl)
theorem dX4_draughts_41 : decode cX4_draughts 41 = .ok (.lreturn, 1) := dk_173 (dk_at dksX4_draughts_1 18 rfl rfl)
theorem dX4_draughts_42 : decode cX4_draughts 42 = .ok (.lconst 0, 1) := dk_9 (dk_at dksX4_draughts_1 19 rfl rfl)
theorem dX4_draughts_43 : decode cX4_draughts 43 = .ok (.lstore 4, 2) := dk_55 4 (dk_at dksX4_draughts_1 20 rfl rfl)
theorem dX4_draughts_45 : decode cX4_draughts 45 = .ok (.lconst 1, 1) := dk_10 (dk_at dksX4_draughts_1 22 rfl rfl)
theorem dX4_draughts_46 : decode cX4_draughts 46 = .ok (.lstore 6, 2) := dk_55 6 (dk_at dksX4_draughts_2 0 rfl rfl)
theorem dX4_draughts_48 : decode cX4_draughts 48 = .ok (.iconst 0, 1) := dk_3 (dk_at dksX4_draughts_2 2 rfl rfl)
theorem dX4_draughts_49 : decode cX4_draughts 49 = .ok (.istore 8, 2) := dk_54 8 (dk_at dksX4_draughts_2 3 rfl rfl)
theorem dX4_draughts_51 : decode cX4_draughts 51 = .ok (.iload 8, 2) := dk_21 8 (dk_at dksX4_draughts_2 5 rfl rfl)
theorem dX4_draughts_53 : decode cX4_draughts 53 = .ok (.iload_n 1, 1) := dk_27 (dk_at dksX4_draughts_2 7 rfl rfl)
theorem dX4_draughts_54 : decode cX4_draughts 54 = .ok (.if_icmp .ge 16, 3) := dk_162 0 16 (dk_at dksX4_draughts_2 8 rfl rfl)
theorem dX4_draughts_57 : decode cX4_draughts 57 = .ok (.lload 6, 2) := dk_22 6 (dk_at dksX4_draughts_2 11 rfl rfl)
theorem dX4_draughts_59 : decode cX4_draughts 59 = .ok (.iload_n 2, 1) := dk_28 (dk_at dksX4_draughts_2 13 rfl rfl)
theorem dX4_draughts_60 : decode cX4_draughts 60 = .ok (.i2l, 1) := dk_133 (dk_at dksX4_draughts_2 14 rfl rfl)
theorem dX4_draughts_61 : decode cX4_draughts 61 = .ok (.lmul, 1) := dk_105 (dk_at dksX4_draughts_2 15 rfl rfl)
theorem dX4_draughts_62 : decode cX4_draughts 62 = .ok (.lstore 6, 2) := dk_55 6 (dk_at dksX4_draughts_2 16 rfl rfl)
theorem dX4_draughts_64 : decode cX4_draughts 64 = .ok (.iinc 8 1, 3) := dk_132 8 1 (dk_at dksX4_draughts_2 18 rfl rfl)
theorem dX4_draughts_67 : decode cX4_draughts 67 = .ok (.goto (-16), 3) := dk_167 255 240 (dk_at dksX4_draughts_2 21 rfl rfl)
theorem dX4_draughts_70 : decode cX4_draughts 70 = .ok (.iconst 0, 1) := dk_3 (dk_at dksX4_draughts_3 0 rfl rfl)
theorem dX4_draughts_71 : decode cX4_draughts 71 = .ok (.istore 8, 2) := dk_54 8 (dk_at dksX4_draughts_3 1 rfl rfl)
theorem dX4_draughts_73 : decode cX4_draughts 73 = .ok (.iload 8, 2) := dk_21 8 (dk_at dksX4_draughts_3 3 rfl rfl)
theorem dX4_draughts_75 : decode cX4_draughts 75 = .ok (.iconst 1, 1) := dk_4 (dk_at dksX4_draughts_3 5 rfl rfl)
theorem dX4_draughts_76 : decode cX4_draughts 76 = .ok (.iload_n 1, 1) := dk_27 (dk_at dksX4_draughts_3 6 rfl rfl)
theorem dX4_draughts_77 : decode cX4_draughts 77 = .ok (.ishl, 1) := dk_120 (dk_at dksX4_draughts_3 7 rfl rfl)
theorem dX4_draughts_78 : decode cX4_draughts 78 = .ok (.if_icmp .ge 71, 3) := dk_162 0 71 (dk_at dksX4_draughts_3 8 rfl rfl)
theorem dX4_draughts_81 : decode cX4_draughts 81 = .ok (.lconst 1, 1) := dk_10 (dk_at dksX4_draughts_3 11 rfl rfl)
theorem dX4_draughts_82 : decode cX4_draughts 82 = .ok (.lstore 9, 2) := dk_55 9 (dk_at dksX4_draughts_3 12 rfl rfl)
theorem dX4_draughts_84 : decode cX4_draughts 84 = .ok (.iconst 0, 1) := dk_3 (dk_at dksX4_draughts_3 14 rfl rfl)
theorem dX4_draughts_85 : decode cX4_draughts 85 = .ok (.istore 11, 2) := dk_54 11 (dk_at dksX4_draughts_3 15 rfl rfl)
theorem dX4_draughts_87 : decode cX4_draughts 87 = .ok (.iload 11, 2) := dk_21 11 (dk_at dksX4_draughts_3 17 rfl rfl)
theorem dX4_draughts_89 : decode cX4_draughts 89 = .ok (.iload_n 1, 1) := dk_27 (dk_at dksX4_draughts_3 19 rfl rfl)
theorem dX4_draughts_90 : decode cX4_draughts 90 = .ok (.if_icmp .ge 32, 3) := dk_162 0 32 (dk_at dksX4_draughts_3 20 rfl rfl)
theorem dX4_draughts_93 : decode cX4_draughts 93 = .ok (.lload 9, 2) := dk_22 9 (dk_at dksX4_draughts_4 0 rfl rfl)
theorem dX4_draughts_95 : decode cX4_draughts 95 = .ok (.iload 8, 2) := dk_21 8 (dk_at dksX4_draughts_4 2 rfl rfl)
theorem dX4_draughts_97 : decode cX4_draughts 97 = .ok (.iload 11, 2) := dk_21 11 (dk_at dksX4_draughts_4 4 rfl rfl)
theorem dX4_draughts_99 : decode cX4_draughts 99 = .ok (.invokestatic 230, 3) := dk_184 0 230 (dk_at dksX4_draughts_4 6 rfl rfl)
theorem dX4_draughts_102 : decode cX4_draughts 102 = .ok (.ifCond .eq 7, 3) := dk_153 0 7 (dk_at dksX4_draughts_4 9 rfl rfl)
theorem dX4_draughts_105 : decode cX4_draughts 105 = .ok (.lconst 1, 1) := dk_10 (dk_at dksX4_draughts_4 12 rfl rfl)
theorem dX4_draughts_106 : decode cX4_draughts 106 = .ok (.goto 7, 3) := dk_167 0 7 (dk_at dksX4_draughts_4 13 rfl rfl)
theorem dX4_draughts_109 : decode cX4_draughts 109 = .ok (.iload_n 2, 1) := dk_28 (dk_at dksX4_draughts_4 16 rfl rfl)
theorem dX4_draughts_110 : decode cX4_draughts 110 = .ok (.iconst 1, 1) := dk_4 (dk_at dksX4_draughts_4 17 rfl rfl)
theorem dX4_draughts_111 : decode cX4_draughts 111 = .ok (.isub, 1) := dk_100 (dk_at dksX4_draughts_4 18 rfl rfl)
theorem dX4_draughts_112 : decode cX4_draughts 112 = .ok (.i2l, 1) := dk_133 (dk_at dksX4_draughts_4 19 rfl rfl)
theorem dX4_draughts_113 : decode cX4_draughts 113 = .ok (.lmul, 1) := dk_105 (dk_at dksX4_draughts_4 20 rfl rfl)
theorem dX4_draughts_114 : decode cX4_draughts 114 = .ok (.lstore 9, 2) := dk_55 9 (dk_at dksX4_draughts_4 21 rfl rfl)
theorem dX4_draughts_116 : decode cX4_draughts 116 = .ok (.iinc 11 1, 3) := dk_132 11 1 (dk_at dksX4_draughts_5 0 rfl rfl)
theorem dX4_draughts_119 : decode cX4_draughts 119 = .ok (.goto (-32), 3) := dk_167 255 224 (dk_at dksX4_draughts_5 3 rfl rfl)
theorem dX4_draughts_122 : decode cX4_draughts 122 = .ok (.lload 4, 2) := dk_22 4 (dk_at dksX4_draughts_5 6 rfl rfl)
theorem dX4_draughts_124 : decode cX4_draughts 124 = .ok (.aload_n 0, 1) := dk_42 (dk_at dksX4_draughts_5 8 rfl rfl)
theorem dX4_draughts_125 : decode cX4_draughts 125 = .ok (.iload_n 1, 1) := dk_27 (dk_at dksX4_draughts_5 9 rfl rfl)
theorem dX4_draughts_126 : decode cX4_draughts 126 = .ok (.iload 8, 2) := dk_21 8 (dk_at dksX4_draughts_5 10 rfl rfl)
theorem dX4_draughts_128 : decode cX4_draughts 128 = .ok (.invokevirtual 235, 3) := dk_182 0 235 (dk_at dksX4_draughts_5 12 rfl rfl)
theorem dX4_draughts_131 : decode cX4_draughts 131 = .ok (.ifCond .eq 8, 3) := dk_153 0 8 (dk_at dksX4_draughts_5 15 rfl rfl)
theorem dX4_draughts_134 : decode cX4_draughts 134 = .ok (.lload 9, 2) := dk_22 9 (dk_at dksX4_draughts_5 18 rfl rfl)
theorem dX4_draughts_136 : decode cX4_draughts 136 = .ok (.goto 4, 3) := dk_167 0 4 (dk_at dksX4_draughts_5 20 rfl rfl)
theorem dX4_draughts_139 : decode cX4_draughts 139 = .ok (.lconst 0, 1) := dk_9 (dk_at dksX4_draughts_5 23 rfl rfl)
theorem dX4_draughts_140 : decode cX4_draughts 140 = .ok (.ladd, 1) := dk_97 (dk_at dksX4_draughts_6 0 rfl rfl)
theorem dX4_draughts_141 : decode cX4_draughts 141 = .ok (.lstore 4, 2) := dk_55 4 (dk_at dksX4_draughts_6 1 rfl rfl)
theorem dX4_draughts_143 : decode cX4_draughts 143 = .ok (.iinc 8 1, 3) := dk_132 8 1 (dk_at dksX4_draughts_6 3 rfl rfl)
theorem dX4_draughts_146 : decode cX4_draughts 146 = .ok (.goto (-73), 3) := dk_167 255 183 (dk_at dksX4_draughts_6 6 rfl rfl)
theorem dX4_draughts_149 : decode cX4_draughts 149 = .ok (.lload 4, 2) := dk_22 4 (dk_at dksX4_draughts_6 9 rfl rfl)
theorem dX4_draughts_151 : decode cX4_draughts 151 = .ok (.lload 6, 2) := dk_22 6 (dk_at dksX4_draughts_6 11 rfl rfl)
theorem dX4_draughts_153 : decode cX4_draughts 153 = .ok (.iload_n 3, 1) := dk_29 (dk_at dksX4_draughts_6 13 rfl rfl)
theorem dX4_draughts_154 : decode cX4_draughts 154 = .ok (.invokestatic 238, 3) := dk_184 0 238 (dk_at dksX4_draughts_6 14 rfl rfl)
theorem dX4_draughts_157 : decode cX4_draughts 157 = .ok (.lreturn, 1) := dk_173 (dk_at dksX4_draughts_6 17 rfl rfl)
abbrev cX4_has : ByteArray := prog_21_method_11_code
def yX4_has : MethodName := ⟨RX4, "has", "(II)Z"⟩
def dkwX4_has_0 : List UInt8 := [26, 27, 122, 4, 126, 4, 160, 0, 7, 4, 167, 0, 4, 3, 172]
abbrev dktX4_has_0 : List UInt8 := dkwX4_has_0 ++ []
theorem dksX4_has_0 : cX4_has.data.toList.drop 0 = dktX4_has_0 := by decide +kernel
theorem dX4_has_0 : decode cX4_has 0 = .ok (.iload_n 0, 1) := dk_26 (dk_at dksX4_has_0 0 rfl rfl)
theorem dX4_has_1 : decode cX4_has 1 = .ok (.iload_n 1, 1) := dk_27 (dk_at dksX4_has_0 1 rfl rfl)
theorem dX4_has_2 : decode cX4_has 2 = .ok (.ishr, 1) := dk_122 (dk_at dksX4_has_0 2 rfl rfl)
theorem dX4_has_3 : decode cX4_has 3 = .ok (.iconst 1, 1) := dk_4 (dk_at dksX4_has_0 3 rfl rfl)
theorem dX4_has_4 : decode cX4_has 4 = .ok (.iand, 1) := dk_126 (dk_at dksX4_has_0 4 rfl rfl)
theorem dX4_has_5 : decode cX4_has 5 = .ok (.iconst 1, 1) := dk_4 (dk_at dksX4_has_0 5 rfl rfl)
theorem dX4_has_6 : decode cX4_has 6 = .ok (.if_icmp .ne 7, 3) := dk_160 0 7 (dk_at dksX4_has_0 6 rfl rfl)
theorem dX4_has_9 : decode cX4_has 9 = .ok (.iconst 1, 1) := dk_4 (dk_at dksX4_has_0 9 rfl rfl)
theorem dX4_has_10 : decode cX4_has 10 = .ok (.goto 4, 3) := dk_167 0 4 (dk_at dksX4_has_0 10 rfl rfl)
theorem dX4_has_13 : decode cX4_has 13 = .ok (.iconst 0, 1) := dk_3 (dk_at dksX4_has_0 13 rfl rfl)
theorem dX4_has_14 : decode cX4_has 14 = .ok (.ireturn, 1) := dk_172 (dk_at dksX4_has_0 14 rfl rfl)
abbrev cX4_isPointless : ByteArray := prog_21_method_80_code
def yX4_isPointless : MethodName := ⟨RX4, "isPointless", "(II)Z"⟩
def dkwX4_isPointless_2 : List UInt8 := [5, 182, 0, 149, 153, 0, 5, 3, 172, 132, 3, 1, 167, 255, 209, 4, 172]
abbrev dktX4_isPointless_2 : List UInt8 := dkwX4_isPointless_2 ++ []
def dkwX4_isPointless_1 : List UInt8 := [29, 184, 0, 230, 153, 0, 7, 4, 167, 0, 9, 42, 180, 0, 9, 6, 46, 79, 42, 42, 180, 0, 13, 29]
abbrev dktX4_isPointless_1 : List UInt8 := dkwX4_isPointless_1 ++ dktX4_isPointless_2
def dkwX4_isPointless_0 : List UInt8 := [42, 180, 0, 9, 42, 180, 0, 13, 184, 0, 158, 3, 62, 29, 27, 162, 0, 48, 42, 180, 0, 13, 6, 28]
abbrev dktX4_isPointless_0 : List UInt8 := dkwX4_isPointless_0 ++ dktX4_isPointless_1
theorem dksX4_isPointless_0 : cX4_isPointless.data.toList.drop 0 = dktX4_isPointless_0 := by decide +kernel
theorem dksX4_isPointless_1 : cX4_isPointless.data.toList.drop 24 = dktX4_isPointless_1 := dk_seg dksX4_isPointless_0 24 rfl rfl
theorem dksX4_isPointless_2 : cX4_isPointless.data.toList.drop 48 = dktX4_isPointless_2 := dk_seg dksX4_isPointless_1 24 rfl rfl
theorem dX4_isPointless_0 : decode cX4_isPointless 0 = .ok (.aload_n 0, 1) := dk_42 (dk_at dksX4_isPointless_0 0 rfl rfl)
theorem dX4_isPointless_1 : decode cX4_isPointless 1 = .ok (.getfield 9, 3) := dk_180 0 9 (dk_at dksX4_isPointless_0 1 rfl rfl)
theorem dX4_isPointless_4 : decode cX4_isPointless 4 = .ok (.aload_n 0, 1) := dk_42 (dk_at dksX4_isPointless_0 4 rfl rfl)
theorem dX4_isPointless_5 : decode cX4_isPointless 5 = .ok (.getfield 13, 3) := dk_180 0 13 (dk_at dksX4_isPointless_0 5 rfl rfl)
theorem dX4_isPointless_8 : decode cX4_isPointless 8 = .ok (.invokestatic 158, 3) := dk_184 0 158 (dk_at dksX4_isPointless_0 8 rfl rfl)
theorem dX4_isPointless_11 : decode cX4_isPointless 11 = .ok (.iconst 0, 1) := dk_3 (dk_at dksX4_isPointless_0 11 rfl rfl)
theorem dX4_isPointless_12 : decode cX4_isPointless 12 = .ok (.istore_n 3, 1) := dk_62 (dk_at dksX4_isPointless_0 12 rfl rfl)
theorem dX4_isPointless_13 : decode cX4_isPointless 13 = .ok (.iload_n 3, 1) := dk_29 (dk_at dksX4_isPointless_0 13 rfl rfl)
theorem dX4_isPointless_14 : decode cX4_isPointless 14 = .ok (.iload_n 1, 1) := dk_27 (dk_at dksX4_isPointless_0 14 rfl rfl)
theorem dX4_isPointless_15 : decode cX4_isPointless 15 = .ok (.if_icmp .ge 48, 3) := dk_162 0 48 (dk_at dksX4_isPointless_0 15 rfl rfl)
theorem dX4_isPointless_18 : decode cX4_isPointless 18 = .ok (.aload_n 0, 1) := dk_42 (dk_at dksX4_isPointless_0 18 rfl rfl)
theorem dX4_isPointless_19 : decode cX4_isPointless 19 = .ok (.getfield 13, 3) := dk_180 0 13 (dk_at dksX4_isPointless_0 19 rfl rfl)
theorem dX4_isPointless_22 : decode cX4_isPointless 22 = .ok (.iconst 3, 1) := dk_6 (dk_at dksX4_isPointless_0 22 rfl rfl)
theorem dX4_isPointless_23 : decode cX4_isPointless 23 = .ok (.iload_n 2, 1) := dk_28 (dk_at dksX4_isPointless_0 23 rfl rfl)
theorem dX4_isPointless_24 : decode cX4_isPointless 24 = .ok (.iload_n 3, 1) := dk_29 (dk_at dksX4_isPointless_1 0 rfl rfl)
theorem dX4_isPointless_25 : decode cX4_isPointless 25 = .ok (.invokestatic 230, 3) := dk_184 0 230 (dk_at dksX4_isPointless_1 1 rfl rfl)
theorem dX4_isPointless_28 : decode cX4_isPointless 28 = .ok (.ifCond .eq 7, 3) := dk_153 0 7 (dk_at dksX4_isPointless_1 4 rfl rfl)
theorem dX4_isPointless_31 : decode cX4_isPointless 31 = .ok (.iconst 1, 1) := dk_4 (dk_at dksX4_isPointless_1 7 rfl rfl)
theorem dX4_isPointless_32 : decode cX4_isPointless 32 = .ok (.goto 9, 3) := dk_167 0 9 (dk_at dksX4_isPointless_1 8 rfl rfl)
theorem dX4_isPointless_35 : decode cX4_isPointless 35 = .ok (.aload_n 0, 1) := dk_42 (dk_at dksX4_isPointless_1 11 rfl rfl)
theorem dX4_isPointless_36 : decode cX4_isPointless 36 = .ok (.getfield 9, 3) := dk_180 0 9 (dk_at dksX4_isPointless_1 12 rfl rfl)
theorem dX4_isPointless_39 : decode cX4_isPointless 39 = .ok (.iconst 3, 1) := dk_6 (dk_at dksX4_isPointless_1 15 rfl rfl)
theorem dX4_isPointless_40 : decode cX4_isPointless 40 = .ok (.iaload, 1) := dk_46 (dk_at dksX4_isPointless_1 16 rfl rfl)
theorem dX4_isPointless_41 : decode cX4_isPointless 41 = .ok (.iastore, 1) := dk_79 (dk_at dksX4_isPointless_1 17 rfl rfl)
theorem dX4_isPointless_42 : decode cX4_isPointless 42 = .ok (.aload_n 0, 1) := dk_42 (dk_at dksX4_isPointless_1 18 rfl rfl)
theorem dX4_isPointless_43 : decode cX4_isPointless 43 = .ok (.aload_n 0, 1) := dk_42 (dk_at dksX4_isPointless_1 19 rfl rfl)
theorem dX4_isPointless_44 : decode cX4_isPointless 44 = .ok (.getfield 13, 3) := dk_180 0 13 (dk_at dksX4_isPointless_1 20 rfl rfl)
theorem dX4_isPointless_47 : decode cX4_isPointless 47 = .ok (.iload_n 3, 1) := dk_29 (dk_at dksX4_isPointless_1 23 rfl rfl)
theorem dX4_isPointless_48 : decode cX4_isPointless 48 = .ok (.iconst 2, 1) := dk_5 (dk_at dksX4_isPointless_2 0 rfl rfl)
theorem dX4_isPointless_49 : decode cX4_isPointless 49 = .ok (.invokevirtual 149, 3) := dk_182 0 149 (dk_at dksX4_isPointless_2 1 rfl rfl)
theorem dX4_isPointless_52 : decode cX4_isPointless 52 = .ok (.ifCond .eq 5, 3) := dk_153 0 5 (dk_at dksX4_isPointless_2 4 rfl rfl)
theorem dX4_isPointless_55 : decode cX4_isPointless 55 = .ok (.iconst 0, 1) := dk_3 (dk_at dksX4_isPointless_2 7 rfl rfl)
theorem dX4_isPointless_56 : decode cX4_isPointless 56 = .ok (.ireturn, 1) := dk_172 (dk_at dksX4_isPointless_2 8 rfl rfl)
theorem dX4_isPointless_57 : decode cX4_isPointless 57 = .ok (.iinc 3 1, 3) := dk_132 3 1 (dk_at dksX4_isPointless_2 9 rfl rfl)
theorem dX4_isPointless_60 : decode cX4_isPointless 60 = .ok (.goto (-47), 3) := dk_167 255 209 (dk_at dksX4_isPointless_2 12 rfl rfl)
theorem dX4_isPointless_63 : decode cX4_isPointless 63 = .ok (.iconst 1, 1) := dk_4 (dk_at dksX4_isPointless_2 15 rfl rfl)
theorem dX4_isPointless_64 : decode cX4_isPointless 64 = .ok (.ireturn, 1) := dk_172 (dk_at dksX4_isPointless_2 16 rfl rfl)
abbrev cX4_partOf : ByteArray := prog_21_method_79_code
def yX4_partOf : MethodName := ⟨RX4, "partOf", "(JJI)J"⟩
def dkwX4_partOf_1 : List UInt8 := [184, 0, 226, 109, 173]
abbrev dktX4_partOf_1 : List UInt8 := dkwX4_partOf_1 ++ []
def dkwX4_partOf_0 : List UInt8 := [30, 9, 148, 154, 0, 7, 21, 4, 133, 173, 21, 4, 154, 0, 7, 30, 167, 0, 4, 32, 30, 32]
abbrev dktX4_partOf_0 : List UInt8 := dkwX4_partOf_0 ++ dktX4_partOf_1
theorem dksX4_partOf_0 : cX4_partOf.data.toList.drop 0 = dktX4_partOf_0 := by decide +kernel
theorem dksX4_partOf_1 : cX4_partOf.data.toList.drop 22 = dktX4_partOf_1 := dk_seg dksX4_partOf_0 22 rfl rfl
theorem dX4_partOf_0 : decode cX4_partOf 0 = .ok (.lload_n 0, 1) := dk_30 (dk_at dksX4_partOf_0 0 rfl rfl)
theorem dX4_partOf_1 : decode cX4_partOf 1 = .ok (.lconst 0, 1) := dk_9 (dk_at dksX4_partOf_0 1 rfl rfl)
theorem dX4_partOf_2 : decode cX4_partOf 2 = .ok (.lcmp, 1) := dk_148 (dk_at dksX4_partOf_0 2 rfl rfl)
theorem dX4_partOf_3 : decode cX4_partOf 3 = .ok (.ifCond .ne 7, 3) := dk_154 0 7 (dk_at dksX4_partOf_0 3 rfl rfl)
theorem dX4_partOf_6 : decode cX4_partOf 6 = .ok (.iload 4, 2) := dk_21 4 (dk_at dksX4_partOf_0 6 rfl rfl)
theorem dX4_partOf_8 : decode cX4_partOf 8 = .ok (.i2l, 1) := dk_133 (dk_at dksX4_partOf_0 8 rfl rfl)
theorem dX4_partOf_9 : decode cX4_partOf 9 = .ok (.lreturn, 1) := dk_173 (dk_at dksX4_partOf_0 9 rfl rfl)
theorem dX4_partOf_10 : decode cX4_partOf 10 = .ok (.iload 4, 2) := dk_21 4 (dk_at dksX4_partOf_0 10 rfl rfl)
theorem dX4_partOf_12 : decode cX4_partOf 12 = .ok (.ifCond .ne 7, 3) := dk_154 0 7 (dk_at dksX4_partOf_0 12 rfl rfl)
theorem dX4_partOf_15 : decode cX4_partOf 15 = .ok (.lload_n 0, 1) := dk_30 (dk_at dksX4_partOf_0 15 rfl rfl)
theorem dX4_partOf_16 : decode cX4_partOf 16 = .ok (.goto 4, 3) := dk_167 0 4 (dk_at dksX4_partOf_0 16 rfl rfl)
theorem dX4_partOf_19 : decode cX4_partOf 19 = .ok (.lload_n 2, 1) := dk_32 (dk_at dksX4_partOf_0 19 rfl rfl)
theorem dX4_partOf_20 : decode cX4_partOf 20 = .ok (.lload_n 0, 1) := dk_30 (dk_at dksX4_partOf_0 20 rfl rfl)
theorem dX4_partOf_21 : decode cX4_partOf 21 = .ok (.lload_n 2, 1) := dk_32 (dk_at dksX4_partOf_0 21 rfl rfl)
theorem dX4_partOf_22 : decode cX4_partOf 22 = .ok (.invokestatic 226, 3) := dk_184 0 226 (dk_at dksX4_partOf_1 0 rfl rfl)
theorem dX4_partOf_25 : decode cX4_partOf 25 = .ok (.ldiv, 1) := dk_109 (dk_at dksX4_partOf_1 3 rfl rfl)
theorem dX4_partOf_26 : decode cX4_partOf 26 = .ok (.lreturn, 1) := dk_173 (dk_at dksX4_partOf_1 4 rfl rfl)
abbrev cX4_gcd : ByteArray := prog_21_method_78_code
def yX4_gcd : MethodName := ⟨RX4, "gcd", "(JJ)J"⟩
def dkwX4_gcd_1 : List UInt8 := [22, 8, 55, 6, 167, 255, 234, 22, 4, 173]
abbrev dktX4_gcd_1 : List UInt8 := dkwX4_gcd_1 ++ []
def dkwX4_gcd_0 : List UInt8 := [30, 55, 4, 32, 55, 6, 22, 6, 9, 148, 153, 0, 21, 22, 4, 22, 6, 113, 55, 8, 22, 6, 55, 4]
abbrev dktX4_gcd_0 : List UInt8 := dkwX4_gcd_0 ++ dktX4_gcd_1
theorem dksX4_gcd_0 : cX4_gcd.data.toList.drop 0 = dktX4_gcd_0 := by decide +kernel
theorem dksX4_gcd_1 : cX4_gcd.data.toList.drop 24 = dktX4_gcd_1 := dk_seg dksX4_gcd_0 24 rfl rfl
theorem dX4_gcd_0 : decode cX4_gcd 0 = .ok (.lload_n 0, 1) := dk_30 (dk_at dksX4_gcd_0 0 rfl rfl)
theorem dX4_gcd_1 : decode cX4_gcd 1 = .ok (.lstore 4, 2) := dk_55 4 (dk_at dksX4_gcd_0 1 rfl rfl)
theorem dX4_gcd_3 : decode cX4_gcd 3 = .ok (.lload_n 2, 1) := dk_32 (dk_at dksX4_gcd_0 3 rfl rfl)
theorem dX4_gcd_4 : decode cX4_gcd 4 = .ok (.lstore 6, 2) := dk_55 6 (dk_at dksX4_gcd_0 4 rfl rfl)
theorem dX4_gcd_6 : decode cX4_gcd 6 = .ok (.lload 6, 2) := dk_22 6 (dk_at dksX4_gcd_0 6 rfl rfl)
theorem dX4_gcd_8 : decode cX4_gcd 8 = .ok (.lconst 0, 1) := dk_9 (dk_at dksX4_gcd_0 8 rfl rfl)
theorem dX4_gcd_9 : decode cX4_gcd 9 = .ok (.lcmp, 1) := dk_148 (dk_at dksX4_gcd_0 9 rfl rfl)
theorem dX4_gcd_10 : decode cX4_gcd 10 = .ok (.ifCond .eq 21, 3) := dk_153 0 21 (dk_at dksX4_gcd_0 10 rfl rfl)
theorem dX4_gcd_13 : decode cX4_gcd 13 = .ok (.lload 4, 2) := dk_22 4 (dk_at dksX4_gcd_0 13 rfl rfl)
theorem dX4_gcd_15 : decode cX4_gcd 15 = .ok (.lload 6, 2) := dk_22 6 (dk_at dksX4_gcd_0 15 rfl rfl)
theorem dX4_gcd_17 : decode cX4_gcd 17 = .ok (.lrem, 1) := dk_113 (dk_at dksX4_gcd_0 17 rfl rfl)
theorem dX4_gcd_18 : decode cX4_gcd 18 = .ok (.lstore 8, 2) := dk_55 8 (dk_at dksX4_gcd_0 18 rfl rfl)
theorem dX4_gcd_20 : decode cX4_gcd 20 = .ok (.lload 6, 2) := dk_22 6 (dk_at dksX4_gcd_0 20 rfl rfl)
theorem dX4_gcd_22 : decode cX4_gcd 22 = .ok (.lstore 4, 2) := dk_55 4 (dk_at dksX4_gcd_0 22 rfl rfl)
theorem dX4_gcd_24 : decode cX4_gcd 24 = .ok (.lload 8, 2) := dk_22 8 (dk_at dksX4_gcd_1 0 rfl rfl)
theorem dX4_gcd_26 : decode cX4_gcd 26 = .ok (.lstore 6, 2) := dk_55 6 (dk_at dksX4_gcd_1 2 rfl rfl)
theorem dX4_gcd_28 : decode cX4_gcd 28 = .ok (.goto (-22), 3) := dk_167 255 234 (dk_at dksX4_gcd_1 4 rfl rfl)
theorem dX4_gcd_31 : decode cX4_gcd 31 = .ok (.lload 4, 2) := dk_22 4 (dk_at dksX4_gcd_1 7 rfl rfl)
theorem dX4_gcd_33 : decode cX4_gcd 33 = .ok (.lreturn, 1) := dk_173 (dk_at dksX4_gcd_1 9 rfl rfl)
abbrev cX4_mean : ByteArray := prog_21_method_83_code
def yX4_mean : MethodName := ⟨RX4, "mean", "(I)J"⟩
def dkwX4_mean_1 : List UInt8 := [20, 0, 233, 173]
abbrev dktX4_mean_1 : List UInt8 := dkwX4_mean_1 ++ []
def dkwX4_mean_0 : List UInt8 := [27, 3, 4, 184, 0, 53, 153, 0, 18, 42, 182, 0, 242, 133, 20, 0, 245, 27, 184, 0, 238, 167, 0, 6]
abbrev dktX4_mean_0 : List UInt8 := dkwX4_mean_0 ++ dktX4_mean_1
theorem dksX4_mean_0 : cX4_mean.data.toList.drop 0 = dktX4_mean_0 := by decide +kernel
theorem dksX4_mean_1 : cX4_mean.data.toList.drop 24 = dktX4_mean_1 := dk_seg dksX4_mean_0 24 rfl rfl
theorem dX4_mean_0 : decode cX4_mean 0 = .ok (.iload_n 1, 1) := dk_27 (dk_at dksX4_mean_0 0 rfl rfl)
theorem dX4_mean_1 : decode cX4_mean 1 = .ok (.iconst 0, 1) := dk_3 (dk_at dksX4_mean_0 1 rfl rfl)
theorem dX4_mean_2 : decode cX4_mean 2 = .ok (.iconst 1, 1) := dk_4 (dk_at dksX4_mean_0 2 rfl rfl)
theorem dX4_mean_3 : decode cX4_mean 3 = .ok (.invokestatic 53, 3) := dk_184 0 53 (dk_at dksX4_mean_0 3 rfl rfl)
theorem dX4_mean_6 : decode cX4_mean 6 = .ok (.ifCond .eq 18, 3) := dk_153 0 18 (dk_at dksX4_mean_0 6 rfl rfl)
theorem dX4_mean_9 : decode cX4_mean 9 = .ok (.aload_n 0, 1) := dk_42 (dk_at dksX4_mean_0 9 rfl rfl)
theorem dX4_mean_10 : decode cX4_mean 10 = .ok (.invokevirtual 242, 3) := dk_182 0 242 (dk_at dksX4_mean_0 10 rfl rfl)
theorem dX4_mean_13 : decode cX4_mean 13 = .ok (.i2l, 1) := dk_133 (dk_at dksX4_mean_0 13 rfl rfl)
theorem dX4_mean_14 : decode cX4_mean 14 = .ok (.ldc2_w 245, 3) := dk_20 0 245 (dk_at dksX4_mean_0 14 rfl rfl)
theorem dX4_mean_17 : decode cX4_mean 17 = .ok (.iload_n 1, 1) := dk_27 (dk_at dksX4_mean_0 17 rfl rfl)
theorem dX4_mean_18 : decode cX4_mean 18 = .ok (.invokestatic 238, 3) := dk_184 0 238 (dk_at dksX4_mean_0 18 rfl rfl)
theorem dX4_mean_21 : decode cX4_mean 21 = .ok (.goto 6, 3) := dk_167 0 6 (dk_at dksX4_mean_0 21 rfl rfl)
theorem dX4_mean_24 : decode cX4_mean 24 = .ok (.ldc2_w 233, 3) := dk_20 0 233 (dk_at dksX4_mean_1 0 rfl rfl)
theorem dX4_mean_27 : decode cX4_mean 27 = .ok (.lreturn, 1) := dk_173 (dk_at dksX4_mean_1 3 rfl rfl)
abbrev cX4_allTired : ByteArray := prog_21_method_82_code
def yX4_allTired : MethodName := ⟨RX4, "allTired", "()I"⟩
def dkwX4_allTired_1 : List UInt8 := [132, 2, 1, 167, 255, 235, 27, 172]
abbrev dktX4_allTired_1 : List UInt8 := dkwX4_allTired_1 ++ []
def dkwX4_allTired_0 : List UInt8 := [3, 60, 3, 61, 28, 7, 162, 0, 22, 27, 42, 180, 0, 9, 28, 5, 184, 0, 46, 46, 96, 60]
abbrev dktX4_allTired_0 : List UInt8 := dkwX4_allTired_0 ++ dktX4_allTired_1
theorem dksX4_allTired_0 : cX4_allTired.data.toList.drop 0 = dktX4_allTired_0 := by decide +kernel
theorem dksX4_allTired_1 : cX4_allTired.data.toList.drop 22 = dktX4_allTired_1 := dk_seg dksX4_allTired_0 22 rfl rfl
theorem dX4_allTired_0 : decode cX4_allTired 0 = .ok (.iconst 0, 1) := dk_3 (dk_at dksX4_allTired_0 0 rfl rfl)
theorem dX4_allTired_1 : decode cX4_allTired 1 = .ok (.istore_n 1, 1) := dk_60 (dk_at dksX4_allTired_0 1 rfl rfl)
theorem dX4_allTired_2 : decode cX4_allTired 2 = .ok (.iconst 0, 1) := dk_3 (dk_at dksX4_allTired_0 2 rfl rfl)
theorem dX4_allTired_3 : decode cX4_allTired 3 = .ok (.istore_n 2, 1) := dk_61 (dk_at dksX4_allTired_0 3 rfl rfl)
theorem dX4_allTired_4 : decode cX4_allTired 4 = .ok (.iload_n 2, 1) := dk_28 (dk_at dksX4_allTired_0 4 rfl rfl)
theorem dX4_allTired_5 : decode cX4_allTired 5 = .ok (.iconst 4, 1) := dk_7 (dk_at dksX4_allTired_0 5 rfl rfl)
theorem dX4_allTired_6 : decode cX4_allTired 6 = .ok (.if_icmp .ge 22, 3) := dk_162 0 22 (dk_at dksX4_allTired_0 6 rfl rfl)
theorem dX4_allTired_9 : decode cX4_allTired 9 = .ok (.iload_n 1, 1) := dk_27 (dk_at dksX4_allTired_0 9 rfl rfl)
theorem dX4_allTired_10 : decode cX4_allTired 10 = .ok (.aload_n 0, 1) := dk_42 (dk_at dksX4_allTired_0 10 rfl rfl)
theorem dX4_allTired_11 : decode cX4_allTired 11 = .ok (.getfield 9, 3) := dk_180 0 9 (dk_at dksX4_allTired_0 11 rfl rfl)
theorem dX4_allTired_14 : decode cX4_allTired 14 = .ok (.iload_n 2, 1) := dk_28 (dk_at dksX4_allTired_0 14 rfl rfl)
theorem dX4_allTired_15 : decode cX4_allTired 15 = .ok (.iconst 2, 1) := dk_5 (dk_at dksX4_allTired_0 15 rfl rfl)
theorem dX4_allTired_16 : decode cX4_allTired 16 = .ok (.invokestatic 46, 3) := dk_184 0 46 (dk_at dksX4_allTired_0 16 rfl rfl)
theorem dX4_allTired_19 : decode cX4_allTired 19 = .ok (.iaload, 1) := dk_46 (dk_at dksX4_allTired_0 19 rfl rfl)
theorem dX4_allTired_20 : decode cX4_allTired 20 = .ok (.iadd, 1) := dk_96 (dk_at dksX4_allTired_0 20 rfl rfl)
theorem dX4_allTired_21 : decode cX4_allTired 21 = .ok (.istore_n 1, 1) := dk_60 (dk_at dksX4_allTired_0 21 rfl rfl)
theorem dX4_allTired_22 : decode cX4_allTired 22 = .ok (.iinc 2 1, 3) := dk_132 2 1 (dk_at dksX4_allTired_1 0 rfl rfl)
theorem dX4_allTired_25 : decode cX4_allTired 25 = .ok (.goto (-21), 3) := dk_167 255 235 (dk_at dksX4_allTired_1 3 rfl rfl)
theorem dX4_allTired_28 : decode cX4_allTired 28 = .ok (.iload_n 1, 1) := dk_27 (dk_at dksX4_allTired_1 6 rfl rfl)
theorem dX4_allTired_29 : decode cX4_allTired 29 = .ok (.ireturn, 1) := dk_172 (dk_at dksX4_allTired_1 7 rfl rfl)
abbrev cX4_forged : ByteArray := prog_21_method_84_code
def yX4_forged : MethodName := ⟨RX4, "forged", "(I)I"⟩
def dkwX4_forged_5 : List UInt8 := [182, 0, 149, 62, 132, 4, 2, 167, 255, 179, 16, 252, 172]
abbrev dktX4_forged_5 : List UInt8 := dkwX4_forged_5 ++ []
def dkwX4_forged_4 : List UInt8 := [21, 5, 21, 6, 182, 0, 174, 154, 0, 8, 21, 4, 5, 108, 172, 42, 42, 180, 0, 13, 21, 5, 21, 6]
abbrev dktX4_forged_4 : List UInt8 := dkwX4_forged_4 ++ dktX4_forged_5
def dkwX4_forged_3 : List UInt8 := [46, 54, 5, 42, 180, 0, 43, 16, 100, 27, 104, 21, 4, 96, 4, 96, 46, 54, 6, 29, 154, 0, 14, 42]
abbrev dktX4_forged_3 : List UInt8 := dkwX4_forged_3 ++ dktX4_forged_4
def dkwX4_forged_2 : List UInt8 := [54, 4, 21, 4, 42, 180, 0, 40, 27, 46, 162, 0, 72, 42, 180, 0, 43, 16, 100, 27, 104, 21, 4, 96]
abbrev dktX4_forged_2 : List UInt8 := dkwX4_forged_2 ++ dktX4_forged_3
def dkwX4_forged_1 : List UInt8 := [16, 243, 61, 28, 153, 0, 5, 28, 172, 42, 180, 0, 9, 42, 180, 0, 13, 184, 0, 158, 3, 62, 3]
abbrev dktX4_forged_1 : List UInt8 := dkwX4_forged_1 ++ dktX4_forged_2
def dkwX4_forged_0 : List UInt8 := [42, 27, 2, 182, 0, 152, 61, 28, 154, 0, 18, 42, 180, 0, 40, 27, 46, 5, 112, 4, 160, 0, 6]
abbrev dktX4_forged_0 : List UInt8 := dkwX4_forged_0 ++ dktX4_forged_1
theorem dksX4_forged_0 : cX4_forged.data.toList.drop 0 = dktX4_forged_0 := by decide +kernel
theorem dksX4_forged_1 : cX4_forged.data.toList.drop 23 = dktX4_forged_1 := dk_seg dksX4_forged_0 23 rfl rfl
theorem dksX4_forged_2 : cX4_forged.data.toList.drop 46 = dktX4_forged_2 := dk_seg dksX4_forged_1 23 rfl rfl
theorem dksX4_forged_3 : cX4_forged.data.toList.drop 70 = dktX4_forged_3 := dk_seg dksX4_forged_2 24 rfl rfl
theorem dksX4_forged_4 : cX4_forged.data.toList.drop 94 = dktX4_forged_4 := dk_seg dksX4_forged_3 24 rfl rfl
theorem dksX4_forged_5 : cX4_forged.data.toList.drop 118 = dktX4_forged_5 := dk_seg dksX4_forged_4 24 rfl rfl
theorem dX4_forged_0 : decode cX4_forged 0 = .ok (.aload_n 0, 1) := dk_42 (dk_at dksX4_forged_0 0 rfl rfl)
theorem dX4_forged_1 : decode cX4_forged 1 = .ok (.iload_n 1, 1) := dk_27 (dk_at dksX4_forged_0 1 rfl rfl)
theorem dX4_forged_2 : decode cX4_forged 2 = .ok (.iconst (-1), 1) := dk_2 (dk_at dksX4_forged_0 2 rfl rfl)
theorem dX4_forged_3 : decode cX4_forged 3 = .ok (.invokevirtual 152, 3) := dk_182 0 152 (dk_at dksX4_forged_0 3 rfl rfl)
theorem dX4_forged_6 : decode cX4_forged 6 = .ok (.istore_n 2, 1) := dk_61 (dk_at dksX4_forged_0 6 rfl rfl)
theorem dX4_forged_7 : decode cX4_forged 7 = .ok (.iload_n 2, 1) := dk_28 (dk_at dksX4_forged_0 7 rfl rfl)
theorem dX4_forged_8 : decode cX4_forged 8 = .ok (.ifCond .ne 18, 3) := dk_154 0 18 (dk_at dksX4_forged_0 8 rfl rfl)
theorem dX4_forged_11 : decode cX4_forged 11 = .ok (.aload_n 0, 1) := dk_42 (dk_at dksX4_forged_0 11 rfl rfl)
theorem dX4_forged_12 : decode cX4_forged 12 = .ok (.getfield 40, 3) := dk_180 0 40 (dk_at dksX4_forged_0 12 rfl rfl)
theorem dX4_forged_15 : decode cX4_forged 15 = .ok (.iload_n 1, 1) := dk_27 (dk_at dksX4_forged_0 15 rfl rfl)
theorem dX4_forged_16 : decode cX4_forged 16 = .ok (.iaload, 1) := dk_46 (dk_at dksX4_forged_0 16 rfl rfl)
theorem dX4_forged_17 : decode cX4_forged 17 = .ok (.iconst 2, 1) := dk_5 (dk_at dksX4_forged_0 17 rfl rfl)
theorem dX4_forged_18 : decode cX4_forged 18 = .ok (.irem, 1) := dk_112 (dk_at dksX4_forged_0 18 rfl rfl)
theorem dX4_forged_19 : decode cX4_forged 19 = .ok (.iconst 1, 1) := dk_4 (dk_at dksX4_forged_0 19 rfl rfl)
theorem dX4_forged_20 : decode cX4_forged 20 = .ok (.if_icmp .ne 6, 3) := dk_160 0 6 (dk_at dksX4_forged_0 20 rfl rfl)
theorem dX4_forged_23 : decode cX4_forged 23 = .ok (.bipush (-13), 2) := dk_16 243 (dk_at dksX4_forged_1 0 rfl rfl)
theorem dX4_forged_25 : decode cX4_forged 25 = .ok (.istore_n 2, 1) := dk_61 (dk_at dksX4_forged_1 2 rfl rfl)
theorem dX4_forged_26 : decode cX4_forged 26 = .ok (.iload_n 2, 1) := dk_28 (dk_at dksX4_forged_1 3 rfl rfl)
theorem dX4_forged_27 : decode cX4_forged 27 = .ok (.ifCond .eq 5, 3) := dk_153 0 5 (dk_at dksX4_forged_1 4 rfl rfl)
theorem dX4_forged_30 : decode cX4_forged 30 = .ok (.iload_n 2, 1) := dk_28 (dk_at dksX4_forged_1 7 rfl rfl)
theorem dX4_forged_31 : decode cX4_forged 31 = .ok (.ireturn, 1) := dk_172 (dk_at dksX4_forged_1 8 rfl rfl)
theorem dX4_forged_32 : decode cX4_forged 32 = .ok (.aload_n 0, 1) := dk_42 (dk_at dksX4_forged_1 9 rfl rfl)
theorem dX4_forged_33 : decode cX4_forged 33 = .ok (.getfield 9, 3) := dk_180 0 9 (dk_at dksX4_forged_1 10 rfl rfl)
theorem dX4_forged_36 : decode cX4_forged 36 = .ok (.aload_n 0, 1) := dk_42 (dk_at dksX4_forged_1 13 rfl rfl)
theorem dX4_forged_37 : decode cX4_forged 37 = .ok (.getfield 13, 3) := dk_180 0 13 (dk_at dksX4_forged_1 14 rfl rfl)
theorem dX4_forged_40 : decode cX4_forged 40 = .ok (.invokestatic 158, 3) := dk_184 0 158 (dk_at dksX4_forged_1 17 rfl rfl)
theorem dX4_forged_43 : decode cX4_forged 43 = .ok (.iconst 0, 1) := dk_3 (dk_at dksX4_forged_1 20 rfl rfl)
theorem dX4_forged_44 : decode cX4_forged 44 = .ok (.istore_n 3, 1) := dk_62 (dk_at dksX4_forged_1 21 rfl rfl)
theorem dX4_forged_45 : decode cX4_forged 45 = .ok (.iconst 0, 1) := dk_3 (dk_at dksX4_forged_1 22 rfl rfl)
theorem dX4_forged_46 : decode cX4_forged 46 = .ok (.istore 4, 2) := dk_54 4 (dk_at dksX4_forged_2 0 rfl rfl)
theorem dX4_forged_48 : decode cX4_forged 48 = .ok (.iload 4, 2) := dk_21 4 (dk_at dksX4_forged_2 2 rfl rfl)
theorem dX4_forged_50 : decode cX4_forged 50 = .ok (.aload_n 0, 1) := dk_42 (dk_at dksX4_forged_2 4 rfl rfl)
theorem dX4_forged_51 : decode cX4_forged 51 = .ok (.getfield 40, 3) := dk_180 0 40 (dk_at dksX4_forged_2 5 rfl rfl)
theorem dX4_forged_54 : decode cX4_forged 54 = .ok (.iload_n 1, 1) := dk_27 (dk_at dksX4_forged_2 8 rfl rfl)
theorem dX4_forged_55 : decode cX4_forged 55 = .ok (.iaload, 1) := dk_46 (dk_at dksX4_forged_2 9 rfl rfl)
theorem dX4_forged_56 : decode cX4_forged 56 = .ok (.if_icmp .ge 72, 3) := dk_162 0 72 (dk_at dksX4_forged_2 10 rfl rfl)
theorem dX4_forged_59 : decode cX4_forged 59 = .ok (.aload_n 0, 1) := dk_42 (dk_at dksX4_forged_2 13 rfl rfl)
theorem dX4_forged_60 : decode cX4_forged 60 = .ok (.getfield 43, 3) := dk_180 0 43 (dk_at dksX4_forged_2 14 rfl rfl)
theorem dX4_forged_63 : decode cX4_forged 63 = .ok (.bipush 100, 2) := dk_16 100 (dk_at dksX4_forged_2 17 rfl rfl)
theorem dX4_forged_65 : decode cX4_forged 65 = .ok (.iload_n 1, 1) := dk_27 (dk_at dksX4_forged_2 19 rfl rfl)
theorem dX4_forged_66 : decode cX4_forged 66 = .ok (.imul, 1) := dk_104 (dk_at dksX4_forged_2 20 rfl rfl)
theorem dX4_forged_67 : decode cX4_forged 67 = .ok (.iload 4, 2) := dk_21 4 (dk_at dksX4_forged_2 21 rfl rfl)
theorem dX4_forged_69 : decode cX4_forged 69 = .ok (.iadd, 1) := dk_96 (dk_at dksX4_forged_2 23 rfl rfl)
theorem dX4_forged_70 : decode cX4_forged 70 = .ok (.iaload, 1) := dk_46 (dk_at dksX4_forged_3 0 rfl rfl)
theorem dX4_forged_71 : decode cX4_forged 71 = .ok (.istore 5, 2) := dk_54 5 (dk_at dksX4_forged_3 1 rfl rfl)
theorem dX4_forged_73 : decode cX4_forged 73 = .ok (.aload_n 0, 1) := dk_42 (dk_at dksX4_forged_3 3 rfl rfl)
theorem dX4_forged_74 : decode cX4_forged 74 = .ok (.getfield 43, 3) := dk_180 0 43 (dk_at dksX4_forged_3 4 rfl rfl)
theorem dX4_forged_77 : decode cX4_forged 77 = .ok (.bipush 100, 2) := dk_16 100 (dk_at dksX4_forged_3 7 rfl rfl)
theorem dX4_forged_79 : decode cX4_forged 79 = .ok (.iload_n 1, 1) := dk_27 (dk_at dksX4_forged_3 9 rfl rfl)
theorem dX4_forged_80 : decode cX4_forged 80 = .ok (.imul, 1) := dk_104 (dk_at dksX4_forged_3 10 rfl rfl)
theorem dX4_forged_81 : decode cX4_forged 81 = .ok (.iload 4, 2) := dk_21 4 (dk_at dksX4_forged_3 11 rfl rfl)
theorem dX4_forged_83 : decode cX4_forged 83 = .ok (.iadd, 1) := dk_96 (dk_at dksX4_forged_3 13 rfl rfl)
theorem dX4_forged_84 : decode cX4_forged 84 = .ok (.iconst 1, 1) := dk_4 (dk_at dksX4_forged_3 14 rfl rfl)
theorem dX4_forged_85 : decode cX4_forged 85 = .ok (.iadd, 1) := dk_96 (dk_at dksX4_forged_3 15 rfl rfl)
theorem dX4_forged_86 : decode cX4_forged 86 = .ok (.iaload, 1) := dk_46 (dk_at dksX4_forged_3 16 rfl rfl)
theorem dX4_forged_87 : decode cX4_forged 87 = .ok (.istore 6, 2) := dk_54 6 (dk_at dksX4_forged_3 17 rfl rfl)
theorem dX4_forged_89 : decode cX4_forged 89 = .ok (.iload_n 3, 1) := dk_29 (dk_at dksX4_forged_3 19 rfl rfl)
theorem dX4_forged_90 : decode cX4_forged 90 = .ok (.ifCond .ne 14, 3) := dk_154 0 14 (dk_at dksX4_forged_3 20 rfl rfl)
theorem dX4_forged_93 : decode cX4_forged 93 = .ok (.aload_n 0, 1) := dk_42 (dk_at dksX4_forged_3 23 rfl rfl)
theorem dX4_forged_94 : decode cX4_forged 94 = .ok (.iload 5, 2) := dk_21 5 (dk_at dksX4_forged_4 0 rfl rfl)
theorem dX4_forged_96 : decode cX4_forged 96 = .ok (.iload 6, 2) := dk_21 6 (dk_at dksX4_forged_4 2 rfl rfl)
theorem dX4_forged_98 : decode cX4_forged 98 = .ok (.invokevirtual 174, 3) := dk_182 0 174 (dk_at dksX4_forged_4 4 rfl rfl)
theorem dX4_forged_101 : decode cX4_forged 101 = .ok (.ifCond .ne 8, 3) := dk_154 0 8 (dk_at dksX4_forged_4 7 rfl rfl)
theorem dX4_forged_104 : decode cX4_forged 104 = .ok (.iload 4, 2) := dk_21 4 (dk_at dksX4_forged_4 10 rfl rfl)
theorem dX4_forged_106 : decode cX4_forged 106 = .ok (.iconst 2, 1) := dk_5 (dk_at dksX4_forged_4 12 rfl rfl)
theorem dX4_forged_107 : decode cX4_forged 107 = .ok (.idiv, 1) := dk_108 (dk_at dksX4_forged_4 13 rfl rfl)
theorem dX4_forged_108 : decode cX4_forged 108 = .ok (.ireturn, 1) := dk_172 (dk_at dksX4_forged_4 14 rfl rfl)
theorem dX4_forged_109 : decode cX4_forged 109 = .ok (.aload_n 0, 1) := dk_42 (dk_at dksX4_forged_4 15 rfl rfl)
theorem dX4_forged_110 : decode cX4_forged 110 = .ok (.aload_n 0, 1) := dk_42 (dk_at dksX4_forged_4 16 rfl rfl)
theorem dX4_forged_111 : decode cX4_forged 111 = .ok (.getfield 13, 3) := dk_180 0 13 (dk_at dksX4_forged_4 17 rfl rfl)
theorem dX4_forged_114 : decode cX4_forged 114 = .ok (.iload 5, 2) := dk_21 5 (dk_at dksX4_forged_4 20 rfl rfl)
theorem dX4_forged_116 : decode cX4_forged 116 = .ok (.iload 6, 2) := dk_21 6 (dk_at dksX4_forged_4 22 rfl rfl)
theorem dX4_forged_118 : decode cX4_forged 118 = .ok (.invokevirtual 149, 3) := dk_182 0 149 (dk_at dksX4_forged_5 0 rfl rfl)
theorem dX4_forged_121 : decode cX4_forged 121 = .ok (.istore_n 3, 1) := dk_62 (dk_at dksX4_forged_5 3 rfl rfl)
theorem dX4_forged_122 : decode cX4_forged 122 = .ok (.iinc 4 2, 3) := dk_132 4 2 (dk_at dksX4_forged_5 4 rfl rfl)
theorem dX4_forged_125 : decode cX4_forged 125 = .ok (.goto (-77), 3) := dk_167 255 179 (dk_at dksX4_forged_5 7 rfl rfl)
theorem dX4_forged_128 : decode cX4_forged 128 = .ok (.bipush (-4), 2) := dk_16 252 (dk_at dksX4_forged_5 10 rfl rfl)
theorem dX4_forged_130 : decode cX4_forged 130 = .ok (.ireturn, 1) := dk_172 (dk_at dksX4_forged_5 12 rfl rfl)
abbrev cX4_judge : ByteArray := prog_21_method_85_code
def yX4_judge : MethodName := ⟨RX4, "judge", "(I)I"⟩
def dkwX4_judge_5 : List UInt8 := [54, 4, 132, 3, 1, 167, 255, 174, 16, 252, 172]
abbrev dktX4_judge_5 : List UInt8 := dkwX4_judge_5 ++ []
def dkwX4_judge_4 : List UInt8 := [29, 172, 42, 42, 180, 0, 13, 3, 29, 5, 112, 154, 0, 7, 3, 167, 0, 5, 16, 8, 182, 0, 149]
abbrev dktX4_judge_4 : List UInt8 := dkwX4_judge_4 ++ dktX4_judge_5
def dkwX4_judge_3 : List UInt8 := [42, 180, 0, 13, 3, 5, 184, 0, 50, 46, 42, 180, 0, 13, 4, 5, 184, 0, 50, 46, 96, 159, 0, 5]
abbrev dktX4_judge_3 : List UInt8 := dkwX4_judge_3 ++ dktX4_judge_4
def dkwX4_judge_2 : List UInt8 := [46, 162, 0, 78, 42, 27, 29, 182, 0, 220, 154, 0, 40, 42, 180, 0, 43, 16, 100, 27, 104, 29, 96, 46]
abbrev dktX4_judge_2 : List UInt8 := dkwX4_judge_2 ++ dktX4_judge_3
def dkwX4_judge_1 : List UInt8 := [153, 0, 5, 28, 172, 42, 180, 0, 9, 42, 180, 0, 13, 184, 0, 158, 3, 62, 29, 42, 180, 0, 40, 27]
abbrev dktX4_judge_1 : List UInt8 := dkwX4_judge_1 ++ dktX4_judge_2
def dkwX4_judge_0 : List UInt8 := [42, 27, 2, 182, 0, 152, 61, 28, 154, 0, 15, 42, 180, 0, 9, 3, 46, 154, 0, 6, 16, 253, 61, 28]
abbrev dktX4_judge_0 : List UInt8 := dkwX4_judge_0 ++ dktX4_judge_1
theorem dksX4_judge_0 : cX4_judge.data.toList.drop 0 = dktX4_judge_0 := by decide +kernel
theorem dksX4_judge_1 : cX4_judge.data.toList.drop 24 = dktX4_judge_1 := dk_seg dksX4_judge_0 24 rfl rfl
theorem dksX4_judge_2 : cX4_judge.data.toList.drop 48 = dktX4_judge_2 := dk_seg dksX4_judge_1 24 rfl rfl
theorem dksX4_judge_3 : cX4_judge.data.toList.drop 72 = dktX4_judge_3 := dk_seg dksX4_judge_2 24 rfl rfl
theorem dksX4_judge_4 : cX4_judge.data.toList.drop 96 = dktX4_judge_4 := dk_seg dksX4_judge_3 24 rfl rfl
theorem dksX4_judge_5 : cX4_judge.data.toList.drop 119 = dktX4_judge_5 := dk_seg dksX4_judge_4 23 rfl rfl
theorem dX4_judge_0 : decode cX4_judge 0 = .ok (.aload_n 0, 1) := dk_42 (dk_at dksX4_judge_0 0 rfl rfl)
theorem dX4_judge_1 : decode cX4_judge 1 = .ok (.iload_n 1, 1) := dk_27 (dk_at dksX4_judge_0 1 rfl rfl)
theorem dX4_judge_2 : decode cX4_judge 2 = .ok (.iconst (-1), 1) := dk_2 (dk_at dksX4_judge_0 2 rfl rfl)
theorem dX4_judge_3 : decode cX4_judge 3 = .ok (.invokevirtual 152, 3) := dk_182 0 152 (dk_at dksX4_judge_0 3 rfl rfl)
theorem dX4_judge_6 : decode cX4_judge 6 = .ok (.istore_n 2, 1) := dk_61 (dk_at dksX4_judge_0 6 rfl rfl)
theorem dX4_judge_7 : decode cX4_judge 7 = .ok (.iload_n 2, 1) := dk_28 (dk_at dksX4_judge_0 7 rfl rfl)
theorem dX4_judge_8 : decode cX4_judge 8 = .ok (.ifCond .ne 15, 3) := dk_154 0 15 (dk_at dksX4_judge_0 8 rfl rfl)
theorem dX4_judge_11 : decode cX4_judge 11 = .ok (.aload_n 0, 1) := dk_42 (dk_at dksX4_judge_0 11 rfl rfl)
theorem dX4_judge_12 : decode cX4_judge 12 = .ok (.getfield 9, 3) := dk_180 0 9 (dk_at dksX4_judge_0 12 rfl rfl)
theorem dX4_judge_15 : decode cX4_judge 15 = .ok (.iconst 0, 1) := dk_3 (dk_at dksX4_judge_0 15 rfl rfl)
theorem dX4_judge_16 : decode cX4_judge 16 = .ok (.iaload, 1) := dk_46 (dk_at dksX4_judge_0 16 rfl rfl)
theorem dX4_judge_17 : decode cX4_judge 17 = .ok (.ifCond .ne 6, 3) := dk_154 0 6 (dk_at dksX4_judge_0 17 rfl rfl)
theorem dX4_judge_20 : decode cX4_judge 20 = .ok (.bipush (-3), 2) := dk_16 253 (dk_at dksX4_judge_0 20 rfl rfl)
theorem dX4_judge_22 : decode cX4_judge 22 = .ok (.istore_n 2, 1) := dk_61 (dk_at dksX4_judge_0 22 rfl rfl)
theorem dX4_judge_23 : decode cX4_judge 23 = .ok (.iload_n 2, 1) := dk_28 (dk_at dksX4_judge_0 23 rfl rfl)
theorem dX4_judge_24 : decode cX4_judge 24 = .ok (.ifCond .eq 5, 3) := dk_153 0 5 (dk_at dksX4_judge_1 0 rfl rfl)
theorem dX4_judge_27 : decode cX4_judge 27 = .ok (.iload_n 2, 1) := dk_28 (dk_at dksX4_judge_1 3 rfl rfl)
theorem dX4_judge_28 : decode cX4_judge 28 = .ok (.ireturn, 1) := dk_172 (dk_at dksX4_judge_1 4 rfl rfl)
theorem dX4_judge_29 : decode cX4_judge 29 = .ok (.aload_n 0, 1) := dk_42 (dk_at dksX4_judge_1 5 rfl rfl)
theorem dX4_judge_30 : decode cX4_judge 30 = .ok (.getfield 9, 3) := dk_180 0 9 (dk_at dksX4_judge_1 6 rfl rfl)
theorem dX4_judge_33 : decode cX4_judge 33 = .ok (.aload_n 0, 1) := dk_42 (dk_at dksX4_judge_1 9 rfl rfl)
theorem dX4_judge_34 : decode cX4_judge 34 = .ok (.getfield 13, 3) := dk_180 0 13 (dk_at dksX4_judge_1 10 rfl rfl)
theorem dX4_judge_37 : decode cX4_judge 37 = .ok (.invokestatic 158, 3) := dk_184 0 158 (dk_at dksX4_judge_1 13 rfl rfl)
theorem dX4_judge_40 : decode cX4_judge 40 = .ok (.iconst 0, 1) := dk_3 (dk_at dksX4_judge_1 16 rfl rfl)
theorem dX4_judge_41 : decode cX4_judge 41 = .ok (.istore_n 3, 1) := dk_62 (dk_at dksX4_judge_1 17 rfl rfl)
theorem dX4_judge_42 : decode cX4_judge 42 = .ok (.iload_n 3, 1) := dk_29 (dk_at dksX4_judge_1 18 rfl rfl)
theorem dX4_judge_43 : decode cX4_judge 43 = .ok (.aload_n 0, 1) := dk_42 (dk_at dksX4_judge_1 19 rfl rfl)
theorem dX4_judge_44 : decode cX4_judge 44 = .ok (.getfield 40, 3) := dk_180 0 40 (dk_at dksX4_judge_1 20 rfl rfl)
theorem dX4_judge_47 : decode cX4_judge 47 = .ok (.iload_n 1, 1) := dk_27 (dk_at dksX4_judge_1 23 rfl rfl)
theorem dX4_judge_48 : decode cX4_judge 48 = .ok (.iaload, 1) := dk_46 (dk_at dksX4_judge_2 0 rfl rfl)
theorem dX4_judge_49 : decode cX4_judge 49 = .ok (.if_icmp .ge 78, 3) := dk_162 0 78 (dk_at dksX4_judge_2 1 rfl rfl)
theorem dX4_judge_52 : decode cX4_judge 52 = .ok (.aload_n 0, 1) := dk_42 (dk_at dksX4_judge_2 4 rfl rfl)
theorem dX4_judge_53 : decode cX4_judge 53 = .ok (.iload_n 1, 1) := dk_27 (dk_at dksX4_judge_2 5 rfl rfl)
theorem dX4_judge_54 : decode cX4_judge 54 = .ok (.iload_n 3, 1) := dk_29 (dk_at dksX4_judge_2 6 rfl rfl)
theorem dX4_judge_55 : decode cX4_judge 55 = .ok (.invokevirtual 220, 3) := dk_182 0 220 (dk_at dksX4_judge_2 7 rfl rfl)
theorem dX4_judge_58 : decode cX4_judge 58 = .ok (.ifCond .ne 40, 3) := dk_154 0 40 (dk_at dksX4_judge_2 10 rfl rfl)
theorem dX4_judge_61 : decode cX4_judge 61 = .ok (.aload_n 0, 1) := dk_42 (dk_at dksX4_judge_2 13 rfl rfl)
theorem dX4_judge_62 : decode cX4_judge 62 = .ok (.getfield 43, 3) := dk_180 0 43 (dk_at dksX4_judge_2 14 rfl rfl)
theorem dX4_judge_65 : decode cX4_judge 65 = .ok (.bipush 100, 2) := dk_16 100 (dk_at dksX4_judge_2 17 rfl rfl)
theorem dX4_judge_67 : decode cX4_judge 67 = .ok (.iload_n 1, 1) := dk_27 (dk_at dksX4_judge_2 19 rfl rfl)
theorem dX4_judge_68 : decode cX4_judge 68 = .ok (.imul, 1) := dk_104 (dk_at dksX4_judge_2 20 rfl rfl)
theorem dX4_judge_69 : decode cX4_judge 69 = .ok (.iload_n 3, 1) := dk_29 (dk_at dksX4_judge_2 21 rfl rfl)
theorem dX4_judge_70 : decode cX4_judge 70 = .ok (.iadd, 1) := dk_96 (dk_at dksX4_judge_2 22 rfl rfl)
theorem dX4_judge_71 : decode cX4_judge 71 = .ok (.iaload, 1) := dk_46 (dk_at dksX4_judge_2 23 rfl rfl)
theorem dX4_judge_72 : decode cX4_judge 72 = .ok (.aload_n 0, 1) := dk_42 (dk_at dksX4_judge_3 0 rfl rfl)
theorem dX4_judge_73 : decode cX4_judge 73 = .ok (.getfield 13, 3) := dk_180 0 13 (dk_at dksX4_judge_3 1 rfl rfl)
theorem dX4_judge_76 : decode cX4_judge 76 = .ok (.iconst 0, 1) := dk_3 (dk_at dksX4_judge_3 4 rfl rfl)
theorem dX4_judge_77 : decode cX4_judge 77 = .ok (.iconst 2, 1) := dk_5 (dk_at dksX4_judge_3 5 rfl rfl)
theorem dX4_judge_78 : decode cX4_judge 78 = .ok (.invokestatic 50, 3) := dk_184 0 50 (dk_at dksX4_judge_3 6 rfl rfl)
theorem dX4_judge_81 : decode cX4_judge 81 = .ok (.iaload, 1) := dk_46 (dk_at dksX4_judge_3 9 rfl rfl)
theorem dX4_judge_82 : decode cX4_judge 82 = .ok (.aload_n 0, 1) := dk_42 (dk_at dksX4_judge_3 10 rfl rfl)
theorem dX4_judge_83 : decode cX4_judge 83 = .ok (.getfield 13, 3) := dk_180 0 13 (dk_at dksX4_judge_3 11 rfl rfl)
theorem dX4_judge_86 : decode cX4_judge 86 = .ok (.iconst 1, 1) := dk_4 (dk_at dksX4_judge_3 14 rfl rfl)
theorem dX4_judge_87 : decode cX4_judge 87 = .ok (.iconst 2, 1) := dk_5 (dk_at dksX4_judge_3 15 rfl rfl)
theorem dX4_judge_88 : decode cX4_judge 88 = .ok (.invokestatic 50, 3) := dk_184 0 50 (dk_at dksX4_judge_3 16 rfl rfl)
theorem dX4_judge_91 : decode cX4_judge 91 = .ok (.iaload, 1) := dk_46 (dk_at dksX4_judge_3 19 rfl rfl)
theorem dX4_judge_92 : decode cX4_judge 92 = .ok (.iadd, 1) := dk_96 (dk_at dksX4_judge_3 20 rfl rfl)
theorem dX4_judge_93 : decode cX4_judge 93 = .ok (.if_icmp .eq 5, 3) := dk_159 0 5 (dk_at dksX4_judge_3 21 rfl rfl)
theorem dX4_judge_96 : decode cX4_judge 96 = .ok (.iload_n 3, 1) := dk_29 (dk_at dksX4_judge_4 0 rfl rfl)
theorem dX4_judge_97 : decode cX4_judge 97 = .ok (.ireturn, 1) := dk_172 (dk_at dksX4_judge_4 1 rfl rfl)
theorem dX4_judge_98 : decode cX4_judge 98 = .ok (.aload_n 0, 1) := dk_42 (dk_at dksX4_judge_4 2 rfl rfl)
theorem dX4_judge_99 : decode cX4_judge 99 = .ok (.aload_n 0, 1) := dk_42 (dk_at dksX4_judge_4 3 rfl rfl)
theorem dX4_judge_100 : decode cX4_judge 100 = .ok (.getfield 13, 3) := dk_180 0 13 (dk_at dksX4_judge_4 4 rfl rfl)
theorem dX4_judge_103 : decode cX4_judge 103 = .ok (.iconst 0, 1) := dk_3 (dk_at dksX4_judge_4 7 rfl rfl)
theorem dX4_judge_104 : decode cX4_judge 104 = .ok (.iload_n 3, 1) := dk_29 (dk_at dksX4_judge_4 8 rfl rfl)
theorem dX4_judge_105 : decode cX4_judge 105 = .ok (.iconst 2, 1) := dk_5 (dk_at dksX4_judge_4 9 rfl rfl)
theorem dX4_judge_106 : decode cX4_judge 106 = .ok (.irem, 1) := dk_112 (dk_at dksX4_judge_4 10 rfl rfl)
theorem dX4_judge_107 : decode cX4_judge 107 = .ok (.ifCond .ne 7, 3) := dk_154 0 7 (dk_at dksX4_judge_4 11 rfl rfl)
theorem dX4_judge_110 : decode cX4_judge 110 = .ok (.iconst 0, 1) := dk_3 (dk_at dksX4_judge_4 14 rfl rfl)
theorem dX4_judge_111 : decode cX4_judge 111 = .ok (.goto 5, 3) := dk_167 0 5 (dk_at dksX4_judge_4 15 rfl rfl)
theorem dX4_judge_114 : decode cX4_judge 114 = .ok (.bipush 8, 2) := dk_16 8 (dk_at dksX4_judge_4 18 rfl rfl)
theorem dX4_judge_116 : decode cX4_judge 116 = .ok (.invokevirtual 149, 3) := dk_182 0 149 (dk_at dksX4_judge_4 20 rfl rfl)
theorem dX4_judge_119 : decode cX4_judge 119 = .ok (.istore 4, 2) := dk_54 4 (dk_at dksX4_judge_5 0 rfl rfl)
theorem dX4_judge_121 : decode cX4_judge 121 = .ok (.iinc 3 1, 3) := dk_132 3 1 (dk_at dksX4_judge_5 2 rfl rfl)
theorem dX4_judge_124 : decode cX4_judge 124 = .ok (.goto (-82), 3) := dk_167 255 174 (dk_at dksX4_judge_5 5 rfl rfl)
theorem dX4_judge_127 : decode cX4_judge 127 = .ok (.bipush (-4), 2) := dk_16 252 (dk_at dksX4_judge_5 8 rfl rfl)
theorem dX4_judge_129 : decode cX4_judge 129 = .ok (.ireturn, 1) := dk_172 (dk_at dksX4_judge_5 10 rfl rfl)
abbrev cX4_nights : ByteArray := prog_21_method_87_code
def yX4_nights : MethodName := ⟨RX4, "nights", "(III)I"⟩
def dkwX4_nights_6 : List UInt8 := [21, 4, 172]
abbrev dktX4_nights_6 : List UInt8 := dkwX4_nights_6 ++ []
def dkwX4_nights_5 : List UInt8 := [184, 0, 50, 46, 42, 180, 0, 9, 29, 5, 184, 0, 50, 46, 100, 96, 54, 4, 132, 5, 1, 167, 255, 164]
abbrev dktX4_nights_5 : List UInt8 := dkwX4_nights_5 ++ dktX4_nights_6
def dkwX4_nights_4 : List UInt8 := [16, 9, 182, 0, 253, 182, 0, 149, 54, 8, 132, 6, 1, 167, 255, 216, 21, 4, 42, 180, 0, 13, 29, 5]
abbrev dktX4_nights_4 : List UInt8 := dkwX4_nights_4 ++ dktX4_nights_5
def dkwX4_nights_3 : List UInt8 := [162, 0, 39, 42, 42, 180, 0, 9, 3, 46, 182, 0, 253, 54, 7, 42, 42, 180, 0, 13, 21, 7, 42]
abbrev dktX4_nights_3 : List UInt8 := dkwX4_nights_3 ++ dktX4_nights_4
def dkwX4_nights_2 : List UInt8 := [27, 162, 0, 92, 42, 180, 0, 9, 42, 180, 0, 13, 184, 0, 158, 3, 54, 6, 21, 6, 16, 12]
abbrev dktX4_nights_2 : List UInt8 := dkwX4_nights_2 ++ dktX4_nights_3
def dkwX4_nights_1 : List UInt8 := [180, 0, 9, 3, 46, 154, 0, 6, 16, 253, 172, 42, 28, 181, 0, 247, 3, 54, 4, 3, 54, 5, 21, 5]
abbrev dktX4_nights_1 : List UInt8 := dkwX4_nights_1 ++ dktX4_nights_2
def dkwX4_nights_0 : List UInt8 := [27, 4, 16, 20, 184, 0, 53, 153, 0, 12, 29, 3, 4, 184, 0, 53, 154, 0, 5, 2, 172, 42]
abbrev dktX4_nights_0 : List UInt8 := dkwX4_nights_0 ++ dktX4_nights_1
theorem dksX4_nights_0 : cX4_nights.data.toList.drop 0 = dktX4_nights_0 := by decide +kernel
theorem dksX4_nights_1 : cX4_nights.data.toList.drop 22 = dktX4_nights_1 := dk_seg dksX4_nights_0 22 rfl rfl
theorem dksX4_nights_2 : cX4_nights.data.toList.drop 46 = dktX4_nights_2 := dk_seg dksX4_nights_1 24 rfl rfl
theorem dksX4_nights_3 : cX4_nights.data.toList.drop 68 = dktX4_nights_3 := dk_seg dksX4_nights_2 22 rfl rfl
theorem dksX4_nights_4 : cX4_nights.data.toList.drop 91 = dktX4_nights_4 := dk_seg dksX4_nights_3 23 rfl rfl
theorem dksX4_nights_5 : cX4_nights.data.toList.drop 115 = dktX4_nights_5 := dk_seg dksX4_nights_4 24 rfl rfl
theorem dksX4_nights_6 : cX4_nights.data.toList.drop 139 = dktX4_nights_6 := dk_seg dksX4_nights_5 24 rfl rfl
theorem dX4_nights_0 : decode cX4_nights 0 = .ok (.iload_n 1, 1) := dk_27 (dk_at dksX4_nights_0 0 rfl rfl)
theorem dX4_nights_1 : decode cX4_nights 1 = .ok (.iconst 1, 1) := dk_4 (dk_at dksX4_nights_0 1 rfl rfl)
theorem dX4_nights_2 : decode cX4_nights 2 = .ok (.bipush 20, 2) := dk_16 20 (dk_at dksX4_nights_0 2 rfl rfl)
theorem dX4_nights_4 : decode cX4_nights 4 = .ok (.invokestatic 53, 3) := dk_184 0 53 (dk_at dksX4_nights_0 4 rfl rfl)
theorem dX4_nights_7 : decode cX4_nights 7 = .ok (.ifCond .eq 12, 3) := dk_153 0 12 (dk_at dksX4_nights_0 7 rfl rfl)
theorem dX4_nights_10 : decode cX4_nights 10 = .ok (.iload_n 3, 1) := dk_29 (dk_at dksX4_nights_0 10 rfl rfl)
theorem dX4_nights_11 : decode cX4_nights 11 = .ok (.iconst 0, 1) := dk_3 (dk_at dksX4_nights_0 11 rfl rfl)
theorem dX4_nights_12 : decode cX4_nights 12 = .ok (.iconst 1, 1) := dk_4 (dk_at dksX4_nights_0 12 rfl rfl)
theorem dX4_nights_13 : decode cX4_nights 13 = .ok (.invokestatic 53, 3) := dk_184 0 53 (dk_at dksX4_nights_0 13 rfl rfl)
theorem dX4_nights_16 : decode cX4_nights 16 = .ok (.ifCond .ne 5, 3) := dk_154 0 5 (dk_at dksX4_nights_0 16 rfl rfl)
theorem dX4_nights_19 : decode cX4_nights 19 = .ok (.iconst (-1), 1) := dk_2 (dk_at dksX4_nights_0 19 rfl rfl)
theorem dX4_nights_20 : decode cX4_nights 20 = .ok (.ireturn, 1) := dk_172 (dk_at dksX4_nights_0 20 rfl rfl)
theorem dX4_nights_21 : decode cX4_nights 21 = .ok (.aload_n 0, 1) := dk_42 (dk_at dksX4_nights_0 21 rfl rfl)
theorem dX4_nights_22 : decode cX4_nights 22 = .ok (.getfield 9, 3) := dk_180 0 9 (dk_at dksX4_nights_1 0 rfl rfl)
theorem dX4_nights_25 : decode cX4_nights 25 = .ok (.iconst 0, 1) := dk_3 (dk_at dksX4_nights_1 3 rfl rfl)
theorem dX4_nights_26 : decode cX4_nights 26 = .ok (.iaload, 1) := dk_46 (dk_at dksX4_nights_1 4 rfl rfl)
theorem dX4_nights_27 : decode cX4_nights 27 = .ok (.ifCond .ne 6, 3) := dk_154 0 6 (dk_at dksX4_nights_1 5 rfl rfl)
theorem dX4_nights_30 : decode cX4_nights 30 = .ok (.bipush (-3), 2) := dk_16 253 (dk_at dksX4_nights_1 8 rfl rfl)
theorem dX4_nights_32 : decode cX4_nights 32 = .ok (.ireturn, 1) := dk_172 (dk_at dksX4_nights_1 10 rfl rfl)
theorem dX4_nights_33 : decode cX4_nights 33 = .ok (.aload_n 0, 1) := dk_42 (dk_at dksX4_nights_1 11 rfl rfl)
theorem dX4_nights_34 : decode cX4_nights 34 = .ok (.iload_n 2, 1) := dk_28 (dk_at dksX4_nights_1 12 rfl rfl)
theorem dX4_nights_35 : decode cX4_nights 35 = .ok (.putfield 247, 3) := dk_181 0 247 (dk_at dksX4_nights_1 13 rfl rfl)
theorem dX4_nights_38 : decode cX4_nights 38 = .ok (.iconst 0, 1) := dk_3 (dk_at dksX4_nights_1 16 rfl rfl)
theorem dX4_nights_39 : decode cX4_nights 39 = .ok (.istore 4, 2) := dk_54 4 (dk_at dksX4_nights_1 17 rfl rfl)
theorem dX4_nights_41 : decode cX4_nights 41 = .ok (.iconst 0, 1) := dk_3 (dk_at dksX4_nights_1 19 rfl rfl)
theorem dX4_nights_42 : decode cX4_nights 42 = .ok (.istore 5, 2) := dk_54 5 (dk_at dksX4_nights_1 20 rfl rfl)
theorem dX4_nights_44 : decode cX4_nights 44 = .ok (.iload 5, 2) := dk_21 5 (dk_at dksX4_nights_1 22 rfl rfl)
theorem dX4_nights_46 : decode cX4_nights 46 = .ok (.iload_n 1, 1) := dk_27 (dk_at dksX4_nights_2 0 rfl rfl)
theorem dX4_nights_47 : decode cX4_nights 47 = .ok (.if_icmp .ge 92, 3) := dk_162 0 92 (dk_at dksX4_nights_2 1 rfl rfl)
theorem dX4_nights_50 : decode cX4_nights 50 = .ok (.aload_n 0, 1) := dk_42 (dk_at dksX4_nights_2 4 rfl rfl)
theorem dX4_nights_51 : decode cX4_nights 51 = .ok (.getfield 9, 3) := dk_180 0 9 (dk_at dksX4_nights_2 5 rfl rfl)
theorem dX4_nights_54 : decode cX4_nights 54 = .ok (.aload_n 0, 1) := dk_42 (dk_at dksX4_nights_2 8 rfl rfl)
theorem dX4_nights_55 : decode cX4_nights 55 = .ok (.getfield 13, 3) := dk_180 0 13 (dk_at dksX4_nights_2 9 rfl rfl)
theorem dX4_nights_58 : decode cX4_nights 58 = .ok (.invokestatic 158, 3) := dk_184 0 158 (dk_at dksX4_nights_2 12 rfl rfl)
theorem dX4_nights_61 : decode cX4_nights 61 = .ok (.iconst 0, 1) := dk_3 (dk_at dksX4_nights_2 15 rfl rfl)
theorem dX4_nights_62 : decode cX4_nights 62 = .ok (.istore 6, 2) := dk_54 6 (dk_at dksX4_nights_2 16 rfl rfl)
theorem dX4_nights_64 : decode cX4_nights 64 = .ok (.iload 6, 2) := dk_21 6 (dk_at dksX4_nights_2 18 rfl rfl)
theorem dX4_nights_66 : decode cX4_nights 66 = .ok (.bipush 12, 2) := dk_16 12 (dk_at dksX4_nights_2 20 rfl rfl)
theorem dX4_nights_68 : decode cX4_nights 68 = .ok (.if_icmp .ge 39, 3) := dk_162 0 39 (dk_at dksX4_nights_3 0 rfl rfl)
theorem dX4_nights_71 : decode cX4_nights 71 = .ok (.aload_n 0, 1) := dk_42 (dk_at dksX4_nights_3 3 rfl rfl)
theorem dX4_nights_72 : decode cX4_nights 72 = .ok (.aload_n 0, 1) := dk_42 (dk_at dksX4_nights_3 4 rfl rfl)
theorem dX4_nights_73 : decode cX4_nights 73 = .ok (.getfield 9, 3) := dk_180 0 9 (dk_at dksX4_nights_3 5 rfl rfl)
theorem dX4_nights_76 : decode cX4_nights 76 = .ok (.iconst 0, 1) := dk_3 (dk_at dksX4_nights_3 8 rfl rfl)
theorem dX4_nights_77 : decode cX4_nights 77 = .ok (.iaload, 1) := dk_46 (dk_at dksX4_nights_3 9 rfl rfl)
theorem dX4_nights_78 : decode cX4_nights 78 = .ok (.invokevirtual 253, 3) := dk_182 0 253 (dk_at dksX4_nights_3 10 rfl rfl)
theorem dX4_nights_81 : decode cX4_nights 81 = .ok (.istore 7, 2) := dk_54 7 (dk_at dksX4_nights_3 13 rfl rfl)
theorem dX4_nights_83 : decode cX4_nights 83 = .ok (.aload_n 0, 1) := dk_42 (dk_at dksX4_nights_3 15 rfl rfl)
theorem dX4_nights_84 : decode cX4_nights 84 = .ok (.aload_n 0, 1) := dk_42 (dk_at dksX4_nights_3 16 rfl rfl)
theorem dX4_nights_85 : decode cX4_nights 85 = .ok (.getfield 13, 3) := dk_180 0 13 (dk_at dksX4_nights_3 17 rfl rfl)
theorem dX4_nights_88 : decode cX4_nights 88 = .ok (.iload 7, 2) := dk_21 7 (dk_at dksX4_nights_3 20 rfl rfl)
theorem dX4_nights_90 : decode cX4_nights 90 = .ok (.aload_n 0, 1) := dk_42 (dk_at dksX4_nights_3 22 rfl rfl)
theorem dX4_nights_91 : decode cX4_nights 91 = .ok (.bipush 9, 2) := dk_16 9 (dk_at dksX4_nights_4 0 rfl rfl)
theorem dX4_nights_93 : decode cX4_nights 93 = .ok (.invokevirtual 253, 3) := dk_182 0 253 (dk_at dksX4_nights_4 2 rfl rfl)
theorem dX4_nights_96 : decode cX4_nights 96 = .ok (.invokevirtual 149, 3) := dk_182 0 149 (dk_at dksX4_nights_4 5 rfl rfl)
theorem dX4_nights_99 : decode cX4_nights 99 = .ok (.istore 8, 2) := dk_54 8 (dk_at dksX4_nights_4 8 rfl rfl)
theorem dX4_nights_101 : decode cX4_nights 101 = .ok (.iinc 6 1, 3) := dk_132 6 1 (dk_at dksX4_nights_4 10 rfl rfl)
theorem dX4_nights_104 : decode cX4_nights 104 = .ok (.goto (-40), 3) := dk_167 255 216 (dk_at dksX4_nights_4 13 rfl rfl)
theorem dX4_nights_107 : decode cX4_nights 107 = .ok (.iload 4, 2) := dk_21 4 (dk_at dksX4_nights_4 16 rfl rfl)
theorem dX4_nights_109 : decode cX4_nights 109 = .ok (.aload_n 0, 1) := dk_42 (dk_at dksX4_nights_4 18 rfl rfl)
theorem dX4_nights_110 : decode cX4_nights 110 = .ok (.getfield 13, 3) := dk_180 0 13 (dk_at dksX4_nights_4 19 rfl rfl)
theorem dX4_nights_113 : decode cX4_nights 113 = .ok (.iload_n 3, 1) := dk_29 (dk_at dksX4_nights_4 22 rfl rfl)
theorem dX4_nights_114 : decode cX4_nights 114 = .ok (.iconst 2, 1) := dk_5 (dk_at dksX4_nights_4 23 rfl rfl)
theorem dX4_nights_115 : decode cX4_nights 115 = .ok (.invokestatic 50, 3) := dk_184 0 50 (dk_at dksX4_nights_5 0 rfl rfl)
theorem dX4_nights_118 : decode cX4_nights 118 = .ok (.iaload, 1) := dk_46 (dk_at dksX4_nights_5 3 rfl rfl)
theorem dX4_nights_119 : decode cX4_nights 119 = .ok (.aload_n 0, 1) := dk_42 (dk_at dksX4_nights_5 4 rfl rfl)
theorem dX4_nights_120 : decode cX4_nights 120 = .ok (.getfield 9, 3) := dk_180 0 9 (dk_at dksX4_nights_5 5 rfl rfl)
theorem dX4_nights_123 : decode cX4_nights 123 = .ok (.iload_n 3, 1) := dk_29 (dk_at dksX4_nights_5 8 rfl rfl)
theorem dX4_nights_124 : decode cX4_nights 124 = .ok (.iconst 2, 1) := dk_5 (dk_at dksX4_nights_5 9 rfl rfl)
theorem dX4_nights_125 : decode cX4_nights 125 = .ok (.invokestatic 50, 3) := dk_184 0 50 (dk_at dksX4_nights_5 10 rfl rfl)
theorem dX4_nights_128 : decode cX4_nights 128 = .ok (.iaload, 1) := dk_46 (dk_at dksX4_nights_5 13 rfl rfl)
theorem dX4_nights_129 : decode cX4_nights 129 = .ok (.isub, 1) := dk_100 (dk_at dksX4_nights_5 14 rfl rfl)
theorem dX4_nights_130 : decode cX4_nights 130 = .ok (.iadd, 1) := dk_96 (dk_at dksX4_nights_5 15 rfl rfl)
theorem dX4_nights_131 : decode cX4_nights 131 = .ok (.istore 4, 2) := dk_54 4 (dk_at dksX4_nights_5 16 rfl rfl)
theorem dX4_nights_133 : decode cX4_nights 133 = .ok (.iinc 5 1, 3) := dk_132 5 1 (dk_at dksX4_nights_5 18 rfl rfl)
theorem dX4_nights_136 : decode cX4_nights 136 = .ok (.goto (-92), 3) := dk_167 255 164 (dk_at dksX4_nights_5 21 rfl rfl)
theorem dX4_nights_139 : decode cX4_nights 139 = .ok (.iload 4, 2) := dk_21 4 (dk_at dksX4_nights_6 0 rfl rfl)
theorem dX4_nights_141 : decode cX4_nights 141 = .ok (.ireturn, 1) := dk_172 (dk_at dksX4_nights_6 2 rfl rfl)
abbrev cX4_drawn : ByteArray := prog_21_method_86_code
def yX4_drawn : MethodName := ⟨RX4, "drawn", "(I)I"⟩
def dkwX4_drawn_1 : List UInt8 := [108, 27, 112, 172]
abbrev dktX4_drawn_1 : List UInt8 := dkwX4_drawn_1 ++ []
def dkwX4_drawn_0 : List UInt8 := [42, 42, 180, 0, 247, 18, 250, 104, 17, 48, 57, 96, 181, 0, 247, 42, 180, 0, 247, 18, 251, 126, 18, 252]
abbrev dktX4_drawn_0 : List UInt8 := dkwX4_drawn_0 ++ dktX4_drawn_1
theorem dksX4_drawn_0 : cX4_drawn.data.toList.drop 0 = dktX4_drawn_0 := by decide +kernel
theorem dksX4_drawn_1 : cX4_drawn.data.toList.drop 24 = dktX4_drawn_1 := dk_seg dksX4_drawn_0 24 rfl rfl
theorem dX4_drawn_0 : decode cX4_drawn 0 = .ok (.aload_n 0, 1) := dk_42 (dk_at dksX4_drawn_0 0 rfl rfl)
theorem dX4_drawn_1 : decode cX4_drawn 1 = .ok (.aload_n 0, 1) := dk_42 (dk_at dksX4_drawn_0 1 rfl rfl)
theorem dX4_drawn_2 : decode cX4_drawn 2 = .ok (.getfield 247, 3) := dk_180 0 247 (dk_at dksX4_drawn_0 2 rfl rfl)
theorem dX4_drawn_5 : decode cX4_drawn 5 = .ok (.ldc 250, 2) := dk_18 250 (dk_at dksX4_drawn_0 5 rfl rfl)
theorem dX4_drawn_7 : decode cX4_drawn 7 = .ok (.imul, 1) := dk_104 (dk_at dksX4_drawn_0 7 rfl rfl)
theorem dX4_drawn_8 : decode cX4_drawn 8 = .ok (.sipush 12345, 3) := dk_17 48 57 (dk_at dksX4_drawn_0 8 rfl rfl)
theorem dX4_drawn_11 : decode cX4_drawn 11 = .ok (.iadd, 1) := dk_96 (dk_at dksX4_drawn_0 11 rfl rfl)
theorem dX4_drawn_12 : decode cX4_drawn 12 = .ok (.putfield 247, 3) := dk_181 0 247 (dk_at dksX4_drawn_0 12 rfl rfl)
theorem dX4_drawn_15 : decode cX4_drawn 15 = .ok (.aload_n 0, 1) := dk_42 (dk_at dksX4_drawn_0 15 rfl rfl)
theorem dX4_drawn_16 : decode cX4_drawn 16 = .ok (.getfield 247, 3) := dk_180 0 247 (dk_at dksX4_drawn_0 16 rfl rfl)
theorem dX4_drawn_19 : decode cX4_drawn 19 = .ok (.ldc 251, 2) := dk_18 251 (dk_at dksX4_drawn_0 19 rfl rfl)
theorem dX4_drawn_21 : decode cX4_drawn 21 = .ok (.iand, 1) := dk_126 (dk_at dksX4_drawn_0 21 rfl rfl)
theorem dX4_drawn_22 : decode cX4_drawn 22 = .ok (.ldc 252, 2) := dk_18 252 (dk_at dksX4_drawn_0 22 rfl rfl)
theorem dX4_drawn_24 : decode cX4_drawn 24 = .ok (.idiv, 1) := dk_108 (dk_at dksX4_drawn_1 0 rfl rfl)
theorem dX4_drawn_25 : decode cX4_drawn 25 = .ok (.iload_n 1, 1) := dk_27 (dk_at dksX4_drawn_1 1 rfl rfl)
theorem dX4_drawn_26 : decode cX4_drawn 26 = .ok (.irem, 1) := dk_112 (dk_at dksX4_drawn_1 2 rfl rfl)
theorem dX4_drawn_27 : decode cX4_drawn 27 = .ok (.ireturn, 1) := dk_172 (dk_at dksX4_drawn_1 3 rfl rfl)
abbrev cX4_image : ByteArray := prog_21_method_88_code
def yX4_image : MethodName := ⟨RX4, "image", "()I"⟩
def dkwX4_image_0 : List UInt8 := [42, 180, 0, 9, 42, 180, 0, 16, 184, 0, 158, 42, 4, 181, 1, 0, 42, 180, 0, 9, 4, 46, 172]
abbrev dktX4_image_0 : List UInt8 := dkwX4_image_0 ++ []
theorem dksX4_image_0 : cX4_image.data.toList.drop 0 = dktX4_image_0 := by decide +kernel
theorem dX4_image_0 : decode cX4_image 0 = .ok (.aload_n 0, 1) := dk_42 (dk_at dksX4_image_0 0 rfl rfl)
theorem dX4_image_1 : decode cX4_image 1 = .ok (.getfield 9, 3) := dk_180 0 9 (dk_at dksX4_image_0 1 rfl rfl)
theorem dX4_image_4 : decode cX4_image 4 = .ok (.aload_n 0, 1) := dk_42 (dk_at dksX4_image_0 4 rfl rfl)
theorem dX4_image_5 : decode cX4_image 5 = .ok (.getfield 16, 3) := dk_180 0 16 (dk_at dksX4_image_0 5 rfl rfl)
theorem dX4_image_8 : decode cX4_image 8 = .ok (.invokestatic 158, 3) := dk_184 0 158 (dk_at dksX4_image_0 8 rfl rfl)
theorem dX4_image_11 : decode cX4_image 11 = .ok (.aload_n 0, 1) := dk_42 (dk_at dksX4_image_0 11 rfl rfl)
theorem dX4_image_12 : decode cX4_image 12 = .ok (.iconst 1, 1) := dk_4 (dk_at dksX4_image_0 12 rfl rfl)
theorem dX4_image_13 : decode cX4_image 13 = .ok (.putfield 256, 3) := dk_181 1 0 (dk_at dksX4_image_0 13 rfl rfl)
theorem dX4_image_16 : decode cX4_image 16 = .ok (.aload_n 0, 1) := dk_42 (dk_at dksX4_image_0 16 rfl rfl)
theorem dX4_image_17 : decode cX4_image 17 = .ok (.getfield 9, 3) := dk_180 0 9 (dk_at dksX4_image_0 17 rfl rfl)
theorem dX4_image_20 : decode cX4_image 20 = .ok (.iconst 1, 1) := dk_4 (dk_at dksX4_image_0 20 rfl rfl)
theorem dX4_image_21 : decode cX4_image 21 = .ok (.iaload, 1) := dk_46 (dk_at dksX4_image_0 21 rfl rfl)
theorem dX4_image_22 : decode cX4_image 22 = .ok (.ireturn, 1) := dk_172 (dk_at dksX4_image_0 22 rfl rfl)
abbrev cX4_restore : ByteArray := prog_21_method_89_code
def yX4_restore : MethodName := ⟨RX4, "restore", "()I"⟩
def dkwX4_restore_1 : List UInt8 := [180, 0, 9, 4, 46, 172]
abbrev dktX4_restore_1 : List UInt8 := dkwX4_restore_1 ++ []
def dkwX4_restore_0 : List UInt8 := [42, 180, 1, 0, 154, 0, 6, 16, 253, 172, 42, 180, 0, 16, 42, 180, 0, 9, 184, 0, 158, 42]
abbrev dktX4_restore_0 : List UInt8 := dkwX4_restore_0 ++ dktX4_restore_1
theorem dksX4_restore_0 : cX4_restore.data.toList.drop 0 = dktX4_restore_0 := by decide +kernel
theorem dksX4_restore_1 : cX4_restore.data.toList.drop 22 = dktX4_restore_1 := dk_seg dksX4_restore_0 22 rfl rfl
theorem dX4_restore_0 : decode cX4_restore 0 = .ok (.aload_n 0, 1) := dk_42 (dk_at dksX4_restore_0 0 rfl rfl)
theorem dX4_restore_1 : decode cX4_restore 1 = .ok (.getfield 256, 3) := dk_180 1 0 (dk_at dksX4_restore_0 1 rfl rfl)
theorem dX4_restore_4 : decode cX4_restore 4 = .ok (.ifCond .ne 6, 3) := dk_154 0 6 (dk_at dksX4_restore_0 4 rfl rfl)
theorem dX4_restore_7 : decode cX4_restore 7 = .ok (.bipush (-3), 2) := dk_16 253 (dk_at dksX4_restore_0 7 rfl rfl)
theorem dX4_restore_9 : decode cX4_restore 9 = .ok (.ireturn, 1) := dk_172 (dk_at dksX4_restore_0 9 rfl rfl)
theorem dX4_restore_10 : decode cX4_restore 10 = .ok (.aload_n 0, 1) := dk_42 (dk_at dksX4_restore_0 10 rfl rfl)
theorem dX4_restore_11 : decode cX4_restore 11 = .ok (.getfield 16, 3) := dk_180 0 16 (dk_at dksX4_restore_0 11 rfl rfl)
theorem dX4_restore_14 : decode cX4_restore 14 = .ok (.aload_n 0, 1) := dk_42 (dk_at dksX4_restore_0 14 rfl rfl)
theorem dX4_restore_15 : decode cX4_restore 15 = .ok (.getfield 9, 3) := dk_180 0 9 (dk_at dksX4_restore_0 15 rfl rfl)
theorem dX4_restore_18 : decode cX4_restore 18 = .ok (.invokestatic 158, 3) := dk_184 0 158 (dk_at dksX4_restore_0 18 rfl rfl)
theorem dX4_restore_21 : decode cX4_restore 21 = .ok (.aload_n 0, 1) := dk_42 (dk_at dksX4_restore_0 21 rfl rfl)
theorem dX4_restore_22 : decode cX4_restore 22 = .ok (.getfield 9, 3) := dk_180 0 9 (dk_at dksX4_restore_1 0 rfl rfl)
theorem dX4_restore_25 : decode cX4_restore 25 = .ok (.iconst 1, 1) := dk_4 (dk_at dksX4_restore_1 3 rfl rfl)
theorem dX4_restore_26 : decode cX4_restore 26 = .ok (.iaload, 1) := dk_46 (dk_at dksX4_restore_1 4 rfl rfl)
theorem dX4_restore_27 : decode cX4_restore 27 = .ok (.ireturn, 1) := dk_172 (dk_at dksX4_restore_1 5 rfl rfl)
abbrev cX4_count : ByteArray := prog_21_method_90_code
def yX4_count : MethodName := ⟨RX4, "count", "(I)I"⟩
def dkwX4_count_4 : List UInt8 := [167, 255, 233, 28, 172, 2, 172]
abbrev dktX4_count_4 : List UInt8 := dkwX4_count_4 ++ []
def dkwX4_count_3 : List UInt8 := [7, 162, 0, 24, 28, 42, 180, 0, 9, 29, 6, 184, 0, 46, 46, 29, 120, 128, 61, 132, 3, 1]
abbrev dktX4_count_3 : List UInt8 := dkwX4_count_3 ++ dktX4_count_4
def dkwX4_count_2 : List UInt8 := [42, 180, 0, 9, 27, 46, 172, 42, 180, 0, 9, 6, 46, 4, 96, 172, 42, 182, 0, 242, 172, 3, 62, 29]
abbrev dktX4_count_2 : List UInt8 := dkwX4_count_2 ++ dktX4_count_3
def dkwX4_count_1 : List UInt8 := [170, 0, 0, 0, 88, 0, 0, 0, 0, 0, 0, 0, 5, 0, 0, 0, 37, 0, 0, 0, 37, 0, 0, 0, 37, 0, 0, 0, 44, 0, 0, 0, 53, 0, 0, 0, 58]
abbrev dktX4_count_1 : List UInt8 := dkwX4_count_1 ++ dktX4_count_2
def dkwX4_count_0 : List UInt8 := [3, 61, 27]
abbrev dktX4_count_0 : List UInt8 := dkwX4_count_0 ++ dktX4_count_1
theorem dksX4_count_0 : cX4_count.data.toList.drop 0 = dktX4_count_0 := by decide +kernel
theorem dksX4_count_1 : cX4_count.data.toList.drop 3 = dktX4_count_1 := dk_seg dksX4_count_0 3 rfl rfl
theorem dksX4_count_2 : cX4_count.data.toList.drop 40 = dktX4_count_2 := dk_seg dksX4_count_1 37 rfl rfl
theorem dksX4_count_3 : cX4_count.data.toList.drop 64 = dktX4_count_3 := dk_seg dksX4_count_2 24 rfl rfl
theorem dksX4_count_4 : cX4_count.data.toList.drop 86 = dktX4_count_4 := dk_seg dksX4_count_3 22 rfl rfl
theorem dX4_count_0 : decode cX4_count 0 = .ok (.iconst 0, 1) := dk_3 (dk_at dksX4_count_0 0 rfl rfl)
theorem dX4_count_1 : decode cX4_count 1 = .ok (.istore_n 2, 1) := dk_61 (dk_at dksX4_count_0 1 rfl rfl)
theorem dX4_count_2 : decode cX4_count 2 = .ok (.iload_n 1, 1) := dk_27 (dk_at dksX4_count_0 2 rfl rfl)
theorem dX4_count_3 : decode cX4_count 3 = .ok (.tableswitch 88 0 5 #[37, 37, 37, 44, 53, 58], 37) := by decide +kernel
theorem dX4_count_40 : decode cX4_count 40 = .ok (.aload_n 0, 1) := dk_42 (dk_at dksX4_count_2 0 rfl rfl)
theorem dX4_count_41 : decode cX4_count 41 = .ok (.getfield 9, 3) := dk_180 0 9 (dk_at dksX4_count_2 1 rfl rfl)
theorem dX4_count_44 : decode cX4_count 44 = .ok (.iload_n 1, 1) := dk_27 (dk_at dksX4_count_2 4 rfl rfl)
theorem dX4_count_45 : decode cX4_count 45 = .ok (.iaload, 1) := dk_46 (dk_at dksX4_count_2 5 rfl rfl)
theorem dX4_count_46 : decode cX4_count 46 = .ok (.ireturn, 1) := dk_172 (dk_at dksX4_count_2 6 rfl rfl)
theorem dX4_count_47 : decode cX4_count 47 = .ok (.aload_n 0, 1) := dk_42 (dk_at dksX4_count_2 7 rfl rfl)
theorem dX4_count_48 : decode cX4_count 48 = .ok (.getfield 9, 3) := dk_180 0 9 (dk_at dksX4_count_2 8 rfl rfl)
theorem dX4_count_51 : decode cX4_count 51 = .ok (.iconst 3, 1) := dk_6 (dk_at dksX4_count_2 11 rfl rfl)
theorem dX4_count_52 : decode cX4_count 52 = .ok (.iaload, 1) := dk_46 (dk_at dksX4_count_2 12 rfl rfl)
theorem dX4_count_53 : decode cX4_count 53 = .ok (.iconst 1, 1) := dk_4 (dk_at dksX4_count_2 13 rfl rfl)
theorem dX4_count_54 : decode cX4_count 54 = .ok (.iadd, 1) := dk_96 (dk_at dksX4_count_2 14 rfl rfl)
theorem dX4_count_55 : decode cX4_count 55 = .ok (.ireturn, 1) := dk_172 (dk_at dksX4_count_2 15 rfl rfl)
theorem dX4_count_56 : decode cX4_count 56 = .ok (.aload_n 0, 1) := dk_42 (dk_at dksX4_count_2 16 rfl rfl)
theorem dX4_count_57 : decode cX4_count 57 = .ok (.invokevirtual 242, 3) := dk_182 0 242 (dk_at dksX4_count_2 17 rfl rfl)
theorem dX4_count_60 : decode cX4_count 60 = .ok (.ireturn, 1) := dk_172 (dk_at dksX4_count_2 20 rfl rfl)
theorem dX4_count_61 : decode cX4_count 61 = .ok (.iconst 0, 1) := dk_3 (dk_at dksX4_count_2 21 rfl rfl)
theorem dX4_count_62 : decode cX4_count 62 = .ok (.istore_n 3, 1) := dk_62 (dk_at dksX4_count_2 22 rfl rfl)
theorem dX4_count_63 : decode cX4_count 63 = .ok (.iload_n 3, 1) := dk_29 (dk_at dksX4_count_2 23 rfl rfl)
theorem dX4_count_64 : decode cX4_count 64 = .ok (.iconst 4, 1) := dk_7 (dk_at dksX4_count_3 0 rfl rfl)
theorem dX4_count_65 : decode cX4_count 65 = .ok (.if_icmp .ge 24, 3) := dk_162 0 24 (dk_at dksX4_count_3 1 rfl rfl)
theorem dX4_count_68 : decode cX4_count 68 = .ok (.iload_n 2, 1) := dk_28 (dk_at dksX4_count_3 4 rfl rfl)
theorem dX4_count_69 : decode cX4_count 69 = .ok (.aload_n 0, 1) := dk_42 (dk_at dksX4_count_3 5 rfl rfl)
theorem dX4_count_70 : decode cX4_count 70 = .ok (.getfield 9, 3) := dk_180 0 9 (dk_at dksX4_count_3 6 rfl rfl)
theorem dX4_count_73 : decode cX4_count 73 = .ok (.iload_n 3, 1) := dk_29 (dk_at dksX4_count_3 9 rfl rfl)
theorem dX4_count_74 : decode cX4_count 74 = .ok (.iconst 3, 1) := dk_6 (dk_at dksX4_count_3 10 rfl rfl)
theorem dX4_count_75 : decode cX4_count 75 = .ok (.invokestatic 46, 3) := dk_184 0 46 (dk_at dksX4_count_3 11 rfl rfl)
theorem dX4_count_78 : decode cX4_count 78 = .ok (.iaload, 1) := dk_46 (dk_at dksX4_count_3 14 rfl rfl)
theorem dX4_count_79 : decode cX4_count 79 = .ok (.iload_n 3, 1) := dk_29 (dk_at dksX4_count_3 15 rfl rfl)
theorem dX4_count_80 : decode cX4_count 80 = .ok (.ishl, 1) := dk_120 (dk_at dksX4_count_3 16 rfl rfl)
theorem dX4_count_81 : decode cX4_count 81 = .ok (.ior, 1) := dk_128 (dk_at dksX4_count_3 17 rfl rfl)
theorem dX4_count_82 : decode cX4_count 82 = .ok (.istore_n 2, 1) := dk_61 (dk_at dksX4_count_3 18 rfl rfl)
theorem dX4_count_83 : decode cX4_count 83 = .ok (.iinc 3 1, 3) := dk_132 3 1 (dk_at dksX4_count_3 19 rfl rfl)
theorem dX4_count_86 : decode cX4_count 86 = .ok (.goto (-23), 3) := dk_167 255 233 (dk_at dksX4_count_4 0 rfl rfl)
theorem dX4_count_89 : decode cX4_count 89 = .ok (.iload_n 2, 1) := dk_28 (dk_at dksX4_count_4 3 rfl rfl)
theorem dX4_count_90 : decode cX4_count 90 = .ok (.ireturn, 1) := dk_172 (dk_at dksX4_count_4 4 rfl rfl)
theorem dX4_count_91 : decode cX4_count 91 = .ok (.iconst (-1), 1) := dk_2 (dk_at dksX4_count_4 5 rfl rfl)
theorem dX4_count_92 : decode cX4_count 92 = .ok (.ireturn, 1) := dk_172 (dk_at dksX4_count_4 6 rfl rfl)
abbrev cX4_thrown : ByteArray := prog_21_method_91_code
def yX4_thrown : MethodName := ⟨RX4, "thrown", "()I"⟩
theorem dX4_thrown_0 : decode cX4_thrown 0 = .ok (.aload_n 0, 1) := by decide +kernel
theorem dX4_thrown_1 : decode cX4_thrown 1 = .ok (.getfield 260, 3) := by decide +kernel
theorem dX4_thrown_4 : decode cX4_thrown 4 = .ok (.ireturn, 1) := by decide +kernel
abbrev cX4_keep : ByteArray := prog_21_method_95_code
def yX4_keep : MethodName := ⟨RX4, "keep", "(IIII)I"⟩
def dkwX4_keep_2 : List UInt8 := [180, 0, 28, 27, 28, 79, 42, 180, 0, 31, 27, 29, 79, 42, 180, 0, 34, 27, 21, 4, 79, 3, 172]
abbrev dktX4_keep_2 : List UInt8 := dkwX4_keep_2 ++ []
def dkwX4_keep_1 : List UInt8 := [16, 7, 184, 0, 53, 153, 0, 14, 21, 4, 3, 16, 9, 184, 0, 53, 154, 0, 5, 2, 172, 42]
abbrev dktX4_keep_1 : List UInt8 := dkwX4_keep_1 ++ dktX4_keep_2
def dkwX4_keep_0 : List UInt8 := [27, 184, 1, 7, 153, 0, 38, 28, 3, 4, 184, 0, 53, 153, 0, 29, 28, 4, 160, 0, 26, 29, 3]
abbrev dktX4_keep_0 : List UInt8 := dkwX4_keep_0 ++ dktX4_keep_1
theorem dksX4_keep_0 : cX4_keep.data.toList.drop 0 = dktX4_keep_0 := by decide +kernel
theorem dksX4_keep_1 : cX4_keep.data.toList.drop 23 = dktX4_keep_1 := dk_seg dksX4_keep_0 23 rfl rfl
theorem dksX4_keep_2 : cX4_keep.data.toList.drop 45 = dktX4_keep_2 := dk_seg dksX4_keep_1 22 rfl rfl
theorem dX4_keep_0 : decode cX4_keep 0 = .ok (.iload_n 1, 1) := dk_27 (dk_at dksX4_keep_0 0 rfl rfl)
theorem dX4_keep_1 : decode cX4_keep 1 = .ok (.invokestatic 263, 3) := dk_184 1 7 (dk_at dksX4_keep_0 1 rfl rfl)
theorem dX4_keep_4 : decode cX4_keep 4 = .ok (.ifCond .eq 38, 3) := dk_153 0 38 (dk_at dksX4_keep_0 4 rfl rfl)
theorem dX4_keep_7 : decode cX4_keep 7 = .ok (.iload_n 2, 1) := dk_28 (dk_at dksX4_keep_0 7 rfl rfl)
theorem dX4_keep_8 : decode cX4_keep 8 = .ok (.iconst 0, 1) := dk_3 (dk_at dksX4_keep_0 8 rfl rfl)
theorem dX4_keep_9 : decode cX4_keep 9 = .ok (.iconst 1, 1) := dk_4 (dk_at dksX4_keep_0 9 rfl rfl)
theorem dX4_keep_10 : decode cX4_keep 10 = .ok (.invokestatic 53, 3) := dk_184 0 53 (dk_at dksX4_keep_0 10 rfl rfl)
theorem dX4_keep_13 : decode cX4_keep 13 = .ok (.ifCond .eq 29, 3) := dk_153 0 29 (dk_at dksX4_keep_0 13 rfl rfl)
theorem dX4_keep_16 : decode cX4_keep 16 = .ok (.iload_n 2, 1) := dk_28 (dk_at dksX4_keep_0 16 rfl rfl)
theorem dX4_keep_17 : decode cX4_keep 17 = .ok (.iconst 1, 1) := dk_4 (dk_at dksX4_keep_0 17 rfl rfl)
theorem dX4_keep_18 : decode cX4_keep 18 = .ok (.if_icmp .ne 26, 3) := dk_160 0 26 (dk_at dksX4_keep_0 18 rfl rfl)
theorem dX4_keep_21 : decode cX4_keep 21 = .ok (.iload_n 3, 1) := dk_29 (dk_at dksX4_keep_0 21 rfl rfl)
theorem dX4_keep_22 : decode cX4_keep 22 = .ok (.iconst 0, 1) := dk_3 (dk_at dksX4_keep_0 22 rfl rfl)
theorem dX4_keep_23 : decode cX4_keep 23 = .ok (.bipush 7, 2) := dk_16 7 (dk_at dksX4_keep_1 0 rfl rfl)
theorem dX4_keep_25 : decode cX4_keep 25 = .ok (.invokestatic 53, 3) := dk_184 0 53 (dk_at dksX4_keep_1 2 rfl rfl)
theorem dX4_keep_28 : decode cX4_keep 28 = .ok (.ifCond .eq 14, 3) := dk_153 0 14 (dk_at dksX4_keep_1 5 rfl rfl)
theorem dX4_keep_31 : decode cX4_keep 31 = .ok (.iload 4, 2) := dk_21 4 (dk_at dksX4_keep_1 8 rfl rfl)
theorem dX4_keep_33 : decode cX4_keep 33 = .ok (.iconst 0, 1) := dk_3 (dk_at dksX4_keep_1 10 rfl rfl)
theorem dX4_keep_34 : decode cX4_keep 34 = .ok (.bipush 9, 2) := dk_16 9 (dk_at dksX4_keep_1 11 rfl rfl)
theorem dX4_keep_36 : decode cX4_keep 36 = .ok (.invokestatic 53, 3) := dk_184 0 53 (dk_at dksX4_keep_1 13 rfl rfl)
theorem dX4_keep_39 : decode cX4_keep 39 = .ok (.ifCond .ne 5, 3) := dk_154 0 5 (dk_at dksX4_keep_1 16 rfl rfl)
theorem dX4_keep_42 : decode cX4_keep 42 = .ok (.iconst (-1), 1) := dk_2 (dk_at dksX4_keep_1 19 rfl rfl)
theorem dX4_keep_43 : decode cX4_keep 43 = .ok (.ireturn, 1) := dk_172 (dk_at dksX4_keep_1 20 rfl rfl)
theorem dX4_keep_44 : decode cX4_keep 44 = .ok (.aload_n 0, 1) := dk_42 (dk_at dksX4_keep_1 21 rfl rfl)
theorem dX4_keep_45 : decode cX4_keep 45 = .ok (.getfield 28, 3) := dk_180 0 28 (dk_at dksX4_keep_2 0 rfl rfl)
theorem dX4_keep_48 : decode cX4_keep 48 = .ok (.iload_n 1, 1) := dk_27 (dk_at dksX4_keep_2 3 rfl rfl)
theorem dX4_keep_49 : decode cX4_keep 49 = .ok (.iload_n 2, 1) := dk_28 (dk_at dksX4_keep_2 4 rfl rfl)
theorem dX4_keep_50 : decode cX4_keep 50 = .ok (.iastore, 1) := dk_79 (dk_at dksX4_keep_2 5 rfl rfl)
theorem dX4_keep_51 : decode cX4_keep 51 = .ok (.aload_n 0, 1) := dk_42 (dk_at dksX4_keep_2 6 rfl rfl)
theorem dX4_keep_52 : decode cX4_keep 52 = .ok (.getfield 31, 3) := dk_180 0 31 (dk_at dksX4_keep_2 7 rfl rfl)
theorem dX4_keep_55 : decode cX4_keep 55 = .ok (.iload_n 1, 1) := dk_27 (dk_at dksX4_keep_2 10 rfl rfl)
theorem dX4_keep_56 : decode cX4_keep 56 = .ok (.iload_n 3, 1) := dk_29 (dk_at dksX4_keep_2 11 rfl rfl)
theorem dX4_keep_57 : decode cX4_keep 57 = .ok (.iastore, 1) := dk_79 (dk_at dksX4_keep_2 12 rfl rfl)
theorem dX4_keep_58 : decode cX4_keep 58 = .ok (.aload_n 0, 1) := dk_42 (dk_at dksX4_keep_2 13 rfl rfl)
theorem dX4_keep_59 : decode cX4_keep 59 = .ok (.getfield 34, 3) := dk_180 0 34 (dk_at dksX4_keep_2 14 rfl rfl)
theorem dX4_keep_62 : decode cX4_keep 62 = .ok (.iload_n 1, 1) := dk_27 (dk_at dksX4_keep_2 17 rfl rfl)
theorem dX4_keep_63 : decode cX4_keep 63 = .ok (.iload 4, 2) := dk_21 4 (dk_at dksX4_keep_2 18 rfl rfl)
theorem dX4_keep_65 : decode cX4_keep 65 = .ok (.iastore, 1) := dk_79 (dk_at dksX4_keep_2 20 rfl rfl)
theorem dX4_keep_66 : decode cX4_keep 66 = .ok (.iconst 0, 1) := dk_3 (dk_at dksX4_keep_2 21 rfl rfl)
theorem dX4_keep_67 : decode cX4_keep 67 = .ok (.ireturn, 1) := dk_172 (dk_at dksX4_keep_2 22 rfl rfl)
abbrev cX4_row : ByteArray := prog_21_method_96_code
def yX4_row : MethodName := ⟨RX4, "row", "(III)I"⟩
def dkwX4_row_3 : List UInt8 := [21, 4, 96, 3, 79, 132, 4, 1, 167, 255, 233, 3, 172]
abbrev dktX4_row_3 : List UInt8 := dkwX4_row_3 ++ []
def dkwX4_row_2 : List UInt8 := [180, 0, 40, 27, 29, 79, 3, 54, 4, 21, 4, 16, 100, 162, 0, 22, 42, 180, 0, 43, 16, 100, 27, 104]
abbrev dktX4_row_2 : List UInt8 := dkwX4_row_2 ++ dktX4_row_3
def dkwX4_row_1 : List UInt8 := [29, 156, 0, 6, 16, 242, 172, 42, 180, 0, 28, 27, 5, 79, 42, 180, 0, 37, 27, 28, 79, 42]
abbrev dktX4_row_1 : List UInt8 := dkwX4_row_1 ++ dktX4_row_2
def dkwX4_row_0 : List UInt8 := [27, 184, 1, 7, 153, 0, 18, 28, 3, 5, 184, 0, 53, 153, 0, 9, 29, 16, 100, 164, 0, 5, 2, 172]
abbrev dktX4_row_0 : List UInt8 := dkwX4_row_0 ++ dktX4_row_1
theorem dksX4_row_0 : cX4_row.data.toList.drop 0 = dktX4_row_0 := by decide +kernel
theorem dksX4_row_1 : cX4_row.data.toList.drop 24 = dktX4_row_1 := dk_seg dksX4_row_0 24 rfl rfl
theorem dksX4_row_2 : cX4_row.data.toList.drop 46 = dktX4_row_2 := dk_seg dksX4_row_1 22 rfl rfl
theorem dksX4_row_3 : cX4_row.data.toList.drop 70 = dktX4_row_3 := dk_seg dksX4_row_2 24 rfl rfl
theorem dX4_row_0 : decode cX4_row 0 = .ok (.iload_n 1, 1) := dk_27 (dk_at dksX4_row_0 0 rfl rfl)
theorem dX4_row_1 : decode cX4_row 1 = .ok (.invokestatic 263, 3) := dk_184 1 7 (dk_at dksX4_row_0 1 rfl rfl)
theorem dX4_row_4 : decode cX4_row 4 = .ok (.ifCond .eq 18, 3) := dk_153 0 18 (dk_at dksX4_row_0 4 rfl rfl)
theorem dX4_row_7 : decode cX4_row 7 = .ok (.iload_n 2, 1) := dk_28 (dk_at dksX4_row_0 7 rfl rfl)
theorem dX4_row_8 : decode cX4_row 8 = .ok (.iconst 0, 1) := dk_3 (dk_at dksX4_row_0 8 rfl rfl)
theorem dX4_row_9 : decode cX4_row 9 = .ok (.iconst 2, 1) := dk_5 (dk_at dksX4_row_0 9 rfl rfl)
theorem dX4_row_10 : decode cX4_row 10 = .ok (.invokestatic 53, 3) := dk_184 0 53 (dk_at dksX4_row_0 10 rfl rfl)
theorem dX4_row_13 : decode cX4_row 13 = .ok (.ifCond .eq 9, 3) := dk_153 0 9 (dk_at dksX4_row_0 13 rfl rfl)
theorem dX4_row_16 : decode cX4_row 16 = .ok (.iload_n 3, 1) := dk_29 (dk_at dksX4_row_0 16 rfl rfl)
theorem dX4_row_17 : decode cX4_row 17 = .ok (.bipush 100, 2) := dk_16 100 (dk_at dksX4_row_0 17 rfl rfl)
theorem dX4_row_19 : decode cX4_row 19 = .ok (.if_icmp .le 5, 3) := dk_164 0 5 (dk_at dksX4_row_0 19 rfl rfl)
theorem dX4_row_22 : decode cX4_row 22 = .ok (.iconst (-1), 1) := dk_2 (dk_at dksX4_row_0 22 rfl rfl)
theorem dX4_row_23 : decode cX4_row 23 = .ok (.ireturn, 1) := dk_172 (dk_at dksX4_row_0 23 rfl rfl)
theorem dX4_row_24 : decode cX4_row 24 = .ok (.iload_n 3, 1) := dk_29 (dk_at dksX4_row_1 0 rfl rfl)
theorem dX4_row_25 : decode cX4_row 25 = .ok (.ifCond .ge 6, 3) := dk_156 0 6 (dk_at dksX4_row_1 1 rfl rfl)
theorem dX4_row_28 : decode cX4_row 28 = .ok (.bipush (-14), 2) := dk_16 242 (dk_at dksX4_row_1 4 rfl rfl)
theorem dX4_row_30 : decode cX4_row 30 = .ok (.ireturn, 1) := dk_172 (dk_at dksX4_row_1 6 rfl rfl)
theorem dX4_row_31 : decode cX4_row 31 = .ok (.aload_n 0, 1) := dk_42 (dk_at dksX4_row_1 7 rfl rfl)
theorem dX4_row_32 : decode cX4_row 32 = .ok (.getfield 28, 3) := dk_180 0 28 (dk_at dksX4_row_1 8 rfl rfl)
theorem dX4_row_35 : decode cX4_row 35 = .ok (.iload_n 1, 1) := dk_27 (dk_at dksX4_row_1 11 rfl rfl)
theorem dX4_row_36 : decode cX4_row 36 = .ok (.iconst 2, 1) := dk_5 (dk_at dksX4_row_1 12 rfl rfl)
theorem dX4_row_37 : decode cX4_row 37 = .ok (.iastore, 1) := dk_79 (dk_at dksX4_row_1 13 rfl rfl)
theorem dX4_row_38 : decode cX4_row 38 = .ok (.aload_n 0, 1) := dk_42 (dk_at dksX4_row_1 14 rfl rfl)
theorem dX4_row_39 : decode cX4_row 39 = .ok (.getfield 37, 3) := dk_180 0 37 (dk_at dksX4_row_1 15 rfl rfl)
theorem dX4_row_42 : decode cX4_row 42 = .ok (.iload_n 1, 1) := dk_27 (dk_at dksX4_row_1 18 rfl rfl)
theorem dX4_row_43 : decode cX4_row 43 = .ok (.iload_n 2, 1) := dk_28 (dk_at dksX4_row_1 19 rfl rfl)
theorem dX4_row_44 : decode cX4_row 44 = .ok (.iastore, 1) := dk_79 (dk_at dksX4_row_1 20 rfl rfl)
theorem dX4_row_45 : decode cX4_row 45 = .ok (.aload_n 0, 1) := dk_42 (dk_at dksX4_row_1 21 rfl rfl)
theorem dX4_row_46 : decode cX4_row 46 = .ok (.getfield 40, 3) := dk_180 0 40 (dk_at dksX4_row_2 0 rfl rfl)
theorem dX4_row_49 : decode cX4_row 49 = .ok (.iload_n 1, 1) := dk_27 (dk_at dksX4_row_2 3 rfl rfl)
theorem dX4_row_50 : decode cX4_row 50 = .ok (.iload_n 3, 1) := dk_29 (dk_at dksX4_row_2 4 rfl rfl)
theorem dX4_row_51 : decode cX4_row 51 = .ok (.iastore, 1) := dk_79 (dk_at dksX4_row_2 5 rfl rfl)
theorem dX4_row_52 : decode cX4_row 52 = .ok (.iconst 0, 1) := dk_3 (dk_at dksX4_row_2 6 rfl rfl)
theorem dX4_row_53 : decode cX4_row 53 = .ok (.istore 4, 2) := dk_54 4 (dk_at dksX4_row_2 7 rfl rfl)
theorem dX4_row_55 : decode cX4_row 55 = .ok (.iload 4, 2) := dk_21 4 (dk_at dksX4_row_2 9 rfl rfl)
theorem dX4_row_57 : decode cX4_row 57 = .ok (.bipush 100, 2) := dk_16 100 (dk_at dksX4_row_2 11 rfl rfl)
theorem dX4_row_59 : decode cX4_row 59 = .ok (.if_icmp .ge 22, 3) := dk_162 0 22 (dk_at dksX4_row_2 13 rfl rfl)
theorem dX4_row_62 : decode cX4_row 62 = .ok (.aload_n 0, 1) := dk_42 (dk_at dksX4_row_2 16 rfl rfl)
theorem dX4_row_63 : decode cX4_row 63 = .ok (.getfield 43, 3) := dk_180 0 43 (dk_at dksX4_row_2 17 rfl rfl)
theorem dX4_row_66 : decode cX4_row 66 = .ok (.bipush 100, 2) := dk_16 100 (dk_at dksX4_row_2 20 rfl rfl)
theorem dX4_row_68 : decode cX4_row 68 = .ok (.iload_n 1, 1) := dk_27 (dk_at dksX4_row_2 22 rfl rfl)
theorem dX4_row_69 : decode cX4_row 69 = .ok (.imul, 1) := dk_104 (dk_at dksX4_row_2 23 rfl rfl)
theorem dX4_row_70 : decode cX4_row 70 = .ok (.iload 4, 2) := dk_21 4 (dk_at dksX4_row_3 0 rfl rfl)
theorem dX4_row_72 : decode cX4_row 72 = .ok (.iadd, 1) := dk_96 (dk_at dksX4_row_3 2 rfl rfl)
theorem dX4_row_73 : decode cX4_row 73 = .ok (.iconst 0, 1) := dk_3 (dk_at dksX4_row_3 3 rfl rfl)
theorem dX4_row_74 : decode cX4_row 74 = .ok (.iastore, 1) := dk_79 (dk_at dksX4_row_3 4 rfl rfl)
theorem dX4_row_75 : decode cX4_row 75 = .ok (.iinc 4 1, 3) := dk_132 4 1 (dk_at dksX4_row_3 5 rfl rfl)
theorem dX4_row_78 : decode cX4_row 78 = .ok (.goto (-23), 3) := dk_167 255 233 (dk_at dksX4_row_3 8 rfl rfl)
theorem dX4_row_81 : decode cX4_row 81 = .ok (.iconst 0, 1) := dk_3 (dk_at dksX4_row_3 11 rfl rfl)
theorem dX4_row_82 : decode cX4_row 82 = .ok (.ireturn, 1) := dk_172 (dk_at dksX4_row_3 12 rfl rfl)
abbrev cX4_put : ByteArray := prog_21_method_97_code
def yX4_put : MethodName := ⟨RX4, "put", "(III)I"⟩
def dkwX4_put_3 : List UInt8 := [147, 167, 0, 4, 29, 79, 3, 172]
abbrev dktX4_put_3 : List UInt8 := dkwX4_put_3 ++ []
def dkwX4_put_2 : List UInt8 := [180, 0, 37, 27, 46, 154, 0, 8, 29, 145, 167, 0, 19, 42, 180, 0, 37, 27, 46, 4, 160, 0, 8, 29]
abbrev dktX4_put_2 : List UInt8 := dkwX4_put_2 ++ dktX4_put_3
def dkwX4_put_1 : List UInt8 := [4, 100, 184, 0, 53, 154, 0, 6, 16, 243, 172, 42, 180, 0, 43, 16, 100, 27, 104, 28, 96, 42]
abbrev dktX4_put_1 : List UInt8 := dkwX4_put_1 ++ dktX4_put_2
def dkwX4_put_0 : List UInt8 := [42, 27, 2, 182, 0, 152, 54, 4, 21, 4, 153, 0, 6, 21, 4, 172, 28, 3, 42, 180, 0, 40, 27, 46]
abbrev dktX4_put_0 : List UInt8 := dkwX4_put_0 ++ dktX4_put_1
theorem dksX4_put_0 : cX4_put.data.toList.drop 0 = dktX4_put_0 := by decide +kernel
theorem dksX4_put_1 : cX4_put.data.toList.drop 24 = dktX4_put_1 := dk_seg dksX4_put_0 24 rfl rfl
theorem dksX4_put_2 : cX4_put.data.toList.drop 46 = dktX4_put_2 := dk_seg dksX4_put_1 22 rfl rfl
theorem dksX4_put_3 : cX4_put.data.toList.drop 70 = dktX4_put_3 := dk_seg dksX4_put_2 24 rfl rfl
theorem dX4_put_0 : decode cX4_put 0 = .ok (.aload_n 0, 1) := dk_42 (dk_at dksX4_put_0 0 rfl rfl)
theorem dX4_put_1 : decode cX4_put 1 = .ok (.iload_n 1, 1) := dk_27 (dk_at dksX4_put_0 1 rfl rfl)
theorem dX4_put_2 : decode cX4_put 2 = .ok (.iconst (-1), 1) := dk_2 (dk_at dksX4_put_0 2 rfl rfl)
theorem dX4_put_3 : decode cX4_put 3 = .ok (.invokevirtual 152, 3) := dk_182 0 152 (dk_at dksX4_put_0 3 rfl rfl)
theorem dX4_put_6 : decode cX4_put 6 = .ok (.istore 4, 2) := dk_54 4 (dk_at dksX4_put_0 6 rfl rfl)
theorem dX4_put_8 : decode cX4_put 8 = .ok (.iload 4, 2) := dk_21 4 (dk_at dksX4_put_0 8 rfl rfl)
theorem dX4_put_10 : decode cX4_put 10 = .ok (.ifCond .eq 6, 3) := dk_153 0 6 (dk_at dksX4_put_0 10 rfl rfl)
theorem dX4_put_13 : decode cX4_put 13 = .ok (.iload 4, 2) := dk_21 4 (dk_at dksX4_put_0 13 rfl rfl)
theorem dX4_put_15 : decode cX4_put 15 = .ok (.ireturn, 1) := dk_172 (dk_at dksX4_put_0 15 rfl rfl)
theorem dX4_put_16 : decode cX4_put 16 = .ok (.iload_n 2, 1) := dk_28 (dk_at dksX4_put_0 16 rfl rfl)
theorem dX4_put_17 : decode cX4_put 17 = .ok (.iconst 0, 1) := dk_3 (dk_at dksX4_put_0 17 rfl rfl)
theorem dX4_put_18 : decode cX4_put 18 = .ok (.aload_n 0, 1) := dk_42 (dk_at dksX4_put_0 18 rfl rfl)
theorem dX4_put_19 : decode cX4_put 19 = .ok (.getfield 40, 3) := dk_180 0 40 (dk_at dksX4_put_0 19 rfl rfl)
theorem dX4_put_22 : decode cX4_put 22 = .ok (.iload_n 1, 1) := dk_27 (dk_at dksX4_put_0 22 rfl rfl)
theorem dX4_put_23 : decode cX4_put 23 = .ok (.iaload, 1) := dk_46 (dk_at dksX4_put_0 23 rfl rfl)
theorem dX4_put_24 : decode cX4_put 24 = .ok (.iconst 1, 1) := dk_4 (dk_at dksX4_put_1 0 rfl rfl)
theorem dX4_put_25 : decode cX4_put 25 = .ok (.isub, 1) := dk_100 (dk_at dksX4_put_1 1 rfl rfl)
theorem dX4_put_26 : decode cX4_put 26 = .ok (.invokestatic 53, 3) := dk_184 0 53 (dk_at dksX4_put_1 2 rfl rfl)
theorem dX4_put_29 : decode cX4_put 29 = .ok (.ifCond .ne 6, 3) := dk_154 0 6 (dk_at dksX4_put_1 5 rfl rfl)
theorem dX4_put_32 : decode cX4_put 32 = .ok (.bipush (-13), 2) := dk_16 243 (dk_at dksX4_put_1 8 rfl rfl)
theorem dX4_put_34 : decode cX4_put 34 = .ok (.ireturn, 1) := dk_172 (dk_at dksX4_put_1 10 rfl rfl)
theorem dX4_put_35 : decode cX4_put 35 = .ok (.aload_n 0, 1) := dk_42 (dk_at dksX4_put_1 11 rfl rfl)
theorem dX4_put_36 : decode cX4_put 36 = .ok (.getfield 43, 3) := dk_180 0 43 (dk_at dksX4_put_1 12 rfl rfl)
theorem dX4_put_39 : decode cX4_put 39 = .ok (.bipush 100, 2) := dk_16 100 (dk_at dksX4_put_1 15 rfl rfl)
theorem dX4_put_41 : decode cX4_put 41 = .ok (.iload_n 1, 1) := dk_27 (dk_at dksX4_put_1 17 rfl rfl)
theorem dX4_put_42 : decode cX4_put 42 = .ok (.imul, 1) := dk_104 (dk_at dksX4_put_1 18 rfl rfl)
theorem dX4_put_43 : decode cX4_put 43 = .ok (.iload_n 2, 1) := dk_28 (dk_at dksX4_put_1 19 rfl rfl)
theorem dX4_put_44 : decode cX4_put 44 = .ok (.iadd, 1) := dk_96 (dk_at dksX4_put_1 20 rfl rfl)
theorem dX4_put_45 : decode cX4_put 45 = .ok (.aload_n 0, 1) := dk_42 (dk_at dksX4_put_1 21 rfl rfl)
theorem dX4_put_46 : decode cX4_put 46 = .ok (.getfield 37, 3) := dk_180 0 37 (dk_at dksX4_put_2 0 rfl rfl)
theorem dX4_put_49 : decode cX4_put 49 = .ok (.iload_n 1, 1) := dk_27 (dk_at dksX4_put_2 3 rfl rfl)
theorem dX4_put_50 : decode cX4_put 50 = .ok (.iaload, 1) := dk_46 (dk_at dksX4_put_2 4 rfl rfl)
theorem dX4_put_51 : decode cX4_put 51 = .ok (.ifCond .ne 8, 3) := dk_154 0 8 (dk_at dksX4_put_2 5 rfl rfl)
theorem dX4_put_54 : decode cX4_put 54 = .ok (.iload_n 3, 1) := dk_29 (dk_at dksX4_put_2 8 rfl rfl)
theorem dX4_put_55 : decode cX4_put 55 = .ok (.i2b, 1) := dk_145 (dk_at dksX4_put_2 9 rfl rfl)
theorem dX4_put_56 : decode cX4_put 56 = .ok (.goto 19, 3) := dk_167 0 19 (dk_at dksX4_put_2 10 rfl rfl)
theorem dX4_put_59 : decode cX4_put 59 = .ok (.aload_n 0, 1) := dk_42 (dk_at dksX4_put_2 13 rfl rfl)
theorem dX4_put_60 : decode cX4_put 60 = .ok (.getfield 37, 3) := dk_180 0 37 (dk_at dksX4_put_2 14 rfl rfl)
theorem dX4_put_63 : decode cX4_put 63 = .ok (.iload_n 1, 1) := dk_27 (dk_at dksX4_put_2 17 rfl rfl)
theorem dX4_put_64 : decode cX4_put 64 = .ok (.iaload, 1) := dk_46 (dk_at dksX4_put_2 18 rfl rfl)
theorem dX4_put_65 : decode cX4_put 65 = .ok (.iconst 1, 1) := dk_4 (dk_at dksX4_put_2 19 rfl rfl)
theorem dX4_put_66 : decode cX4_put 66 = .ok (.if_icmp .ne 8, 3) := dk_160 0 8 (dk_at dksX4_put_2 20 rfl rfl)
theorem dX4_put_69 : decode cX4_put 69 = .ok (.iload_n 3, 1) := dk_29 (dk_at dksX4_put_2 23 rfl rfl)
theorem dX4_put_70 : decode cX4_put 70 = .ok (.i2s, 1) := dk_147 (dk_at dksX4_put_3 0 rfl rfl)
theorem dX4_put_71 : decode cX4_put 71 = .ok (.goto 4, 3) := dk_167 0 4 (dk_at dksX4_put_3 1 rfl rfl)
theorem dX4_put_74 : decode cX4_put 74 = .ok (.iload_n 3, 1) := dk_29 (dk_at dksX4_put_3 4 rfl rfl)
theorem dX4_put_75 : decode cX4_put 75 = .ok (.iastore, 1) := dk_79 (dk_at dksX4_put_3 5 rfl rfl)
theorem dX4_put_76 : decode cX4_put 76 = .ok (.iconst 0, 1) := dk_3 (dk_at dksX4_put_3 6 rfl rfl)
theorem dX4_put_77 : decode cX4_put 77 = .ok (.ireturn, 1) := dk_172 (dk_at dksX4_put_3 7 rfl rfl)
abbrev cX4_element : ByteArray := prog_21_method_98_code
def yX4_element : MethodName := ⟨RX4, "element", "(II)J"⟩
def dkwX4_element_2 : List UInt8 := [180, 1, 4, 154, 0, 18, 42, 180, 0, 43, 16, 100, 27, 104, 28, 96, 46, 133, 167, 0, 4, 9, 173]
abbrev dktX4_element_2 : List UInt8 := dkwX4_element_2 ++ []
def dkwX4_element_1 : List UInt8 := [42, 180, 0, 40, 27, 46, 4, 100, 184, 0, 53, 154, 0, 7, 5, 167, 0, 4, 3, 181, 1, 4, 42]
abbrev dktX4_element_1 : List UInt8 := dkwX4_element_1 ++ dktX4_element_2
def dkwX4_element_0 : List UInt8 := [42, 27, 184, 1, 7, 154, 0, 7, 4, 167, 0, 34, 42, 180, 0, 28, 27, 46, 5, 160, 0, 19, 28, 3]
abbrev dktX4_element_0 : List UInt8 := dkwX4_element_0 ++ dktX4_element_1
theorem dksX4_element_0 : cX4_element.data.toList.drop 0 = dktX4_element_0 := by decide +kernel
theorem dksX4_element_1 : cX4_element.data.toList.drop 24 = dktX4_element_1 := dk_seg dksX4_element_0 24 rfl rfl
theorem dksX4_element_2 : cX4_element.data.toList.drop 47 = dktX4_element_2 := dk_seg dksX4_element_1 23 rfl rfl
theorem dX4_element_0 : decode cX4_element 0 = .ok (.aload_n 0, 1) := dk_42 (dk_at dksX4_element_0 0 rfl rfl)
theorem dX4_element_1 : decode cX4_element 1 = .ok (.iload_n 1, 1) := dk_27 (dk_at dksX4_element_0 1 rfl rfl)
theorem dX4_element_2 : decode cX4_element 2 = .ok (.invokestatic 263, 3) := dk_184 1 7 (dk_at dksX4_element_0 2 rfl rfl)
theorem dX4_element_5 : decode cX4_element 5 = .ok (.ifCond .ne 7, 3) := dk_154 0 7 (dk_at dksX4_element_0 5 rfl rfl)
theorem dX4_element_8 : decode cX4_element 8 = .ok (.iconst 1, 1) := dk_4 (dk_at dksX4_element_0 8 rfl rfl)
theorem dX4_element_9 : decode cX4_element 9 = .ok (.goto 34, 3) := dk_167 0 34 (dk_at dksX4_element_0 9 rfl rfl)
theorem dX4_element_12 : decode cX4_element 12 = .ok (.aload_n 0, 1) := dk_42 (dk_at dksX4_element_0 12 rfl rfl)
theorem dX4_element_13 : decode cX4_element 13 = .ok (.getfield 28, 3) := dk_180 0 28 (dk_at dksX4_element_0 13 rfl rfl)
theorem dX4_element_16 : decode cX4_element 16 = .ok (.iload_n 1, 1) := dk_27 (dk_at dksX4_element_0 16 rfl rfl)
theorem dX4_element_17 : decode cX4_element 17 = .ok (.iaload, 1) := dk_46 (dk_at dksX4_element_0 17 rfl rfl)
theorem dX4_element_18 : decode cX4_element 18 = .ok (.iconst 2, 1) := dk_5 (dk_at dksX4_element_0 18 rfl rfl)
theorem dX4_element_19 : decode cX4_element 19 = .ok (.if_icmp .ne 19, 3) := dk_160 0 19 (dk_at dksX4_element_0 19 rfl rfl)
theorem dX4_element_22 : decode cX4_element 22 = .ok (.iload_n 2, 1) := dk_28 (dk_at dksX4_element_0 22 rfl rfl)
theorem dX4_element_23 : decode cX4_element 23 = .ok (.iconst 0, 1) := dk_3 (dk_at dksX4_element_0 23 rfl rfl)
theorem dX4_element_24 : decode cX4_element 24 = .ok (.aload_n 0, 1) := dk_42 (dk_at dksX4_element_1 0 rfl rfl)
theorem dX4_element_25 : decode cX4_element 25 = .ok (.getfield 40, 3) := dk_180 0 40 (dk_at dksX4_element_1 1 rfl rfl)
theorem dX4_element_28 : decode cX4_element 28 = .ok (.iload_n 1, 1) := dk_27 (dk_at dksX4_element_1 4 rfl rfl)
theorem dX4_element_29 : decode cX4_element 29 = .ok (.iaload, 1) := dk_46 (dk_at dksX4_element_1 5 rfl rfl)
theorem dX4_element_30 : decode cX4_element 30 = .ok (.iconst 1, 1) := dk_4 (dk_at dksX4_element_1 6 rfl rfl)
theorem dX4_element_31 : decode cX4_element 31 = .ok (.isub, 1) := dk_100 (dk_at dksX4_element_1 7 rfl rfl)
theorem dX4_element_32 : decode cX4_element 32 = .ok (.invokestatic 53, 3) := dk_184 0 53 (dk_at dksX4_element_1 8 rfl rfl)
theorem dX4_element_35 : decode cX4_element 35 = .ok (.ifCond .ne 7, 3) := dk_154 0 7 (dk_at dksX4_element_1 11 rfl rfl)
theorem dX4_element_38 : decode cX4_element 38 = .ok (.iconst 2, 1) := dk_5 (dk_at dksX4_element_1 14 rfl rfl)
theorem dX4_element_39 : decode cX4_element 39 = .ok (.goto 4, 3) := dk_167 0 4 (dk_at dksX4_element_1 15 rfl rfl)
theorem dX4_element_42 : decode cX4_element 42 = .ok (.iconst 0, 1) := dk_3 (dk_at dksX4_element_1 18 rfl rfl)
theorem dX4_element_43 : decode cX4_element 43 = .ok (.putfield 260, 3) := dk_181 1 4 (dk_at dksX4_element_1 19 rfl rfl)
theorem dX4_element_46 : decode cX4_element 46 = .ok (.aload_n 0, 1) := dk_42 (dk_at dksX4_element_1 22 rfl rfl)
theorem dX4_element_47 : decode cX4_element 47 = .ok (.getfield 260, 3) := dk_180 1 4 (dk_at dksX4_element_2 0 rfl rfl)
theorem dX4_element_50 : decode cX4_element 50 = .ok (.ifCond .ne 18, 3) := dk_154 0 18 (dk_at dksX4_element_2 3 rfl rfl)
theorem dX4_element_53 : decode cX4_element 53 = .ok (.aload_n 0, 1) := dk_42 (dk_at dksX4_element_2 6 rfl rfl)
theorem dX4_element_54 : decode cX4_element 54 = .ok (.getfield 43, 3) := dk_180 0 43 (dk_at dksX4_element_2 7 rfl rfl)
theorem dX4_element_57 : decode cX4_element 57 = .ok (.bipush 100, 2) := dk_16 100 (dk_at dksX4_element_2 10 rfl rfl)
theorem dX4_element_59 : decode cX4_element 59 = .ok (.iload_n 1, 1) := dk_27 (dk_at dksX4_element_2 12 rfl rfl)
theorem dX4_element_60 : decode cX4_element 60 = .ok (.imul, 1) := dk_104 (dk_at dksX4_element_2 13 rfl rfl)
theorem dX4_element_61 : decode cX4_element 61 = .ok (.iload_n 2, 1) := dk_28 (dk_at dksX4_element_2 14 rfl rfl)
theorem dX4_element_62 : decode cX4_element 62 = .ok (.iadd, 1) := dk_96 (dk_at dksX4_element_2 15 rfl rfl)
theorem dX4_element_63 : decode cX4_element 63 = .ok (.iaload, 1) := dk_46 (dk_at dksX4_element_2 16 rfl rfl)
theorem dX4_element_64 : decode cX4_element 64 = .ok (.i2l, 1) := dk_133 (dk_at dksX4_element_2 17 rfl rfl)
theorem dX4_element_65 : decode cX4_element 65 = .ok (.goto 4, 3) := dk_167 0 4 (dk_at dksX4_element_2 18 rfl rfl)
theorem dX4_element_68 : decode cX4_element 68 = .ok (.lconst 0, 1) := dk_9 (dk_at dksX4_element_2 21 rfl rfl)
theorem dX4_element_69 : decode cX4_element 69 = .ok (.lreturn, 1) := dk_173 (dk_at dksX4_element_2 22 rfl rfl)
abbrev cX4_copy : ByteArray := prog_21_method_99_code
def yX4_copy : MethodName := ⟨RX4, "copy", "(IIIII)I"⟩
def dkwX4_copy_7 : List UInt8 := [180, 0, 43, 16, 100, 27, 104, 28, 96, 21, 7, 96, 46, 79, 132, 6, 1, 167, 255, 197, 21, 5, 172]
abbrev dktX4_copy_7 : List UInt8 := dkwX4_copy_7 ++ []
def dkwX4_copy_6 : List UInt8 := [21, 5, 4, 100, 21, 6, 100, 54, 7, 42, 180, 0, 43, 16, 100, 29, 104, 21, 4, 96, 21, 7, 96, 42]
abbrev dktX4_copy_6 : List UInt8 := dkwX4_copy_6 ++ dktX4_copy_7
def dkwX4_copy_5 : List UInt8 := [16, 243, 172, 3, 54, 6, 21, 6, 21, 5, 162, 0, 58, 28, 21, 4, 164, 0, 8, 21, 6, 167, 0, 10]
abbrev dktX4_copy_5 : List UInt8 := dkwX4_copy_5 ++ dktX4_copy_6
def dkwX4_copy_4 : List UInt8 := [180, 0, 40, 27, 46, 28, 100, 163, 0, 17, 21, 5, 42, 180, 0, 40, 29, 46, 21, 4, 100, 164, 0, 6]
abbrev dktX4_copy_4 : List UInt8 := dkwX4_copy_4 ++ dktX4_copy_5
def dkwX4_copy_3 : List UInt8 := [46, 159, 0, 6, 16, 244, 172, 21, 5, 155, 0, 39, 28, 155, 0, 35, 21, 4, 155, 0, 30, 21, 5, 42]
abbrev dktX4_copy_3 : List UInt8 := dkwX4_copy_3 ++ dktX4_copy_4
def dkwX4_copy_2 : List UInt8 := [160, 0, 28, 42, 180, 0, 28, 29, 46, 5, 160, 0, 18, 42, 180, 0, 37, 27, 46, 42, 180, 0, 37, 29]
abbrev dktX4_copy_2 : List UInt8 := dkwX4_copy_2 ++ dktX4_copy_3
def dkwX4_copy_1 : List UInt8 := [153, 0, 12, 42, 180, 0, 28, 29, 46, 154, 0, 6, 16, 245, 172, 42, 180, 0, 28, 27, 46, 5]
abbrev dktX4_copy_1 : List UInt8 := dkwX4_copy_1 ++ dktX4_copy_2
def dkwX4_copy_0 : List UInt8 := [27, 184, 1, 7, 153, 0, 10, 29, 184, 1, 7, 154, 0, 5, 2, 172, 42, 180, 0, 28, 27, 46]
abbrev dktX4_copy_0 : List UInt8 := dkwX4_copy_0 ++ dktX4_copy_1
theorem dksX4_copy_0 : cX4_copy.data.toList.drop 0 = dktX4_copy_0 := by decide +kernel
theorem dksX4_copy_1 : cX4_copy.data.toList.drop 22 = dktX4_copy_1 := dk_seg dksX4_copy_0 22 rfl rfl
theorem dksX4_copy_2 : cX4_copy.data.toList.drop 44 = dktX4_copy_2 := dk_seg dksX4_copy_1 22 rfl rfl
theorem dksX4_copy_3 : cX4_copy.data.toList.drop 68 = dktX4_copy_3 := dk_seg dksX4_copy_2 24 rfl rfl
theorem dksX4_copy_4 : cX4_copy.data.toList.drop 92 = dktX4_copy_4 := dk_seg dksX4_copy_3 24 rfl rfl
theorem dksX4_copy_5 : cX4_copy.data.toList.drop 116 = dktX4_copy_5 := dk_seg dksX4_copy_4 24 rfl rfl
theorem dksX4_copy_6 : cX4_copy.data.toList.drop 140 = dktX4_copy_6 := dk_seg dksX4_copy_5 24 rfl rfl
theorem dksX4_copy_7 : cX4_copy.data.toList.drop 164 = dktX4_copy_7 := dk_seg dksX4_copy_6 24 rfl rfl
theorem dX4_copy_0 : decode cX4_copy 0 = .ok (.iload_n 1, 1) := dk_27 (dk_at dksX4_copy_0 0 rfl rfl)
theorem dX4_copy_1 : decode cX4_copy 1 = .ok (.invokestatic 263, 3) := dk_184 1 7 (dk_at dksX4_copy_0 1 rfl rfl)
theorem dX4_copy_4 : decode cX4_copy 4 = .ok (.ifCond .eq 10, 3) := dk_153 0 10 (dk_at dksX4_copy_0 4 rfl rfl)
theorem dX4_copy_7 : decode cX4_copy 7 = .ok (.iload_n 3, 1) := dk_29 (dk_at dksX4_copy_0 7 rfl rfl)
theorem dX4_copy_8 : decode cX4_copy 8 = .ok (.invokestatic 263, 3) := dk_184 1 7 (dk_at dksX4_copy_0 8 rfl rfl)
theorem dX4_copy_11 : decode cX4_copy 11 = .ok (.ifCond .ne 5, 3) := dk_154 0 5 (dk_at dksX4_copy_0 11 rfl rfl)
theorem dX4_copy_14 : decode cX4_copy 14 = .ok (.iconst (-1), 1) := dk_2 (dk_at dksX4_copy_0 14 rfl rfl)
theorem dX4_copy_15 : decode cX4_copy 15 = .ok (.ireturn, 1) := dk_172 (dk_at dksX4_copy_0 15 rfl rfl)
theorem dX4_copy_16 : decode cX4_copy 16 = .ok (.aload_n 0, 1) := dk_42 (dk_at dksX4_copy_0 16 rfl rfl)
theorem dX4_copy_17 : decode cX4_copy 17 = .ok (.getfield 28, 3) := dk_180 0 28 (dk_at dksX4_copy_0 17 rfl rfl)
theorem dX4_copy_20 : decode cX4_copy 20 = .ok (.iload_n 1, 1) := dk_27 (dk_at dksX4_copy_0 20 rfl rfl)
theorem dX4_copy_21 : decode cX4_copy 21 = .ok (.iaload, 1) := dk_46 (dk_at dksX4_copy_0 21 rfl rfl)
theorem dX4_copy_22 : decode cX4_copy 22 = .ok (.ifCond .eq 12, 3) := dk_153 0 12 (dk_at dksX4_copy_1 0 rfl rfl)
theorem dX4_copy_25 : decode cX4_copy 25 = .ok (.aload_n 0, 1) := dk_42 (dk_at dksX4_copy_1 3 rfl rfl)
theorem dX4_copy_26 : decode cX4_copy 26 = .ok (.getfield 28, 3) := dk_180 0 28 (dk_at dksX4_copy_1 4 rfl rfl)
theorem dX4_copy_29 : decode cX4_copy 29 = .ok (.iload_n 3, 1) := dk_29 (dk_at dksX4_copy_1 7 rfl rfl)
theorem dX4_copy_30 : decode cX4_copy 30 = .ok (.iaload, 1) := dk_46 (dk_at dksX4_copy_1 8 rfl rfl)
theorem dX4_copy_31 : decode cX4_copy 31 = .ok (.ifCond .ne 6, 3) := dk_154 0 6 (dk_at dksX4_copy_1 9 rfl rfl)
theorem dX4_copy_34 : decode cX4_copy 34 = .ok (.bipush (-11), 2) := dk_16 245 (dk_at dksX4_copy_1 12 rfl rfl)
theorem dX4_copy_36 : decode cX4_copy 36 = .ok (.ireturn, 1) := dk_172 (dk_at dksX4_copy_1 14 rfl rfl)
theorem dX4_copy_37 : decode cX4_copy 37 = .ok (.aload_n 0, 1) := dk_42 (dk_at dksX4_copy_1 15 rfl rfl)
theorem dX4_copy_38 : decode cX4_copy 38 = .ok (.getfield 28, 3) := dk_180 0 28 (dk_at dksX4_copy_1 16 rfl rfl)
theorem dX4_copy_41 : decode cX4_copy 41 = .ok (.iload_n 1, 1) := dk_27 (dk_at dksX4_copy_1 19 rfl rfl)
theorem dX4_copy_42 : decode cX4_copy 42 = .ok (.iaload, 1) := dk_46 (dk_at dksX4_copy_1 20 rfl rfl)
theorem dX4_copy_43 : decode cX4_copy 43 = .ok (.iconst 2, 1) := dk_5 (dk_at dksX4_copy_1 21 rfl rfl)
theorem dX4_copy_44 : decode cX4_copy 44 = .ok (.if_icmp .ne 28, 3) := dk_160 0 28 (dk_at dksX4_copy_2 0 rfl rfl)
theorem dX4_copy_47 : decode cX4_copy 47 = .ok (.aload_n 0, 1) := dk_42 (dk_at dksX4_copy_2 3 rfl rfl)
theorem dX4_copy_48 : decode cX4_copy 48 = .ok (.getfield 28, 3) := dk_180 0 28 (dk_at dksX4_copy_2 4 rfl rfl)
theorem dX4_copy_51 : decode cX4_copy 51 = .ok (.iload_n 3, 1) := dk_29 (dk_at dksX4_copy_2 7 rfl rfl)
theorem dX4_copy_52 : decode cX4_copy 52 = .ok (.iaload, 1) := dk_46 (dk_at dksX4_copy_2 8 rfl rfl)
theorem dX4_copy_53 : decode cX4_copy 53 = .ok (.iconst 2, 1) := dk_5 (dk_at dksX4_copy_2 9 rfl rfl)
theorem dX4_copy_54 : decode cX4_copy 54 = .ok (.if_icmp .ne 18, 3) := dk_160 0 18 (dk_at dksX4_copy_2 10 rfl rfl)
theorem dX4_copy_57 : decode cX4_copy 57 = .ok (.aload_n 0, 1) := dk_42 (dk_at dksX4_copy_2 13 rfl rfl)
theorem dX4_copy_58 : decode cX4_copy 58 = .ok (.getfield 37, 3) := dk_180 0 37 (dk_at dksX4_copy_2 14 rfl rfl)
theorem dX4_copy_61 : decode cX4_copy 61 = .ok (.iload_n 1, 1) := dk_27 (dk_at dksX4_copy_2 17 rfl rfl)
theorem dX4_copy_62 : decode cX4_copy 62 = .ok (.iaload, 1) := dk_46 (dk_at dksX4_copy_2 18 rfl rfl)
theorem dX4_copy_63 : decode cX4_copy 63 = .ok (.aload_n 0, 1) := dk_42 (dk_at dksX4_copy_2 19 rfl rfl)
theorem dX4_copy_64 : decode cX4_copy 64 = .ok (.getfield 37, 3) := dk_180 0 37 (dk_at dksX4_copy_2 20 rfl rfl)
theorem dX4_copy_67 : decode cX4_copy 67 = .ok (.iload_n 3, 1) := dk_29 (dk_at dksX4_copy_2 23 rfl rfl)
theorem dX4_copy_68 : decode cX4_copy 68 = .ok (.iaload, 1) := dk_46 (dk_at dksX4_copy_3 0 rfl rfl)
theorem dX4_copy_69 : decode cX4_copy 69 = .ok (.if_icmp .eq 6, 3) := dk_159 0 6 (dk_at dksX4_copy_3 1 rfl rfl)
theorem dX4_copy_72 : decode cX4_copy 72 = .ok (.bipush (-12), 2) := dk_16 244 (dk_at dksX4_copy_3 4 rfl rfl)
theorem dX4_copy_74 : decode cX4_copy 74 = .ok (.ireturn, 1) := dk_172 (dk_at dksX4_copy_3 6 rfl rfl)
theorem dX4_copy_75 : decode cX4_copy 75 = .ok (.iload 5, 2) := dk_21 5 (dk_at dksX4_copy_3 7 rfl rfl)
theorem dX4_copy_77 : decode cX4_copy 77 = .ok (.ifCond .lt 39, 3) := dk_155 0 39 (dk_at dksX4_copy_3 9 rfl rfl)
theorem dX4_copy_80 : decode cX4_copy 80 = .ok (.iload_n 2, 1) := dk_28 (dk_at dksX4_copy_3 12 rfl rfl)
theorem dX4_copy_81 : decode cX4_copy 81 = .ok (.ifCond .lt 35, 3) := dk_155 0 35 (dk_at dksX4_copy_3 13 rfl rfl)
theorem dX4_copy_84 : decode cX4_copy 84 = .ok (.iload 4, 2) := dk_21 4 (dk_at dksX4_copy_3 16 rfl rfl)
theorem dX4_copy_86 : decode cX4_copy 86 = .ok (.ifCond .lt 30, 3) := dk_155 0 30 (dk_at dksX4_copy_3 18 rfl rfl)
theorem dX4_copy_89 : decode cX4_copy 89 = .ok (.iload 5, 2) := dk_21 5 (dk_at dksX4_copy_3 21 rfl rfl)
theorem dX4_copy_91 : decode cX4_copy 91 = .ok (.aload_n 0, 1) := dk_42 (dk_at dksX4_copy_3 23 rfl rfl)
theorem dX4_copy_92 : decode cX4_copy 92 = .ok (.getfield 40, 3) := dk_180 0 40 (dk_at dksX4_copy_4 0 rfl rfl)
theorem dX4_copy_95 : decode cX4_copy 95 = .ok (.iload_n 1, 1) := dk_27 (dk_at dksX4_copy_4 3 rfl rfl)
theorem dX4_copy_96 : decode cX4_copy 96 = .ok (.iaload, 1) := dk_46 (dk_at dksX4_copy_4 4 rfl rfl)
theorem dX4_copy_97 : decode cX4_copy 97 = .ok (.iload_n 2, 1) := dk_28 (dk_at dksX4_copy_4 5 rfl rfl)
theorem dX4_copy_98 : decode cX4_copy 98 = .ok (.isub, 1) := dk_100 (dk_at dksX4_copy_4 6 rfl rfl)
theorem dX4_copy_99 : decode cX4_copy 99 = .ok (.if_icmp .gt 17, 3) := dk_163 0 17 (dk_at dksX4_copy_4 7 rfl rfl)
theorem dX4_copy_102 : decode cX4_copy 102 = .ok (.iload 5, 2) := dk_21 5 (dk_at dksX4_copy_4 10 rfl rfl)
theorem dX4_copy_104 : decode cX4_copy 104 = .ok (.aload_n 0, 1) := dk_42 (dk_at dksX4_copy_4 12 rfl rfl)
theorem dX4_copy_105 : decode cX4_copy 105 = .ok (.getfield 40, 3) := dk_180 0 40 (dk_at dksX4_copy_4 13 rfl rfl)
theorem dX4_copy_108 : decode cX4_copy 108 = .ok (.iload_n 3, 1) := dk_29 (dk_at dksX4_copy_4 16 rfl rfl)
theorem dX4_copy_109 : decode cX4_copy 109 = .ok (.iaload, 1) := dk_46 (dk_at dksX4_copy_4 17 rfl rfl)
theorem dX4_copy_110 : decode cX4_copy 110 = .ok (.iload 4, 2) := dk_21 4 (dk_at dksX4_copy_4 18 rfl rfl)
theorem dX4_copy_112 : decode cX4_copy 112 = .ok (.isub, 1) := dk_100 (dk_at dksX4_copy_4 20 rfl rfl)
theorem dX4_copy_113 : decode cX4_copy 113 = .ok (.if_icmp .le 6, 3) := dk_164 0 6 (dk_at dksX4_copy_4 21 rfl rfl)
theorem dX4_copy_116 : decode cX4_copy 116 = .ok (.bipush (-13), 2) := dk_16 243 (dk_at dksX4_copy_5 0 rfl rfl)
theorem dX4_copy_118 : decode cX4_copy 118 = .ok (.ireturn, 1) := dk_172 (dk_at dksX4_copy_5 2 rfl rfl)
theorem dX4_copy_119 : decode cX4_copy 119 = .ok (.iconst 0, 1) := dk_3 (dk_at dksX4_copy_5 3 rfl rfl)
theorem dX4_copy_120 : decode cX4_copy 120 = .ok (.istore 6, 2) := dk_54 6 (dk_at dksX4_copy_5 4 rfl rfl)
theorem dX4_copy_122 : decode cX4_copy 122 = .ok (.iload 6, 2) := dk_21 6 (dk_at dksX4_copy_5 6 rfl rfl)
theorem dX4_copy_124 : decode cX4_copy 124 = .ok (.iload 5, 2) := dk_21 5 (dk_at dksX4_copy_5 8 rfl rfl)
theorem dX4_copy_126 : decode cX4_copy 126 = .ok (.if_icmp .ge 58, 3) := dk_162 0 58 (dk_at dksX4_copy_5 10 rfl rfl)
theorem dX4_copy_129 : decode cX4_copy 129 = .ok (.iload_n 2, 1) := dk_28 (dk_at dksX4_copy_5 13 rfl rfl)
theorem dX4_copy_130 : decode cX4_copy 130 = .ok (.iload 4, 2) := dk_21 4 (dk_at dksX4_copy_5 14 rfl rfl)
theorem dX4_copy_132 : decode cX4_copy 132 = .ok (.if_icmp .le 8, 3) := dk_164 0 8 (dk_at dksX4_copy_5 16 rfl rfl)
theorem dX4_copy_135 : decode cX4_copy 135 = .ok (.iload 6, 2) := dk_21 6 (dk_at dksX4_copy_5 19 rfl rfl)
theorem dX4_copy_137 : decode cX4_copy 137 = .ok (.goto 10, 3) := dk_167 0 10 (dk_at dksX4_copy_5 21 rfl rfl)
theorem dX4_copy_140 : decode cX4_copy 140 = .ok (.iload 5, 2) := dk_21 5 (dk_at dksX4_copy_6 0 rfl rfl)
theorem dX4_copy_142 : decode cX4_copy 142 = .ok (.iconst 1, 1) := dk_4 (dk_at dksX4_copy_6 2 rfl rfl)
theorem dX4_copy_143 : decode cX4_copy 143 = .ok (.isub, 1) := dk_100 (dk_at dksX4_copy_6 3 rfl rfl)
theorem dX4_copy_144 : decode cX4_copy 144 = .ok (.iload 6, 2) := dk_21 6 (dk_at dksX4_copy_6 4 rfl rfl)
theorem dX4_copy_146 : decode cX4_copy 146 = .ok (.isub, 1) := dk_100 (dk_at dksX4_copy_6 6 rfl rfl)
theorem dX4_copy_147 : decode cX4_copy 147 = .ok (.istore 7, 2) := dk_54 7 (dk_at dksX4_copy_6 7 rfl rfl)
theorem dX4_copy_149 : decode cX4_copy 149 = .ok (.aload_n 0, 1) := dk_42 (dk_at dksX4_copy_6 9 rfl rfl)
theorem dX4_copy_150 : decode cX4_copy 150 = .ok (.getfield 43, 3) := dk_180 0 43 (dk_at dksX4_copy_6 10 rfl rfl)
theorem dX4_copy_153 : decode cX4_copy 153 = .ok (.bipush 100, 2) := dk_16 100 (dk_at dksX4_copy_6 13 rfl rfl)
theorem dX4_copy_155 : decode cX4_copy 155 = .ok (.iload_n 3, 1) := dk_29 (dk_at dksX4_copy_6 15 rfl rfl)
theorem dX4_copy_156 : decode cX4_copy 156 = .ok (.imul, 1) := dk_104 (dk_at dksX4_copy_6 16 rfl rfl)
theorem dX4_copy_157 : decode cX4_copy 157 = .ok (.iload 4, 2) := dk_21 4 (dk_at dksX4_copy_6 17 rfl rfl)
theorem dX4_copy_159 : decode cX4_copy 159 = .ok (.iadd, 1) := dk_96 (dk_at dksX4_copy_6 19 rfl rfl)
theorem dX4_copy_160 : decode cX4_copy 160 = .ok (.iload 7, 2) := dk_21 7 (dk_at dksX4_copy_6 20 rfl rfl)
theorem dX4_copy_162 : decode cX4_copy 162 = .ok (.iadd, 1) := dk_96 (dk_at dksX4_copy_6 22 rfl rfl)
theorem dX4_copy_163 : decode cX4_copy 163 = .ok (.aload_n 0, 1) := dk_42 (dk_at dksX4_copy_6 23 rfl rfl)
theorem dX4_copy_164 : decode cX4_copy 164 = .ok (.getfield 43, 3) := dk_180 0 43 (dk_at dksX4_copy_7 0 rfl rfl)
theorem dX4_copy_167 : decode cX4_copy 167 = .ok (.bipush 100, 2) := dk_16 100 (dk_at dksX4_copy_7 3 rfl rfl)
theorem dX4_copy_169 : decode cX4_copy 169 = .ok (.iload_n 1, 1) := dk_27 (dk_at dksX4_copy_7 5 rfl rfl)
theorem dX4_copy_170 : decode cX4_copy 170 = .ok (.imul, 1) := dk_104 (dk_at dksX4_copy_7 6 rfl rfl)
theorem dX4_copy_171 : decode cX4_copy 171 = .ok (.iload_n 2, 1) := dk_28 (dk_at dksX4_copy_7 7 rfl rfl)
theorem dX4_copy_172 : decode cX4_copy 172 = .ok (.iadd, 1) := dk_96 (dk_at dksX4_copy_7 8 rfl rfl)
theorem dX4_copy_173 : decode cX4_copy 173 = .ok (.iload 7, 2) := dk_21 7 (dk_at dksX4_copy_7 9 rfl rfl)
theorem dX4_copy_175 : decode cX4_copy 175 = .ok (.iadd, 1) := dk_96 (dk_at dksX4_copy_7 11 rfl rfl)
theorem dX4_copy_176 : decode cX4_copy 176 = .ok (.iaload, 1) := dk_46 (dk_at dksX4_copy_7 12 rfl rfl)
theorem dX4_copy_177 : decode cX4_copy 177 = .ok (.iastore, 1) := dk_79 (dk_at dksX4_copy_7 13 rfl rfl)
theorem dX4_copy_178 : decode cX4_copy 178 = .ok (.iinc 6 1, 3) := dk_132 6 1 (dk_at dksX4_copy_7 14 rfl rfl)
theorem dX4_copy_181 : decode cX4_copy 181 = .ok (.goto (-59), 3) := dk_167 255 197 (dk_at dksX4_copy_7 17 rfl rfl)
theorem dX4_copy_184 : decode cX4_copy 184 = .ok (.iload 5, 2) := dk_21 5 (dk_at dksX4_copy_7 20 rfl rfl)
theorem dX4_copy_186 : decode cX4_copy 186 = .ok (.ireturn, 1) := dk_172 (dk_at dksX4_copy_7 22 rfl rfl)
abbrev cX4_cost : ByteArray := prog_21_method_101_code
def yX4_cost : MethodName := ⟨RX4, "cost", "(I)I"⟩
def dkwX4_cost_1 : List UInt8 := [27, 46, 184, 1, 10, 172]
abbrev dktX4_cost_1 : List UInt8 := dkwX4_cost_1 ++ []
def dkwX4_cost_0 : List UInt8 := [42, 27, 182, 0, 168, 61, 28, 153, 0, 7, 28, 167, 0, 18, 42, 180, 0, 31, 27, 46, 42, 180, 0, 34]
abbrev dktX4_cost_0 : List UInt8 := dkwX4_cost_0 ++ dktX4_cost_1
theorem dksX4_cost_0 : cX4_cost.data.toList.drop 0 = dktX4_cost_0 := by decide +kernel
theorem dksX4_cost_1 : cX4_cost.data.toList.drop 24 = dktX4_cost_1 := dk_seg dksX4_cost_0 24 rfl rfl
theorem dX4_cost_0 : decode cX4_cost 0 = .ok (.aload_n 0, 1) := dk_42 (dk_at dksX4_cost_0 0 rfl rfl)
theorem dX4_cost_1 : decode cX4_cost 1 = .ok (.iload_n 1, 1) := dk_27 (dk_at dksX4_cost_0 1 rfl rfl)
theorem dX4_cost_2 : decode cX4_cost 2 = .ok (.invokevirtual 168, 3) := dk_182 0 168 (dk_at dksX4_cost_0 2 rfl rfl)
theorem dX4_cost_5 : decode cX4_cost 5 = .ok (.istore_n 2, 1) := dk_61 (dk_at dksX4_cost_0 5 rfl rfl)
theorem dX4_cost_6 : decode cX4_cost 6 = .ok (.iload_n 2, 1) := dk_28 (dk_at dksX4_cost_0 6 rfl rfl)
theorem dX4_cost_7 : decode cX4_cost 7 = .ok (.ifCond .eq 7, 3) := dk_153 0 7 (dk_at dksX4_cost_0 7 rfl rfl)
theorem dX4_cost_10 : decode cX4_cost 10 = .ok (.iload_n 2, 1) := dk_28 (dk_at dksX4_cost_0 10 rfl rfl)
theorem dX4_cost_11 : decode cX4_cost 11 = .ok (.goto 18, 3) := dk_167 0 18 (dk_at dksX4_cost_0 11 rfl rfl)
theorem dX4_cost_14 : decode cX4_cost 14 = .ok (.aload_n 0, 1) := dk_42 (dk_at dksX4_cost_0 14 rfl rfl)
theorem dX4_cost_15 : decode cX4_cost 15 = .ok (.getfield 31, 3) := dk_180 0 31 (dk_at dksX4_cost_0 15 rfl rfl)
theorem dX4_cost_18 : decode cX4_cost 18 = .ok (.iload_n 1, 1) := dk_27 (dk_at dksX4_cost_0 18 rfl rfl)
theorem dX4_cost_19 : decode cX4_cost 19 = .ok (.iaload, 1) := dk_46 (dk_at dksX4_cost_0 19 rfl rfl)
theorem dX4_cost_20 : decode cX4_cost 20 = .ok (.aload_n 0, 1) := dk_42 (dk_at dksX4_cost_0 20 rfl rfl)
theorem dX4_cost_21 : decode cX4_cost 21 = .ok (.getfield 34, 3) := dk_180 0 34 (dk_at dksX4_cost_0 21 rfl rfl)
theorem dX4_cost_24 : decode cX4_cost 24 = .ok (.iload_n 1, 1) := dk_27 (dk_at dksX4_cost_1 0 rfl rfl)
theorem dX4_cost_25 : decode cX4_cost 25 = .ok (.iaload, 1) := dk_46 (dk_at dksX4_cost_1 1 rfl rfl)
theorem dX4_cost_26 : decode cX4_cost 26 = .ok (.invokestatic 266, 3) := dk_184 1 10 (dk_at dksX4_cost_1 2 rfl rfl)
theorem dX4_cost_29 : decode cX4_cost 29 = .ok (.ireturn, 1) := dk_172 (dk_at dksX4_cost_1 5 rfl rfl)
abbrev cX4_costBy : ByteArray := prog_21_method_100_code
def yX4_costBy : MethodName := ⟨RX4, "costBy", "(II)I"⟩
def dkwX4_costBy_2 : List UInt8 := [16, 6, 172, 5, 27, 96, 172, 4, 172, 5, 27, 96, 5, 108, 172, 6, 172, 27, 172, 3, 172, 5, 172]
abbrev dktX4_costBy_2 : List UInt8 := dkwX4_costBy_2 ++ []
def dkwX4_costBy_1 : List UInt8 := [170, 0, 0, 0, 0, 0, 64, 0, 0, 0, 1, 0, 0, 0, 7, 0, 0, 0, 43, 0, 0, 0, 46, 0, 0, 0, 50, 0, 0, 0, 52, 0, 0, 0, 58, 0, 0, 0, 60, 0, 0, 0, 62]
abbrev dktX4_costBy_1 : List UInt8 := dkwX4_costBy_1 ++ dktX4_costBy_2
def dkwX4_costBy_0 : List UInt8 := [26]
abbrev dktX4_costBy_0 : List UInt8 := dkwX4_costBy_0 ++ dktX4_costBy_1
theorem dksX4_costBy_0 : cX4_costBy.data.toList.drop 0 = dktX4_costBy_0 := by decide +kernel
theorem dksX4_costBy_1 : cX4_costBy.data.toList.drop 1 = dktX4_costBy_1 := dk_seg dksX4_costBy_0 1 rfl rfl
theorem dksX4_costBy_2 : cX4_costBy.data.toList.drop 44 = dktX4_costBy_2 := dk_seg dksX4_costBy_1 43 rfl rfl
theorem dX4_costBy_0 : decode cX4_costBy 0 = .ok (.iload_n 0, 1) := dk_26 (dk_at dksX4_costBy_0 0 rfl rfl)
theorem dX4_costBy_1 : decode cX4_costBy 1 = .ok (.tableswitch 64 1 7 #[43, 46, 50, 52, 58, 60, 62], 43) := by decide +kernel
theorem dX4_costBy_44 : decode cX4_costBy 44 = .ok (.bipush 6, 2) := dk_16 6 (dk_at dksX4_costBy_2 0 rfl rfl)
theorem dX4_costBy_46 : decode cX4_costBy 46 = .ok (.ireturn, 1) := dk_172 (dk_at dksX4_costBy_2 2 rfl rfl)
theorem dX4_costBy_47 : decode cX4_costBy 47 = .ok (.iconst 2, 1) := dk_5 (dk_at dksX4_costBy_2 3 rfl rfl)
theorem dX4_costBy_48 : decode cX4_costBy 48 = .ok (.iload_n 1, 1) := dk_27 (dk_at dksX4_costBy_2 4 rfl rfl)
theorem dX4_costBy_49 : decode cX4_costBy 49 = .ok (.iadd, 1) := dk_96 (dk_at dksX4_costBy_2 5 rfl rfl)
theorem dX4_costBy_50 : decode cX4_costBy 50 = .ok (.ireturn, 1) := dk_172 (dk_at dksX4_costBy_2 6 rfl rfl)
theorem dX4_costBy_51 : decode cX4_costBy 51 = .ok (.iconst 1, 1) := dk_4 (dk_at dksX4_costBy_2 7 rfl rfl)
theorem dX4_costBy_52 : decode cX4_costBy 52 = .ok (.ireturn, 1) := dk_172 (dk_at dksX4_costBy_2 8 rfl rfl)
theorem dX4_costBy_53 : decode cX4_costBy 53 = .ok (.iconst 2, 1) := dk_5 (dk_at dksX4_costBy_2 9 rfl rfl)
theorem dX4_costBy_54 : decode cX4_costBy 54 = .ok (.iload_n 1, 1) := dk_27 (dk_at dksX4_costBy_2 10 rfl rfl)
theorem dX4_costBy_55 : decode cX4_costBy 55 = .ok (.iadd, 1) := dk_96 (dk_at dksX4_costBy_2 11 rfl rfl)
theorem dX4_costBy_56 : decode cX4_costBy 56 = .ok (.iconst 2, 1) := dk_5 (dk_at dksX4_costBy_2 12 rfl rfl)
theorem dX4_costBy_57 : decode cX4_costBy 57 = .ok (.idiv, 1) := dk_108 (dk_at dksX4_costBy_2 13 rfl rfl)
theorem dX4_costBy_58 : decode cX4_costBy 58 = .ok (.ireturn, 1) := dk_172 (dk_at dksX4_costBy_2 14 rfl rfl)
theorem dX4_costBy_59 : decode cX4_costBy 59 = .ok (.iconst 3, 1) := dk_6 (dk_at dksX4_costBy_2 15 rfl rfl)
theorem dX4_costBy_60 : decode cX4_costBy 60 = .ok (.ireturn, 1) := dk_172 (dk_at dksX4_costBy_2 16 rfl rfl)
theorem dX4_costBy_61 : decode cX4_costBy 61 = .ok (.iload_n 1, 1) := dk_27 (dk_at dksX4_costBy_2 17 rfl rfl)
theorem dX4_costBy_62 : decode cX4_costBy 62 = .ok (.ireturn, 1) := dk_172 (dk_at dksX4_costBy_2 18 rfl rfl)
theorem dX4_costBy_63 : decode cX4_costBy 63 = .ok (.iconst 0, 1) := dk_3 (dk_at dksX4_costBy_2 19 rfl rfl)
theorem dX4_costBy_64 : decode cX4_costBy 64 = .ok (.ireturn, 1) := dk_172 (dk_at dksX4_costBy_2 20 rfl rfl)
theorem dX4_costBy_65 : decode cX4_costBy 65 = .ok (.iconst 2, 1) := dk_5 (dk_at dksX4_costBy_2 21 rfl rfl)
theorem dX4_costBy_66 : decode cX4_costBy 66 = .ok (.ireturn, 1) := dk_172 (dk_at dksX4_costBy_2 22 rfl rfl)
abbrev cX4_toss : ByteArray := prog_21_method_102_code
def yX4_toss : MethodName := ⟨RX4, "toss", "(I)I"⟩
def dkwX4_toss_3 : List UInt8 := [160, 0, 11, 16, 100, 21, 4, 96, 167, 0, 5, 21, 4, 172]
abbrev dktX4_toss_3 : List UInt8 := dkwX4_toss_3 ++ []
def dkwX4_toss_2 : List UInt8 := [16, 241, 172, 29, 7, 160, 0, 16, 17, 0, 200, 29, 21, 4, 184, 1, 10, 96, 167, 0, 18, 29, 5]
abbrev dktX4_toss_2 : List UInt8 := dkwX4_toss_2 ++ dktX4_toss_3
def dkwX4_toss_1 : List UInt8 := [46, 54, 4, 29, 6, 159, 0, 19, 29, 8, 159, 0, 14, 29, 16, 7, 159, 0, 8, 21, 4, 154, 0, 6]
abbrev dktX4_toss_1 : List UInt8 := dkwX4_toss_1 ++ dktX4_toss_2
def dkwX4_toss_0 : List UInt8 := [42, 27, 182, 0, 168, 61, 28, 153, 0, 5, 28, 172, 42, 180, 0, 31, 27, 46, 62, 42, 180, 0, 34, 27]
abbrev dktX4_toss_0 : List UInt8 := dkwX4_toss_0 ++ dktX4_toss_1
theorem dksX4_toss_0 : cX4_toss.data.toList.drop 0 = dktX4_toss_0 := by decide +kernel
theorem dksX4_toss_1 : cX4_toss.data.toList.drop 24 = dktX4_toss_1 := dk_seg dksX4_toss_0 24 rfl rfl
theorem dksX4_toss_2 : cX4_toss.data.toList.drop 48 = dktX4_toss_2 := dk_seg dksX4_toss_1 24 rfl rfl
theorem dksX4_toss_3 : cX4_toss.data.toList.drop 71 = dktX4_toss_3 := dk_seg dksX4_toss_2 23 rfl rfl
theorem dX4_toss_0 : decode cX4_toss 0 = .ok (.aload_n 0, 1) := dk_42 (dk_at dksX4_toss_0 0 rfl rfl)
theorem dX4_toss_1 : decode cX4_toss 1 = .ok (.iload_n 1, 1) := dk_27 (dk_at dksX4_toss_0 1 rfl rfl)
theorem dX4_toss_2 : decode cX4_toss 2 = .ok (.invokevirtual 168, 3) := dk_182 0 168 (dk_at dksX4_toss_0 2 rfl rfl)
theorem dX4_toss_5 : decode cX4_toss 5 = .ok (.istore_n 2, 1) := dk_61 (dk_at dksX4_toss_0 5 rfl rfl)
theorem dX4_toss_6 : decode cX4_toss 6 = .ok (.iload_n 2, 1) := dk_28 (dk_at dksX4_toss_0 6 rfl rfl)
theorem dX4_toss_7 : decode cX4_toss 7 = .ok (.ifCond .eq 5, 3) := dk_153 0 5 (dk_at dksX4_toss_0 7 rfl rfl)
theorem dX4_toss_10 : decode cX4_toss 10 = .ok (.iload_n 2, 1) := dk_28 (dk_at dksX4_toss_0 10 rfl rfl)
theorem dX4_toss_11 : decode cX4_toss 11 = .ok (.ireturn, 1) := dk_172 (dk_at dksX4_toss_0 11 rfl rfl)
theorem dX4_toss_12 : decode cX4_toss 12 = .ok (.aload_n 0, 1) := dk_42 (dk_at dksX4_toss_0 12 rfl rfl)
theorem dX4_toss_13 : decode cX4_toss 13 = .ok (.getfield 31, 3) := dk_180 0 31 (dk_at dksX4_toss_0 13 rfl rfl)
theorem dX4_toss_16 : decode cX4_toss 16 = .ok (.iload_n 1, 1) := dk_27 (dk_at dksX4_toss_0 16 rfl rfl)
theorem dX4_toss_17 : decode cX4_toss 17 = .ok (.iaload, 1) := dk_46 (dk_at dksX4_toss_0 17 rfl rfl)
theorem dX4_toss_18 : decode cX4_toss 18 = .ok (.istore_n 3, 1) := dk_62 (dk_at dksX4_toss_0 18 rfl rfl)
theorem dX4_toss_19 : decode cX4_toss 19 = .ok (.aload_n 0, 1) := dk_42 (dk_at dksX4_toss_0 19 rfl rfl)
theorem dX4_toss_20 : decode cX4_toss 20 = .ok (.getfield 34, 3) := dk_180 0 34 (dk_at dksX4_toss_0 20 rfl rfl)
theorem dX4_toss_23 : decode cX4_toss 23 = .ok (.iload_n 1, 1) := dk_27 (dk_at dksX4_toss_0 23 rfl rfl)
theorem dX4_toss_24 : decode cX4_toss 24 = .ok (.iaload, 1) := dk_46 (dk_at dksX4_toss_1 0 rfl rfl)
theorem dX4_toss_25 : decode cX4_toss 25 = .ok (.istore 4, 2) := dk_54 4 (dk_at dksX4_toss_1 1 rfl rfl)
theorem dX4_toss_27 : decode cX4_toss 27 = .ok (.iload_n 3, 1) := dk_29 (dk_at dksX4_toss_1 3 rfl rfl)
theorem dX4_toss_28 : decode cX4_toss 28 = .ok (.iconst 3, 1) := dk_6 (dk_at dksX4_toss_1 4 rfl rfl)
theorem dX4_toss_29 : decode cX4_toss 29 = .ok (.if_icmp .eq 19, 3) := dk_159 0 19 (dk_at dksX4_toss_1 5 rfl rfl)
theorem dX4_toss_32 : decode cX4_toss 32 = .ok (.iload_n 3, 1) := dk_29 (dk_at dksX4_toss_1 8 rfl rfl)
theorem dX4_toss_33 : decode cX4_toss 33 = .ok (.iconst 5, 1) := dk_8 (dk_at dksX4_toss_1 9 rfl rfl)
theorem dX4_toss_34 : decode cX4_toss 34 = .ok (.if_icmp .eq 14, 3) := dk_159 0 14 (dk_at dksX4_toss_1 10 rfl rfl)
theorem dX4_toss_37 : decode cX4_toss 37 = .ok (.iload_n 3, 1) := dk_29 (dk_at dksX4_toss_1 13 rfl rfl)
theorem dX4_toss_38 : decode cX4_toss 38 = .ok (.bipush 7, 2) := dk_16 7 (dk_at dksX4_toss_1 14 rfl rfl)
theorem dX4_toss_40 : decode cX4_toss 40 = .ok (.if_icmp .eq 8, 3) := dk_159 0 8 (dk_at dksX4_toss_1 16 rfl rfl)
theorem dX4_toss_43 : decode cX4_toss 43 = .ok (.iload 4, 2) := dk_21 4 (dk_at dksX4_toss_1 19 rfl rfl)
theorem dX4_toss_45 : decode cX4_toss 45 = .ok (.ifCond .ne 6, 3) := dk_154 0 6 (dk_at dksX4_toss_1 21 rfl rfl)
theorem dX4_toss_48 : decode cX4_toss 48 = .ok (.bipush (-15), 2) := dk_16 241 (dk_at dksX4_toss_2 0 rfl rfl)
theorem dX4_toss_50 : decode cX4_toss 50 = .ok (.ireturn, 1) := dk_172 (dk_at dksX4_toss_2 2 rfl rfl)
theorem dX4_toss_51 : decode cX4_toss 51 = .ok (.iload_n 3, 1) := dk_29 (dk_at dksX4_toss_2 3 rfl rfl)
theorem dX4_toss_52 : decode cX4_toss 52 = .ok (.iconst 4, 1) := dk_7 (dk_at dksX4_toss_2 4 rfl rfl)
theorem dX4_toss_53 : decode cX4_toss 53 = .ok (.if_icmp .ne 16, 3) := dk_160 0 16 (dk_at dksX4_toss_2 5 rfl rfl)
theorem dX4_toss_56 : decode cX4_toss 56 = .ok (.sipush 200, 3) := dk_17 0 200 (dk_at dksX4_toss_2 8 rfl rfl)
theorem dX4_toss_59 : decode cX4_toss 59 = .ok (.iload_n 3, 1) := dk_29 (dk_at dksX4_toss_2 11 rfl rfl)
theorem dX4_toss_60 : decode cX4_toss 60 = .ok (.iload 4, 2) := dk_21 4 (dk_at dksX4_toss_2 12 rfl rfl)
theorem dX4_toss_62 : decode cX4_toss 62 = .ok (.invokestatic 266, 3) := dk_184 1 10 (dk_at dksX4_toss_2 14 rfl rfl)
theorem dX4_toss_65 : decode cX4_toss 65 = .ok (.iadd, 1) := dk_96 (dk_at dksX4_toss_2 17 rfl rfl)
theorem dX4_toss_66 : decode cX4_toss 66 = .ok (.goto 18, 3) := dk_167 0 18 (dk_at dksX4_toss_2 18 rfl rfl)
theorem dX4_toss_69 : decode cX4_toss 69 = .ok (.iload_n 3, 1) := dk_29 (dk_at dksX4_toss_2 21 rfl rfl)
theorem dX4_toss_70 : decode cX4_toss 70 = .ok (.iconst 2, 1) := dk_5 (dk_at dksX4_toss_2 22 rfl rfl)
theorem dX4_toss_71 : decode cX4_toss 71 = .ok (.if_icmp .ne 11, 3) := dk_160 0 11 (dk_at dksX4_toss_3 0 rfl rfl)
theorem dX4_toss_74 : decode cX4_toss 74 = .ok (.bipush 100, 2) := dk_16 100 (dk_at dksX4_toss_3 3 rfl rfl)
theorem dX4_toss_76 : decode cX4_toss 76 = .ok (.iload 4, 2) := dk_21 4 (dk_at dksX4_toss_3 5 rfl rfl)
theorem dX4_toss_78 : decode cX4_toss 78 = .ok (.iadd, 1) := dk_96 (dk_at dksX4_toss_3 7 rfl rfl)
theorem dX4_toss_79 : decode cX4_toss 79 = .ok (.goto 5, 3) := dk_167 0 5 (dk_at dksX4_toss_3 8 rfl rfl)
theorem dX4_toss_82 : decode cX4_toss 82 = .ok (.iload 4, 2) := dk_21 4 (dk_at dksX4_toss_3 11 rfl rfl)
theorem dX4_toss_84 : decode cX4_toss 84 = .ok (.ireturn, 1) := dk_172 (dk_at dksX4_toss_3 13 rfl rfl)
theorem q70 : (Jvm.Cond.initialized "SideBySideModel") ∈ lw_all := lw_g (lw_at lw_m1 4 rfl) rfl
theorem q1165 : (Jvm.Cond.instantiable "SideBySideModel" (20 : Nat)) ∈ lw_all := lw_g (lw_at lw_m5 139 rfl) rfl
theorem q1167 : (Jvm.Cond.instanceMethod ({ cls := "SideBySideModel", name := "<init>", desc := "()V" } : Jvm.MethodName)) ∈ lw_all := lw_g (lw_at lw_m5 141 rfl) rfl
theorem q1168 : (Jvm.Cond.code ({ cls := "SideBySideModel", name := "<init>", desc := "()V" } : Jvm.MethodName) prog_21_method_1_code (2 : Nat) (Option.none : Option Jvm.ClassFile.FieldType)) ∈ lw_all := lw_g (lw_at lw_m5 142 rfl) rfl
theorem q1169 : (Jvm.Cond.methodLink "SideBySideModel" (1 : Nat) ({ cls := "java/lang/Object", name := "<init>", desc := "()V" } : Jvm.MethodName)) ∈ lw_all := lw_g (lw_at lw_m5 143 rfl) rfl
theorem q1170 : (Jvm.Cond.methodLink "SideBySideModel" (46 : Nat) ({ cls := "SideBySideModel", name := "ofP", desc := "(II)I" } : Jvm.MethodName)) ∈ lw_all := lw_g (lw_at lw_m5 144 rfl) rfl
theorem q1171 : (Jvm.Cond.static ({ cls := "SideBySideModel", name := "ofP", desc := "(II)I" } : Jvm.MethodName)) ∈ lw_all := lw_g (lw_at lw_m5 145 rfl) rfl
theorem q1172 : (Jvm.Cond.code ({ cls := "SideBySideModel", name := "ofP", desc := "(II)I" } : Jvm.MethodName) prog_21_method_6_code (2 : Nat) (Option.some Jvm.ClassFile.FieldType.int)) ∈ lw_all := lw_g (lw_at lw_m5 146 rfl) rfl
theorem q1173 : (Jvm.Cond.methodLink "SideBySideModel" (50 : Nat) ({ cls := "SideBySideModel", name := "ofSide", desc := "(II)I" } : Jvm.MethodName)) ∈ lw_all := lw_g (lw_at lw_m5 147 rfl) rfl
theorem q1174 : (Jvm.Cond.static ({ cls := "SideBySideModel", name := "ofSide", desc := "(II)I" } : Jvm.MethodName)) ∈ lw_all := lw_g (lw_at lw_m5 148 rfl) rfl
theorem q1175 : (Jvm.Cond.code ({ cls := "SideBySideModel", name := "ofSide", desc := "(II)I" } : Jvm.MethodName) prog_21_method_7_code (2 : Nat) (Option.some Jvm.ClassFile.FieldType.int)) ∈ lw_all := lw_g (lw_at lw_m5 149 rfl) rfl
theorem q1176 : (Jvm.Cond.fieldLink "SideBySideModel" (9 : Nat) "SideBySideModel" "s" "[I") ∈ lw_all := lw_g (lw_at lw_m5 150 rfl) rfl
theorem q1177 : (Jvm.Cond.fieldLink "SideBySideModel" (13 : Nat) "SideBySideModel" "m" "[I") ∈ lw_all := lw_g (lw_at lw_m5 151 rfl) rfl
theorem q1178 : (Jvm.Cond.fieldLink "SideBySideModel" (16 : Nat) "SideBySideModel" "image" "[I") ∈ lw_all := lw_g (lw_at lw_m5 152 rfl) rfl
theorem q1179 : (Jvm.Cond.fieldLink "SideBySideModel" (19 : Nat) "SideBySideModel" "was" "[I") ∈ lw_all := lw_g (lw_at lw_m5 153 rfl) rfl
theorem q1180 : (Jvm.Cond.fieldLink "SideBySideModel" (22 : Nat) "SideBySideModel" "gone" "[I") ∈ lw_all := lw_g (lw_at lw_m5 154 rfl) rfl
theorem q1181 : (Jvm.Cond.fieldLink "SideBySideModel" (256 : Nat) "SideBySideModel" "hasImage" "Z") ∈ lw_all := lw_g (lw_at lw_m5 155 rfl) rfl
theorem q1182 : (Jvm.Cond.fieldLink "SideBySideModel" (113 : Nat) "SideBySideModel" "place" "I") ∈ lw_all := lw_g (lw_at lw_m5 156 rfl) rfl
theorem q1183 : (Jvm.Cond.fieldLink "SideBySideModel" (120 : Nat) "SideBySideModel" "rowAt" "I") ∈ lw_all := lw_g (lw_at lw_m5 157 rfl) rfl
theorem q1184 : (Jvm.Cond.fieldLink "SideBySideModel" (117 : Nat) "SideBySideModel" "rowEnd" "I") ∈ lw_all := lw_g (lw_at lw_m5 158 rfl) rfl
theorem q1185 : (Jvm.Cond.fieldLink "SideBySideModel" (25 : Nat) "SideBySideModel" "numbers" "[I") ∈ lw_all := lw_g (lw_at lw_m5 159 rfl) rfl
theorem q1186 : (Jvm.Cond.fieldLink "SideBySideModel" (203 : Nat) "SideBySideModel" "rallied" "I") ∈ lw_all := lw_g (lw_at lw_m5 160 rfl) rfl
theorem q1187 : (Jvm.Cond.fieldLink "SideBySideModel" (206 : Nat) "SideBySideModel" "scored" "I") ∈ lw_all := lw_g (lw_at lw_m5 161 rfl) rfl
theorem q1188 : (Jvm.Cond.fieldLink "SideBySideModel" (247 : Nat) "SideBySideModel" "seed" "I") ∈ lw_all := lw_g (lw_at lw_m5 162 rfl) rfl
theorem q1189 : (Jvm.Cond.fieldLink "SideBySideModel" (28 : Nat) "SideBySideModel" "kept" "[I") ∈ lw_all := lw_g (lw_at lw_m5 163 rfl) rfl
theorem q1190 : (Jvm.Cond.fieldLink "SideBySideModel" (31 : Nat) "SideBySideModel" "keptKind" "[I") ∈ lw_all := lw_g (lw_at lw_m5 164 rfl) rfl
theorem q1191 : (Jvm.Cond.fieldLink "SideBySideModel" (34 : Nat) "SideBySideModel" "keptFigure" "[I") ∈ lw_all := lw_g (lw_at lw_m5 165 rfl) rfl
theorem q1192 : (Jvm.Cond.fieldLink "SideBySideModel" (37 : Nat) "SideBySideModel" "sort" "[I") ∈ lw_all := lw_g (lw_at lw_m5 166 rfl) rfl
theorem q1193 : (Jvm.Cond.fieldLink "SideBySideModel" (40 : Nat) "SideBySideModel" "size" "[I") ∈ lw_all := lw_g (lw_at lw_m5 167 rfl) rfl
theorem q1194 : (Jvm.Cond.fieldLink "SideBySideModel" (43 : Nat) "SideBySideModel" "element" "[I") ∈ lw_all := lw_g (lw_at lw_m5 168 rfl) rfl
theorem q1195 : (Jvm.Cond.fieldLink "SideBySideModel" (260 : Nat) "SideBySideModel" "thrown" "I") ∈ lw_all := lw_g (lw_at lw_m5 169 rfl) rfl
theorem q1196 : (Jvm.Cond.laysFinal "SideBySideModel" "SideBySideModel" "s" "[I") ∈ lw_all := lw_g (lw_at lw_m5 170 rfl) rfl
theorem q1197 : (Jvm.Cond.soleField "SideBySideModel" "s") ∈ lw_all := lw_g (lw_at lw_m5 171 rfl) rfl
theorem q1198 : (Jvm.Cond.laysFinal "SideBySideModel" "SideBySideModel" "m" "[I") ∈ lw_all := lw_g (lw_at lw_m5 172 rfl) rfl
theorem q1199 : (Jvm.Cond.soleField "SideBySideModel" "m") ∈ lw_all := lw_g (lw_at lw_m5 173 rfl) rfl
theorem q1200 : (Jvm.Cond.laysFinal "SideBySideModel" "SideBySideModel" "image" "[I") ∈ lw_all := lw_g (lw_at lw_m5 174 rfl) rfl
theorem q1201 : (Jvm.Cond.soleField "SideBySideModel" "image") ∈ lw_all := lw_g (lw_at lw_m5 175 rfl) rfl
theorem q1202 : (Jvm.Cond.laysFinal "SideBySideModel" "SideBySideModel" "was" "[I") ∈ lw_all := lw_g (lw_at lw_m5 176 rfl) rfl
theorem q1203 : (Jvm.Cond.soleField "SideBySideModel" "was") ∈ lw_all := lw_g (lw_at lw_m5 177 rfl) rfl
theorem q1204 : (Jvm.Cond.laysFinal "SideBySideModel" "SideBySideModel" "gone" "[I") ∈ lw_all := lw_g (lw_at lw_m5 178 rfl) rfl
theorem q1205 : (Jvm.Cond.soleField "SideBySideModel" "gone") ∈ lw_all := lw_g (lw_at lw_m5 179 rfl) rfl
theorem q1206 : (Jvm.Cond.lays "SideBySideModel" "SideBySideModel" "hasImage" "Z") ∈ lw_all := lw_g (lw_at lw_m5 180 rfl) rfl
theorem q1207 : (Jvm.Cond.soleField "SideBySideModel" "hasImage") ∈ lw_all := lw_g (lw_at lw_m5 181 rfl) rfl
theorem q1208 : (Jvm.Cond.lays "SideBySideModel" "SideBySideModel" "place" "I") ∈ lw_all := lw_g (lw_at lw_m5 182 rfl) rfl
theorem q1209 : (Jvm.Cond.soleField "SideBySideModel" "place") ∈ lw_all := lw_g (lw_at lw_m5 183 rfl) rfl
theorem q1210 : (Jvm.Cond.lays "SideBySideModel" "SideBySideModel" "rowAt" "I") ∈ lw_all := lw_g (lw_at lw_m5 184 rfl) rfl
theorem q1211 : (Jvm.Cond.soleField "SideBySideModel" "rowAt") ∈ lw_all := lw_g (lw_at lw_m5 185 rfl) rfl
theorem q1212 : (Jvm.Cond.lays "SideBySideModel" "SideBySideModel" "rowEnd" "I") ∈ lw_all := lw_g (lw_at lw_m5 186 rfl) rfl
theorem q1213 : (Jvm.Cond.soleField "SideBySideModel" "rowEnd") ∈ lw_all := lw_g (lw_at lw_m5 187 rfl) rfl
theorem q1214 : (Jvm.Cond.laysFinal "SideBySideModel" "SideBySideModel" "numbers" "[I") ∈ lw_all := lw_g (lw_at lw_m5 188 rfl) rfl
theorem q1215 : (Jvm.Cond.soleField "SideBySideModel" "numbers") ∈ lw_all := lw_g (lw_at lw_m5 189 rfl) rfl
theorem q1216 : (Jvm.Cond.lays "SideBySideModel" "SideBySideModel" "rallied" "I") ∈ lw_all := lw_g (lw_at lw_m5 190 rfl) rfl
theorem q1217 : (Jvm.Cond.soleField "SideBySideModel" "rallied") ∈ lw_all := lw_g (lw_at lw_m5 191 rfl) rfl
theorem q1218 : (Jvm.Cond.lays "SideBySideModel" "SideBySideModel" "scored" "I") ∈ lw_all := lw_g (lw_at lw_m5 192 rfl) rfl
theorem q1219 : (Jvm.Cond.soleField "SideBySideModel" "scored") ∈ lw_all := lw_g (lw_at lw_m5 193 rfl) rfl
theorem q1220 : (Jvm.Cond.lays "SideBySideModel" "SideBySideModel" "seed" "I") ∈ lw_all := lw_g (lw_at lw_m5 194 rfl) rfl
theorem q1221 : (Jvm.Cond.soleField "SideBySideModel" "seed") ∈ lw_all := lw_g (lw_at lw_m5 195 rfl) rfl
theorem q1222 : (Jvm.Cond.laysFinal "SideBySideModel" "SideBySideModel" "kept" "[I") ∈ lw_all := lw_g (lw_at lw_m5 196 rfl) rfl
theorem q1223 : (Jvm.Cond.soleField "SideBySideModel" "kept") ∈ lw_all := lw_g (lw_at lw_m5 197 rfl) rfl
theorem q1224 : (Jvm.Cond.laysFinal "SideBySideModel" "SideBySideModel" "keptKind" "[I") ∈ lw_all := lw_g (lw_at lw_m5 198 rfl) rfl
theorem q1225 : (Jvm.Cond.soleField "SideBySideModel" "keptKind") ∈ lw_all := lw_g (lw_at lw_m5 199 rfl) rfl
theorem q1226 : (Jvm.Cond.laysFinal "SideBySideModel" "SideBySideModel" "keptFigure" "[I") ∈ lw_all := lw_g (lw_at lw_m5 200 rfl) rfl
theorem q1227 : (Jvm.Cond.soleField "SideBySideModel" "keptFigure") ∈ lw_all := lw_g (lw_at lw_m5 201 rfl) rfl
theorem q1228 : (Jvm.Cond.laysFinal "SideBySideModel" "SideBySideModel" "sort" "[I") ∈ lw_all := lw_g (lw_at lw_m5 202 rfl) rfl
theorem q1229 : (Jvm.Cond.soleField "SideBySideModel" "sort") ∈ lw_all := lw_g (lw_at lw_m5 203 rfl) rfl
theorem q1230 : (Jvm.Cond.laysFinal "SideBySideModel" "SideBySideModel" "size" "[I") ∈ lw_all := lw_g (lw_at lw_m5 204 rfl) rfl
theorem q1231 : (Jvm.Cond.soleField "SideBySideModel" "size") ∈ lw_all := lw_g (lw_at lw_m5 205 rfl) rfl
theorem q1232 : (Jvm.Cond.laysFinal "SideBySideModel" "SideBySideModel" "element" "[I") ∈ lw_all := lw_g (lw_at lw_m5 206 rfl) rfl
theorem q1233 : (Jvm.Cond.soleField "SideBySideModel" "element") ∈ lw_all := lw_g (lw_at lw_m5 207 rfl) rfl
theorem q1234 : (Jvm.Cond.lays "SideBySideModel" "SideBySideModel" "thrown" "I") ∈ lw_all := lw_g (lw_at lw_m5 208 rfl) rfl
theorem q1235 : (Jvm.Cond.soleField "SideBySideModel" "thrown") ∈ lw_all := lw_g (lw_at lw_m5 209 rfl) rfl
theorem q1236 : (Jvm.Cond.superclass "SideBySideModel" "java/lang/Object") ∈ lw_all := lw_g (lw_at lw_m5 210 rfl) rfl
theorem q1238 : (Jvm.Cond.instanceMethod ({ cls := "SideBySideModel", name := "court", desc := "(I)I" } : Jvm.MethodName)) ∈ lw_all := lw_g (lw_at lw_m5 212 rfl) rfl
theorem q1239 : (Jvm.Cond.selects "SideBySideModel" ({ cls := "SideBySideModel", name := "court", desc := "(I)I" } : Jvm.MethodName) ({ cls := "SideBySideModel", name := "court", desc := "(I)I" } : Jvm.MethodName)) ∈ lw_all := lw_g (lw_at lw_m5 213 rfl) rfl
theorem q1240 : (Jvm.Cond.code ({ cls := "SideBySideModel", name := "court", desc := "(I)I" } : Jvm.MethodName) prog_21_method_35_code (8 : Nat) (Option.some Jvm.ClassFile.FieldType.int)) ∈ lw_all := lw_g (lw_at lw_m5 214 rfl) rfl
theorem q1241 : (Jvm.Cond.methodLink "SideBySideModel" (152 : Nat) ({ cls := "SideBySideModel", name := "wrongRow", desc := "(II)I" } : Jvm.MethodName)) ∈ lw_all := lw_g (lw_at lw_m5 215 rfl) rfl
theorem q1242 : (Jvm.Cond.privateMethod ({ cls := "SideBySideModel", name := "wrongRow", desc := "(II)I" } : Jvm.MethodName)) ∈ lw_tbl := lw_at lw_m5 216 rfl
theorem q1243 : (Jvm.Cond.instanceMethod ({ cls := "SideBySideModel", name := "wrongRow", desc := "(II)I" } : Jvm.MethodName)) ∈ lw_all := lw_g (lw_at lw_m5 217 rfl) rfl
theorem q1244 : (Jvm.Cond.code ({ cls := "SideBySideModel", name := "wrongRow", desc := "(II)I" } : Jvm.MethodName) prog_21_method_93_code (3 : Nat) (Option.some Jvm.ClassFile.FieldType.int)) ∈ lw_all := lw_g (lw_at lw_m5 218 rfl) rfl
theorem q1245 : (Jvm.Cond.methodLink "SideBySideModel" (263 : Nat) ({ cls := "SideBySideModel", name := "isShelf", desc := "(I)Z" } : Jvm.MethodName)) ∈ lw_all := lw_g (lw_at lw_m5 219 rfl) rfl
theorem q1246 : (Jvm.Cond.static ({ cls := "SideBySideModel", name := "isShelf", desc := "(I)Z" } : Jvm.MethodName)) ∈ lw_all := lw_g (lw_at lw_m5 220 rfl) rfl
theorem q1247 : (Jvm.Cond.code ({ cls := "SideBySideModel", name := "isShelf", desc := "(I)Z" } : Jvm.MethodName) prog_21_method_92_code (1 : Nat) (Option.some Jvm.ClassFile.FieldType.boolean)) ∈ lw_all := lw_g (lw_at lw_m5 221 rfl) rfl
theorem q1248 : (Jvm.Cond.methodLink "SideBySideModel" (53 : Nat) ({ cls := "SideBySideModel", name := "isIn", desc := "(III)Z" } : Jvm.MethodName)) ∈ lw_all := lw_g (lw_at lw_m5 222 rfl) rfl
theorem q1249 : (Jvm.Cond.static ({ cls := "SideBySideModel", name := "isIn", desc := "(III)Z" } : Jvm.MethodName)) ∈ lw_all := lw_g (lw_at lw_m5 223 rfl) rfl
theorem q1250 : (Jvm.Cond.code ({ cls := "SideBySideModel", name := "isIn", desc := "(III)Z" } : Jvm.MethodName) prog_21_method_2_code (3 : Nat) (Option.some Jvm.ClassFile.FieldType.boolean)) ∈ lw_all := lw_g (lw_at lw_m5 224 rfl) rfl
theorem q1251 : (Jvm.Cond.methodLink "SideBySideModel" (155 : Nat) ({ cls := "SideBySideModel", name := "readsStatement", desc := "()Z" } : Jvm.MethodName)) ∈ lw_all := lw_g (lw_at lw_m5 225 rfl) rfl
theorem q1252 : (Jvm.Cond.privateMethod ({ cls := "SideBySideModel", name := "readsStatement", desc := "()Z" } : Jvm.MethodName)) ∈ lw_tbl := lw_at lw_m5 226 rfl
theorem q1253 : (Jvm.Cond.instanceMethod ({ cls := "SideBySideModel", name := "readsStatement", desc := "()Z" } : Jvm.MethodName)) ∈ lw_all := lw_g (lw_at lw_m5 227 rfl) rfl
theorem q1254 : (Jvm.Cond.code ({ cls := "SideBySideModel", name := "readsStatement", desc := "()Z" } : Jvm.MethodName) prog_21_method_31_code (3 : Nat) (Option.some Jvm.ClassFile.FieldType.boolean)) ∈ lw_all := lw_g (lw_at lw_m5 228 rfl) rfl
theorem q1255 : (Jvm.Cond.methodLink "SideBySideModel" (123 : Nat) ({ cls := "SideBySideModel", name := "here", desc := "()I" } : Jvm.MethodName)) ∈ lw_all := lw_g (lw_at lw_m5 229 rfl) rfl
theorem q1256 : (Jvm.Cond.privateMethod ({ cls := "SideBySideModel", name := "here", desc := "()I" } : Jvm.MethodName)) ∈ lw_tbl := lw_at lw_m5 230 rfl
theorem q1257 : (Jvm.Cond.instanceMethod ({ cls := "SideBySideModel", name := "here", desc := "()I" } : Jvm.MethodName)) ∈ lw_all := lw_g (lw_at lw_m5 231 rfl) rfl
theorem q1258 : (Jvm.Cond.code ({ cls := "SideBySideModel", name := "here", desc := "()I" } : Jvm.MethodName) prog_21_method_29_code (1 : Nat) (Option.some Jvm.ClassFile.FieldType.int)) ∈ lw_all := lw_g (lw_at lw_m5 232 rfl) rfl
theorem q1259 : (Jvm.Cond.methodLink "SideBySideModel" (127 : Nat) ({ cls := "SideBySideModel", name := "readsNumber", desc := "(II)Z" } : Jvm.MethodName)) ∈ lw_all := lw_g (lw_at lw_m5 233 rfl) rfl
theorem q1260 : (Jvm.Cond.privateMethod ({ cls := "SideBySideModel", name := "readsNumber", desc := "(II)Z" } : Jvm.MethodName)) ∈ lw_tbl := lw_at lw_m5 234 rfl
theorem q1261 : (Jvm.Cond.instanceMethod ({ cls := "SideBySideModel", name := "readsNumber", desc := "(II)Z" } : Jvm.MethodName)) ∈ lw_all := lw_g (lw_at lw_m5 235 rfl) rfl
theorem q1262 : (Jvm.Cond.code ({ cls := "SideBySideModel", name := "readsNumber", desc := "(II)Z" } : Jvm.MethodName) prog_21_method_30_code (4 : Nat) (Option.some Jvm.ClassFile.FieldType.boolean)) ∈ lw_all := lw_g (lw_at lw_m5 236 rfl) rfl
theorem q1263 : (Jvm.Cond.methodLink "SideBySideModel" (158 : Nat) ({ cls := "SideBySideModel", name := "copies", desc := "([I[I)V" } : Jvm.MethodName)) ∈ lw_all := lw_g (lw_at lw_m5 237 rfl) rfl
theorem q1264 : (Jvm.Cond.static ({ cls := "SideBySideModel", name := "copies", desc := "([I[I)V" } : Jvm.MethodName)) ∈ lw_all := lw_g (lw_at lw_m5 238 rfl) rfl
theorem q1265 : (Jvm.Cond.code ({ cls := "SideBySideModel", name := "copies", desc := "([I[I)V" } : Jvm.MethodName) prog_21_method_4_code (3 : Nat) (Option.none : Option Jvm.ClassFile.FieldType)) ∈ lw_all := lw_g (lw_at lw_m5 239 rfl) rfl
theorem q1266 : (Jvm.Cond.methodLink "SideBySideModel" (162 : Nat) ({ cls := "SideBySideModel", name := "isDone", desc := "(I)Z" } : Jvm.MethodName)) ∈ lw_all := lw_g (lw_at lw_m6 0 rfl) rfl
theorem q1267 : (Jvm.Cond.privateMethod ({ cls := "SideBySideModel", name := "isDone", desc := "(I)Z" } : Jvm.MethodName)) ∈ lw_tbl := lw_at lw_m6 1 rfl
theorem q1268 : (Jvm.Cond.instanceMethod ({ cls := "SideBySideModel", name := "isDone", desc := "(I)Z" } : Jvm.MethodName)) ∈ lw_all := lw_g (lw_at lw_m6 2 rfl) rfl
theorem q1269 : (Jvm.Cond.code ({ cls := "SideBySideModel", name := "isDone", desc := "(I)Z" } : Jvm.MethodName) prog_21_method_34_code (5 : Nat) (Option.some Jvm.ClassFile.FieldType.boolean)) ∈ lw_all := lw_g (lw_at lw_m6 3 rfl) rfl
theorem q1270 : (Jvm.Cond.methodLink "SideBySideModel" (131 : Nat) ({ cls := "SideBySideModel", name := "adds", desc := "(II)V" } : Jvm.MethodName)) ∈ lw_all := lw_g (lw_at lw_m6 4 rfl) rfl
theorem q1271 : (Jvm.Cond.privateMethod ({ cls := "SideBySideModel", name := "adds", desc := "(II)V" } : Jvm.MethodName)) ∈ lw_tbl := lw_at lw_m6 5 rfl
theorem q1272 : (Jvm.Cond.instanceMethod ({ cls := "SideBySideModel", name := "adds", desc := "(II)V" } : Jvm.MethodName)) ∈ lw_all := lw_g (lw_at lw_m6 6 rfl) rfl
theorem q1273 : (Jvm.Cond.code ({ cls := "SideBySideModel", name := "adds", desc := "(II)V" } : Jvm.MethodName) prog_21_method_32_code (3 : Nat) (Option.none : Option Jvm.ClassFile.FieldType)) ∈ lw_all := lw_g (lw_at lw_m6 7 rfl) rfl
theorem q1274 : (Jvm.Cond.methodLink "SideBySideModel" (60 : Nat) ({ cls := "SideBySideModel", name := "ofS", desc := "(II)I" } : Jvm.MethodName)) ∈ lw_all := lw_g (lw_at lw_m6 8 rfl) rfl
theorem q1275 : (Jvm.Cond.static ({ cls := "SideBySideModel", name := "ofS", desc := "(II)I" } : Jvm.MethodName)) ∈ lw_all := lw_g (lw_at lw_m6 9 rfl) rfl
theorem q1276 : (Jvm.Cond.code ({ cls := "SideBySideModel", name := "ofS", desc := "(II)I" } : Jvm.MethodName) prog_21_method_5_code (2 : Nat) (Option.some Jvm.ClassFile.FieldType.int)) ∈ lw_all := lw_g (lw_at lw_m6 10 rfl) rfl
theorem q1277 : (Jvm.Cond.methodLink "SideBySideModel" (135 : Nat) ({ cls := "SideBySideModel", name := "isPlayer", desc := "(I)Z" } : Jvm.MethodName)) ∈ lw_all := lw_g (lw_at lw_m6 11 rfl) rfl
theorem q1278 : (Jvm.Cond.static ({ cls := "SideBySideModel", name := "isPlayer", desc := "(I)Z" } : Jvm.MethodName)) ∈ lw_all := lw_g (lw_at lw_m6 12 rfl) rfl
theorem q1279 : (Jvm.Cond.code ({ cls := "SideBySideModel", name := "isPlayer", desc := "(I)Z" } : Jvm.MethodName) prog_21_method_10_code (1 : Nat) (Option.some Jvm.ClassFile.FieldType.boolean)) ∈ lw_all := lw_g (lw_at lw_m6 13 rfl) rfl
theorem q1280 : (Jvm.Cond.methodLink "SideBySideModel" (139 : Nat) ({ cls := "SideBySideModel", name := "isCell", desc := "(I)Z" } : Jvm.MethodName)) ∈ lw_all := lw_g (lw_at lw_m6 14 rfl) rfl
theorem q1281 : (Jvm.Cond.static ({ cls := "SideBySideModel", name := "isCell", desc := "(I)Z" } : Jvm.MethodName)) ∈ lw_all := lw_g (lw_at lw_m6 15 rfl) rfl
theorem q1282 : (Jvm.Cond.code ({ cls := "SideBySideModel", name := "isCell", desc := "(I)Z" } : Jvm.MethodName) prog_21_method_9_code (1 : Nat) (Option.some Jvm.ClassFile.FieldType.boolean)) ∈ lw_all := lw_g (lw_at lw_m6 16 rfl) rfl
theorem q1283 : (Jvm.Cond.methodLink "SideBySideModel" (142 : Nat) ({ cls := "SideBySideModel", name := "isStroke", desc := "(I)Z" } : Jvm.MethodName)) ∈ lw_all := lw_g (lw_at lw_m6 17 rfl) rfl
theorem q1284 : (Jvm.Cond.privateMethod ({ cls := "SideBySideModel", name := "isStroke", desc := "(I)Z" } : Jvm.MethodName)) ∈ lw_tbl := lw_at lw_m6 18 rfl
theorem q1285 : (Jvm.Cond.instanceMethod ({ cls := "SideBySideModel", name := "isStroke", desc := "(I)Z" } : Jvm.MethodName)) ∈ lw_all := lw_g (lw_at lw_m6 19 rfl) rfl
theorem q1286 : (Jvm.Cond.code ({ cls := "SideBySideModel", name := "isStroke", desc := "(I)Z" } : Jvm.MethodName) prog_21_method_8_code (2 : Nat) (Option.some Jvm.ClassFile.FieldType.boolean)) ∈ lw_all := lw_g (lw_at lw_m6 20 rfl) rfl
theorem q1287 : (Jvm.Cond.methodLink "SideBySideModel" (145 : Nat) ({ cls := "SideBySideModel", name := "isOver", desc := "()Z" } : Jvm.MethodName)) ∈ lw_all := lw_g (lw_at lw_m6 21 rfl) rfl
theorem q1288 : (Jvm.Cond.privateMethod ({ cls := "SideBySideModel", name := "isOver", desc := "()Z" } : Jvm.MethodName)) ∈ lw_tbl := lw_at lw_m6 22 rfl
theorem q1289 : (Jvm.Cond.instanceMethod ({ cls := "SideBySideModel", name := "isOver", desc := "()Z" } : Jvm.MethodName)) ∈ lw_all := lw_g (lw_at lw_m6 23 rfl) rfl
theorem q1290 : (Jvm.Cond.code ({ cls := "SideBySideModel", name := "isOver", desc := "()Z" } : Jvm.MethodName) prog_21_method_33_code (1 : Nat) (Option.some Jvm.ClassFile.FieldType.boolean)) ∈ lw_all := lw_g (lw_at lw_m6 24 rfl) rfl
theorem q1291 : (Jvm.Cond.methodLink "SideBySideModel" (149 : Nat) ({ cls := "SideBySideModel", name := "hits", desc := "([III)Z" } : Jvm.MethodName)) ∈ lw_all := lw_g (lw_at lw_m6 25 rfl) rfl
theorem q1292 : (Jvm.Cond.privateMethod ({ cls := "SideBySideModel", name := "hits", desc := "([III)Z" } : Jvm.MethodName)) ∈ lw_tbl := lw_at lw_m6 26 rfl
theorem q1293 : (Jvm.Cond.instanceMethod ({ cls := "SideBySideModel", name := "hits", desc := "([III)Z" } : Jvm.MethodName)) ∈ lw_all := lw_g (lw_at lw_m6 27 rfl) rfl
theorem q1294 : (Jvm.Cond.code ({ cls := "SideBySideModel", name := "hits", desc := "([III)Z" } : Jvm.MethodName) prog_21_method_28_code (11 : Nat) (Option.some Jvm.ClassFile.FieldType.boolean)) ∈ lw_all := lw_g (lw_at lw_m6 28 rfl) rfl
theorem q1295 : (Jvm.Cond.methodLink "SideBySideModel" (73 : Nat) ({ cls := "SideBySideModel", name := "sideOf", desc := "(I)I" } : Jvm.MethodName)) ∈ lw_all := lw_g (lw_at lw_m6 29 rfl) rfl
theorem q1296 : (Jvm.Cond.static ({ cls := "SideBySideModel", name := "sideOf", desc := "(I)I" } : Jvm.MethodName)) ∈ lw_all := lw_g (lw_at lw_m6 30 rfl) rfl
theorem q1297 : (Jvm.Cond.code ({ cls := "SideBySideModel", name := "sideOf", desc := "(I)I" } : Jvm.MethodName) prog_21_method_19_code (1 : Nat) (Option.some Jvm.ClassFile.FieldType.int)) ∈ lw_all := lw_g (lw_at lw_m6 31 rfl) rfl
theorem q1298 : (Jvm.Cond.methodLink "SideBySideModel" (77 : Nat) ({ cls := "SideBySideModel", name := "fallsIn", desc := "([III)I" } : Jvm.MethodName)) ∈ lw_all := lw_g (lw_at lw_m6 32 rfl) rfl
theorem q1299 : (Jvm.Cond.static ({ cls := "SideBySideModel", name := "fallsIn", desc := "([III)I" } : Jvm.MethodName)) ∈ lw_all := lw_g (lw_at lw_m6 33 rfl) rfl
theorem q1300 : (Jvm.Cond.code ({ cls := "SideBySideModel", name := "fallsIn", desc := "([III)I" } : Jvm.MethodName) prog_21_method_17_code (5 : Nat) (Option.some Jvm.ClassFile.FieldType.int)) ∈ lw_all := lw_g (lw_at lw_m6 34 rfl) rfl
theorem q1301 : (Jvm.Cond.methodLink "SideBySideModel" (81 : Nat) ({ cls := "SideBySideModel", name := "timeIn", desc := "([III)I" } : Jvm.MethodName)) ∈ lw_all := lw_g (lw_at lw_m6 35 rfl) rfl
theorem q1302 : (Jvm.Cond.static ({ cls := "SideBySideModel", name := "timeIn", desc := "([III)I" } : Jvm.MethodName)) ∈ lw_all := lw_g (lw_at lw_m6 36 rfl) rfl
theorem q1303 : (Jvm.Cond.code ({ cls := "SideBySideModel", name := "timeIn", desc := "([III)I" } : Jvm.MethodName) prog_21_method_18_code (3 : Nat) (Option.some Jvm.ClassFile.FieldType.int)) ∈ lw_all := lw_g (lw_at lw_m6 37 rfl) rfl
theorem q1304 : (Jvm.Cond.methodLink "SideBySideModel" (63 : Nat) ({ cls := "SideBySideModel", name := "timeBy", desc := "(III)I" } : Jvm.MethodName)) ∈ lw_all := lw_g (lw_at lw_m6 38 rfl) rfl
theorem q1305 : (Jvm.Cond.static ({ cls := "SideBySideModel", name := "timeBy", desc := "(III)I" } : Jvm.MethodName)) ∈ lw_all := lw_g (lw_at lw_m6 39 rfl) rfl
theorem q1306 : (Jvm.Cond.code ({ cls := "SideBySideModel", name := "timeBy", desc := "(III)I" } : Jvm.MethodName) prog_21_method_15_code (4 : Nat) (Option.some Jvm.ClassFile.FieldType.int)) ∈ lw_all := lw_g (lw_at lw_m6 40 rfl) rfl
theorem q1307 : (Jvm.Cond.methodLink "SideBySideModel" (84 : Nat) ({ cls := "SideBySideModel", name := "whoseIn", desc := "([III)I" } : Jvm.MethodName)) ∈ lw_all := lw_g (lw_at lw_m6 41 rfl) rfl
theorem q1308 : (Jvm.Cond.static ({ cls := "SideBySideModel", name := "whoseIn", desc := "([III)I" } : Jvm.MethodName)) ∈ lw_all := lw_g (lw_at lw_m6 42 rfl) rfl
theorem q1309 : (Jvm.Cond.code ({ cls := "SideBySideModel", name := "whoseIn", desc := "([III)I" } : Jvm.MethodName) prog_21_method_23_code (8 : Nat) (Option.some Jvm.ClassFile.FieldType.int)) ∈ lw_all := lw_g (lw_at lw_m6 43 rfl) rfl
theorem q1310 : (Jvm.Cond.methodLink "SideBySideModel" (70 : Nat) ({ cls := "SideBySideModel", name := "wayOf", desc := "(II)I" } : Jvm.MethodName)) ∈ lw_all := lw_g (lw_at lw_m6 44 rfl) rfl
theorem q1311 : (Jvm.Cond.static ({ cls := "SideBySideModel", name := "wayOf", desc := "(II)I" } : Jvm.MethodName)) ∈ lw_all := lw_g (lw_at lw_m6 45 rfl) rfl
theorem q1312 : (Jvm.Cond.code ({ cls := "SideBySideModel", name := "wayOf", desc := "(II)I" } : Jvm.MethodName) prog_21_method_14_code (2 : Nat) (Option.some Jvm.ClassFile.FieldType.int)) ∈ lw_all := lw_g (lw_at lw_m6 46 rfl) rfl
theorem q1313 : (Jvm.Cond.methodLink "SideBySideModel" (57 : Nat) ({ cls := "SideBySideModel", name := "apart", desc := "(II)I" } : Jvm.MethodName)) ∈ lw_all := lw_g (lw_at lw_m6 47 rfl) rfl
theorem q1314 : (Jvm.Cond.static ({ cls := "SideBySideModel", name := "apart", desc := "(II)I" } : Jvm.MethodName)) ∈ lw_all := lw_g (lw_at lw_m6 48 rfl) rfl
theorem q1315 : (Jvm.Cond.code ({ cls := "SideBySideModel", name := "apart", desc := "(II)I" } : Jvm.MethodName) prog_21_method_13_code (2 : Nat) (Option.some Jvm.ClassFile.FieldType.int)) ∈ lw_all := lw_g (lw_at lw_m6 49 rfl) rfl
theorem q1316 : (Jvm.Cond.methodLink "SideBySideModel" (87 : Nat) ({ cls := "SideBySideModel", name := "tiresBy", desc := "(II)I" } : Jvm.MethodName)) ∈ lw_all := lw_g (lw_at lw_m6 50 rfl) rfl
theorem q1317 : (Jvm.Cond.static ({ cls := "SideBySideModel", name := "tiresBy", desc := "(II)I" } : Jvm.MethodName)) ∈ lw_all := lw_g (lw_at lw_m6 51 rfl) rfl
theorem q1318 : (Jvm.Cond.code ({ cls := "SideBySideModel", name := "tiresBy", desc := "(II)I" } : Jvm.MethodName) prog_21_method_16_code (2 : Nat) (Option.some Jvm.ClassFile.FieldType.int)) ∈ lw_all := lw_g (lw_at lw_m6 52 rfl) rfl
theorem q1319 : (Jvm.Cond.methodLink "SideBySideModel" (90 : Nat) ({ cls := "SideBySideModel", name := "isTired", desc := "([III)V" } : Jvm.MethodName)) ∈ lw_all := lw_g (lw_at lw_m6 53 rfl) rfl
theorem q1320 : (Jvm.Cond.static ({ cls := "SideBySideModel", name := "isTired", desc := "([III)V" } : Jvm.MethodName)) ∈ lw_all := lw_g (lw_at lw_m6 54 rfl) rfl
theorem q1321 : (Jvm.Cond.code ({ cls := "SideBySideModel", name := "isTired", desc := "([III)V" } : Jvm.MethodName) prog_21_method_22_code (3 : Nat) (Option.none : Option Jvm.ClassFile.FieldType)) ∈ lw_all := lw_g (lw_at lw_m6 55 rfl) rfl
theorem q1322 : (Jvm.Cond.methodLink "SideBySideModel" (67 : Nat) ({ cls := "SideBySideModel", name := "least", desc := "(II)I" } : Jvm.MethodName)) ∈ lw_all := lw_g (lw_at lw_m6 56 rfl) rfl
theorem q1323 : (Jvm.Cond.static ({ cls := "SideBySideModel", name := "least", desc := "(II)I" } : Jvm.MethodName)) ∈ lw_all := lw_g (lw_at lw_m6 57 rfl) rfl
theorem q1324 : (Jvm.Cond.code ({ cls := "SideBySideModel", name := "least", desc := "(II)I" } : Jvm.MethodName) prog_21_method_3_code (2 : Nat) (Option.some Jvm.ClassFile.FieldType.int)) ∈ lw_all := lw_g (lw_at lw_m6 58 rfl) rfl
theorem q1325 : (Jvm.Cond.methodLink "SideBySideModel" (94 : Nat) ({ cls := "SideBySideModel", name := "isBoths", desc := "([III)Z" } : Jvm.MethodName)) ∈ lw_all := lw_g (lw_at lw_m6 59 rfl) rfl
theorem q1326 : (Jvm.Cond.static ({ cls := "SideBySideModel", name := "isBoths", desc := "([III)Z" } : Jvm.MethodName)) ∈ lw_all := lw_g (lw_at lw_m6 60 rfl) rfl
theorem q1327 : (Jvm.Cond.code ({ cls := "SideBySideModel", name := "isBoths", desc := "([III)Z" } : Jvm.MethodName) prog_21_method_24_code (3 : Nat) (Option.some Jvm.ClassFile.FieldType.boolean)) ∈ lw_all := lw_g (lw_at lw_m6 61 rfl) rfl
theorem q1328 : (Jvm.Cond.methodLink "SideBySideModel" (98 : Nat) ({ cls := "SideBySideModel", name := "stepsIn", desc := "([III)I" } : Jvm.MethodName)) ∈ lw_all := lw_g (lw_at lw_m6 62 rfl) rfl
theorem q1329 : (Jvm.Cond.static ({ cls := "SideBySideModel", name := "stepsIn", desc := "([III)I" } : Jvm.MethodName)) ∈ lw_all := lw_g (lw_at lw_m6 63 rfl) rfl
theorem q1330 : (Jvm.Cond.code ({ cls := "SideBySideModel", name := "stepsIn", desc := "([III)I" } : Jvm.MethodName) prog_21_method_21_code (4 : Nat) (Option.some Jvm.ClassFile.FieldType.int)) ∈ lw_all := lw_g (lw_at lw_m6 64 rfl) rfl
theorem q1331 : (Jvm.Cond.methodLink "SideBySideModel" (101 : Nat) ({ cls := "SideBySideModel", name := "moves", desc := "([III)V" } : Jvm.MethodName)) ∈ lw_all := lw_g (lw_at lw_m6 65 rfl) rfl
theorem q1332 : (Jvm.Cond.privateMethod ({ cls := "SideBySideModel", name := "moves", desc := "([III)V" } : Jvm.MethodName)) ∈ lw_tbl := lw_at lw_m6 66 rfl
theorem q1333 : (Jvm.Cond.instanceMethod ({ cls := "SideBySideModel", name := "moves", desc := "([III)V" } : Jvm.MethodName)) ∈ lw_all := lw_g (lw_at lw_m6 67 rfl) rfl
theorem q1334 : (Jvm.Cond.code ({ cls := "SideBySideModel", name := "moves", desc := "([III)V" } : Jvm.MethodName) prog_21_method_27_code (4 : Nat) (Option.none : Option Jvm.ClassFile.FieldType)) ∈ lw_all := lw_g (lw_at lw_m6 68 rfl) rfl
theorem q1335 : (Jvm.Cond.methodLink "SideBySideModel" (104 : Nat) ({ cls := "SideBySideModel", name := "partner", desc := "(I)I" } : Jvm.MethodName)) ∈ lw_all := lw_g (lw_at lw_m6 69 rfl) rfl
theorem q1336 : (Jvm.Cond.static ({ cls := "SideBySideModel", name := "partner", desc := "(I)I" } : Jvm.MethodName)) ∈ lw_all := lw_g (lw_at lw_m6 70 rfl) rfl
theorem q1337 : (Jvm.Cond.code ({ cls := "SideBySideModel", name := "partner", desc := "(I)I" } : Jvm.MethodName) prog_21_method_20_code (1 : Nat) (Option.some Jvm.ClassFile.FieldType.int)) ∈ lw_all := lw_g (lw_at lw_m6 71 rfl) rfl
theorem q1338 : (Jvm.Cond.methodLink "SideBySideModel" (107 : Nat) ({ cls := "SideBySideModel", name := "placeFor", desc := "(II)I" } : Jvm.MethodName)) ∈ lw_all := lw_g (lw_at lw_m6 72 rfl) rfl
theorem q1339 : (Jvm.Cond.static ({ cls := "SideBySideModel", name := "placeFor", desc := "(II)I" } : Jvm.MethodName)) ∈ lw_all := lw_g (lw_at lw_m6 73 rfl) rfl
theorem q1340 : (Jvm.Cond.code ({ cls := "SideBySideModel", name := "placeFor", desc := "(II)I" } : Jvm.MethodName) prog_21_method_25_code (2 : Nat) (Option.some Jvm.ClassFile.FieldType.int)) ∈ lw_all := lw_g (lw_at lw_m6 74 rfl) rfl
theorem q1341 : (Jvm.Cond.methodLink "SideBySideModel" (110 : Nat) ({ cls := "SideBySideModel", name := "towards", desc := "(III)I" } : Jvm.MethodName)) ∈ lw_all := lw_g (lw_at lw_m6 75 rfl) rfl
theorem q1342 : (Jvm.Cond.static ({ cls := "SideBySideModel", name := "towards", desc := "(III)I" } : Jvm.MethodName)) ∈ lw_all := lw_g (lw_at lw_m6 76 rfl) rfl
theorem q1343 : (Jvm.Cond.code ({ cls := "SideBySideModel", name := "towards", desc := "(III)I" } : Jvm.MethodName) prog_21_method_26_code (6 : Nat) (Option.some Jvm.ClassFile.FieldType.int)) ∈ lw_all := lw_g (lw_at lw_m6 77 rfl) rfl
theorem q1345 : (Jvm.Cond.instanceMethod ({ cls := "SideBySideModel", name := "stroke", desc := "(II)I" } : Jvm.MethodName)) ∈ lw_all := lw_g (lw_at lw_m6 79 rfl) rfl
theorem q1346 : (Jvm.Cond.selects "SideBySideModel" ({ cls := "SideBySideModel", name := "stroke", desc := "(II)I" } : Jvm.MethodName) ({ cls := "SideBySideModel", name := "stroke", desc := "(II)I" } : Jvm.MethodName)) ∈ lw_all := lw_g (lw_at lw_m6 80 rfl) rfl
theorem q1347 : (Jvm.Cond.code ({ cls := "SideBySideModel", name := "stroke", desc := "(II)I" } : Jvm.MethodName) prog_21_method_36_code (5 : Nat) (Option.some Jvm.ClassFile.FieldType.int)) ∈ lw_all := lw_g (lw_at lw_m6 81 rfl) rfl
theorem q1349 : (Jvm.Cond.instanceMethod ({ cls := "SideBySideModel", name := "player", desc := "(II)I" } : Jvm.MethodName)) ∈ lw_all := lw_g (lw_at lw_m6 83 rfl) rfl
theorem q1350 : (Jvm.Cond.selects "SideBySideModel" ({ cls := "SideBySideModel", name := "player", desc := "(II)I" } : Jvm.MethodName) ({ cls := "SideBySideModel", name := "player", desc := "(II)I" } : Jvm.MethodName)) ∈ lw_all := lw_g (lw_at lw_m6 84 rfl) rfl
theorem q1351 : (Jvm.Cond.code ({ cls := "SideBySideModel", name := "player", desc := "(II)I" } : Jvm.MethodName) prog_21_method_37_code (3 : Nat) (Option.some Jvm.ClassFile.FieldType.int)) ∈ lw_all := lw_g (lw_at lw_m6 85 rfl) rfl
theorem q1353 : (Jvm.Cond.instanceMethod ({ cls := "SideBySideModel", name := "side", desc := "(II)I" } : Jvm.MethodName)) ∈ lw_all := lw_g (lw_at lw_m6 87 rfl) rfl
theorem q1354 : (Jvm.Cond.selects "SideBySideModel" ({ cls := "SideBySideModel", name := "side", desc := "(II)I" } : Jvm.MethodName) ({ cls := "SideBySideModel", name := "side", desc := "(II)I" } : Jvm.MethodName)) ∈ lw_all := lw_g (lw_at lw_m6 88 rfl) rfl
theorem q1355 : (Jvm.Cond.code ({ cls := "SideBySideModel", name := "side", desc := "(II)I" } : Jvm.MethodName) prog_21_method_39_code (3 : Nat) (Option.some Jvm.ClassFile.FieldType.int)) ∈ lw_all := lw_g (lw_at lw_m6 89 rfl) rfl
theorem q1356 : (Jvm.Cond.methodLink "SideBySideModel" (165 : Nat) ({ cls := "SideBySideModel", name := "outOfPlace", desc := "(I)I" } : Jvm.MethodName)) ∈ lw_all := lw_g (lw_at lw_m6 90 rfl) rfl
theorem q1357 : (Jvm.Cond.privateMethod ({ cls := "SideBySideModel", name := "outOfPlace", desc := "(I)I" } : Jvm.MethodName)) ∈ lw_tbl := lw_at lw_m6 91 rfl
theorem q1358 : (Jvm.Cond.instanceMethod ({ cls := "SideBySideModel", name := "outOfPlace", desc := "(I)I" } : Jvm.MethodName)) ∈ lw_all := lw_g (lw_at lw_m6 92 rfl) rfl
theorem q1359 : (Jvm.Cond.code ({ cls := "SideBySideModel", name := "outOfPlace", desc := "(I)I" } : Jvm.MethodName) prog_21_method_38_code (3 : Nat) (Option.some Jvm.ClassFile.FieldType.int)) ∈ lw_all := lw_g (lw_at lw_m6 93 rfl) rfl
theorem q1361 : (Jvm.Cond.instanceMethod ({ cls := "SideBySideModel", name := "learns", desc := "(I)I" } : Jvm.MethodName)) ∈ lw_all := lw_g (lw_at lw_m6 95 rfl) rfl
theorem q1362 : (Jvm.Cond.selects "SideBySideModel" ({ cls := "SideBySideModel", name := "learns", desc := "(I)I" } : Jvm.MethodName) ({ cls := "SideBySideModel", name := "learns", desc := "(I)I" } : Jvm.MethodName)) ∈ lw_all := lw_g (lw_at lw_m6 96 rfl) rfl
theorem q1363 : (Jvm.Cond.code ({ cls := "SideBySideModel", name := "learns", desc := "(I)I" } : Jvm.MethodName) prog_21_method_40_code (3 : Nat) (Option.some Jvm.ClassFile.FieldType.int)) ∈ lw_all := lw_g (lw_at lw_m6 97 rfl) rfl
theorem q1364 : (Jvm.Cond.methodLink "SideBySideModel" (168 : Nat) ({ cls := "SideBySideModel", name := "wrongKept", desc := "(I)I" } : Jvm.MethodName)) ∈ lw_all := lw_g (lw_at lw_m6 98 rfl) rfl
theorem q1365 : (Jvm.Cond.privateMethod ({ cls := "SideBySideModel", name := "wrongKept", desc := "(I)I" } : Jvm.MethodName)) ∈ lw_tbl := lw_at lw_m6 99 rfl
theorem q1366 : (Jvm.Cond.instanceMethod ({ cls := "SideBySideModel", name := "wrongKept", desc := "(I)I" } : Jvm.MethodName)) ∈ lw_all := lw_g (lw_at lw_m6 100 rfl) rfl
theorem q1367 : (Jvm.Cond.code ({ cls := "SideBySideModel", name := "wrongKept", desc := "(I)I" } : Jvm.MethodName) prog_21_method_94_code (2 : Nat) (Option.some Jvm.ClassFile.FieldType.int)) ∈ lw_all := lw_g (lw_at lw_m6 101 rfl) rfl
theorem q1369 : (Jvm.Cond.instanceMethod ({ cls := "SideBySideModel", name := "stands", desc := "(III)I" } : Jvm.MethodName)) ∈ lw_all := lw_g (lw_at lw_m6 103 rfl) rfl
theorem q1370 : (Jvm.Cond.selects "SideBySideModel" ({ cls := "SideBySideModel", name := "stands", desc := "(III)I" } : Jvm.MethodName) ({ cls := "SideBySideModel", name := "stands", desc := "(III)I" } : Jvm.MethodName)) ∈ lw_all := lw_g (lw_at lw_m6 104 rfl) rfl
theorem q1371 : (Jvm.Cond.code ({ cls := "SideBySideModel", name := "stands", desc := "(III)I" } : Jvm.MethodName) prog_21_method_41_code (5 : Nat) (Option.some Jvm.ClassFile.FieldType.int)) ∈ lw_all := lw_g (lw_at lw_m6 105 rfl) rfl
theorem q1373 : (Jvm.Cond.instanceMethod ({ cls := "SideBySideModel", name := "tires", desc := "(II)I" } : Jvm.MethodName)) ∈ lw_all := lw_g (lw_at lw_m6 107 rfl) rfl
theorem q1374 : (Jvm.Cond.selects "SideBySideModel" ({ cls := "SideBySideModel", name := "tires", desc := "(II)I" } : Jvm.MethodName) ({ cls := "SideBySideModel", name := "tires", desc := "(II)I" } : Jvm.MethodName)) ∈ lw_all := lw_g (lw_at lw_m6 108 rfl) rfl
theorem q1375 : (Jvm.Cond.code ({ cls := "SideBySideModel", name := "tires", desc := "(II)I" } : Jvm.MethodName) prog_21_method_42_code (4 : Nat) (Option.some Jvm.ClassFile.FieldType.int)) ∈ lw_all := lw_g (lw_at lw_m6 109 rfl) rfl
theorem q1377 : (Jvm.Cond.instanceMethod ({ cls := "SideBySideModel", name := "hands", desc := "(I)I" } : Jvm.MethodName)) ∈ lw_all := lw_g (lw_at lw_m6 111 rfl) rfl
theorem q1378 : (Jvm.Cond.selects "SideBySideModel" ({ cls := "SideBySideModel", name := "hands", desc := "(I)I" } : Jvm.MethodName) ({ cls := "SideBySideModel", name := "hands", desc := "(I)I" } : Jvm.MethodName)) ∈ lw_all := lw_g (lw_at lw_m6 112 rfl) rfl
theorem q1379 : (Jvm.Cond.code ({ cls := "SideBySideModel", name := "hands", desc := "(I)I" } : Jvm.MethodName) prog_21_method_43_code (2 : Nat) (Option.some Jvm.ClassFile.FieldType.int)) ∈ lw_all := lw_g (lw_at lw_m6 113 rfl) rfl
theorem q1381 : (Jvm.Cond.instanceMethod ({ cls := "SideBySideModel", name := "forms", desc := "(III)I" } : Jvm.MethodName)) ∈ lw_all := lw_g (lw_at lw_m6 115 rfl) rfl
theorem q1382 : (Jvm.Cond.selects "SideBySideModel" ({ cls := "SideBySideModel", name := "forms", desc := "(III)I" } : Jvm.MethodName) ({ cls := "SideBySideModel", name := "forms", desc := "(III)I" } : Jvm.MethodName)) ∈ lw_all := lw_g (lw_at lw_m6 116 rfl) rfl
theorem q1383 : (Jvm.Cond.code ({ cls := "SideBySideModel", name := "forms", desc := "(III)I" } : Jvm.MethodName) prog_21_method_44_code (5 : Nat) (Option.some Jvm.ClassFile.FieldType.int)) ∈ lw_all := lw_g (lw_at lw_m6 117 rfl) rfl
theorem q1385 : (Jvm.Cond.instanceMethod ({ cls := "SideBySideModel", name := "blows", desc := "(I)I" } : Jvm.MethodName)) ∈ lw_all := lw_g (lw_at lw_m6 119 rfl) rfl
theorem q1386 : (Jvm.Cond.selects "SideBySideModel" ({ cls := "SideBySideModel", name := "blows", desc := "(I)I" } : Jvm.MethodName) ({ cls := "SideBySideModel", name := "blows", desc := "(I)I" } : Jvm.MethodName)) ∈ lw_all := lw_g (lw_at lw_m6 120 rfl) rfl
theorem q1387 : (Jvm.Cond.code ({ cls := "SideBySideModel", name := "blows", desc := "(I)I" } : Jvm.MethodName) prog_21_method_45_code (3 : Nat) (Option.some Jvm.ClassFile.FieldType.int)) ∈ lw_all := lw_g (lw_at lw_m6 121 rfl) rfl
theorem q1389 : (Jvm.Cond.instanceMethod ({ cls := "SideBySideModel", name := "hit", desc := "(II)I" } : Jvm.MethodName)) ∈ lw_all := lw_g (lw_at lw_m6 123 rfl) rfl
theorem q1390 : (Jvm.Cond.selects "SideBySideModel" ({ cls := "SideBySideModel", name := "hit", desc := "(II)I" } : Jvm.MethodName) ({ cls := "SideBySideModel", name := "hit", desc := "(II)I" } : Jvm.MethodName)) ∈ lw_all := lw_g (lw_at lw_m6 124 rfl) rfl
theorem q1391 : (Jvm.Cond.code ({ cls := "SideBySideModel", name := "hit", desc := "(II)I" } : Jvm.MethodName) prog_21_method_46_code (4 : Nat) (Option.some Jvm.ClassFile.FieldType.int)) ∈ lw_all := lw_g (lw_at lw_m6 125 rfl) rfl
theorem q1393 : (Jvm.Cond.instanceMethod ({ cls := "SideBySideModel", name := "whose", desc := "(II)I" } : Jvm.MethodName)) ∈ lw_all := lw_g (lw_at lw_m6 127 rfl) rfl
theorem q1394 : (Jvm.Cond.selects "SideBySideModel" ({ cls := "SideBySideModel", name := "whose", desc := "(II)I" } : Jvm.MethodName) ({ cls := "SideBySideModel", name := "whose", desc := "(II)I" } : Jvm.MethodName)) ∈ lw_all := lw_g (lw_at lw_m6 128 rfl) rfl
theorem q1395 : (Jvm.Cond.code ({ cls := "SideBySideModel", name := "whose", desc := "(II)I" } : Jvm.MethodName) prog_21_method_51_code (3 : Nat) (Option.some Jvm.ClassFile.FieldType.int)) ∈ lw_all := lw_g (lw_at lw_m6 129 rfl) rfl
theorem q1396 : (Jvm.Cond.methodLink "SideBySideModel" (174 : Nat) ({ cls := "SideBySideModel", name := "isHit", desc := "(II)Z" } : Jvm.MethodName)) ∈ lw_all := lw_g (lw_at lw_m6 130 rfl) rfl
theorem q1397 : (Jvm.Cond.privateMethod ({ cls := "SideBySideModel", name := "isHit", desc := "(II)Z" } : Jvm.MethodName)) ∈ lw_tbl := lw_at lw_m6 131 rfl
theorem q1398 : (Jvm.Cond.instanceMethod ({ cls := "SideBySideModel", name := "isHit", desc := "(II)Z" } : Jvm.MethodName)) ∈ lw_all := lw_g (lw_at lw_m6 132 rfl) rfl
theorem q1399 : (Jvm.Cond.code ({ cls := "SideBySideModel", name := "isHit", desc := "(II)Z" } : Jvm.MethodName) prog_21_method_50_code (3 : Nat) (Option.some Jvm.ClassFile.FieldType.boolean)) ∈ lw_all := lw_g (lw_at lw_m6 133 rfl) rfl
theorem q1400 : (Jvm.Cond.methodLink "SideBySideModel" (177 : Nat) ({ cls := "SideBySideModel", name := "whoseNow", desc := "(II)I" } : Jvm.MethodName)) ∈ lw_all := lw_g (lw_at lw_m6 134 rfl) rfl
theorem q1401 : (Jvm.Cond.privateMethod ({ cls := "SideBySideModel", name := "whoseNow", desc := "(II)I" } : Jvm.MethodName)) ∈ lw_tbl := lw_at lw_m6 135 rfl
theorem q1402 : (Jvm.Cond.instanceMethod ({ cls := "SideBySideModel", name := "whoseNow", desc := "(II)I" } : Jvm.MethodName)) ∈ lw_all := lw_g (lw_at lw_m6 136 rfl) rfl
theorem q1403 : (Jvm.Cond.code ({ cls := "SideBySideModel", name := "whoseNow", desc := "(II)I" } : Jvm.MethodName) prog_21_method_48_code (3 : Nat) (Option.some Jvm.ClassFile.FieldType.int)) ∈ lw_all := lw_g (lw_at lw_m6 137 rfl) rfl
theorem q1404 : (Jvm.Cond.methodLink "SideBySideModel" (171 : Nat) ({ cls := "SideBySideModel", name := "otherSide", desc := "()I" } : Jvm.MethodName)) ∈ lw_all := lw_g (lw_at lw_m6 138 rfl) rfl
theorem q1405 : (Jvm.Cond.privateMethod ({ cls := "SideBySideModel", name := "otherSide", desc := "()I" } : Jvm.MethodName)) ∈ lw_tbl := lw_at lw_m6 139 rfl
theorem q1406 : (Jvm.Cond.instanceMethod ({ cls := "SideBySideModel", name := "otherSide", desc := "()I" } : Jvm.MethodName)) ∈ lw_all := lw_g (lw_at lw_m6 140 rfl) rfl
theorem q1407 : (Jvm.Cond.code ({ cls := "SideBySideModel", name := "otherSide", desc := "()I" } : Jvm.MethodName) prog_21_method_47_code (1 : Nat) (Option.some Jvm.ClassFile.FieldType.int)) ∈ lw_all := lw_g (lw_at lw_m6 141 rfl) rfl
theorem q1409 : (Jvm.Cond.instanceMethod ({ cls := "SideBySideModel", name := "wins", desc := "(II)I" } : Jvm.MethodName)) ∈ lw_all := lw_g (lw_at lw_m6 143 rfl) rfl
theorem q1410 : (Jvm.Cond.selects "SideBySideModel" ({ cls := "SideBySideModel", name := "wins", desc := "(II)I" } : Jvm.MethodName) ({ cls := "SideBySideModel", name := "wins", desc := "(II)I" } : Jvm.MethodName)) ∈ lw_all := lw_g (lw_at lw_m6 144 rfl) rfl
theorem q1411 : (Jvm.Cond.code ({ cls := "SideBySideModel", name := "wins", desc := "(II)I" } : Jvm.MethodName) prog_21_method_52_code (3 : Nat) (Option.some Jvm.ClassFile.FieldType.int)) ∈ lw_all := lw_g (lw_at lw_m6 145 rfl) rfl
theorem q1412 : (Jvm.Cond.methodLink "SideBySideModel" (180 : Nat) ({ cls := "SideBySideModel", name := "isWon", desc := "(II)Z" } : Jvm.MethodName)) ∈ lw_all := lw_g (lw_at lw_m6 146 rfl) rfl
theorem q1413 : (Jvm.Cond.privateMethod ({ cls := "SideBySideModel", name := "isWon", desc := "(II)Z" } : Jvm.MethodName)) ∈ lw_tbl := lw_at lw_m6 147 rfl
theorem q1414 : (Jvm.Cond.instanceMethod ({ cls := "SideBySideModel", name := "isWon", desc := "(II)Z" } : Jvm.MethodName)) ∈ lw_all := lw_g (lw_at lw_m6 148 rfl) rfl
theorem q1415 : (Jvm.Cond.code ({ cls := "SideBySideModel", name := "isWon", desc := "(II)Z" } : Jvm.MethodName) prog_21_method_49_code (3 : Nat) (Option.some Jvm.ClassFile.FieldType.boolean)) ∈ lw_all := lw_g (lw_at lw_m6 149 rfl) rfl
theorem q1417 : (Jvm.Cond.instanceMethod ({ cls := "SideBySideModel", name := "falls", desc := "(II)I" } : Jvm.MethodName)) ∈ lw_all := lw_g (lw_at lw_m6 151 rfl) rfl
theorem q1418 : (Jvm.Cond.selects "SideBySideModel" ({ cls := "SideBySideModel", name := "falls", desc := "(II)I" } : Jvm.MethodName) ({ cls := "SideBySideModel", name := "falls", desc := "(II)I" } : Jvm.MethodName)) ∈ lw_all := lw_g (lw_at lw_m6 152 rfl) rfl
theorem q1419 : (Jvm.Cond.code ({ cls := "SideBySideModel", name := "falls", desc := "(II)I" } : Jvm.MethodName) prog_21_method_53_code (3 : Nat) (Option.some Jvm.ClassFile.FieldType.int)) ∈ lw_all := lw_g (lw_at lw_m6 153 rfl) rfl
theorem q1421 : (Jvm.Cond.instanceMethod ({ cls := "SideBySideModel", name := "open", desc := "(I)I" } : Jvm.MethodName)) ∈ lw_all := lw_g (lw_at lw_m6 155 rfl) rfl
theorem q1422 : (Jvm.Cond.selects "SideBySideModel" ({ cls := "SideBySideModel", name := "open", desc := "(I)I" } : Jvm.MethodName) ({ cls := "SideBySideModel", name := "open", desc := "(I)I" } : Jvm.MethodName)) ∈ lw_all := lw_g (lw_at lw_m6 156 rfl) rfl
theorem q1423 : (Jvm.Cond.code ({ cls := "SideBySideModel", name := "open", desc := "(I)I" } : Jvm.MethodName) prog_21_method_55_code (2 : Nat) (Option.some Jvm.ClassFile.FieldType.int)) ∈ lw_all := lw_g (lw_at lw_m6 157 rfl) rfl
theorem q1424 : (Jvm.Cond.methodLink "SideBySideModel" (183 : Nat) ({ cls := "SideBySideModel", name := "openTo", desc := "(I)I" } : Jvm.MethodName)) ∈ lw_all := lw_g (lw_at lw_m6 158 rfl) rfl
theorem q1425 : (Jvm.Cond.privateMethod ({ cls := "SideBySideModel", name := "openTo", desc := "(I)I" } : Jvm.MethodName)) ∈ lw_tbl := lw_at lw_m6 159 rfl
theorem q1426 : (Jvm.Cond.instanceMethod ({ cls := "SideBySideModel", name := "openTo", desc := "(I)I" } : Jvm.MethodName)) ∈ lw_all := lw_g (lw_at lw_m6 160 rfl) rfl
theorem q1427 : (Jvm.Cond.code ({ cls := "SideBySideModel", name := "openTo", desc := "(I)I" } : Jvm.MethodName) prog_21_method_54_code (4 : Nat) (Option.some Jvm.ClassFile.FieldType.int)) ∈ lw_all := lw_g (lw_at lw_m6 161 rfl) rfl
theorem q1429 : (Jvm.Cond.instanceMethod ({ cls := "SideBySideModel", name := "forced", desc := "()I" } : Jvm.MethodName)) ∈ lw_all := lw_g (lw_at lw_m6 163 rfl) rfl
theorem q1430 : (Jvm.Cond.selects "SideBySideModel" ({ cls := "SideBySideModel", name := "forced", desc := "()I" } : Jvm.MethodName) ({ cls := "SideBySideModel", name := "forced", desc := "()I" } : Jvm.MethodName)) ∈ lw_all := lw_g (lw_at lw_m6 164 rfl) rfl
theorem q1431 : (Jvm.Cond.code ({ cls := "SideBySideModel", name := "forced", desc := "()I" } : Jvm.MethodName) prog_21_method_56_code (2 : Nat) (Option.some Jvm.ClassFile.FieldType.int)) ∈ lw_all := lw_g (lw_at lw_m6 165 rfl) rfl
theorem q1433 : (Jvm.Cond.instanceMethod ({ cls := "SideBySideModel", name := "farthest", desc := "(II)I" } : Jvm.MethodName)) ∈ lw_all := lw_g (lw_at lw_m6 167 rfl) rfl
theorem q1434 : (Jvm.Cond.selects "SideBySideModel" ({ cls := "SideBySideModel", name := "farthest", desc := "(II)I" } : Jvm.MethodName) ({ cls := "SideBySideModel", name := "farthest", desc := "(II)I" } : Jvm.MethodName)) ∈ lw_all := lw_g (lw_at lw_m6 168 rfl) rfl
theorem q1435 : (Jvm.Cond.code ({ cls := "SideBySideModel", name := "farthest", desc := "(II)I" } : Jvm.MethodName) prog_21_method_58_code (5 : Nat) (Option.some Jvm.ClassFile.FieldType.int)) ∈ lw_all := lw_g (lw_at lw_m6 169 rfl) rfl
theorem q1436 : (Jvm.Cond.methodLink "SideBySideModel" (186 : Nat) ({ cls := "SideBySideModel", name := "leads", desc := "(II)I" } : Jvm.MethodName)) ∈ lw_all := lw_g (lw_at lw_m6 170 rfl) rfl
theorem q1437 : (Jvm.Cond.privateMethod ({ cls := "SideBySideModel", name := "leads", desc := "(II)I" } : Jvm.MethodName)) ∈ lw_tbl := lw_at lw_m6 171 rfl
theorem q1438 : (Jvm.Cond.instanceMethod ({ cls := "SideBySideModel", name := "leads", desc := "(II)I" } : Jvm.MethodName)) ∈ lw_all := lw_g (lw_at lw_m6 172 rfl) rfl
theorem q1439 : (Jvm.Cond.code ({ cls := "SideBySideModel", name := "leads", desc := "(II)I" } : Jvm.MethodName) prog_21_method_57_code (4 : Nat) (Option.some Jvm.ClassFile.FieldType.int)) ∈ lw_all := lw_g (lw_at lw_m6 173 rfl) rfl
theorem q1441 : (Jvm.Cond.instanceMethod ({ cls := "SideBySideModel", name := "atWhom", desc := "(I)I" } : Jvm.MethodName)) ∈ lw_all := lw_g (lw_at lw_m6 175 rfl) rfl
theorem q1442 : (Jvm.Cond.selects "SideBySideModel" ({ cls := "SideBySideModel", name := "atWhom", desc := "(I)I" } : Jvm.MethodName) ({ cls := "SideBySideModel", name := "atWhom", desc := "(I)I" } : Jvm.MethodName)) ∈ lw_all := lw_g (lw_at lw_m6 176 rfl) rfl
theorem q1443 : (Jvm.Cond.code ({ cls := "SideBySideModel", name := "atWhom", desc := "(I)I" } : Jvm.MethodName) prog_21_method_59_code (5 : Nat) (Option.some Jvm.ClassFile.FieldType.int)) ∈ lw_all := lw_g (lw_at lw_m6 177 rfl) rfl
theorem q1445 : (Jvm.Cond.instanceMethod ({ cls := "SideBySideModel", name := "fewest", desc := "(I)I" } : Jvm.MethodName)) ∈ lw_all := lw_g (lw_at lw_m6 179 rfl) rfl
theorem q1446 : (Jvm.Cond.selects "SideBySideModel" ({ cls := "SideBySideModel", name := "fewest", desc := "(I)I" } : Jvm.MethodName) ({ cls := "SideBySideModel", name := "fewest", desc := "(I)I" } : Jvm.MethodName)) ∈ lw_all := lw_g (lw_at lw_m6 180 rfl) rfl
theorem q1447 : (Jvm.Cond.code ({ cls := "SideBySideModel", name := "fewest", desc := "(I)I" } : Jvm.MethodName) prog_21_method_61_code (6 : Nat) (Option.some Jvm.ClassFile.FieldType.int)) ∈ lw_all := lw_g (lw_at lw_m6 181 rfl) rfl
theorem q1448 : (Jvm.Cond.methodLink "SideBySideModel" (189 : Nat) ({ cls := "SideBySideModel", name := "forced", desc := "()I" } : Jvm.MethodName)) ∈ lw_all := lw_g (lw_at lw_m6 182 rfl) rfl
theorem q1449 : (Jvm.Cond.methodLink "SideBySideModel" (192 : Nat) ({ cls := "SideBySideModel", name := "isWonInThree", desc := "(II)Z" } : Jvm.MethodName)) ∈ lw_all := lw_g (lw_at lw_m6 183 rfl) rfl
theorem q1450 : (Jvm.Cond.privateMethod ({ cls := "SideBySideModel", name := "isWonInThree", desc := "(II)Z" } : Jvm.MethodName)) ∈ lw_tbl := lw_at lw_m6 184 rfl
theorem q1451 : (Jvm.Cond.instanceMethod ({ cls := "SideBySideModel", name := "isWonInThree", desc := "(II)Z" } : Jvm.MethodName)) ∈ lw_all := lw_g (lw_at lw_m6 185 rfl) rfl
theorem q1452 : (Jvm.Cond.code ({ cls := "SideBySideModel", name := "isWonInThree", desc := "(II)Z" } : Jvm.MethodName) prog_21_method_60_code (3 : Nat) (Option.some Jvm.ClassFile.FieldType.boolean)) ∈ lw_all := lw_g (lw_at lw_m6 186 rfl) rfl
theorem q1454 : (Jvm.Cond.instanceMethod ({ cls := "SideBySideModel", name := "bestForm", desc := "(II)I" } : Jvm.MethodName)) ∈ lw_all := lw_g (lw_at lw_m6 188 rfl) rfl
theorem q1455 : (Jvm.Cond.selects "SideBySideModel" ({ cls := "SideBySideModel", name := "bestForm", desc := "(II)I" } : Jvm.MethodName) ({ cls := "SideBySideModel", name := "bestForm", desc := "(II)I" } : Jvm.MethodName)) ∈ lw_all := lw_g (lw_at lw_m6 189 rfl) rfl
theorem q1456 : (Jvm.Cond.code ({ cls := "SideBySideModel", name := "bestForm", desc := "(II)I" } : Jvm.MethodName) prog_21_method_64_code (3 : Nat) (Option.some Jvm.ClassFile.FieldType.int)) ∈ lw_all := lw_g (lw_at lw_m6 190 rfl) rfl
theorem q1457 : (Jvm.Cond.methodLink "SideBySideModel" (199 : Nat) ({ cls := "SideBySideModel", name := "bestOf", desc := "(IIII)I" } : Jvm.MethodName)) ∈ lw_all := lw_g (lw_at lw_m6 191 rfl) rfl
theorem q1458 : (Jvm.Cond.privateMethod ({ cls := "SideBySideModel", name := "bestOf", desc := "(IIII)I" } : Jvm.MethodName)) ∈ lw_tbl := lw_at lw_m6 192 rfl
theorem q1459 : (Jvm.Cond.instanceMethod ({ cls := "SideBySideModel", name := "bestOf", desc := "(IIII)I" } : Jvm.MethodName)) ∈ lw_all := lw_g (lw_at lw_m6 193 rfl) rfl
theorem q1460 : (Jvm.Cond.code ({ cls := "SideBySideModel", name := "bestOf", desc := "(IIII)I" } : Jvm.MethodName) prog_21_method_63_code (10 : Nat) (Option.some Jvm.ClassFile.FieldType.int)) ∈ lw_all := lw_g (lw_at lw_m6 194 rfl) rfl
theorem q1461 : (Jvm.Cond.methodLink "SideBySideModel" (195 : Nat) ({ cls := "SideBySideModel", name := "isHeld", desc := "(IIII)Z" } : Jvm.MethodName)) ∈ lw_all := lw_g (lw_at lw_m6 195 rfl) rfl
theorem q1462 : (Jvm.Cond.privateMethod ({ cls := "SideBySideModel", name := "isHeld", desc := "(IIII)Z" } : Jvm.MethodName)) ∈ lw_tbl := lw_at lw_m6 196 rfl
theorem q1463 : (Jvm.Cond.instanceMethod ({ cls := "SideBySideModel", name := "isHeld", desc := "(IIII)Z" } : Jvm.MethodName)) ∈ lw_all := lw_g (lw_at lw_m6 197 rfl) rfl
theorem q1464 : (Jvm.Cond.code ({ cls := "SideBySideModel", name := "isHeld", desc := "(IIII)Z" } : Jvm.MethodName) prog_21_method_62_code (5 : Nat) (Option.some Jvm.ClassFile.FieldType.boolean)) ∈ lw_all := lw_g (lw_at lw_m6 198 rfl) rfl
theorem q1466 : (Jvm.Cond.instanceMethod ({ cls := "SideBySideModel", name := "bestHabit", desc := "(II)I" } : Jvm.MethodName)) ∈ lw_all := lw_g (lw_at lw_m6 200 rfl) rfl
theorem q1467 : (Jvm.Cond.selects "SideBySideModel" ({ cls := "SideBySideModel", name := "bestHabit", desc := "(II)I" } : Jvm.MethodName) ({ cls := "SideBySideModel", name := "bestHabit", desc := "(II)I" } : Jvm.MethodName)) ∈ lw_all := lw_g (lw_at lw_m6 201 rfl) rfl
theorem q1468 : (Jvm.Cond.code ({ cls := "SideBySideModel", name := "bestHabit", desc := "(II)I" } : Jvm.MethodName) prog_21_method_65_code (3 : Nat) (Option.some Jvm.ClassFile.FieldType.int)) ∈ lw_all := lw_g (lw_at lw_m6 202 rfl) rfl
theorem q1470 : (Jvm.Cond.instanceMethod ({ cls := "SideBySideModel", name := "change", desc := "(IIII)I" } : Jvm.MethodName)) ∈ lw_all := lw_g (lw_at lw_m6 204 rfl) rfl
theorem q1471 : (Jvm.Cond.selects "SideBySideModel" ({ cls := "SideBySideModel", name := "change", desc := "(IIII)I" } : Jvm.MethodName) ({ cls := "SideBySideModel", name := "change", desc := "(IIII)I" } : Jvm.MethodName)) ∈ lw_all := lw_g (lw_at lw_m6 205 rfl) rfl
theorem q1472 : (Jvm.Cond.code ({ cls := "SideBySideModel", name := "change", desc := "(IIII)I" } : Jvm.MethodName) prog_21_method_66_code (6 : Nat) (Option.some Jvm.ClassFile.FieldType.int)) ∈ lw_all := lw_g (lw_at lw_m6 206 rfl) rfl
theorem q1474 : (Jvm.Cond.instanceMethod ({ cls := "SideBySideModel", name := "rally", desc := "(II)I" } : Jvm.MethodName)) ∈ lw_all := lw_g (lw_at lw_m6 208 rfl) rfl
theorem q1475 : (Jvm.Cond.selects "SideBySideModel" ({ cls := "SideBySideModel", name := "rally", desc := "(II)I" } : Jvm.MethodName) ({ cls := "SideBySideModel", name := "rally", desc := "(II)I" } : Jvm.MethodName)) ∈ lw_all := lw_g (lw_at lw_m6 209 rfl) rfl
theorem q1476 : (Jvm.Cond.code ({ cls := "SideBySideModel", name := "rally", desc := "(II)I" } : Jvm.MethodName) prog_21_method_69_code (4 : Nat) (Option.some Jvm.ClassFile.FieldType.int)) ∈ lw_all := lw_g (lw_at lw_m6 210 rfl) rfl
theorem q1477 : (Jvm.Cond.methodLink "SideBySideModel" (209 : Nat) ({ cls := "SideBySideModel", name := "wrongRally", desc := "(I)I" } : Jvm.MethodName)) ∈ lw_all := lw_g (lw_at lw_m6 211 rfl) rfl
theorem q1478 : (Jvm.Cond.privateMethod ({ cls := "SideBySideModel", name := "wrongRally", desc := "(I)I" } : Jvm.MethodName)) ∈ lw_tbl := lw_at lw_m6 212 rfl
theorem q1479 : (Jvm.Cond.instanceMethod ({ cls := "SideBySideModel", name := "wrongRally", desc := "(I)I" } : Jvm.MethodName)) ∈ lw_all := lw_g (lw_at lw_m6 213 rfl) rfl
theorem q1480 : (Jvm.Cond.code ({ cls := "SideBySideModel", name := "wrongRally", desc := "(I)I" } : Jvm.MethodName) prog_21_method_67_code (4 : Nat) (Option.some Jvm.ClassFile.FieldType.int)) ∈ lw_all := lw_g (lw_at lw_m6 214 rfl) rfl
theorem q1481 : (Jvm.Cond.methodLink "SideBySideModel" (212 : Nat) ({ cls := "SideBySideModel", name := "rallies", desc := "(I)V" } : Jvm.MethodName)) ∈ lw_all := lw_g (lw_at lw_m6 215 rfl) rfl
theorem q1482 : (Jvm.Cond.privateMethod ({ cls := "SideBySideModel", name := "rallies", desc := "(I)V" } : Jvm.MethodName)) ∈ lw_tbl := lw_at lw_m6 216 rfl
theorem q1483 : (Jvm.Cond.instanceMethod ({ cls := "SideBySideModel", name := "rallies", desc := "(I)V" } : Jvm.MethodName)) ∈ lw_all := lw_g (lw_at lw_m6 217 rfl) rfl
theorem q1484 : (Jvm.Cond.code ({ cls := "SideBySideModel", name := "rallies", desc := "(I)V" } : Jvm.MethodName) prog_21_method_68_code (4 : Nat) (Option.none : Option Jvm.ClassFile.FieldType)) ∈ lw_all := lw_g (lw_at lw_m6 218 rfl) rfl
theorem q1486 : (Jvm.Cond.instanceMethod ({ cls := "SideBySideModel", name := "ways", desc := "(II)I" } : Jvm.MethodName)) ∈ lw_all := lw_g (lw_at lw_m6 220 rfl) rfl
theorem q1487 : (Jvm.Cond.selects "SideBySideModel" ({ cls := "SideBySideModel", name := "ways", desc := "(II)I" } : Jvm.MethodName) ({ cls := "SideBySideModel", name := "ways", desc := "(II)I" } : Jvm.MethodName)) ∈ lw_all := lw_g (lw_at lw_m6 221 rfl) rfl
theorem q1488 : (Jvm.Cond.code ({ cls := "SideBySideModel", name := "ways", desc := "(II)I" } : Jvm.MethodName) prog_21_method_70_code (4 : Nat) (Option.some Jvm.ClassFile.FieldType.int)) ∈ lw_all := lw_g (lw_at lw_m6 222 rfl) rfl
theorem q1490 : (Jvm.Cond.instanceMethod ({ cls := "SideBySideModel", name := "spent", desc := "(I)I" } : Jvm.MethodName)) ∈ lw_all := lw_g (lw_at lw_m6 224 rfl) rfl
theorem q1491 : (Jvm.Cond.selects "SideBySideModel" ({ cls := "SideBySideModel", name := "spent", desc := "(I)I" } : Jvm.MethodName) ({ cls := "SideBySideModel", name := "spent", desc := "(I)I" } : Jvm.MethodName)) ∈ lw_all := lw_g (lw_at lw_m6 225 rfl) rfl
theorem q1492 : (Jvm.Cond.code ({ cls := "SideBySideModel", name := "spent", desc := "(I)I" } : Jvm.MethodName) prog_21_method_71_code (5 : Nat) (Option.some Jvm.ClassFile.FieldType.int)) ∈ lw_all := lw_g (lw_at lw_m6 226 rfl) rfl
theorem q1494 : (Jvm.Cond.instanceMethod ({ cls := "SideBySideModel", name := "whatIs", desc := "(III)I" } : Jvm.MethodName)) ∈ lw_all := lw_g (lw_at lw_m6 228 rfl) rfl
theorem q1495 : (Jvm.Cond.selects "SideBySideModel" ({ cls := "SideBySideModel", name := "whatIs", desc := "(III)I" } : Jvm.MethodName) ({ cls := "SideBySideModel", name := "whatIs", desc := "(III)I" } : Jvm.MethodName)) ∈ lw_all := lw_g (lw_at lw_m6 229 rfl) rfl
theorem q1496 : (Jvm.Cond.code ({ cls := "SideBySideModel", name := "whatIs", desc := "(III)I" } : Jvm.MethodName) prog_21_method_74_code (9 : Nat) (Option.some Jvm.ClassFile.FieldType.int)) ∈ lw_all := lw_g (lw_at lw_m6 230 rfl) rfl
theorem q1497 : (Jvm.Cond.methodLink "SideBySideModel" (220 : Nat) ({ cls := "SideBySideModel", name := "isSkipped", desc := "(II)Z" } : Jvm.MethodName)) ∈ lw_all := lw_g (lw_at lw_m6 231 rfl) rfl
theorem q1498 : (Jvm.Cond.privateMethod ({ cls := "SideBySideModel", name := "isSkipped", desc := "(II)Z" } : Jvm.MethodName)) ∈ lw_tbl := lw_at lw_m6 232 rfl
theorem q1499 : (Jvm.Cond.instanceMethod ({ cls := "SideBySideModel", name := "isSkipped", desc := "(II)Z" } : Jvm.MethodName)) ∈ lw_all := lw_g (lw_at lw_m6 233 rfl) rfl
theorem q1500 : (Jvm.Cond.code ({ cls := "SideBySideModel", name := "isSkipped", desc := "(II)Z" } : Jvm.MethodName) prog_21_method_73_code (3 : Nat) (Option.some Jvm.ClassFile.FieldType.boolean)) ∈ lw_all := lw_g (lw_at lw_m6 234 rfl) rfl
theorem q1501 : (Jvm.Cond.methodLink "SideBySideModel" (217 : Nat) ({ cls := "SideBySideModel", name := "leastOf", desc := "(I)I" } : Jvm.MethodName)) ∈ lw_all := lw_g (lw_at lw_m6 235 rfl) rfl
theorem q1502 : (Jvm.Cond.static ({ cls := "SideBySideModel", name := "leastOf", desc := "(I)I" } : Jvm.MethodName)) ∈ lw_all := lw_g (lw_at lw_m6 236 rfl) rfl
theorem q1503 : (Jvm.Cond.code ({ cls := "SideBySideModel", name := "leastOf", desc := "(I)I" } : Jvm.MethodName) prog_21_method_72_code (1 : Nat) (Option.some Jvm.ClassFile.FieldType.int)) ∈ lw_all := lw_g (lw_at lw_m6 237 rfl) rfl
theorem q1504 : (Jvm.Cond.constant "SideBySideModel" (216 : Nat) (-2147483648 : Int32)) ∈ lw_all := lw_g (lw_at lw_m6 238 rfl) rfl
theorem q1506 : (Jvm.Cond.instanceMethod ({ cls := "SideBySideModel", name := "habits", desc := "(I)I" } : Jvm.MethodName)) ∈ lw_all := lw_g (lw_at lw_m7 0 rfl) rfl
theorem q1507 : (Jvm.Cond.selects "SideBySideModel" ({ cls := "SideBySideModel", name := "habits", desc := "(I)I" } : Jvm.MethodName) ({ cls := "SideBySideModel", name := "habits", desc := "(I)I" } : Jvm.MethodName)) ∈ lw_all := lw_g (lw_at lw_m7 1 rfl) rfl
theorem q1508 : (Jvm.Cond.code ({ cls := "SideBySideModel", name := "habits", desc := "(I)I" } : Jvm.MethodName) prog_21_method_75_code (7 : Nat) (Option.some Jvm.ClassFile.FieldType.int)) ∈ lw_all := lw_g (lw_at lw_m7 2 rfl) rfl
theorem q1510 : (Jvm.Cond.instanceMethod ({ cls := "SideBySideModel", name := "two", desc := "()I" } : Jvm.MethodName)) ∈ lw_all := lw_g (lw_at lw_m7 4 rfl) rfl
theorem q1511 : (Jvm.Cond.selects "SideBySideModel" ({ cls := "SideBySideModel", name := "two", desc := "()I" } : Jvm.MethodName) ({ cls := "SideBySideModel", name := "two", desc := "()I" } : Jvm.MethodName)) ∈ lw_all := lw_g (lw_at lw_m7 5 rfl) rfl
theorem q1512 : (Jvm.Cond.code ({ cls := "SideBySideModel", name := "two", desc := "()I" } : Jvm.MethodName) prog_21_method_77_code (4 : Nat) (Option.some Jvm.ClassFile.FieldType.int)) ∈ lw_all := lw_g (lw_at lw_m7 6 rfl) rfl
theorem q1513 : (Jvm.Cond.methodLink "SideBySideModel" (223 : Nat) ({ cls := "SideBySideModel", name := "costBy2", desc := "(III)I" } : Jvm.MethodName)) ∈ lw_all := lw_g (lw_at lw_m7 7 rfl) rfl
theorem q1514 : (Jvm.Cond.privateMethod ({ cls := "SideBySideModel", name := "costBy2", desc := "(III)I" } : Jvm.MethodName)) ∈ lw_tbl := lw_at lw_m7 8 rfl
theorem q1515 : (Jvm.Cond.instanceMethod ({ cls := "SideBySideModel", name := "costBy2", desc := "(III)I" } : Jvm.MethodName)) ∈ lw_all := lw_g (lw_at lw_m7 9 rfl) rfl
theorem q1516 : (Jvm.Cond.code ({ cls := "SideBySideModel", name := "costBy2", desc := "(III)I" } : Jvm.MethodName) prog_21_method_76_code (7 : Nat) (Option.some Jvm.ClassFile.FieldType.int)) ∈ lw_all := lw_g (lw_at lw_m7 10 rfl) rfl
theorem q1518 : (Jvm.Cond.instanceMethod ({ cls := "SideBySideModel", name := "draughts", desc := "(III)J" } : Jvm.MethodName)) ∈ lw_all := lw_g (lw_at lw_m7 12 rfl) rfl
theorem q1519 : (Jvm.Cond.selects "SideBySideModel" ({ cls := "SideBySideModel", name := "draughts", desc := "(III)J" } : Jvm.MethodName) ({ cls := "SideBySideModel", name := "draughts", desc := "(III)J" } : Jvm.MethodName)) ∈ lw_all := lw_g (lw_at lw_m7 13 rfl) rfl
theorem q1520 : (Jvm.Cond.code ({ cls := "SideBySideModel", name := "draughts", desc := "(III)J" } : Jvm.MethodName) prog_21_method_81_code (12 : Nat) (Option.some Jvm.ClassFile.FieldType.long)) ∈ lw_all := lw_g (lw_at lw_m7 14 rfl) rfl
theorem q1521 : (Jvm.Cond.constantLong "SideBySideModel" (233 : Nat) (1000000001 : Int64)) ∈ lw_all := lw_g (lw_at lw_m7 15 rfl) rfl
theorem q1522 : (Jvm.Cond.methodLink "SideBySideModel" (230 : Nat) ({ cls := "SideBySideModel", name := "has", desc := "(II)Z" } : Jvm.MethodName)) ∈ lw_all := lw_g (lw_at lw_m7 16 rfl) rfl
theorem q1523 : (Jvm.Cond.static ({ cls := "SideBySideModel", name := "has", desc := "(II)Z" } : Jvm.MethodName)) ∈ lw_all := lw_g (lw_at lw_m7 17 rfl) rfl
theorem q1524 : (Jvm.Cond.code ({ cls := "SideBySideModel", name := "has", desc := "(II)Z" } : Jvm.MethodName) prog_21_method_11_code (2 : Nat) (Option.some Jvm.ClassFile.FieldType.boolean)) ∈ lw_all := lw_g (lw_at lw_m7 18 rfl) rfl
theorem q1525 : (Jvm.Cond.methodLink "SideBySideModel" (235 : Nat) ({ cls := "SideBySideModel", name := "isPointless", desc := "(II)Z" } : Jvm.MethodName)) ∈ lw_all := lw_g (lw_at lw_m7 19 rfl) rfl
theorem q1526 : (Jvm.Cond.privateMethod ({ cls := "SideBySideModel", name := "isPointless", desc := "(II)Z" } : Jvm.MethodName)) ∈ lw_tbl := lw_at lw_m7 20 rfl
theorem q1527 : (Jvm.Cond.instanceMethod ({ cls := "SideBySideModel", name := "isPointless", desc := "(II)Z" } : Jvm.MethodName)) ∈ lw_all := lw_g (lw_at lw_m7 21 rfl) rfl
theorem q1528 : (Jvm.Cond.code ({ cls := "SideBySideModel", name := "isPointless", desc := "(II)Z" } : Jvm.MethodName) prog_21_method_80_code (4 : Nat) (Option.some Jvm.ClassFile.FieldType.boolean)) ∈ lw_all := lw_g (lw_at lw_m7 22 rfl) rfl
theorem q1529 : (Jvm.Cond.methodLink "SideBySideModel" (238 : Nat) ({ cls := "SideBySideModel", name := "partOf", desc := "(JJI)J" } : Jvm.MethodName)) ∈ lw_all := lw_g (lw_at lw_m7 23 rfl) rfl
theorem q1530 : (Jvm.Cond.static ({ cls := "SideBySideModel", name := "partOf", desc := "(JJI)J" } : Jvm.MethodName)) ∈ lw_all := lw_g (lw_at lw_m7 24 rfl) rfl
theorem q1531 : (Jvm.Cond.code ({ cls := "SideBySideModel", name := "partOf", desc := "(JJI)J" } : Jvm.MethodName) prog_21_method_79_code (5 : Nat) (Option.some Jvm.ClassFile.FieldType.long)) ∈ lw_all := lw_g (lw_at lw_m7 25 rfl) rfl
theorem q1532 : (Jvm.Cond.methodLink "SideBySideModel" (226 : Nat) ({ cls := "SideBySideModel", name := "gcd", desc := "(JJ)J" } : Jvm.MethodName)) ∈ lw_all := lw_g (lw_at lw_m7 26 rfl) rfl
theorem q1533 : (Jvm.Cond.static ({ cls := "SideBySideModel", name := "gcd", desc := "(JJ)J" } : Jvm.MethodName)) ∈ lw_all := lw_g (lw_at lw_m7 27 rfl) rfl
theorem q1534 : (Jvm.Cond.code ({ cls := "SideBySideModel", name := "gcd", desc := "(JJ)J" } : Jvm.MethodName) prog_21_method_78_code (10 : Nat) (Option.some Jvm.ClassFile.FieldType.long)) ∈ lw_all := lw_g (lw_at lw_m7 28 rfl) rfl
theorem q1536 : (Jvm.Cond.instanceMethod ({ cls := "SideBySideModel", name := "mean", desc := "(I)J" } : Jvm.MethodName)) ∈ lw_all := lw_g (lw_at lw_m7 30 rfl) rfl
theorem q1537 : (Jvm.Cond.selects "SideBySideModel" ({ cls := "SideBySideModel", name := "mean", desc := "(I)J" } : Jvm.MethodName) ({ cls := "SideBySideModel", name := "mean", desc := "(I)J" } : Jvm.MethodName)) ∈ lw_all := lw_g (lw_at lw_m7 31 rfl) rfl
theorem q1538 : (Jvm.Cond.code ({ cls := "SideBySideModel", name := "mean", desc := "(I)J" } : Jvm.MethodName) prog_21_method_83_code (2 : Nat) (Option.some Jvm.ClassFile.FieldType.long)) ∈ lw_all := lw_g (lw_at lw_m7 32 rfl) rfl
theorem q1539 : (Jvm.Cond.methodLink "SideBySideModel" (242 : Nat) ({ cls := "SideBySideModel", name := "allTired", desc := "()I" } : Jvm.MethodName)) ∈ lw_all := lw_g (lw_at lw_m7 33 rfl) rfl
theorem q1540 : (Jvm.Cond.privateMethod ({ cls := "SideBySideModel", name := "allTired", desc := "()I" } : Jvm.MethodName)) ∈ lw_tbl := lw_at lw_m7 34 rfl
theorem q1541 : (Jvm.Cond.instanceMethod ({ cls := "SideBySideModel", name := "allTired", desc := "()I" } : Jvm.MethodName)) ∈ lw_all := lw_g (lw_at lw_m7 35 rfl) rfl
theorem q1542 : (Jvm.Cond.code ({ cls := "SideBySideModel", name := "allTired", desc := "()I" } : Jvm.MethodName) prog_21_method_82_code (3 : Nat) (Option.some Jvm.ClassFile.FieldType.int)) ∈ lw_all := lw_g (lw_at lw_m7 36 rfl) rfl
theorem q1543 : (Jvm.Cond.constantLong "SideBySideModel" (245 : Nat) (4 : Int64)) ∈ lw_all := lw_g (lw_at lw_m7 37 rfl) rfl
theorem q1545 : (Jvm.Cond.instanceMethod ({ cls := "SideBySideModel", name := "forged", desc := "(I)I" } : Jvm.MethodName)) ∈ lw_all := lw_g (lw_at lw_m7 39 rfl) rfl
theorem q1546 : (Jvm.Cond.selects "SideBySideModel" ({ cls := "SideBySideModel", name := "forged", desc := "(I)I" } : Jvm.MethodName) ({ cls := "SideBySideModel", name := "forged", desc := "(I)I" } : Jvm.MethodName)) ∈ lw_all := lw_g (lw_at lw_m7 40 rfl) rfl
theorem q1547 : (Jvm.Cond.code ({ cls := "SideBySideModel", name := "forged", desc := "(I)I" } : Jvm.MethodName) prog_21_method_84_code (7 : Nat) (Option.some Jvm.ClassFile.FieldType.int)) ∈ lw_all := lw_g (lw_at lw_m7 41 rfl) rfl
theorem q1549 : (Jvm.Cond.instanceMethod ({ cls := "SideBySideModel", name := "judge", desc := "(I)I" } : Jvm.MethodName)) ∈ lw_all := lw_g (lw_at lw_m7 43 rfl) rfl
theorem q1550 : (Jvm.Cond.selects "SideBySideModel" ({ cls := "SideBySideModel", name := "judge", desc := "(I)I" } : Jvm.MethodName) ({ cls := "SideBySideModel", name := "judge", desc := "(I)I" } : Jvm.MethodName)) ∈ lw_all := lw_g (lw_at lw_m7 44 rfl) rfl
theorem q1551 : (Jvm.Cond.code ({ cls := "SideBySideModel", name := "judge", desc := "(I)I" } : Jvm.MethodName) prog_21_method_85_code (5 : Nat) (Option.some Jvm.ClassFile.FieldType.int)) ∈ lw_all := lw_g (lw_at lw_m7 45 rfl) rfl
theorem q1553 : (Jvm.Cond.instanceMethod ({ cls := "SideBySideModel", name := "nights", desc := "(III)I" } : Jvm.MethodName)) ∈ lw_all := lw_g (lw_at lw_m7 47 rfl) rfl
theorem q1554 : (Jvm.Cond.selects "SideBySideModel" ({ cls := "SideBySideModel", name := "nights", desc := "(III)I" } : Jvm.MethodName) ({ cls := "SideBySideModel", name := "nights", desc := "(III)I" } : Jvm.MethodName)) ∈ lw_all := lw_g (lw_at lw_m7 48 rfl) rfl
theorem q1555 : (Jvm.Cond.code ({ cls := "SideBySideModel", name := "nights", desc := "(III)I" } : Jvm.MethodName) prog_21_method_87_code (9 : Nat) (Option.some Jvm.ClassFile.FieldType.int)) ∈ lw_all := lw_g (lw_at lw_m7 49 rfl) rfl
theorem q1556 : (Jvm.Cond.methodLink "SideBySideModel" (253 : Nat) ({ cls := "SideBySideModel", name := "drawn", desc := "(I)I" } : Jvm.MethodName)) ∈ lw_all := lw_g (lw_at lw_m7 50 rfl) rfl
theorem q1557 : (Jvm.Cond.privateMethod ({ cls := "SideBySideModel", name := "drawn", desc := "(I)I" } : Jvm.MethodName)) ∈ lw_tbl := lw_at lw_m7 51 rfl
theorem q1558 : (Jvm.Cond.instanceMethod ({ cls := "SideBySideModel", name := "drawn", desc := "(I)I" } : Jvm.MethodName)) ∈ lw_all := lw_g (lw_at lw_m7 52 rfl) rfl
theorem q1559 : (Jvm.Cond.code ({ cls := "SideBySideModel", name := "drawn", desc := "(I)I" } : Jvm.MethodName) prog_21_method_86_code (2 : Nat) (Option.some Jvm.ClassFile.FieldType.int)) ∈ lw_all := lw_g (lw_at lw_m7 53 rfl) rfl
theorem q1560 : (Jvm.Cond.constant "SideBySideModel" (250 : Nat) (1103515245 : Int32)) ∈ lw_all := lw_g (lw_at lw_m7 54 rfl) rfl
theorem q1561 : (Jvm.Cond.constant "SideBySideModel" (251 : Nat) (2147483647 : Int32)) ∈ lw_all := lw_g (lw_at lw_m7 55 rfl) rfl
theorem q1562 : (Jvm.Cond.constant "SideBySideModel" (252 : Nat) (65536 : Int32)) ∈ lw_all := lw_g (lw_at lw_m7 56 rfl) rfl
theorem q1564 : (Jvm.Cond.instanceMethod ({ cls := "SideBySideModel", name := "image", desc := "()I" } : Jvm.MethodName)) ∈ lw_all := lw_g (lw_at lw_m7 58 rfl) rfl
theorem q1565 : (Jvm.Cond.selects "SideBySideModel" ({ cls := "SideBySideModel", name := "image", desc := "()I" } : Jvm.MethodName) ({ cls := "SideBySideModel", name := "image", desc := "()I" } : Jvm.MethodName)) ∈ lw_all := lw_g (lw_at lw_m7 59 rfl) rfl
theorem q1566 : (Jvm.Cond.code ({ cls := "SideBySideModel", name := "image", desc := "()I" } : Jvm.MethodName) prog_21_method_88_code (1 : Nat) (Option.some Jvm.ClassFile.FieldType.int)) ∈ lw_all := lw_g (lw_at lw_m7 60 rfl) rfl
theorem q1568 : (Jvm.Cond.instanceMethod ({ cls := "SideBySideModel", name := "restore", desc := "()I" } : Jvm.MethodName)) ∈ lw_all := lw_g (lw_at lw_m7 62 rfl) rfl
theorem q1569 : (Jvm.Cond.selects "SideBySideModel" ({ cls := "SideBySideModel", name := "restore", desc := "()I" } : Jvm.MethodName) ({ cls := "SideBySideModel", name := "restore", desc := "()I" } : Jvm.MethodName)) ∈ lw_all := lw_g (lw_at lw_m7 63 rfl) rfl
theorem q1570 : (Jvm.Cond.code ({ cls := "SideBySideModel", name := "restore", desc := "()I" } : Jvm.MethodName) prog_21_method_89_code (1 : Nat) (Option.some Jvm.ClassFile.FieldType.int)) ∈ lw_all := lw_g (lw_at lw_m7 64 rfl) rfl
theorem q1572 : (Jvm.Cond.instanceMethod ({ cls := "SideBySideModel", name := "count", desc := "(I)I" } : Jvm.MethodName)) ∈ lw_all := lw_g (lw_at lw_m7 66 rfl) rfl
theorem q1573 : (Jvm.Cond.selects "SideBySideModel" ({ cls := "SideBySideModel", name := "count", desc := "(I)I" } : Jvm.MethodName) ({ cls := "SideBySideModel", name := "count", desc := "(I)I" } : Jvm.MethodName)) ∈ lw_all := lw_g (lw_at lw_m7 67 rfl) rfl
theorem q1574 : (Jvm.Cond.code ({ cls := "SideBySideModel", name := "count", desc := "(I)I" } : Jvm.MethodName) prog_21_method_90_code (4 : Nat) (Option.some Jvm.ClassFile.FieldType.int)) ∈ lw_all := lw_g (lw_at lw_m7 68 rfl) rfl
theorem q1576 : (Jvm.Cond.instanceMethod ({ cls := "SideBySideModel", name := "thrown", desc := "()I" } : Jvm.MethodName)) ∈ lw_all := lw_g (lw_at lw_m7 70 rfl) rfl
theorem q1577 : (Jvm.Cond.selects "SideBySideModel" ({ cls := "SideBySideModel", name := "thrown", desc := "()I" } : Jvm.MethodName) ({ cls := "SideBySideModel", name := "thrown", desc := "()I" } : Jvm.MethodName)) ∈ lw_all := lw_g (lw_at lw_m7 71 rfl) rfl
theorem q1578 : (Jvm.Cond.code ({ cls := "SideBySideModel", name := "thrown", desc := "()I" } : Jvm.MethodName) prog_21_method_91_code (1 : Nat) (Option.some Jvm.ClassFile.FieldType.int)) ∈ lw_all := lw_g (lw_at lw_m7 72 rfl) rfl
theorem q1580 : (Jvm.Cond.instanceMethod ({ cls := "SideBySideModel", name := "keep", desc := "(IIII)I" } : Jvm.MethodName)) ∈ lw_all := lw_g (lw_at lw_m7 74 rfl) rfl
theorem q1581 : (Jvm.Cond.selects "SideBySideModel" ({ cls := "SideBySideModel", name := "keep", desc := "(IIII)I" } : Jvm.MethodName) ({ cls := "SideBySideModel", name := "keep", desc := "(IIII)I" } : Jvm.MethodName)) ∈ lw_all := lw_g (lw_at lw_m7 75 rfl) rfl
theorem q1582 : (Jvm.Cond.code ({ cls := "SideBySideModel", name := "keep", desc := "(IIII)I" } : Jvm.MethodName) prog_21_method_95_code (5 : Nat) (Option.some Jvm.ClassFile.FieldType.int)) ∈ lw_all := lw_g (lw_at lw_m7 76 rfl) rfl
theorem q1584 : (Jvm.Cond.instanceMethod ({ cls := "SideBySideModel", name := "row", desc := "(III)I" } : Jvm.MethodName)) ∈ lw_all := lw_g (lw_at lw_m7 78 rfl) rfl
theorem q1585 : (Jvm.Cond.selects "SideBySideModel" ({ cls := "SideBySideModel", name := "row", desc := "(III)I" } : Jvm.MethodName) ({ cls := "SideBySideModel", name := "row", desc := "(III)I" } : Jvm.MethodName)) ∈ lw_all := lw_g (lw_at lw_m7 79 rfl) rfl
theorem q1586 : (Jvm.Cond.code ({ cls := "SideBySideModel", name := "row", desc := "(III)I" } : Jvm.MethodName) prog_21_method_96_code (5 : Nat) (Option.some Jvm.ClassFile.FieldType.int)) ∈ lw_all := lw_g (lw_at lw_m7 80 rfl) rfl
theorem q1588 : (Jvm.Cond.instanceMethod ({ cls := "SideBySideModel", name := "put", desc := "(III)I" } : Jvm.MethodName)) ∈ lw_all := lw_g (lw_at lw_m7 82 rfl) rfl
theorem q1589 : (Jvm.Cond.selects "SideBySideModel" ({ cls := "SideBySideModel", name := "put", desc := "(III)I" } : Jvm.MethodName) ({ cls := "SideBySideModel", name := "put", desc := "(III)I" } : Jvm.MethodName)) ∈ lw_all := lw_g (lw_at lw_m7 83 rfl) rfl
theorem q1590 : (Jvm.Cond.code ({ cls := "SideBySideModel", name := "put", desc := "(III)I" } : Jvm.MethodName) prog_21_method_97_code (5 : Nat) (Option.some Jvm.ClassFile.FieldType.int)) ∈ lw_all := lw_g (lw_at lw_m7 84 rfl) rfl
theorem q1592 : (Jvm.Cond.instanceMethod ({ cls := "SideBySideModel", name := "element", desc := "(II)J" } : Jvm.MethodName)) ∈ lw_all := lw_g (lw_at lw_m7 86 rfl) rfl
theorem q1593 : (Jvm.Cond.selects "SideBySideModel" ({ cls := "SideBySideModel", name := "element", desc := "(II)J" } : Jvm.MethodName) ({ cls := "SideBySideModel", name := "element", desc := "(II)J" } : Jvm.MethodName)) ∈ lw_all := lw_g (lw_at lw_m7 87 rfl) rfl
theorem q1594 : (Jvm.Cond.code ({ cls := "SideBySideModel", name := "element", desc := "(II)J" } : Jvm.MethodName) prog_21_method_98_code (3 : Nat) (Option.some Jvm.ClassFile.FieldType.long)) ∈ lw_all := lw_g (lw_at lw_m7 88 rfl) rfl
theorem q1596 : (Jvm.Cond.instanceMethod ({ cls := "SideBySideModel", name := "copy", desc := "(IIIII)I" } : Jvm.MethodName)) ∈ lw_all := lw_g (lw_at lw_m7 90 rfl) rfl
theorem q1597 : (Jvm.Cond.selects "SideBySideModel" ({ cls := "SideBySideModel", name := "copy", desc := "(IIIII)I" } : Jvm.MethodName) ({ cls := "SideBySideModel", name := "copy", desc := "(IIIII)I" } : Jvm.MethodName)) ∈ lw_all := lw_g (lw_at lw_m7 91 rfl) rfl
theorem q1598 : (Jvm.Cond.code ({ cls := "SideBySideModel", name := "copy", desc := "(IIIII)I" } : Jvm.MethodName) prog_21_method_99_code (8 : Nat) (Option.some Jvm.ClassFile.FieldType.int)) ∈ lw_all := lw_g (lw_at lw_m7 92 rfl) rfl
theorem q1600 : (Jvm.Cond.instanceMethod ({ cls := "SideBySideModel", name := "cost", desc := "(I)I" } : Jvm.MethodName)) ∈ lw_all := lw_g (lw_at lw_m7 94 rfl) rfl
theorem q1601 : (Jvm.Cond.selects "SideBySideModel" ({ cls := "SideBySideModel", name := "cost", desc := "(I)I" } : Jvm.MethodName) ({ cls := "SideBySideModel", name := "cost", desc := "(I)I" } : Jvm.MethodName)) ∈ lw_all := lw_g (lw_at lw_m7 95 rfl) rfl
theorem q1602 : (Jvm.Cond.code ({ cls := "SideBySideModel", name := "cost", desc := "(I)I" } : Jvm.MethodName) prog_21_method_101_code (3 : Nat) (Option.some Jvm.ClassFile.FieldType.int)) ∈ lw_all := lw_g (lw_at lw_m7 96 rfl) rfl
theorem q1603 : (Jvm.Cond.methodLink "SideBySideModel" (266 : Nat) ({ cls := "SideBySideModel", name := "costBy", desc := "(II)I" } : Jvm.MethodName)) ∈ lw_all := lw_g (lw_at lw_m7 97 rfl) rfl
theorem q1604 : (Jvm.Cond.static ({ cls := "SideBySideModel", name := "costBy", desc := "(II)I" } : Jvm.MethodName)) ∈ lw_all := lw_g (lw_at lw_m7 98 rfl) rfl
theorem q1605 : (Jvm.Cond.code ({ cls := "SideBySideModel", name := "costBy", desc := "(II)I" } : Jvm.MethodName) prog_21_method_100_code (2 : Nat) (Option.some Jvm.ClassFile.FieldType.int)) ∈ lw_all := lw_g (lw_at lw_m7 99 rfl) rfl
theorem q1607 : (Jvm.Cond.instanceMethod ({ cls := "SideBySideModel", name := "toss", desc := "(I)I" } : Jvm.MethodName)) ∈ lw_all := lw_g (lw_at lw_m7 101 rfl) rfl
theorem q1608 : (Jvm.Cond.selects "SideBySideModel" ({ cls := "SideBySideModel", name := "toss", desc := "(I)I" } : Jvm.MethodName) ({ cls := "SideBySideModel", name := "toss", desc := "(I)I" } : Jvm.MethodName)) ∈ lw_all := lw_g (lw_at lw_m7 102 rfl) rfl
theorem q1609 : (Jvm.Cond.code ({ cls := "SideBySideModel", name := "toss", desc := "(I)I" } : Jvm.MethodName) prog_21_method_102_code (5 : Nat) (Option.some Jvm.ClassFile.FieldType.int)) ∈ lw_all := lw_g (lw_at lw_m7 103 rfl) rfl
theorem in_X4 : ∀ w ∈ wsX40, w ∈ lw_all := lw_in wsX40 [1196, 1198, 1200, 1202, 1204, 1206, 1208, 1210, 1212, 1214, 1216, 1218, 1220, 1222, 1224, 1226, 1228, 1230, 1232, 1234] (by decide +kernel) (by decide +kernel)
