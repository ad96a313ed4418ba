/-! SideBySide -/
set_option maxRecDepth 100000
def RX1 : String := "SideBySide"
def TX1 : u_T := fun k => match k with
  | 0 => ("SideBySide", "now", "LSideBySide$Court;", true)
  | 1 => ("SideBySide", "kept", "LSideBySide$Court;", true)
  | 2 => ("SideBySide", "mind", "LSideBySide$Court;", true)
  | 3 => ("SideBySide", "ahead", "LSideBySide$Court;", true)
  | 4 => ("SideBySide", "hasImage", "Z", false)
  | 5 => ("SideBySide", "told", "[LSideBySide$Told;", true)
  | 6 => ("SideBySide", "winner", "I", false)
  | 7 => ("SideBySide", "lots", "I", false)
  | _ => ("SideBySide", "shelves", "[LSideBySide$Shelf;", true)
def tyX1 : Nat → FieldType := fun k => match k with
  | 0 => .object "SideBySide$Court"
  | 1 => .object "SideBySide$Court"
  | 2 => .object "SideBySide$Court"
  | 3 => .object "SideBySide$Court"
  | 4 => .boolean
  | 5 => .array (.object "SideBySide$Told")
  | 6 => .int
  | 7 => .int
  | _ => .array (.object "SideBySide$Shelf")
abbrev wsX10 : List Cond := u_ws RX1 TX1 9
theorem nmX1 : ∀ a, a < 9 → ∀ b, b < 9 → a ≠ b → (TX1 a).2.1 ≠ (TX1 b).2.1 := by decide +kernel
theorem tyX1_ok : ∀ k, k < 9 → parseFieldDescriptor (TX1 k).2.2.1 = some (tyX1 k) := by decide +kernel
abbrev cX1_court : ByteArray := prog_1_method_17_code
def yX1_court : MethodName := ⟨RX1, "court", "(I)I"⟩
def dkwX1_court_1 : List UInt8 := [199, 0, 8, 16, 245, 167, 0, 8, 42, 44, 182, 0, 170, 172, 77, 16, 244, 172, 77, 44, 180, 0, 176, 172]
abbrev dktX1_court_1 : List UInt8 := dkwX1_court_1 ++ []
def dkwX1_court_0 : List UInt8 := [42, 27, 182, 0, 155, 154, 0, 5, 2, 172, 42, 180, 0, 158, 27, 50, 180, 0, 162, 192, 0, 168, 77, 44]
abbrev dktX1_court_0 : List UInt8 := dkwX1_court_0 ++ dktX1_court_1
theorem dksX1_court_0 : cX1_court.data.toList.drop 0 = dktX1_court_0 := by decide +kernel
theorem dksX1_court_1 : cX1_court.data.toList.drop 24 = dktX1_court_1 := dk_seg dksX1_court_0 24 rfl rfl
theorem dX1_court_0 : decode cX1_court 0 = .ok (.aload_n 0, 1) := dk_42 (dk_at dksX1_court_0 0 rfl rfl)
theorem dX1_court_1 : decode cX1_court 1 = .ok (.iload_n 1, 1) := dk_27 (dk_at dksX1_court_0 1 rfl rfl)
theorem dX1_court_2 : decode cX1_court 2 = .ok (.invokevirtual 155, 3) := dk_182 0 155 (dk_at dksX1_court_0 2 rfl rfl)
theorem dX1_court_5 : decode cX1_court 5 = .ok (.ifCond .ne 5, 3) := dk_154 0 5 (dk_at dksX1_court_0 5 rfl rfl)
theorem dX1_court_8 : decode cX1_court 8 = .ok (.iconst (-1), 1) := dk_2 (dk_at dksX1_court_0 8 rfl rfl)
theorem dX1_court_9 : decode cX1_court 9 = .ok (.ireturn, 1) := dk_172 (dk_at dksX1_court_0 9 rfl rfl)
theorem dX1_court_10 : decode cX1_court 10 = .ok (.aload_n 0, 1) := dk_42 (dk_at dksX1_court_0 10 rfl rfl)
theorem dX1_court_11 : decode cX1_court 11 = .ok (.getfield 158, 3) := dk_180 0 158 (dk_at dksX1_court_0 11 rfl rfl)
theorem dX1_court_14 : decode cX1_court 14 = .ok (.iload_n 1, 1) := dk_27 (dk_at dksX1_court_0 14 rfl rfl)
theorem dX1_court_15 : decode cX1_court 15 = .ok (.aaload, 1) := dk_50 (dk_at dksX1_court_0 15 rfl rfl)
theorem dX1_court_16 : decode cX1_court 16 = .ok (.getfield 162, 3) := dk_180 0 162 (dk_at dksX1_court_0 16 rfl rfl)
theorem dX1_court_19 : decode cX1_court 19 = .ok (.checkcast 168, 3) := dk_192 0 168 (dk_at dksX1_court_0 19 rfl rfl)
theorem dX1_court_22 : decode cX1_court 22 = .ok (.astore_n 2, 1) := dk_77 (dk_at dksX1_court_0 22 rfl rfl)
theorem dX1_court_23 : decode cX1_court 23 = .ok (.aload_n 2, 1) := dk_44 (dk_at dksX1_court_0 23 rfl rfl)
theorem dX1_court_24 : decode cX1_court 24 = .ok (.ifnonnull 8, 3) := dk_199 0 8 (dk_at dksX1_court_1 0 rfl rfl)
theorem dX1_court_27 : decode cX1_court 27 = .ok (.bipush (-11), 2) := dk_16 245 (dk_at dksX1_court_1 3 rfl rfl)
theorem dX1_court_29 : decode cX1_court 29 = .ok (.goto 8, 3) := dk_167 0 8 (dk_at dksX1_court_1 5 rfl rfl)
theorem dX1_court_32 : decode cX1_court 32 = .ok (.aload_n 0, 1) := dk_42 (dk_at dksX1_court_1 8 rfl rfl)
theorem dX1_court_33 : decode cX1_court 33 = .ok (.aload_n 2, 1) := dk_44 (dk_at dksX1_court_1 9 rfl rfl)
theorem dX1_court_34 : decode cX1_court 34 = .ok (.invokevirtual 170, 3) := dk_182 0 170 (dk_at dksX1_court_1 10 rfl rfl)
theorem dX1_court_37 : decode cX1_court 37 = .ok (.ireturn, 1) := dk_172 (dk_at dksX1_court_1 13 rfl rfl)
theorem dX1_court_38 : decode cX1_court 38 = .ok (.astore_n 2, 1) := dk_77 (dk_at dksX1_court_1 14 rfl rfl)
theorem dX1_court_39 : decode cX1_court 39 = .ok (.bipush (-12), 2) := dk_16 244 (dk_at dksX1_court_1 15 rfl rfl)
theorem dX1_court_41 : decode cX1_court 41 = .ok (.ireturn, 1) := dk_172 (dk_at dksX1_court_1 17 rfl rfl)
theorem dX1_court_42 : decode cX1_court 42 = .ok (.astore_n 2, 1) := dk_77 (dk_at dksX1_court_1 18 rfl rfl)
theorem dX1_court_43 : decode cX1_court 43 = .ok (.aload_n 2, 1) := dk_44 (dk_at dksX1_court_1 19 rfl rfl)
theorem dX1_court_44 : decode cX1_court 44 = .ok (.getfield 176, 3) := dk_180 0 176 (dk_at dksX1_court_1 20 rfl rfl)
theorem dX1_court_47 : decode cX1_court 47 = .ok (.ireturn, 1) := dk_172 (dk_at dksX1_court_1 23 rfl rfl)
abbrev cX1_isShelf : ByteArray := prog_1_method_7_code
def yX1_isShelf : MethodName := ⟨RX1, "isShelf", "(I)Z"⟩
def dkwX1_isShelf_0 : List UInt8 := [27, 3, 16, 7, 184, 0, 42, 172]
abbrev dktX1_isShelf_0 : List UInt8 := dkwX1_isShelf_0 ++ []
theorem dksX1_isShelf_0 : cX1_isShelf.data.toList.drop 0 = dktX1_isShelf_0 := by decide +kernel
theorem dX1_isShelf_0 : decode cX1_isShelf 0 = .ok (.iload_n 1, 1) := dk_27 (dk_at dksX1_isShelf_0 0 rfl rfl)
theorem dX1_isShelf_1 : decode cX1_isShelf 1 = .ok (.iconst 0, 1) := dk_3 (dk_at dksX1_isShelf_0 1 rfl rfl)
theorem dX1_isShelf_2 : decode cX1_isShelf 2 = .ok (.bipush 7, 2) := dk_16 7 (dk_at dksX1_isShelf_0 2 rfl rfl)
theorem dX1_isShelf_4 : decode cX1_isShelf 4 = .ok (.invokestatic 42, 3) := dk_184 0 42 (dk_at dksX1_isShelf_0 4 rfl rfl)
theorem dX1_isShelf_7 : decode cX1_isShelf 7 = .ok (.ireturn, 1) := dk_172 (dk_at dksX1_isShelf_0 7 rfl rfl)
abbrev cX1_isIn : ByteArray := prog_1_method_1_code
def yX1_isIn : MethodName := ⟨RX1, "isIn", "(III)Z"⟩
def dkwX1_isIn_0 : List UInt8 := [26, 27, 161, 0, 12, 26, 28, 163, 0, 7, 4, 167, 0, 4, 3, 172]
abbrev dktX1_isIn_0 : List UInt8 := dkwX1_isIn_0 ++ []
theorem dksX1_isIn_0 : cX1_isIn.data.toList.drop 0 = dktX1_isIn_0 := by decide +kernel
theorem dX1_isIn_0 : decode cX1_isIn 0 = .ok (.iload_n 0, 1) := dk_26 (dk_at dksX1_isIn_0 0 rfl rfl)
theorem dX1_isIn_1 : decode cX1_isIn 1 = .ok (.iload_n 1, 1) := dk_27 (dk_at dksX1_isIn_0 1 rfl rfl)
theorem dX1_isIn_2 : decode cX1_isIn 2 = .ok (.if_icmp .lt 12, 3) := dk_161 0 12 (dk_at dksX1_isIn_0 2 rfl rfl)
theorem dX1_isIn_5 : decode cX1_isIn 5 = .ok (.iload_n 0, 1) := dk_26 (dk_at dksX1_isIn_0 5 rfl rfl)
theorem dX1_isIn_6 : decode cX1_isIn 6 = .ok (.iload_n 2, 1) := dk_28 (dk_at dksX1_isIn_0 6 rfl rfl)
theorem dX1_isIn_7 : decode cX1_isIn 7 = .ok (.if_icmp .gt 7, 3) := dk_163 0 7 (dk_at dksX1_isIn_0 7 rfl rfl)
theorem dX1_isIn_10 : decode cX1_isIn 10 = .ok (.iconst 1, 1) := dk_4 (dk_at dksX1_isIn_0 10 rfl rfl)
theorem dX1_isIn_11 : decode cX1_isIn 11 = .ok (.goto 4, 3) := dk_167 0 4 (dk_at dksX1_isIn_0 11 rfl rfl)
theorem dX1_isIn_14 : decode cX1_isIn 14 = .ok (.iconst 0, 1) := dk_3 (dk_at dksX1_isIn_0 14 rfl rfl)
theorem dX1_isIn_15 : decode cX1_isIn 15 = .ok (.ireturn, 1) := dk_172 (dk_at dksX1_isIn_0 15 rfl rfl)
abbrev cX1_reads : ByteArray := prog_1_method_16_code
def yX1_reads : MethodName := ⟨RX1, "reads", "([B)I"⟩
def dkwX1_reads_3 : List UInt8 := [167, 255, 214, 42, 180, 0, 140, 42, 180, 0, 68, 182, 0, 143, 28, 172]
abbrev dktX1_reads_3 : List UInt8 := dkwX1_reads_3 ++ []
def dkwX1_reads_2 : List UInt8 := [187, 0, 150, 89, 17, 248, 48, 42, 180, 0, 132, 29, 50, 180, 0, 152, 100, 183, 0, 154, 191, 132, 3, 1]
abbrev dktX1_reads_2 : List UInt8 := dkwX1_reads_2 ++ dktX1_reads_3
def dkwX1_reads_1 : List UInt8 := [182, 0, 143, 3, 62, 29, 28, 162, 0, 43, 42, 42, 180, 0, 132, 29, 50, 182, 0, 147, 154, 0, 24]
abbrev dktX1_reads_1 : List UInt8 := dkwX1_reads_1 ++ dktX1_reads_2
def dkwX1_reads_0 : List UInt8 := [187, 0, 127, 89, 43, 183, 0, 129, 42, 180, 0, 132, 182, 0, 136, 61, 42, 180, 0, 68, 42, 180, 0, 140]
abbrev dktX1_reads_0 : List UInt8 := dkwX1_reads_0 ++ dktX1_reads_1
theorem dksX1_reads_0 : cX1_reads.data.toList.drop 0 = dktX1_reads_0 := by decide +kernel
theorem dksX1_reads_1 : cX1_reads.data.toList.drop 24 = dktX1_reads_1 := dk_seg dksX1_reads_0 24 rfl rfl
theorem dksX1_reads_2 : cX1_reads.data.toList.drop 47 = dktX1_reads_2 := dk_seg dksX1_reads_1 23 rfl rfl
theorem dksX1_reads_3 : cX1_reads.data.toList.drop 71 = dktX1_reads_3 := dk_seg dksX1_reads_2 24 rfl rfl
theorem dX1_reads_0 : decode cX1_reads 0 = .ok (.new 127, 3) := dk_187 0 127 (dk_at dksX1_reads_0 0 rfl rfl)
theorem dX1_reads_3 : decode cX1_reads 3 = .ok (.dup, 1) := dk_89 (dk_at dksX1_reads_0 3 rfl rfl)
theorem dX1_reads_4 : decode cX1_reads 4 = .ok (.aload_n 1, 1) := dk_43 (dk_at dksX1_reads_0 4 rfl rfl)
theorem dX1_reads_5 : decode cX1_reads 5 = .ok (.invokespecial 129, 3) := dk_183 0 129 (dk_at dksX1_reads_0 5 rfl rfl)
theorem dX1_reads_8 : decode cX1_reads 8 = .ok (.aload_n 0, 1) := dk_42 (dk_at dksX1_reads_0 8 rfl rfl)
theorem dX1_reads_9 : decode cX1_reads 9 = .ok (.getfield 132, 3) := dk_180 0 132 (dk_at dksX1_reads_0 9 rfl rfl)
theorem dX1_reads_12 : decode cX1_reads 12 = .ok (.invokevirtual 136, 3) := dk_182 0 136 (dk_at dksX1_reads_0 12 rfl rfl)
theorem dX1_reads_15 : decode cX1_reads 15 = .ok (.istore_n 2, 1) := dk_61 (dk_at dksX1_reads_0 15 rfl rfl)
theorem dX1_reads_16 : decode cX1_reads 16 = .ok (.aload_n 0, 1) := dk_42 (dk_at dksX1_reads_0 16 rfl rfl)
theorem dX1_reads_17 : decode cX1_reads 17 = .ok (.getfield 68, 3) := dk_180 0 68 (dk_at dksX1_reads_0 17 rfl rfl)
theorem dX1_reads_20 : decode cX1_reads 20 = .ok (.aload_n 0, 1) := dk_42 (dk_at dksX1_reads_0 20 rfl rfl)
theorem dX1_reads_21 : decode cX1_reads 21 = .ok (.getfield 140, 3) := dk_180 0 140 (dk_at dksX1_reads_0 21 rfl rfl)
theorem dX1_reads_24 : decode cX1_reads 24 = .ok (.invokevirtual 143, 3) := dk_182 0 143 (dk_at dksX1_reads_1 0 rfl rfl)
theorem dX1_reads_27 : decode cX1_reads 27 = .ok (.iconst 0, 1) := dk_3 (dk_at dksX1_reads_1 3 rfl rfl)
theorem dX1_reads_28 : decode cX1_reads 28 = .ok (.istore_n 3, 1) := dk_62 (dk_at dksX1_reads_1 4 rfl rfl)
theorem dX1_reads_29 : decode cX1_reads 29 = .ok (.iload_n 3, 1) := dk_29 (dk_at dksX1_reads_1 5 rfl rfl)
theorem dX1_reads_30 : decode cX1_reads 30 = .ok (.iload_n 2, 1) := dk_28 (dk_at dksX1_reads_1 6 rfl rfl)
theorem dX1_reads_31 : decode cX1_reads 31 = .ok (.if_icmp .ge 43, 3) := dk_162 0 43 (dk_at dksX1_reads_1 7 rfl rfl)
theorem dX1_reads_34 : decode cX1_reads 34 = .ok (.aload_n 0, 1) := dk_42 (dk_at dksX1_reads_1 10 rfl rfl)
theorem dX1_reads_35 : decode cX1_reads 35 = .ok (.aload_n 0, 1) := dk_42 (dk_at dksX1_reads_1 11 rfl rfl)
theorem dX1_reads_36 : decode cX1_reads 36 = .ok (.getfield 132, 3) := dk_180 0 132 (dk_at dksX1_reads_1 12 rfl rfl)
theorem dX1_reads_39 : decode cX1_reads 39 = .ok (.iload_n 3, 1) := dk_29 (dk_at dksX1_reads_1 15 rfl rfl)
theorem dX1_reads_40 : decode cX1_reads 40 = .ok (.aaload, 1) := dk_50 (dk_at dksX1_reads_1 16 rfl rfl)
theorem dX1_reads_41 : decode cX1_reads 41 = .ok (.invokevirtual 147, 3) := dk_182 0 147 (dk_at dksX1_reads_1 17 rfl rfl)
theorem dX1_reads_44 : decode cX1_reads 44 = .ok (.ifCond .ne 24, 3) := dk_154 0 24 (dk_at dksX1_reads_1 20 rfl rfl)
theorem dX1_reads_47 : decode cX1_reads 47 = .ok (.new 150, 3) := dk_187 0 150 (dk_at dksX1_reads_2 0 rfl rfl)
theorem dX1_reads_50 : decode cX1_reads 50 = .ok (.dup, 1) := dk_89 (dk_at dksX1_reads_2 3 rfl rfl)
theorem dX1_reads_51 : decode cX1_reads 51 = .ok (.sipush (-2000), 3) := dk_17 248 48 (dk_at dksX1_reads_2 4 rfl rfl)
theorem dX1_reads_54 : decode cX1_reads 54 = .ok (.aload_n 0, 1) := dk_42 (dk_at dksX1_reads_2 7 rfl rfl)
theorem dX1_reads_55 : decode cX1_reads 55 = .ok (.getfield 132, 3) := dk_180 0 132 (dk_at dksX1_reads_2 8 rfl rfl)
theorem dX1_reads_58 : decode cX1_reads 58 = .ok (.iload_n 3, 1) := dk_29 (dk_at dksX1_reads_2 11 rfl rfl)
theorem dX1_reads_59 : decode cX1_reads 59 = .ok (.aaload, 1) := dk_50 (dk_at dksX1_reads_2 12 rfl rfl)
theorem dX1_reads_60 : decode cX1_reads 60 = .ok (.getfield 152, 3) := dk_180 0 152 (dk_at dksX1_reads_2 13 rfl rfl)
theorem dX1_reads_63 : decode cX1_reads 63 = .ok (.isub, 1) := dk_100 (dk_at dksX1_reads_2 16 rfl rfl)
theorem dX1_reads_64 : decode cX1_reads 64 = .ok (.invokespecial 154, 3) := dk_183 0 154 (dk_at dksX1_reads_2 17 rfl rfl)
theorem dX1_reads_67 : decode cX1_reads 67 = .ok (.athrow, 1) := dk_191 (dk_at dksX1_reads_2 20 rfl rfl)
theorem dX1_reads_68 : decode cX1_reads 68 = .ok (.iinc 3 1, 3) := dk_132 3 1 (dk_at dksX1_reads_2 21 rfl rfl)
theorem dX1_reads_71 : decode cX1_reads 71 = .ok (.goto (-42), 3) := dk_167 255 214 (dk_at dksX1_reads_3 0 rfl rfl)
theorem dX1_reads_74 : decode cX1_reads 74 = .ok (.aload_n 0, 1) := dk_42 (dk_at dksX1_reads_3 3 rfl rfl)
theorem dX1_reads_75 : decode cX1_reads 75 = .ok (.getfield 140, 3) := dk_180 0 140 (dk_at dksX1_reads_3 4 rfl rfl)
theorem dX1_reads_78 : decode cX1_reads 78 = .ok (.aload_n 0, 1) := dk_42 (dk_at dksX1_reads_3 7 rfl rfl)
theorem dX1_reads_79 : decode cX1_reads 79 = .ok (.getfield 68, 3) := dk_180 0 68 (dk_at dksX1_reads_3 8 rfl rfl)
theorem dX1_reads_82 : decode cX1_reads 82 = .ok (.invokevirtual 143, 3) := dk_182 0 143 (dk_at dksX1_reads_3 11 rfl rfl)
theorem dX1_reads_85 : decode cX1_reads 85 = .ok (.iload_n 2, 1) := dk_28 (dk_at dksX1_reads_3 14 rfl rfl)
theorem dX1_reads_86 : decode cX1_reads 86 = .ok (.ireturn, 1) := dk_172 (dk_at dksX1_reads_3 15 rfl rfl)
abbrev cX1_comes : ByteArray := prog_1_method_15_code
def yX1_comes : MethodName := ⟨RX1, "comes", "(LSideBySide$Told;)Z"⟩
def dkwX1_comes_8 : List UInt8 := [42, 43, 182, 0, 123, 172]
abbrev dktX1_comes_8 : List UInt8 := dkwX1_comes_8 ++ []
def dkwX1_comes_7 : List UInt8 := [44, 3, 46, 5, 163, 0, 7, 4, 167, 0, 4, 3, 172, 42, 44, 3, 46, 44, 4, 46, 182, 0, 120, 172]
abbrev dktX1_comes_7 : List UInt8 := dkwX1_comes_7 ++ dktX1_comes_8
def dkwX1_comes_6 : List UInt8 := [180, 0, 114, 44, 3, 46, 44, 4, 46, 79, 4, 172, 42, 180, 0, 68, 44, 3, 46, 4, 100, 181, 0, 117]
abbrev dktX1_comes_6 : List UInt8 := dkwX1_comes_6 ++ dktX1_comes_7
def dkwX1_comes_5 : List UInt8 := [46, 79, 4, 172, 44, 3, 46, 4, 163, 0, 10, 44, 4, 46, 6, 164, 0, 5, 3, 172, 42, 180, 0, 68]
abbrev dktX1_comes_5 : List UInt8 := dkwX1_comes_5 ++ dktX1_comes_6
def dkwX1_comes_4 : List UInt8 := [163, 0, 10, 44, 4, 46, 4, 164, 0, 5, 3, 172, 42, 180, 0, 68, 180, 0, 111, 44, 3, 46, 44, 4]
abbrev dktX1_comes_4 : List UInt8 := dkwX1_comes_4 ++ dktX1_comes_5
def dkwX1_comes_3 : List UInt8 := [180, 0, 68, 44, 3, 46, 44, 4, 46, 184, 0, 103, 182, 0, 107, 87, 4, 172, 44, 3, 46, 4]
abbrev dktX1_comes_3 : List UInt8 := dkwX1_comes_3 ++ dktX1_comes_4
def dkwX1_comes_2 : List UInt8 := [44, 3, 46, 16, 8, 162, 0, 15, 42, 180, 0, 68, 180, 0, 100, 16, 8, 160, 0, 5, 3, 172, 42]
abbrev dktX1_comes_2 : List UInt8 := dkwX1_comes_2 ++ dktX1_comes_3
def dkwX1_comes_1 : List UInt8 := [171, 0, 0, 0, 0, 0, 192, 0, 0, 0, 5, 0, 0, 0, 98, 0, 0, 0, 51, 0, 0, 0, 100, 0, 0, 0, 156, 0, 0, 0, 102, 0, 0, 0, 92, 0, 0, 0, 104, 0, 0, 0, 124, 0, 0, 0, 120, 0, 0, 0, 181]
abbrev dktX1_comes_1 : List UInt8 := dkwX1_comes_1 ++ dktX1_comes_2
def dkwX1_comes_0 : List UInt8 := [43, 180, 0, 56, 77, 43, 180, 0, 65]
abbrev dktX1_comes_0 : List UInt8 := dkwX1_comes_0 ++ dktX1_comes_1
theorem dksX1_comes_0 : cX1_comes.data.toList.drop 0 = dktX1_comes_0 := by decide +kernel
theorem dksX1_comes_1 : cX1_comes.data.toList.drop 9 = dktX1_comes_1 := dk_seg dksX1_comes_0 9 rfl rfl
theorem dksX1_comes_2 : cX1_comes.data.toList.drop 60 = dktX1_comes_2 := dk_seg dksX1_comes_1 51 rfl rfl
theorem dksX1_comes_3 : cX1_comes.data.toList.drop 83 = dktX1_comes_3 := dk_seg dksX1_comes_2 23 rfl rfl
theorem dksX1_comes_4 : cX1_comes.data.toList.drop 105 = dktX1_comes_4 := dk_seg dksX1_comes_3 22 rfl rfl
theorem dksX1_comes_5 : cX1_comes.data.toList.drop 129 = dktX1_comes_5 := dk_seg dksX1_comes_4 24 rfl rfl
theorem dksX1_comes_6 : cX1_comes.data.toList.drop 153 = dktX1_comes_6 := dk_seg dksX1_comes_5 24 rfl rfl
theorem dksX1_comes_7 : cX1_comes.data.toList.drop 177 = dktX1_comes_7 := dk_seg dksX1_comes_6 24 rfl rfl
theorem dksX1_comes_8 : cX1_comes.data.toList.drop 201 = dktX1_comes_8 := dk_seg dksX1_comes_7 24 rfl rfl
theorem dX1_comes_0 : decode cX1_comes 0 = .ok (.aload_n 1, 1) := dk_43 (dk_at dksX1_comes_0 0 rfl rfl)
theorem dX1_comes_1 : decode cX1_comes 1 = .ok (.getfield 56, 3) := dk_180 0 56 (dk_at dksX1_comes_0 1 rfl rfl)
theorem dX1_comes_4 : decode cX1_comes 4 = .ok (.astore_n 2, 1) := dk_77 (dk_at dksX1_comes_0 4 rfl rfl)
theorem dX1_comes_5 : decode cX1_comes 5 = .ok (.aload_n 1, 1) := dk_43 (dk_at dksX1_comes_0 5 rfl rfl)
theorem dX1_comes_6 : decode cX1_comes 6 = .ok (.getfield 65, 3) := dk_180 0 65 (dk_at dksX1_comes_0 6 rfl rfl)
theorem dX1_comes_9 : decode cX1_comes 9 = .ok (.lookupswitch 192 #[(98, 51), (100, 156), (102, 92), (104, 124), (120, 181)], 51) := by decide +kernel
theorem dX1_comes_60 : decode cX1_comes 60 = .ok (.aload_n 2, 1) := dk_44 (dk_at dksX1_comes_2 0 rfl rfl)
theorem dX1_comes_61 : decode cX1_comes 61 = .ok (.iconst 0, 1) := dk_3 (dk_at dksX1_comes_2 1 rfl rfl)
theorem dX1_comes_62 : decode cX1_comes 62 = .ok (.iaload, 1) := dk_46 (dk_at dksX1_comes_2 2 rfl rfl)
theorem dX1_comes_63 : decode cX1_comes 63 = .ok (.bipush 8, 2) := dk_16 8 (dk_at dksX1_comes_2 3 rfl rfl)
theorem dX1_comes_65 : decode cX1_comes 65 = .ok (.if_icmp .ge 15, 3) := dk_162 0 15 (dk_at dksX1_comes_2 5 rfl rfl)
theorem dX1_comes_68 : decode cX1_comes 68 = .ok (.aload_n 0, 1) := dk_42 (dk_at dksX1_comes_2 8 rfl rfl)
theorem dX1_comes_69 : decode cX1_comes 69 = .ok (.getfield 68, 3) := dk_180 0 68 (dk_at dksX1_comes_2 9 rfl rfl)
theorem dX1_comes_72 : decode cX1_comes 72 = .ok (.getfield 100, 3) := dk_180 0 100 (dk_at dksX1_comes_2 12 rfl rfl)
theorem dX1_comes_75 : decode cX1_comes 75 = .ok (.bipush 8, 2) := dk_16 8 (dk_at dksX1_comes_2 15 rfl rfl)
theorem dX1_comes_77 : decode cX1_comes 77 = .ok (.if_icmp .ne 5, 3) := dk_160 0 5 (dk_at dksX1_comes_2 17 rfl rfl)
theorem dX1_comes_80 : decode cX1_comes 80 = .ok (.iconst 0, 1) := dk_3 (dk_at dksX1_comes_2 20 rfl rfl)
theorem dX1_comes_81 : decode cX1_comes 81 = .ok (.ireturn, 1) := dk_172 (dk_at dksX1_comes_2 21 rfl rfl)
theorem dX1_comes_82 : decode cX1_comes 82 = .ok (.aload_n 0, 1) := dk_42 (dk_at dksX1_comes_2 22 rfl rfl)
theorem dX1_comes_83 : decode cX1_comes 83 = .ok (.getfield 68, 3) := dk_180 0 68 (dk_at dksX1_comes_3 0 rfl rfl)
theorem dX1_comes_86 : decode cX1_comes 86 = .ok (.aload_n 2, 1) := dk_44 (dk_at dksX1_comes_3 3 rfl rfl)
theorem dX1_comes_87 : decode cX1_comes 87 = .ok (.iconst 0, 1) := dk_3 (dk_at dksX1_comes_3 4 rfl rfl)
theorem dX1_comes_88 : decode cX1_comes 88 = .ok (.iaload, 1) := dk_46 (dk_at dksX1_comes_3 5 rfl rfl)
theorem dX1_comes_89 : decode cX1_comes 89 = .ok (.aload_n 2, 1) := dk_44 (dk_at dksX1_comes_3 6 rfl rfl)
theorem dX1_comes_90 : decode cX1_comes 90 = .ok (.iconst 1, 1) := dk_4 (dk_at dksX1_comes_3 7 rfl rfl)
theorem dX1_comes_91 : decode cX1_comes 91 = .ok (.iaload, 1) := dk_46 (dk_at dksX1_comes_3 8 rfl rfl)
theorem dX1_comes_92 : decode cX1_comes 92 = .ok (.invokestatic 103, 3) := dk_184 0 103 (dk_at dksX1_comes_3 9 rfl rfl)
theorem dX1_comes_95 : decode cX1_comes 95 = .ok (.invokevirtual 107, 3) := dk_182 0 107 (dk_at dksX1_comes_3 12 rfl rfl)
theorem dX1_comes_98 : decode cX1_comes 98 = .ok (.pop, 1) := dk_87 (dk_at dksX1_comes_3 15 rfl rfl)
theorem dX1_comes_99 : decode cX1_comes 99 = .ok (.iconst 1, 1) := dk_4 (dk_at dksX1_comes_3 16 rfl rfl)
theorem dX1_comes_100 : decode cX1_comes 100 = .ok (.ireturn, 1) := dk_172 (dk_at dksX1_comes_3 17 rfl rfl)
theorem dX1_comes_101 : decode cX1_comes 101 = .ok (.aload_n 2, 1) := dk_44 (dk_at dksX1_comes_3 18 rfl rfl)
theorem dX1_comes_102 : decode cX1_comes 102 = .ok (.iconst 0, 1) := dk_3 (dk_at dksX1_comes_3 19 rfl rfl)
theorem dX1_comes_103 : decode cX1_comes 103 = .ok (.iaload, 1) := dk_46 (dk_at dksX1_comes_3 20 rfl rfl)
theorem dX1_comes_104 : decode cX1_comes 104 = .ok (.iconst 1, 1) := dk_4 (dk_at dksX1_comes_3 21 rfl rfl)
theorem dX1_comes_105 : decode cX1_comes 105 = .ok (.if_icmp .gt 10, 3) := dk_163 0 10 (dk_at dksX1_comes_4 0 rfl rfl)
theorem dX1_comes_108 : decode cX1_comes 108 = .ok (.aload_n 2, 1) := dk_44 (dk_at dksX1_comes_4 3 rfl rfl)
theorem dX1_comes_109 : decode cX1_comes 109 = .ok (.iconst 1, 1) := dk_4 (dk_at dksX1_comes_4 4 rfl rfl)
theorem dX1_comes_110 : decode cX1_comes 110 = .ok (.iaload, 1) := dk_46 (dk_at dksX1_comes_4 5 rfl rfl)
theorem dX1_comes_111 : decode cX1_comes 111 = .ok (.iconst 1, 1) := dk_4 (dk_at dksX1_comes_4 6 rfl rfl)
theorem dX1_comes_112 : decode cX1_comes 112 = .ok (.if_icmp .le 5, 3) := dk_164 0 5 (dk_at dksX1_comes_4 7 rfl rfl)
theorem dX1_comes_115 : decode cX1_comes 115 = .ok (.iconst 0, 1) := dk_3 (dk_at dksX1_comes_4 10 rfl rfl)
theorem dX1_comes_116 : decode cX1_comes 116 = .ok (.ireturn, 1) := dk_172 (dk_at dksX1_comes_4 11 rfl rfl)
theorem dX1_comes_117 : decode cX1_comes 117 = .ok (.aload_n 0, 1) := dk_42 (dk_at dksX1_comes_4 12 rfl rfl)
theorem dX1_comes_118 : decode cX1_comes 118 = .ok (.getfield 68, 3) := dk_180 0 68 (dk_at dksX1_comes_4 13 rfl rfl)
theorem dX1_comes_121 : decode cX1_comes 121 = .ok (.getfield 111, 3) := dk_180 0 111 (dk_at dksX1_comes_4 16 rfl rfl)
theorem dX1_comes_124 : decode cX1_comes 124 = .ok (.aload_n 2, 1) := dk_44 (dk_at dksX1_comes_4 19 rfl rfl)
theorem dX1_comes_125 : decode cX1_comes 125 = .ok (.iconst 0, 1) := dk_3 (dk_at dksX1_comes_4 20 rfl rfl)
theorem dX1_comes_126 : decode cX1_comes 126 = .ok (.iaload, 1) := dk_46 (dk_at dksX1_comes_4 21 rfl rfl)
theorem dX1_comes_127 : decode cX1_comes 127 = .ok (.aload_n 2, 1) := dk_44 (dk_at dksX1_comes_4 22 rfl rfl)
theorem dX1_comes_128 : decode cX1_comes 128 = .ok (.iconst 1, 1) := dk_4 (dk_at dksX1_comes_4 23 rfl rfl)
theorem dX1_comes_129 : decode cX1_comes 129 = .ok (.iaload, 1) := dk_46 (dk_at dksX1_comes_5 0 rfl rfl)
theorem dX1_comes_130 : decode cX1_comes 130 = .ok (.iastore, 1) := dk_79 (dk_at dksX1_comes_5 1 rfl rfl)
theorem dX1_comes_131 : decode cX1_comes 131 = .ok (.iconst 1, 1) := dk_4 (dk_at dksX1_comes_5 2 rfl rfl)
theorem dX1_comes_132 : decode cX1_comes 132 = .ok (.ireturn, 1) := dk_172 (dk_at dksX1_comes_5 3 rfl rfl)
theorem dX1_comes_133 : decode cX1_comes 133 = .ok (.aload_n 2, 1) := dk_44 (dk_at dksX1_comes_5 4 rfl rfl)
theorem dX1_comes_134 : decode cX1_comes 134 = .ok (.iconst 0, 1) := dk_3 (dk_at dksX1_comes_5 5 rfl rfl)
theorem dX1_comes_135 : decode cX1_comes 135 = .ok (.iaload, 1) := dk_46 (dk_at dksX1_comes_5 6 rfl rfl)
theorem dX1_comes_136 : decode cX1_comes 136 = .ok (.iconst 1, 1) := dk_4 (dk_at dksX1_comes_5 7 rfl rfl)
theorem dX1_comes_137 : decode cX1_comes 137 = .ok (.if_icmp .gt 10, 3) := dk_163 0 10 (dk_at dksX1_comes_5 8 rfl rfl)
theorem dX1_comes_140 : decode cX1_comes 140 = .ok (.aload_n 2, 1) := dk_44 (dk_at dksX1_comes_5 11 rfl rfl)
theorem dX1_comes_141 : decode cX1_comes 141 = .ok (.iconst 1, 1) := dk_4 (dk_at dksX1_comes_5 12 rfl rfl)
theorem dX1_comes_142 : decode cX1_comes 142 = .ok (.iaload, 1) := dk_46 (dk_at dksX1_comes_5 13 rfl rfl)
theorem dX1_comes_143 : decode cX1_comes 143 = .ok (.iconst 3, 1) := dk_6 (dk_at dksX1_comes_5 14 rfl rfl)
theorem dX1_comes_144 : decode cX1_comes 144 = .ok (.if_icmp .le 5, 3) := dk_164 0 5 (dk_at dksX1_comes_5 15 rfl rfl)
theorem dX1_comes_147 : decode cX1_comes 147 = .ok (.iconst 0, 1) := dk_3 (dk_at dksX1_comes_5 18 rfl rfl)
theorem dX1_comes_148 : decode cX1_comes 148 = .ok (.ireturn, 1) := dk_172 (dk_at dksX1_comes_5 19 rfl rfl)
theorem dX1_comes_149 : decode cX1_comes 149 = .ok (.aload_n 0, 1) := dk_42 (dk_at dksX1_comes_5 20 rfl rfl)
theorem dX1_comes_150 : decode cX1_comes 150 = .ok (.getfield 68, 3) := dk_180 0 68 (dk_at dksX1_comes_5 21 rfl rfl)
theorem dX1_comes_153 : decode cX1_comes 153 = .ok (.getfield 114, 3) := dk_180 0 114 (dk_at dksX1_comes_6 0 rfl rfl)
theorem dX1_comes_156 : decode cX1_comes 156 = .ok (.aload_n 2, 1) := dk_44 (dk_at dksX1_comes_6 3 rfl rfl)
theorem dX1_comes_157 : decode cX1_comes 157 = .ok (.iconst 0, 1) := dk_3 (dk_at dksX1_comes_6 4 rfl rfl)
theorem dX1_comes_158 : decode cX1_comes 158 = .ok (.iaload, 1) := dk_46 (dk_at dksX1_comes_6 5 rfl rfl)
theorem dX1_comes_159 : decode cX1_comes 159 = .ok (.aload_n 2, 1) := dk_44 (dk_at dksX1_comes_6 6 rfl rfl)
theorem dX1_comes_160 : decode cX1_comes 160 = .ok (.iconst 1, 1) := dk_4 (dk_at dksX1_comes_6 7 rfl rfl)
theorem dX1_comes_161 : decode cX1_comes 161 = .ok (.iaload, 1) := dk_46 (dk_at dksX1_comes_6 8 rfl rfl)
theorem dX1_comes_162 : decode cX1_comes 162 = .ok (.iastore, 1) := dk_79 (dk_at dksX1_comes_6 9 rfl rfl)
theorem dX1_comes_163 : decode cX1_comes 163 = .ok (.iconst 1, 1) := dk_4 (dk_at dksX1_comes_6 10 rfl rfl)
theorem dX1_comes_164 : decode cX1_comes 164 = .ok (.ireturn, 1) := dk_172 (dk_at dksX1_comes_6 11 rfl rfl)
theorem dX1_comes_165 : decode cX1_comes 165 = .ok (.aload_n 0, 1) := dk_42 (dk_at dksX1_comes_6 12 rfl rfl)
theorem dX1_comes_166 : decode cX1_comes 166 = .ok (.getfield 68, 3) := dk_180 0 68 (dk_at dksX1_comes_6 13 rfl rfl)
theorem dX1_comes_169 : decode cX1_comes 169 = .ok (.aload_n 2, 1) := dk_44 (dk_at dksX1_comes_6 16 rfl rfl)
theorem dX1_comes_170 : decode cX1_comes 170 = .ok (.iconst 0, 1) := dk_3 (dk_at dksX1_comes_6 17 rfl rfl)
theorem dX1_comes_171 : decode cX1_comes 171 = .ok (.iaload, 1) := dk_46 (dk_at dksX1_comes_6 18 rfl rfl)
theorem dX1_comes_172 : decode cX1_comes 172 = .ok (.iconst 1, 1) := dk_4 (dk_at dksX1_comes_6 19 rfl rfl)
theorem dX1_comes_173 : decode cX1_comes 173 = .ok (.isub, 1) := dk_100 (dk_at dksX1_comes_6 20 rfl rfl)
theorem dX1_comes_174 : decode cX1_comes 174 = .ok (.putfield 117, 3) := dk_181 0 117 (dk_at dksX1_comes_6 21 rfl rfl)
theorem dX1_comes_177 : decode cX1_comes 177 = .ok (.aload_n 2, 1) := dk_44 (dk_at dksX1_comes_7 0 rfl rfl)
theorem dX1_comes_178 : decode cX1_comes 178 = .ok (.iconst 0, 1) := dk_3 (dk_at dksX1_comes_7 1 rfl rfl)
theorem dX1_comes_179 : decode cX1_comes 179 = .ok (.iaload, 1) := dk_46 (dk_at dksX1_comes_7 2 rfl rfl)
theorem dX1_comes_180 : decode cX1_comes 180 = .ok (.iconst 2, 1) := dk_5 (dk_at dksX1_comes_7 3 rfl rfl)
theorem dX1_comes_181 : decode cX1_comes 181 = .ok (.if_icmp .gt 7, 3) := dk_163 0 7 (dk_at dksX1_comes_7 4 rfl rfl)
theorem dX1_comes_184 : decode cX1_comes 184 = .ok (.iconst 1, 1) := dk_4 (dk_at dksX1_comes_7 7 rfl rfl)
theorem dX1_comes_185 : decode cX1_comes 185 = .ok (.goto 4, 3) := dk_167 0 4 (dk_at dksX1_comes_7 8 rfl rfl)
theorem dX1_comes_188 : decode cX1_comes 188 = .ok (.iconst 0, 1) := dk_3 (dk_at dksX1_comes_7 11 rfl rfl)
theorem dX1_comes_189 : decode cX1_comes 189 = .ok (.ireturn, 1) := dk_172 (dk_at dksX1_comes_7 12 rfl rfl)
theorem dX1_comes_190 : decode cX1_comes 190 = .ok (.aload_n 0, 1) := dk_42 (dk_at dksX1_comes_7 13 rfl rfl)
theorem dX1_comes_191 : decode cX1_comes 191 = .ok (.aload_n 2, 1) := dk_44 (dk_at dksX1_comes_7 14 rfl rfl)
theorem dX1_comes_192 : decode cX1_comes 192 = .ok (.iconst 0, 1) := dk_3 (dk_at dksX1_comes_7 15 rfl rfl)
theorem dX1_comes_193 : decode cX1_comes 193 = .ok (.iaload, 1) := dk_46 (dk_at dksX1_comes_7 16 rfl rfl)
theorem dX1_comes_194 : decode cX1_comes 194 = .ok (.aload_n 2, 1) := dk_44 (dk_at dksX1_comes_7 17 rfl rfl)
theorem dX1_comes_195 : decode cX1_comes 195 = .ok (.iconst 1, 1) := dk_4 (dk_at dksX1_comes_7 18 rfl rfl)
theorem dX1_comes_196 : decode cX1_comes 196 = .ok (.iaload, 1) := dk_46 (dk_at dksX1_comes_7 19 rfl rfl)
theorem dX1_comes_197 : decode cX1_comes 197 = .ok (.invokevirtual 120, 3) := dk_182 0 120 (dk_at dksX1_comes_7 20 rfl rfl)
theorem dX1_comes_200 : decode cX1_comes 200 = .ok (.ireturn, 1) := dk_172 (dk_at dksX1_comes_7 23 rfl rfl)
theorem dX1_comes_201 : decode cX1_comes 201 = .ok (.aload_n 0, 1) := dk_42 (dk_at dksX1_comes_8 0 rfl rfl)
theorem dX1_comes_202 : decode cX1_comes 202 = .ok (.aload_n 1, 1) := dk_43 (dk_at dksX1_comes_8 1 rfl rfl)
theorem dX1_comes_203 : decode cX1_comes 203 = .ok (.invokevirtual 123, 3) := dk_182 0 123 (dk_at dksX1_comes_8 2 rfl rfl)
theorem dX1_comes_206 : decode cX1_comes 206 = .ok (.ireturn, 1) := dk_172 (dk_at dksX1_comes_8 5 rfl rfl)
abbrev cX1_strokeOf : ByteArray := prog_1_method_6_code
def yX1_strokeOf : MethodName := ⟨RX1, "strokeOf", "(II)LSideBySide$Stroke;"⟩
def dkwX1_strokeOf_5 : List UInt8 := [183, 0, 41, 176]
abbrev dktX1_strokeOf_5 : List UInt8 := dkwX1_strokeOf_5 ++ []
def dkwX1_strokeOf_4 : List UInt8 := [187, 0, 33, 89, 27, 183, 0, 35, 176, 187, 0, 36, 89, 27, 183, 0, 38, 176, 187, 0, 39, 89, 27]
abbrev dktX1_strokeOf_4 : List UInt8 := dkwX1_strokeOf_4 ++ dktX1_strokeOf_5
def dkwX1_strokeOf_3 : List UInt8 := [183, 0, 26, 176, 187, 0, 27, 89, 27, 183, 0, 29, 176, 187, 0, 30, 89, 27, 183, 0, 32, 176]
abbrev dktX1_strokeOf_3 : List UInt8 := dkwX1_strokeOf_3 ++ dktX1_strokeOf_4
def dkwX1_strokeOf_2 : List UInt8 := [187, 0, 15, 89, 27, 183, 0, 17, 176, 187, 0, 21, 89, 27, 183, 0, 23, 176, 187, 0, 24, 89, 27]
abbrev dktX1_strokeOf_2 : List UInt8 := dkwX1_strokeOf_2 ++ dktX1_strokeOf_3
def dkwX1_strokeOf_1 : List UInt8 := [170, 0, 0, 0, 0, 0, 106, 0, 0, 0, 0, 0, 0, 0, 6, 0, 0, 0, 43, 0, 0, 0, 52, 0, 0, 0, 61, 0, 0, 0, 70, 0, 0, 0, 79, 0, 0, 0, 88, 0, 0, 0, 97]
abbrev dktX1_strokeOf_1 : List UInt8 := dkwX1_strokeOf_1 ++ dktX1_strokeOf_2
def dkwX1_strokeOf_0 : List UInt8 := [26]
abbrev dktX1_strokeOf_0 : List UInt8 := dkwX1_strokeOf_0 ++ dktX1_strokeOf_1
theorem dksX1_strokeOf_0 : cX1_strokeOf.data.toList.drop 0 = dktX1_strokeOf_0 := by decide +kernel
theorem dksX1_strokeOf_1 : cX1_strokeOf.data.toList.drop 1 = dktX1_strokeOf_1 := dk_seg dksX1_strokeOf_0 1 rfl rfl
theorem dksX1_strokeOf_2 : cX1_strokeOf.data.toList.drop 44 = dktX1_strokeOf_2 := dk_seg dksX1_strokeOf_1 43 rfl rfl
theorem dksX1_strokeOf_3 : cX1_strokeOf.data.toList.drop 67 = dktX1_strokeOf_3 := dk_seg dksX1_strokeOf_2 23 rfl rfl
theorem dksX1_strokeOf_4 : cX1_strokeOf.data.toList.drop 89 = dktX1_strokeOf_4 := dk_seg dksX1_strokeOf_3 22 rfl rfl
theorem dksX1_strokeOf_5 : cX1_strokeOf.data.toList.drop 112 = dktX1_strokeOf_5 := dk_seg dksX1_strokeOf_4 23 rfl rfl
theorem dX1_strokeOf_0 : decode cX1_strokeOf 0 = .ok (.iload_n 0, 1) := dk_26 (dk_at dksX1_strokeOf_0 0 rfl rfl)
theorem dX1_strokeOf_1 : decode cX1_strokeOf 1 = .ok (.tableswitch 106 0 6 #[43, 52, 61, 70, 79, 88, 97], 43) := by decide +kernel
theorem dX1_strokeOf_44 : decode cX1_strokeOf 44 = .ok (.new 15, 3) := dk_187 0 15 (dk_at dksX1_strokeOf_2 0 rfl rfl)
theorem dX1_strokeOf_47 : decode cX1_strokeOf 47 = .ok (.dup, 1) := dk_89 (dk_at dksX1_strokeOf_2 3 rfl rfl)
theorem dX1_strokeOf_48 : decode cX1_strokeOf 48 = .ok (.iload_n 1, 1) := dk_27 (dk_at dksX1_strokeOf_2 4 rfl rfl)
theorem dX1_strokeOf_49 : decode cX1_strokeOf 49 = .ok (.invokespecial 17, 3) := dk_183 0 17 (dk_at dksX1_strokeOf_2 5 rfl rfl)
theorem dX1_strokeOf_52 : decode cX1_strokeOf 52 = .ok (.areturn, 1) := dk_176 (dk_at dksX1_strokeOf_2 8 rfl rfl)
theorem dX1_strokeOf_53 : decode cX1_strokeOf 53 = .ok (.new 21, 3) := dk_187 0 21 (dk_at dksX1_strokeOf_2 9 rfl rfl)
theorem dX1_strokeOf_56 : decode cX1_strokeOf 56 = .ok (.dup, 1) := dk_89 (dk_at dksX1_strokeOf_2 12 rfl rfl)
theorem dX1_strokeOf_57 : decode cX1_strokeOf 57 = .ok (.iload_n 1, 1) := dk_27 (dk_at dksX1_strokeOf_2 13 rfl rfl)
theorem dX1_strokeOf_58 : decode cX1_strokeOf 58 = .ok (.invokespecial 23, 3) := dk_183 0 23 (dk_at dksX1_strokeOf_2 14 rfl rfl)
theorem dX1_strokeOf_61 : decode cX1_strokeOf 61 = .ok (.areturn, 1) := dk_176 (dk_at dksX1_strokeOf_2 17 rfl rfl)
theorem dX1_strokeOf_62 : decode cX1_strokeOf 62 = .ok (.new 24, 3) := dk_187 0 24 (dk_at dksX1_strokeOf_2 18 rfl rfl)
theorem dX1_strokeOf_65 : decode cX1_strokeOf 65 = .ok (.dup, 1) := dk_89 (dk_at dksX1_strokeOf_2 21 rfl rfl)
theorem dX1_strokeOf_66 : decode cX1_strokeOf 66 = .ok (.iload_n 1, 1) := dk_27 (dk_at dksX1_strokeOf_2 22 rfl rfl)
theorem dX1_strokeOf_67 : decode cX1_strokeOf 67 = .ok (.invokespecial 26, 3) := dk_183 0 26 (dk_at dksX1_strokeOf_3 0 rfl rfl)
theorem dX1_strokeOf_70 : decode cX1_strokeOf 70 = .ok (.areturn, 1) := dk_176 (dk_at dksX1_strokeOf_3 3 rfl rfl)
theorem dX1_strokeOf_71 : decode cX1_strokeOf 71 = .ok (.new 27, 3) := dk_187 0 27 (dk_at dksX1_strokeOf_3 4 rfl rfl)
theorem dX1_strokeOf_74 : decode cX1_strokeOf 74 = .ok (.dup, 1) := dk_89 (dk_at dksX1_strokeOf_3 7 rfl rfl)
theorem dX1_strokeOf_75 : decode cX1_strokeOf 75 = .ok (.iload_n 1, 1) := dk_27 (dk_at dksX1_strokeOf_3 8 rfl rfl)
theorem dX1_strokeOf_76 : decode cX1_strokeOf 76 = .ok (.invokespecial 29, 3) := dk_183 0 29 (dk_at dksX1_strokeOf_3 9 rfl rfl)
theorem dX1_strokeOf_79 : decode cX1_strokeOf 79 = .ok (.areturn, 1) := dk_176 (dk_at dksX1_strokeOf_3 12 rfl rfl)
theorem dX1_strokeOf_80 : decode cX1_strokeOf 80 = .ok (.new 30, 3) := dk_187 0 30 (dk_at dksX1_strokeOf_3 13 rfl rfl)
theorem dX1_strokeOf_83 : decode cX1_strokeOf 83 = .ok (.dup, 1) := dk_89 (dk_at dksX1_strokeOf_3 16 rfl rfl)
theorem dX1_strokeOf_84 : decode cX1_strokeOf 84 = .ok (.iload_n 1, 1) := dk_27 (dk_at dksX1_strokeOf_3 17 rfl rfl)
theorem dX1_strokeOf_85 : decode cX1_strokeOf 85 = .ok (.invokespecial 32, 3) := dk_183 0 32 (dk_at dksX1_strokeOf_3 18 rfl rfl)
theorem dX1_strokeOf_88 : decode cX1_strokeOf 88 = .ok (.areturn, 1) := dk_176 (dk_at dksX1_strokeOf_3 21 rfl rfl)
theorem dX1_strokeOf_89 : decode cX1_strokeOf 89 = .ok (.new 33, 3) := dk_187 0 33 (dk_at dksX1_strokeOf_4 0 rfl rfl)
theorem dX1_strokeOf_92 : decode cX1_strokeOf 92 = .ok (.dup, 1) := dk_89 (dk_at dksX1_strokeOf_4 3 rfl rfl)
theorem dX1_strokeOf_93 : decode cX1_strokeOf 93 = .ok (.iload_n 1, 1) := dk_27 (dk_at dksX1_strokeOf_4 4 rfl rfl)
theorem dX1_strokeOf_94 : decode cX1_strokeOf 94 = .ok (.invokespecial 35, 3) := dk_183 0 35 (dk_at dksX1_strokeOf_4 5 rfl rfl)
theorem dX1_strokeOf_97 : decode cX1_strokeOf 97 = .ok (.areturn, 1) := dk_176 (dk_at dksX1_strokeOf_4 8 rfl rfl)
theorem dX1_strokeOf_98 : decode cX1_strokeOf 98 = .ok (.new 36, 3) := dk_187 0 36 (dk_at dksX1_strokeOf_4 9 rfl rfl)
theorem dX1_strokeOf_101 : decode cX1_strokeOf 101 = .ok (.dup, 1) := dk_89 (dk_at dksX1_strokeOf_4 12 rfl rfl)
theorem dX1_strokeOf_102 : decode cX1_strokeOf 102 = .ok (.iload_n 1, 1) := dk_27 (dk_at dksX1_strokeOf_4 13 rfl rfl)
theorem dX1_strokeOf_103 : decode cX1_strokeOf 103 = .ok (.invokespecial 38, 3) := dk_183 0 38 (dk_at dksX1_strokeOf_4 14 rfl rfl)
theorem dX1_strokeOf_106 : decode cX1_strokeOf 106 = .ok (.areturn, 1) := dk_176 (dk_at dksX1_strokeOf_4 17 rfl rfl)
theorem dX1_strokeOf_107 : decode cX1_strokeOf 107 = .ok (.new 39, 3) := dk_187 0 39 (dk_at dksX1_strokeOf_4 18 rfl rfl)
theorem dX1_strokeOf_110 : decode cX1_strokeOf 110 = .ok (.dup, 1) := dk_89 (dk_at dksX1_strokeOf_4 21 rfl rfl)
theorem dX1_strokeOf_111 : decode cX1_strokeOf 111 = .ok (.iload_n 1, 1) := dk_27 (dk_at dksX1_strokeOf_4 22 rfl rfl)
theorem dX1_strokeOf_112 : decode cX1_strokeOf 112 = .ok (.invokespecial 41, 3) := dk_183 0 41 (dk_at dksX1_strokeOf_5 0 rfl rfl)
theorem dX1_strokeOf_115 : decode cX1_strokeOf 115 = .ok (.areturn, 1) := dk_176 (dk_at dksX1_strokeOf_5 3 rfl rfl)
abbrev cX1_comesHit : ByteArray := prog_1_method_14_code
def yX1_comesHit : MethodName := ⟨RX1, "comesHit", "(II)Z"⟩
def dkwX1_comesHit_1 : List UInt8 := [184, 0, 93, 154, 0, 5, 3, 172, 42, 180, 0, 68, 27, 28, 182, 0, 97, 87, 4, 172]
abbrev dktX1_comesHit_1 : List UInt8 := dkwX1_comesHit_1 ++ []
def dkwX1_comesHit_0 : List UInt8 := [42, 180, 0, 68, 27, 182, 0, 90, 153, 0, 20, 28, 184, 0, 81, 153, 0, 13, 42, 180, 0, 68]
abbrev dktX1_comesHit_0 : List UInt8 := dkwX1_comesHit_0 ++ dktX1_comesHit_1
theorem dksX1_comesHit_0 : cX1_comesHit.data.toList.drop 0 = dktX1_comesHit_0 := by decide +kernel
theorem dksX1_comesHit_1 : cX1_comesHit.data.toList.drop 22 = dktX1_comesHit_1 := dk_seg dksX1_comesHit_0 22 rfl rfl
theorem dX1_comesHit_0 : decode cX1_comesHit 0 = .ok (.aload_n 0, 1) := dk_42 (dk_at dksX1_comesHit_0 0 rfl rfl)
theorem dX1_comesHit_1 : decode cX1_comesHit 1 = .ok (.getfield 68, 3) := dk_180 0 68 (dk_at dksX1_comesHit_0 1 rfl rfl)
theorem dX1_comesHit_4 : decode cX1_comesHit 4 = .ok (.iload_n 1, 1) := dk_27 (dk_at dksX1_comesHit_0 4 rfl rfl)
theorem dX1_comesHit_5 : decode cX1_comesHit 5 = .ok (.invokevirtual 90, 3) := dk_182 0 90 (dk_at dksX1_comesHit_0 5 rfl rfl)
theorem dX1_comesHit_8 : decode cX1_comesHit 8 = .ok (.ifCond .eq 20, 3) := dk_153 0 20 (dk_at dksX1_comesHit_0 8 rfl rfl)
theorem dX1_comesHit_11 : decode cX1_comesHit 11 = .ok (.iload_n 2, 1) := dk_28 (dk_at dksX1_comesHit_0 11 rfl rfl)
theorem dX1_comesHit_12 : decode cX1_comesHit 12 = .ok (.invokestatic 81, 3) := dk_184 0 81 (dk_at dksX1_comesHit_0 12 rfl rfl)
theorem dX1_comesHit_15 : decode cX1_comesHit 15 = .ok (.ifCond .eq 13, 3) := dk_153 0 13 (dk_at dksX1_comesHit_0 15 rfl rfl)
theorem dX1_comesHit_18 : decode cX1_comesHit 18 = .ok (.aload_n 0, 1) := dk_42 (dk_at dksX1_comesHit_0 18 rfl rfl)
theorem dX1_comesHit_19 : decode cX1_comesHit 19 = .ok (.getfield 68, 3) := dk_180 0 68 (dk_at dksX1_comesHit_0 19 rfl rfl)
theorem dX1_comesHit_22 : decode cX1_comesHit 22 = .ok (.invokestatic 93, 3) := dk_184 0 93 (dk_at dksX1_comesHit_1 0 rfl rfl)
theorem dX1_comesHit_25 : decode cX1_comesHit 25 = .ok (.ifCond .ne 5, 3) := dk_154 0 5 (dk_at dksX1_comesHit_1 3 rfl rfl)
theorem dX1_comesHit_28 : decode cX1_comesHit 28 = .ok (.iconst 0, 1) := dk_3 (dk_at dksX1_comesHit_1 6 rfl rfl)
theorem dX1_comesHit_29 : decode cX1_comesHit 29 = .ok (.ireturn, 1) := dk_172 (dk_at dksX1_comesHit_1 7 rfl rfl)
theorem dX1_comesHit_30 : decode cX1_comesHit 30 = .ok (.aload_n 0, 1) := dk_42 (dk_at dksX1_comesHit_1 8 rfl rfl)
theorem dX1_comesHit_31 : decode cX1_comesHit 31 = .ok (.getfield 68, 3) := dk_180 0 68 (dk_at dksX1_comesHit_1 9 rfl rfl)
theorem dX1_comesHit_34 : decode cX1_comesHit 34 = .ok (.iload_n 1, 1) := dk_27 (dk_at dksX1_comesHit_1 12 rfl rfl)
theorem dX1_comesHit_35 : decode cX1_comesHit 35 = .ok (.iload_n 2, 1) := dk_28 (dk_at dksX1_comesHit_1 13 rfl rfl)
theorem dX1_comesHit_36 : decode cX1_comesHit 36 = .ok (.invokevirtual 97, 3) := dk_182 0 97 (dk_at dksX1_comesHit_1 14 rfl rfl)
theorem dX1_comesHit_39 : decode cX1_comesHit 39 = .ok (.pop, 1) := dk_87 (dk_at dksX1_comesHit_1 17 rfl rfl)
theorem dX1_comesHit_40 : decode cX1_comesHit 40 = .ok (.iconst 1, 1) := dk_4 (dk_at dksX1_comesHit_1 18 rfl rfl)
theorem dX1_comesHit_41 : decode cX1_comesHit 41 = .ok (.ireturn, 1) := dk_172 (dk_at dksX1_comesHit_1 19 rfl rfl)
abbrev cX1_isCell : ByteArray := prog_1_method_8_code
def yX1_isCell : MethodName := ⟨RX1, "isCell", "(I)Z"⟩
def dkwX1_isCell_0 : List UInt8 := [26, 3, 16, 8, 184, 0, 42, 172]
abbrev dktX1_isCell_0 : List UInt8 := dkwX1_isCell_0 ++ []
theorem dksX1_isCell_0 : cX1_isCell.data.toList.drop 0 = dktX1_isCell_0 := by decide +kernel
theorem dX1_isCell_0 : decode cX1_isCell 0 = .ok (.iload_n 0, 1) := dk_26 (dk_at dksX1_isCell_0 0 rfl rfl)
theorem dX1_isCell_1 : decode cX1_isCell 1 = .ok (.iconst 0, 1) := dk_3 (dk_at dksX1_isCell_0 1 rfl rfl)
theorem dX1_isCell_2 : decode cX1_isCell 2 = .ok (.bipush 8, 2) := dk_16 8 (dk_at dksX1_isCell_0 2 rfl rfl)
theorem dX1_isCell_4 : decode cX1_isCell 4 = .ok (.invokestatic 42, 3) := dk_184 0 42 (dk_at dksX1_isCell_0 4 rfl rfl)
theorem dX1_isCell_7 : decode cX1_isCell 7 = .ok (.ireturn, 1) := dk_172 (dk_at dksX1_isCell_0 7 rfl rfl)
abbrev cX1_canHit : ByteArray := prog_1_method_11_code
def yX1_canHit : MethodName := ⟨RX1, "canHit", "(LSideBySide$Court;)Z"⟩
def dkwX1_canHit_1 : List UInt8 := [180, 0, 52, 4, 46, 16, 99, 162, 0, 7, 4, 167, 0, 4, 3, 172]
abbrev dktX1_canHit_1 : List UInt8 := dkwX1_canHit_1 ++ []
def dkwX1_canHit_0 : List UInt8 := [42, 180, 0, 46, 17, 3, 231, 162, 0, 29, 42, 180, 0, 52, 3, 46, 16, 99, 162, 0, 18, 42]
abbrev dktX1_canHit_0 : List UInt8 := dkwX1_canHit_0 ++ dktX1_canHit_1
theorem dksX1_canHit_0 : cX1_canHit.data.toList.drop 0 = dktX1_canHit_0 := by decide +kernel
theorem dksX1_canHit_1 : cX1_canHit.data.toList.drop 22 = dktX1_canHit_1 := dk_seg dksX1_canHit_0 22 rfl rfl
theorem dX1_canHit_0 : decode cX1_canHit 0 = .ok (.aload_n 0, 1) := dk_42 (dk_at dksX1_canHit_0 0 rfl rfl)
theorem dX1_canHit_1 : decode cX1_canHit 1 = .ok (.getfield 46, 3) := dk_180 0 46 (dk_at dksX1_canHit_0 1 rfl rfl)
theorem dX1_canHit_4 : decode cX1_canHit 4 = .ok (.sipush 999, 3) := dk_17 3 231 (dk_at dksX1_canHit_0 4 rfl rfl)
theorem dX1_canHit_7 : decode cX1_canHit 7 = .ok (.if_icmp .ge 29, 3) := dk_162 0 29 (dk_at dksX1_canHit_0 7 rfl rfl)
theorem dX1_canHit_10 : decode cX1_canHit 10 = .ok (.aload_n 0, 1) := dk_42 (dk_at dksX1_canHit_0 10 rfl rfl)
theorem dX1_canHit_11 : decode cX1_canHit 11 = .ok (.getfield 52, 3) := dk_180 0 52 (dk_at dksX1_canHit_0 11 rfl rfl)
theorem dX1_canHit_14 : decode cX1_canHit 14 = .ok (.iconst 0, 1) := dk_3 (dk_at dksX1_canHit_0 14 rfl rfl)
theorem dX1_canHit_15 : decode cX1_canHit 15 = .ok (.iaload, 1) := dk_46 (dk_at dksX1_canHit_0 15 rfl rfl)
theorem dX1_canHit_16 : decode cX1_canHit 16 = .ok (.bipush 99, 2) := dk_16 99 (dk_at dksX1_canHit_0 16 rfl rfl)
theorem dX1_canHit_18 : decode cX1_canHit 18 = .ok (.if_icmp .ge 18, 3) := dk_162 0 18 (dk_at dksX1_canHit_0 18 rfl rfl)
theorem dX1_canHit_21 : decode cX1_canHit 21 = .ok (.aload_n 0, 1) := dk_42 (dk_at dksX1_canHit_0 21 rfl rfl)
theorem dX1_canHit_22 : decode cX1_canHit 22 = .ok (.getfield 52, 3) := dk_180 0 52 (dk_at dksX1_canHit_1 0 rfl rfl)
theorem dX1_canHit_25 : decode cX1_canHit 25 = .ok (.iconst 1, 1) := dk_4 (dk_at dksX1_canHit_1 3 rfl rfl)
theorem dX1_canHit_26 : decode cX1_canHit 26 = .ok (.iaload, 1) := dk_46 (dk_at dksX1_canHit_1 4 rfl rfl)
theorem dX1_canHit_27 : decode cX1_canHit 27 = .ok (.bipush 99, 2) := dk_16 99 (dk_at dksX1_canHit_1 5 rfl rfl)
theorem dX1_canHit_29 : decode cX1_canHit 29 = .ok (.if_icmp .ge 7, 3) := dk_162 0 7 (dk_at dksX1_canHit_1 7 rfl rfl)
theorem dX1_canHit_32 : decode cX1_canHit 32 = .ok (.iconst 1, 1) := dk_4 (dk_at dksX1_canHit_1 10 rfl rfl)
theorem dX1_canHit_33 : decode cX1_canHit 33 = .ok (.goto 4, 3) := dk_167 0 4 (dk_at dksX1_canHit_1 11 rfl rfl)
theorem dX1_canHit_36 : decode cX1_canHit 36 = .ok (.iconst 0, 1) := dk_3 (dk_at dksX1_canHit_1 14 rfl rfl)
theorem dX1_canHit_37 : decode cX1_canHit 37 = .ok (.ireturn, 1) := dk_172 (dk_at dksX1_canHit_1 15 rfl rfl)
abbrev cX1_rowOf : ByteArray := prog_1_method_3_code
def yX1_rowOf : MethodName := ⟨RX1, "rowOf", "(I)I"⟩
def dkwX1_rowOf_0 : List UInt8 := [26, 6, 108, 172]
abbrev dktX1_rowOf_0 : List UInt8 := dkwX1_rowOf_0 ++ []
theorem dksX1_rowOf_0 : cX1_rowOf.data.toList.drop 0 = dktX1_rowOf_0 := by decide +kernel
theorem dX1_rowOf_0 : decode cX1_rowOf 0 = .ok (.iload_n 0, 1) := dk_26 (dk_at dksX1_rowOf_0 0 rfl rfl)
theorem dX1_rowOf_1 : decode cX1_rowOf 1 = .ok (.iconst 3, 1) := dk_6 (dk_at dksX1_rowOf_0 1 rfl rfl)
theorem dX1_rowOf_2 : decode cX1_rowOf 2 = .ok (.idiv, 1) := dk_108 (dk_at dksX1_rowOf_0 2 rfl rfl)
theorem dX1_rowOf_3 : decode cX1_rowOf 3 = .ok (.ireturn, 1) := dk_172 (dk_at dksX1_rowOf_0 3 rfl rfl)
abbrev cX1_columnOf : ByteArray := prog_1_method_4_code
def yX1_columnOf : MethodName := ⟨RX1, "columnOf", "(I)I"⟩
def dkwX1_columnOf_0 : List UInt8 := [26, 6, 112, 172]
abbrev dktX1_columnOf_0 : List UInt8 := dkwX1_columnOf_0 ++ []
theorem dksX1_columnOf_0 : cX1_columnOf.data.toList.drop 0 = dktX1_columnOf_0 := by decide +kernel
theorem dX1_columnOf_0 : decode cX1_columnOf 0 = .ok (.iload_n 0, 1) := dk_26 (dk_at dksX1_columnOf_0 0 rfl rfl)
theorem dX1_columnOf_1 : decode cX1_columnOf 1 = .ok (.iconst 3, 1) := dk_6 (dk_at dksX1_columnOf_0 1 rfl rfl)
theorem dX1_columnOf_2 : decode cX1_columnOf 2 = .ok (.irem, 1) := dk_112 (dk_at dksX1_columnOf_0 2 rfl rfl)
theorem dX1_columnOf_3 : decode cX1_columnOf 3 = .ok (.ireturn, 1) := dk_172 (dk_at dksX1_columnOf_0 3 rfl rfl)
abbrev cX1_wayTo : ByteArray := prog_1_method_5_code
def yX1_wayTo : MethodName := ⟨RX1, "wayTo", "(II)I"⟩
def dkwX1_wayTo_1 : List UInt8 := [96, 172]
abbrev dktX1_wayTo_1 : List UInt8 := dkwX1_wayTo_1 ++ []
def dkwX1_wayTo_0 : List UInt8 := [26, 184, 0, 1, 27, 184, 0, 1, 100, 184, 0, 7, 26, 184, 0, 12, 27, 184, 0, 12, 100, 184, 0, 7]
abbrev dktX1_wayTo_0 : List UInt8 := dkwX1_wayTo_0 ++ dktX1_wayTo_1
theorem dksX1_wayTo_0 : cX1_wayTo.data.toList.drop 0 = dktX1_wayTo_0 := by decide +kernel
theorem dksX1_wayTo_1 : cX1_wayTo.data.toList.drop 24 = dktX1_wayTo_1 := dk_seg dksX1_wayTo_0 24 rfl rfl
theorem dX1_wayTo_0 : decode cX1_wayTo 0 = .ok (.iload_n 0, 1) := dk_26 (dk_at dksX1_wayTo_0 0 rfl rfl)
theorem dX1_wayTo_1 : decode cX1_wayTo 1 = .ok (.invokestatic 1, 3) := dk_184 0 1 (dk_at dksX1_wayTo_0 1 rfl rfl)
theorem dX1_wayTo_4 : decode cX1_wayTo 4 = .ok (.iload_n 1, 1) := dk_27 (dk_at dksX1_wayTo_0 4 rfl rfl)
theorem dX1_wayTo_5 : decode cX1_wayTo 5 = .ok (.invokestatic 1, 3) := dk_184 0 1 (dk_at dksX1_wayTo_0 5 rfl rfl)
theorem dX1_wayTo_8 : decode cX1_wayTo 8 = .ok (.isub, 1) := dk_100 (dk_at dksX1_wayTo_0 8 rfl rfl)
theorem dX1_wayTo_9 : decode cX1_wayTo 9 = .ok (.invokestatic 7, 3) := dk_184 0 7 (dk_at dksX1_wayTo_0 9 rfl rfl)
theorem dX1_wayTo_12 : decode cX1_wayTo 12 = .ok (.iload_n 0, 1) := dk_26 (dk_at dksX1_wayTo_0 12 rfl rfl)
theorem dX1_wayTo_13 : decode cX1_wayTo 13 = .ok (.invokestatic 12, 3) := dk_184 0 12 (dk_at dksX1_wayTo_0 13 rfl rfl)
theorem dX1_wayTo_16 : decode cX1_wayTo 16 = .ok (.iload_n 1, 1) := dk_27 (dk_at dksX1_wayTo_0 16 rfl rfl)
theorem dX1_wayTo_17 : decode cX1_wayTo 17 = .ok (.invokestatic 12, 3) := dk_184 0 12 (dk_at dksX1_wayTo_0 17 rfl rfl)
theorem dX1_wayTo_20 : decode cX1_wayTo 20 = .ok (.isub, 1) := dk_100 (dk_at dksX1_wayTo_0 20 rfl rfl)
theorem dX1_wayTo_21 : decode cX1_wayTo 21 = .ok (.invokestatic 7, 3) := dk_184 0 7 (dk_at dksX1_wayTo_0 21 rfl rfl)
theorem dX1_wayTo_24 : decode cX1_wayTo 24 = .ok (.iadd, 1) := dk_96 (dk_at dksX1_wayTo_1 0 rfl rfl)
theorem dX1_wayTo_25 : decode cX1_wayTo 25 = .ok (.ireturn, 1) := dk_172 (dk_at dksX1_wayTo_1 1 rfl rfl)
abbrev cX1_has : ByteArray := prog_1_method_2_code
def yX1_has : MethodName := ⟨RX1, "has", "(II)Z"⟩
def dkwX1_has_0 : List UInt8 := [26, 27, 122, 4, 126, 4, 160, 0, 7, 4, 167, 0, 4, 3, 172]
abbrev dktX1_has_0 : List UInt8 := dkwX1_has_0 ++ []
theorem dksX1_has_0 : cX1_has.data.toList.drop 0 = dktX1_has_0 := by decide +kernel
theorem dX1_has_0 : decode cX1_has 0 = .ok (.iload_n 0, 1) := dk_26 (dk_at dksX1_has_0 0 rfl rfl)
theorem dX1_has_1 : decode cX1_has 1 = .ok (.iload_n 1, 1) := dk_27 (dk_at dksX1_has_0 1 rfl rfl)
theorem dX1_has_2 : decode cX1_has 2 = .ok (.ishr, 1) := dk_122 (dk_at dksX1_has_0 2 rfl rfl)
theorem dX1_has_3 : decode cX1_has 3 = .ok (.iconst 1, 1) := dk_4 (dk_at dksX1_has_0 3 rfl rfl)
theorem dX1_has_4 : decode cX1_has 4 = .ok (.iand, 1) := dk_126 (dk_at dksX1_has_0 4 rfl rfl)
theorem dX1_has_5 : decode cX1_has 5 = .ok (.iconst 1, 1) := dk_4 (dk_at dksX1_has_0 5 rfl rfl)
theorem dX1_has_6 : decode cX1_has 6 = .ok (.if_icmp .ne 7, 3) := dk_160 0 7 (dk_at dksX1_has_0 6 rfl rfl)
theorem dX1_has_9 : decode cX1_has 9 = .ok (.iconst 1, 1) := dk_4 (dk_at dksX1_has_0 9 rfl rfl)
theorem dX1_has_10 : decode cX1_has 10 = .ok (.goto 4, 3) := dk_167 0 4 (dk_at dksX1_has_0 10 rfl rfl)
theorem dX1_has_13 : decode cX1_has 13 = .ok (.iconst 0, 1) := dk_3 (dk_at dksX1_has_0 13 rfl rfl)
theorem dX1_has_14 : decode cX1_has 14 = .ok (.ireturn, 1) := dk_172 (dk_at dksX1_has_0 14 rfl rfl)
abbrev cX1_comesPlayer : ByteArray := prog_1_method_12_code
def yX1_comesPlayer : MethodName := ⟨RX1, "comesPlayer", "(LSideBySide$Told;)Z"⟩
def dkwX1_comesPlayer_3 : List UInt8 := [167, 0, 17, 42, 44, 3, 46, 44, 4, 46, 44, 5, 46, 182, 0, 78, 172, 4, 172]
abbrev dktX1_comesPlayer_3 : List UInt8 := dkwX1_comesPlayer_3 ++ []
def dkwX1_comesPlayer_2 : List UInt8 := [16, 108, 160, 0, 23, 42, 180, 0, 68, 89, 180, 0, 75, 4, 44, 3, 46, 120, 130, 181, 0, 75]
abbrev dktX1_comesPlayer_2 : List UInt8 := dkwX1_comesPlayer_2 ++ dktX1_comesPlayer_3
def dkwX1_comesPlayer_1 : List UInt8 := [160, 0, 20, 42, 180, 0, 68, 180, 0, 72, 44, 3, 46, 44, 4, 46, 79, 167, 0, 46, 43, 180, 0, 65]
abbrev dktX1_comesPlayer_1 : List UInt8 := dkwX1_comesPlayer_1 ++ dktX1_comesPlayer_2
def dkwX1_comesPlayer_0 : List UInt8 := [43, 180, 0, 56, 77, 44, 3, 46, 184, 0, 61, 154, 0, 5, 3, 172, 43, 180, 0, 65, 16, 116]
abbrev dktX1_comesPlayer_0 : List UInt8 := dkwX1_comesPlayer_0 ++ dktX1_comesPlayer_1
theorem dksX1_comesPlayer_0 : cX1_comesPlayer.data.toList.drop 0 = dktX1_comesPlayer_0 := by decide +kernel
theorem dksX1_comesPlayer_1 : cX1_comesPlayer.data.toList.drop 22 = dktX1_comesPlayer_1 := dk_seg dksX1_comesPlayer_0 22 rfl rfl
theorem dksX1_comesPlayer_2 : cX1_comesPlayer.data.toList.drop 46 = dktX1_comesPlayer_2 := dk_seg dksX1_comesPlayer_1 24 rfl rfl
theorem dksX1_comesPlayer_3 : cX1_comesPlayer.data.toList.drop 68 = dktX1_comesPlayer_3 := dk_seg dksX1_comesPlayer_2 22 rfl rfl
theorem dX1_comesPlayer_0 : decode cX1_comesPlayer 0 = .ok (.aload_n 1, 1) := dk_43 (dk_at dksX1_comesPlayer_0 0 rfl rfl)
theorem dX1_comesPlayer_1 : decode cX1_comesPlayer 1 = .ok (.getfield 56, 3) := dk_180 0 56 (dk_at dksX1_comesPlayer_0 1 rfl rfl)
theorem dX1_comesPlayer_4 : decode cX1_comesPlayer 4 = .ok (.astore_n 2, 1) := dk_77 (dk_at dksX1_comesPlayer_0 4 rfl rfl)
theorem dX1_comesPlayer_5 : decode cX1_comesPlayer 5 = .ok (.aload_n 2, 1) := dk_44 (dk_at dksX1_comesPlayer_0 5 rfl rfl)
theorem dX1_comesPlayer_6 : decode cX1_comesPlayer 6 = .ok (.iconst 0, 1) := dk_3 (dk_at dksX1_comesPlayer_0 6 rfl rfl)
theorem dX1_comesPlayer_7 : decode cX1_comesPlayer 7 = .ok (.iaload, 1) := dk_46 (dk_at dksX1_comesPlayer_0 7 rfl rfl)
theorem dX1_comesPlayer_8 : decode cX1_comesPlayer 8 = .ok (.invokestatic 61, 3) := dk_184 0 61 (dk_at dksX1_comesPlayer_0 8 rfl rfl)
theorem dX1_comesPlayer_11 : decode cX1_comesPlayer 11 = .ok (.ifCond .ne 5, 3) := dk_154 0 5 (dk_at dksX1_comesPlayer_0 11 rfl rfl)
theorem dX1_comesPlayer_14 : decode cX1_comesPlayer 14 = .ok (.iconst 0, 1) := dk_3 (dk_at dksX1_comesPlayer_0 14 rfl rfl)
theorem dX1_comesPlayer_15 : decode cX1_comesPlayer 15 = .ok (.ireturn, 1) := dk_172 (dk_at dksX1_comesPlayer_0 15 rfl rfl)
theorem dX1_comesPlayer_16 : decode cX1_comesPlayer 16 = .ok (.aload_n 1, 1) := dk_43 (dk_at dksX1_comesPlayer_0 16 rfl rfl)
theorem dX1_comesPlayer_17 : decode cX1_comesPlayer 17 = .ok (.getfield 65, 3) := dk_180 0 65 (dk_at dksX1_comesPlayer_0 17 rfl rfl)
theorem dX1_comesPlayer_20 : decode cX1_comesPlayer 20 = .ok (.bipush 116, 2) := dk_16 116 (dk_at dksX1_comesPlayer_0 20 rfl rfl)
theorem dX1_comesPlayer_22 : decode cX1_comesPlayer 22 = .ok (.if_icmp .ne 20, 3) := dk_160 0 20 (dk_at dksX1_comesPlayer_1 0 rfl rfl)
theorem dX1_comesPlayer_25 : decode cX1_comesPlayer 25 = .ok (.aload_n 0, 1) := dk_42 (dk_at dksX1_comesPlayer_1 3 rfl rfl)
theorem dX1_comesPlayer_26 : decode cX1_comesPlayer 26 = .ok (.getfield 68, 3) := dk_180 0 68 (dk_at dksX1_comesPlayer_1 4 rfl rfl)
theorem dX1_comesPlayer_29 : decode cX1_comesPlayer 29 = .ok (.getfield 72, 3) := dk_180 0 72 (dk_at dksX1_comesPlayer_1 7 rfl rfl)
theorem dX1_comesPlayer_32 : decode cX1_comesPlayer 32 = .ok (.aload_n 2, 1) := dk_44 (dk_at dksX1_comesPlayer_1 10 rfl rfl)
theorem dX1_comesPlayer_33 : decode cX1_comesPlayer 33 = .ok (.iconst 0, 1) := dk_3 (dk_at dksX1_comesPlayer_1 11 rfl rfl)
theorem dX1_comesPlayer_34 : decode cX1_comesPlayer 34 = .ok (.iaload, 1) := dk_46 (dk_at dksX1_comesPlayer_1 12 rfl rfl)
theorem dX1_comesPlayer_35 : decode cX1_comesPlayer 35 = .ok (.aload_n 2, 1) := dk_44 (dk_at dksX1_comesPlayer_1 13 rfl rfl)
theorem dX1_comesPlayer_36 : decode cX1_comesPlayer 36 = .ok (.iconst 1, 1) := dk_4 (dk_at dksX1_comesPlayer_1 14 rfl rfl)
theorem dX1_comesPlayer_37 : decode cX1_comesPlayer 37 = .ok (.iaload, 1) := dk_46 (dk_at dksX1_comesPlayer_1 15 rfl rfl)
theorem dX1_comesPlayer_38 : decode cX1_comesPlayer 38 = .ok (.iastore, 1) := dk_79 (dk_at dksX1_comesPlayer_1 16 rfl rfl)
theorem dX1_comesPlayer_39 : decode cX1_comesPlayer 39 = .ok (.goto 46, 3) := dk_167 0 46 (dk_at dksX1_comesPlayer_1 17 rfl rfl)
theorem dX1_comesPlayer_42 : decode cX1_comesPlayer 42 = .ok (.aload_n 1, 1) := dk_43 (dk_at dksX1_comesPlayer_1 20 rfl rfl)
theorem dX1_comesPlayer_43 : decode cX1_comesPlayer 43 = .ok (.getfield 65, 3) := dk_180 0 65 (dk_at dksX1_comesPlayer_1 21 rfl rfl)
theorem dX1_comesPlayer_46 : decode cX1_comesPlayer 46 = .ok (.bipush 108, 2) := dk_16 108 (dk_at dksX1_comesPlayer_2 0 rfl rfl)
theorem dX1_comesPlayer_48 : decode cX1_comesPlayer 48 = .ok (.if_icmp .ne 23, 3) := dk_160 0 23 (dk_at dksX1_comesPlayer_2 2 rfl rfl)
theorem dX1_comesPlayer_51 : decode cX1_comesPlayer 51 = .ok (.aload_n 0, 1) := dk_42 (dk_at dksX1_comesPlayer_2 5 rfl rfl)
theorem dX1_comesPlayer_52 : decode cX1_comesPlayer 52 = .ok (.getfield 68, 3) := dk_180 0 68 (dk_at dksX1_comesPlayer_2 6 rfl rfl)
theorem dX1_comesPlayer_55 : decode cX1_comesPlayer 55 = .ok (.dup, 1) := dk_89 (dk_at dksX1_comesPlayer_2 9 rfl rfl)
theorem dX1_comesPlayer_56 : decode cX1_comesPlayer 56 = .ok (.getfield 75, 3) := dk_180 0 75 (dk_at dksX1_comesPlayer_2 10 rfl rfl)
theorem dX1_comesPlayer_59 : decode cX1_comesPlayer 59 = .ok (.iconst 1, 1) := dk_4 (dk_at dksX1_comesPlayer_2 13 rfl rfl)
theorem dX1_comesPlayer_60 : decode cX1_comesPlayer 60 = .ok (.aload_n 2, 1) := dk_44 (dk_at dksX1_comesPlayer_2 14 rfl rfl)
theorem dX1_comesPlayer_61 : decode cX1_comesPlayer 61 = .ok (.iconst 0, 1) := dk_3 (dk_at dksX1_comesPlayer_2 15 rfl rfl)
theorem dX1_comesPlayer_62 : decode cX1_comesPlayer 62 = .ok (.iaload, 1) := dk_46 (dk_at dksX1_comesPlayer_2 16 rfl rfl)
theorem dX1_comesPlayer_63 : decode cX1_comesPlayer 63 = .ok (.ishl, 1) := dk_120 (dk_at dksX1_comesPlayer_2 17 rfl rfl)
theorem dX1_comesPlayer_64 : decode cX1_comesPlayer 64 = .ok (.ixor, 1) := dk_130 (dk_at dksX1_comesPlayer_2 18 rfl rfl)
theorem dX1_comesPlayer_65 : decode cX1_comesPlayer 65 = .ok (.putfield 75, 3) := dk_181 0 75 (dk_at dksX1_comesPlayer_2 19 rfl rfl)
theorem dX1_comesPlayer_68 : decode cX1_comesPlayer 68 = .ok (.goto 17, 3) := dk_167 0 17 (dk_at dksX1_comesPlayer_3 0 rfl rfl)
theorem dX1_comesPlayer_71 : decode cX1_comesPlayer 71 = .ok (.aload_n 0, 1) := dk_42 (dk_at dksX1_comesPlayer_3 3 rfl rfl)
theorem dX1_comesPlayer_72 : decode cX1_comesPlayer 72 = .ok (.aload_n 2, 1) := dk_44 (dk_at dksX1_comesPlayer_3 4 rfl rfl)
theorem dX1_comesPlayer_73 : decode cX1_comesPlayer 73 = .ok (.iconst 0, 1) := dk_3 (dk_at dksX1_comesPlayer_3 5 rfl rfl)
theorem dX1_comesPlayer_74 : decode cX1_comesPlayer 74 = .ok (.iaload, 1) := dk_46 (dk_at dksX1_comesPlayer_3 6 rfl rfl)
theorem dX1_comesPlayer_75 : decode cX1_comesPlayer 75 = .ok (.aload_n 2, 1) := dk_44 (dk_at dksX1_comesPlayer_3 7 rfl rfl)
theorem dX1_comesPlayer_76 : decode cX1_comesPlayer 76 = .ok (.iconst 1, 1) := dk_4 (dk_at dksX1_comesPlayer_3 8 rfl rfl)
theorem dX1_comesPlayer_77 : decode cX1_comesPlayer 77 = .ok (.iaload, 1) := dk_46 (dk_at dksX1_comesPlayer_3 9 rfl rfl)
theorem dX1_comesPlayer_78 : decode cX1_comesPlayer 78 = .ok (.aload_n 2, 1) := dk_44 (dk_at dksX1_comesPlayer_3 10 rfl rfl)
theorem dX1_comesPlayer_79 : decode cX1_comesPlayer 79 = .ok (.iconst 2, 1) := dk_5 (dk_at dksX1_comesPlayer_3 11 rfl rfl)
theorem dX1_comesPlayer_80 : decode cX1_comesPlayer 80 = .ok (.iaload, 1) := dk_46 (dk_at dksX1_comesPlayer_3 12 rfl rfl)
theorem dX1_comesPlayer_81 : decode cX1_comesPlayer 81 = .ok (.invokevirtual 78, 3) := dk_182 0 78 (dk_at dksX1_comesPlayer_3 13 rfl rfl)
theorem dX1_comesPlayer_84 : decode cX1_comesPlayer 84 = .ok (.ireturn, 1) := dk_172 (dk_at dksX1_comesPlayer_3 16 rfl rfl)
theorem dX1_comesPlayer_85 : decode cX1_comesPlayer 85 = .ok (.iconst 1, 1) := dk_4 (dk_at dksX1_comesPlayer_3 17 rfl rfl)
theorem dX1_comesPlayer_86 : decode cX1_comesPlayer 86 = .ok (.ireturn, 1) := dk_172 (dk_at dksX1_comesPlayer_3 18 rfl rfl)
abbrev cX1_isPlayer : ByteArray := prog_1_method_9_code
def yX1_isPlayer : MethodName := ⟨RX1, "isPlayer", "(I)Z"⟩
def dkwX1_isPlayer_0 : List UInt8 := [26, 3, 6, 184, 0, 42, 172]
abbrev dktX1_isPlayer_0 : List UInt8 := dkwX1_isPlayer_0 ++ []
theorem dksX1_isPlayer_0 : cX1_isPlayer.data.toList.drop 0 = dktX1_isPlayer_0 := by decide +kernel
theorem dX1_isPlayer_0 : decode cX1_isPlayer 0 = .ok (.iload_n 0, 1) := dk_26 (dk_at dksX1_isPlayer_0 0 rfl rfl)
theorem dX1_isPlayer_1 : decode cX1_isPlayer 1 = .ok (.iconst 0, 1) := dk_3 (dk_at dksX1_isPlayer_0 1 rfl rfl)
theorem dX1_isPlayer_2 : decode cX1_isPlayer 2 = .ok (.iconst 3, 1) := dk_6 (dk_at dksX1_isPlayer_0 2 rfl rfl)
theorem dX1_isPlayer_3 : decode cX1_isPlayer 3 = .ok (.invokestatic 42, 3) := dk_184 0 42 (dk_at dksX1_isPlayer_0 3 rfl rfl)
theorem dX1_isPlayer_6 : decode cX1_isPlayer 6 = .ok (.ireturn, 1) := dk_172 (dk_at dksX1_isPlayer_0 6 rfl rfl)
abbrev cX1_comesPlace : ByteArray := prog_1_method_13_code
def yX1_comesPlace : MethodName := ⟨RX1, "comesPlace", "(III)Z"⟩
def dkwX1_comesPlace_1 : List UInt8 := [180, 0, 84, 27, 28, 79, 42, 180, 0, 68, 180, 0, 87, 27, 29, 79, 4, 172]
abbrev dktX1_comesPlace_1 : List UInt8 := dkwX1_comesPlace_1 ++ []
def dkwX1_comesPlace_0 : List UInt8 := [28, 184, 0, 81, 153, 0, 12, 29, 4, 7, 184, 0, 42, 154, 0, 5, 3, 172, 42, 180, 0, 68]
abbrev dktX1_comesPlace_0 : List UInt8 := dkwX1_comesPlace_0 ++ dktX1_comesPlace_1
theorem dksX1_comesPlace_0 : cX1_comesPlace.data.toList.drop 0 = dktX1_comesPlace_0 := by decide +kernel
theorem dksX1_comesPlace_1 : cX1_comesPlace.data.toList.drop 22 = dktX1_comesPlace_1 := dk_seg dksX1_comesPlace_0 22 rfl rfl
theorem dX1_comesPlace_0 : decode cX1_comesPlace 0 = .ok (.iload_n 2, 1) := dk_28 (dk_at dksX1_comesPlace_0 0 rfl rfl)
theorem dX1_comesPlace_1 : decode cX1_comesPlace 1 = .ok (.invokestatic 81, 3) := dk_184 0 81 (dk_at dksX1_comesPlace_0 1 rfl rfl)
theorem dX1_comesPlace_4 : decode cX1_comesPlace 4 = .ok (.ifCond .eq 12, 3) := dk_153 0 12 (dk_at dksX1_comesPlace_0 4 rfl rfl)
theorem dX1_comesPlace_7 : decode cX1_comesPlace 7 = .ok (.iload_n 3, 1) := dk_29 (dk_at dksX1_comesPlace_0 7 rfl rfl)
theorem dX1_comesPlace_8 : decode cX1_comesPlace 8 = .ok (.iconst 1, 1) := dk_4 (dk_at dksX1_comesPlace_0 8 rfl rfl)
theorem dX1_comesPlace_9 : decode cX1_comesPlace 9 = .ok (.iconst 4, 1) := dk_7 (dk_at dksX1_comesPlace_0 9 rfl rfl)
theorem dX1_comesPlace_10 : decode cX1_comesPlace 10 = .ok (.invokestatic 42, 3) := dk_184 0 42 (dk_at dksX1_comesPlace_0 10 rfl rfl)
theorem dX1_comesPlace_13 : decode cX1_comesPlace 13 = .ok (.ifCond .ne 5, 3) := dk_154 0 5 (dk_at dksX1_comesPlace_0 13 rfl rfl)
theorem dX1_comesPlace_16 : decode cX1_comesPlace 16 = .ok (.iconst 0, 1) := dk_3 (dk_at dksX1_comesPlace_0 16 rfl rfl)
theorem dX1_comesPlace_17 : decode cX1_comesPlace 17 = .ok (.ireturn, 1) := dk_172 (dk_at dksX1_comesPlace_0 17 rfl rfl)
theorem dX1_comesPlace_18 : decode cX1_comesPlace 18 = .ok (.aload_n 0, 1) := dk_42 (dk_at dksX1_comesPlace_0 18 rfl rfl)
theorem dX1_comesPlace_19 : decode cX1_comesPlace 19 = .ok (.getfield 68, 3) := dk_180 0 68 (dk_at dksX1_comesPlace_0 19 rfl rfl)
theorem dX1_comesPlace_22 : decode cX1_comesPlace 22 = .ok (.getfield 84, 3) := dk_180 0 84 (dk_at dksX1_comesPlace_1 0 rfl rfl)
theorem dX1_comesPlace_25 : decode cX1_comesPlace 25 = .ok (.iload_n 1, 1) := dk_27 (dk_at dksX1_comesPlace_1 3 rfl rfl)
theorem dX1_comesPlace_26 : decode cX1_comesPlace 26 = .ok (.iload_n 2, 1) := dk_28 (dk_at dksX1_comesPlace_1 4 rfl rfl)
theorem dX1_comesPlace_27 : decode cX1_comesPlace 27 = .ok (.iastore, 1) := dk_79 (dk_at dksX1_comesPlace_1 5 rfl rfl)
theorem dX1_comesPlace_28 : decode cX1_comesPlace 28 = .ok (.aload_n 0, 1) := dk_42 (dk_at dksX1_comesPlace_1 6 rfl rfl)
theorem dX1_comesPlace_29 : decode cX1_comesPlace 29 = .ok (.getfield 68, 3) := dk_180 0 68 (dk_at dksX1_comesPlace_1 7 rfl rfl)
theorem dX1_comesPlace_32 : decode cX1_comesPlace 32 = .ok (.getfield 87, 3) := dk_180 0 87 (dk_at dksX1_comesPlace_1 10 rfl rfl)
theorem dX1_comesPlace_35 : decode cX1_comesPlace 35 = .ok (.iload_n 1, 1) := dk_27 (dk_at dksX1_comesPlace_1 13 rfl rfl)
theorem dX1_comesPlace_36 : decode cX1_comesPlace 36 = .ok (.iload_n 3, 1) := dk_29 (dk_at dksX1_comesPlace_1 14 rfl rfl)
theorem dX1_comesPlace_37 : decode cX1_comesPlace 37 = .ok (.iastore, 1) := dk_79 (dk_at dksX1_comesPlace_1 15 rfl rfl)
theorem dX1_comesPlace_38 : decode cX1_comesPlace 38 = .ok (.iconst 1, 1) := dk_4 (dk_at dksX1_comesPlace_1 16 rfl rfl)
theorem dX1_comesPlace_39 : decode cX1_comesPlace 39 = .ok (.ireturn, 1) := dk_172 (dk_at dksX1_comesPlace_1 17 rfl rfl)
abbrev cX1_stroke : ByteArray := prog_1_method_18_code
def yX1_stroke : MethodName := ⟨RX1, "stroke", "(II)I"⟩
def dkwX1_stroke_3 : List UInt8 := [182, 0, 193, 172, 2, 172]
abbrev dktX1_stroke_3 : List UInt8 := dkwX1_stroke_3 ++ []
def dkwX1_stroke_2 : List UInt8 := [45, 182, 0, 183, 172, 45, 180, 0, 187, 172, 45, 182, 0, 190, 172, 45, 3, 182, 0, 193, 172, 45, 16, 8]
abbrev dktX1_stroke_2 : List UInt8 := dkwX1_stroke_2 ++ dktX1_stroke_3
def dkwX1_stroke_1 : List UInt8 := [170, 0, 0, 0, 0, 0, 0, 64, 0, 0, 0, 0, 0, 0, 0, 4, 0, 0, 0, 36, 0, 0, 0, 41, 0, 0, 0, 46, 0, 0, 0, 51, 0, 0, 0, 57]
abbrev dktX1_stroke_1 : List UInt8 := dkwX1_stroke_1 ++ dktX1_stroke_2
def dkwX1_stroke_0 : List UInt8 := [42, 180, 0, 140, 27, 182, 0, 90, 154, 0, 5, 2, 172, 42, 180, 0, 140, 180, 0, 179, 27, 50, 78, 28]
abbrev dktX1_stroke_0 : List UInt8 := dkwX1_stroke_0 ++ dktX1_stroke_1
theorem dksX1_stroke_0 : cX1_stroke.data.toList.drop 0 = dktX1_stroke_0 := by decide +kernel
theorem dksX1_stroke_1 : cX1_stroke.data.toList.drop 24 = dktX1_stroke_1 := dk_seg dksX1_stroke_0 24 rfl rfl
theorem dksX1_stroke_2 : cX1_stroke.data.toList.drop 60 = dktX1_stroke_2 := dk_seg dksX1_stroke_1 36 rfl rfl
theorem dksX1_stroke_3 : cX1_stroke.data.toList.drop 84 = dktX1_stroke_3 := dk_seg dksX1_stroke_2 24 rfl rfl
theorem dX1_stroke_0 : decode cX1_stroke 0 = .ok (.aload_n 0, 1) := dk_42 (dk_at dksX1_stroke_0 0 rfl rfl)
theorem dX1_stroke_1 : decode cX1_stroke 1 = .ok (.getfield 140, 3) := dk_180 0 140 (dk_at dksX1_stroke_0 1 rfl rfl)
theorem dX1_stroke_4 : decode cX1_stroke 4 = .ok (.iload_n 1, 1) := dk_27 (dk_at dksX1_stroke_0 4 rfl rfl)
theorem dX1_stroke_5 : decode cX1_stroke 5 = .ok (.invokevirtual 90, 3) := dk_182 0 90 (dk_at dksX1_stroke_0 5 rfl rfl)
theorem dX1_stroke_8 : decode cX1_stroke 8 = .ok (.ifCond .ne 5, 3) := dk_154 0 5 (dk_at dksX1_stroke_0 8 rfl rfl)
theorem dX1_stroke_11 : decode cX1_stroke 11 = .ok (.iconst (-1), 1) := dk_2 (dk_at dksX1_stroke_0 11 rfl rfl)
theorem dX1_stroke_12 : decode cX1_stroke 12 = .ok (.ireturn, 1) := dk_172 (dk_at dksX1_stroke_0 12 rfl rfl)
theorem dX1_stroke_13 : decode cX1_stroke 13 = .ok (.aload_n 0, 1) := dk_42 (dk_at dksX1_stroke_0 13 rfl rfl)
theorem dX1_stroke_14 : decode cX1_stroke 14 = .ok (.getfield 140, 3) := dk_180 0 140 (dk_at dksX1_stroke_0 14 rfl rfl)
theorem dX1_stroke_17 : decode cX1_stroke 17 = .ok (.getfield 179, 3) := dk_180 0 179 (dk_at dksX1_stroke_0 17 rfl rfl)
theorem dX1_stroke_20 : decode cX1_stroke 20 = .ok (.iload_n 1, 1) := dk_27 (dk_at dksX1_stroke_0 20 rfl rfl)
theorem dX1_stroke_21 : decode cX1_stroke 21 = .ok (.aaload, 1) := dk_50 (dk_at dksX1_stroke_0 21 rfl rfl)
theorem dX1_stroke_22 : decode cX1_stroke 22 = .ok (.astore_n 3, 1) := dk_78 (dk_at dksX1_stroke_0 22 rfl rfl)
theorem dX1_stroke_23 : decode cX1_stroke 23 = .ok (.iload_n 2, 1) := dk_28 (dk_at dksX1_stroke_0 23 rfl rfl)
theorem dX1_stroke_24 : decode cX1_stroke 24 = .ok (.tableswitch 64 0 4 #[36, 41, 46, 51, 57], 36) := by decide +kernel
theorem dX1_stroke_60 : decode cX1_stroke 60 = .ok (.aload_n 3, 1) := dk_45 (dk_at dksX1_stroke_2 0 rfl rfl)
theorem dX1_stroke_61 : decode cX1_stroke 61 = .ok (.invokevirtual 183, 3) := dk_182 0 183 (dk_at dksX1_stroke_2 1 rfl rfl)
theorem dX1_stroke_64 : decode cX1_stroke 64 = .ok (.ireturn, 1) := dk_172 (dk_at dksX1_stroke_2 4 rfl rfl)
theorem dX1_stroke_65 : decode cX1_stroke 65 = .ok (.aload_n 3, 1) := dk_45 (dk_at dksX1_stroke_2 5 rfl rfl)
theorem dX1_stroke_66 : decode cX1_stroke 66 = .ok (.getfield 187, 3) := dk_180 0 187 (dk_at dksX1_stroke_2 6 rfl rfl)
theorem dX1_stroke_69 : decode cX1_stroke 69 = .ok (.ireturn, 1) := dk_172 (dk_at dksX1_stroke_2 9 rfl rfl)
theorem dX1_stroke_70 : decode cX1_stroke 70 = .ok (.aload_n 3, 1) := dk_45 (dk_at dksX1_stroke_2 10 rfl rfl)
theorem dX1_stroke_71 : decode cX1_stroke 71 = .ok (.invokevirtual 190, 3) := dk_182 0 190 (dk_at dksX1_stroke_2 11 rfl rfl)
theorem dX1_stroke_74 : decode cX1_stroke 74 = .ok (.ireturn, 1) := dk_172 (dk_at dksX1_stroke_2 14 rfl rfl)
theorem dX1_stroke_75 : decode cX1_stroke 75 = .ok (.aload_n 3, 1) := dk_45 (dk_at dksX1_stroke_2 15 rfl rfl)
theorem dX1_stroke_76 : decode cX1_stroke 76 = .ok (.iconst 0, 1) := dk_3 (dk_at dksX1_stroke_2 16 rfl rfl)
theorem dX1_stroke_77 : decode cX1_stroke 77 = .ok (.invokevirtual 193, 3) := dk_182 0 193 (dk_at dksX1_stroke_2 17 rfl rfl)
theorem dX1_stroke_80 : decode cX1_stroke 80 = .ok (.ireturn, 1) := dk_172 (dk_at dksX1_stroke_2 20 rfl rfl)
theorem dX1_stroke_81 : decode cX1_stroke 81 = .ok (.aload_n 3, 1) := dk_45 (dk_at dksX1_stroke_2 21 rfl rfl)
theorem dX1_stroke_82 : decode cX1_stroke 82 = .ok (.bipush 8, 2) := dk_16 8 (dk_at dksX1_stroke_2 22 rfl rfl)
theorem dX1_stroke_84 : decode cX1_stroke 84 = .ok (.invokevirtual 193, 3) := dk_182 0 193 (dk_at dksX1_stroke_3 0 rfl rfl)
theorem dX1_stroke_87 : decode cX1_stroke 87 = .ok (.ireturn, 1) := dk_172 (dk_at dksX1_stroke_3 3 rfl rfl)
theorem dX1_stroke_88 : decode cX1_stroke 88 = .ok (.iconst (-1), 1) := dk_2 (dk_at dksX1_stroke_3 4 rfl rfl)
theorem dX1_stroke_89 : decode cX1_stroke 89 = .ok (.ireturn, 1) := dk_172 (dk_at dksX1_stroke_3 5 rfl rfl)
abbrev cX1_player : ByteArray := prog_1_method_19_code
def yX1_player : MethodName := ⟨RX1, "player", "(II)I"⟩
def dkwX1_player_4 : List UInt8 := [182, 0, 196, 172, 2, 172]
abbrev dktX1_player_4 : List UInt8 := dkwX1_player_4 ++ []
def dkwX1_player_3 : List UInt8 := [180, 0, 72, 27, 46, 172, 42, 180, 0, 140, 180, 0, 75, 27, 122, 4, 126, 172, 42, 180, 0, 140, 27, 4]
abbrev dktX1_player_3 : List UInt8 := dkwX1_player_3 ++ dktX1_player_4
def dkwX1_player_2 : List UInt8 := [42, 180, 0, 140, 180, 0, 84, 27, 46, 172, 42, 180, 0, 140, 180, 0, 87, 27, 46, 172, 42, 180, 0, 140]
abbrev dktX1_player_2 : List UInt8 := dkwX1_player_2 ++ dktX1_player_3
def dkwX1_player_1 : List UInt8 := [170, 0, 0, 0, 0, 86, 0, 0, 0, 0, 0, 0, 0, 4, 0, 0, 0, 34, 0, 0, 0, 44, 0, 0, 0, 54, 0, 0, 0, 64, 0, 0, 0, 76]
abbrev dktX1_player_1 : List UInt8 := dkwX1_player_1 ++ dktX1_player_2
def dkwX1_player_0 : List UInt8 := [27, 184, 0, 61, 154, 0, 5, 2, 172, 28]
abbrev dktX1_player_0 : List UInt8 := dkwX1_player_0 ++ dktX1_player_1
theorem dksX1_player_0 : cX1_player.data.toList.drop 0 = dktX1_player_0 := by decide +kernel
theorem dksX1_player_1 : cX1_player.data.toList.drop 10 = dktX1_player_1 := dk_seg dksX1_player_0 10 rfl rfl
theorem dksX1_player_2 : cX1_player.data.toList.drop 44 = dktX1_player_2 := dk_seg dksX1_player_1 34 rfl rfl
theorem dksX1_player_3 : cX1_player.data.toList.drop 68 = dktX1_player_3 := dk_seg dksX1_player_2 24 rfl rfl
theorem dksX1_player_4 : cX1_player.data.toList.drop 92 = dktX1_player_4 := dk_seg dksX1_player_3 24 rfl rfl
theorem dX1_player_0 : decode cX1_player 0 = .ok (.iload_n 1, 1) := dk_27 (dk_at dksX1_player_0 0 rfl rfl)
theorem dX1_player_1 : decode cX1_player 1 = .ok (.invokestatic 61, 3) := dk_184 0 61 (dk_at dksX1_player_0 1 rfl rfl)
theorem dX1_player_4 : decode cX1_player 4 = .ok (.ifCond .ne 5, 3) := dk_154 0 5 (dk_at dksX1_player_0 4 rfl rfl)
theorem dX1_player_7 : decode cX1_player 7 = .ok (.iconst (-1), 1) := dk_2 (dk_at dksX1_player_0 7 rfl rfl)
theorem dX1_player_8 : decode cX1_player 8 = .ok (.ireturn, 1) := dk_172 (dk_at dksX1_player_0 8 rfl rfl)
theorem dX1_player_9 : decode cX1_player 9 = .ok (.iload_n 2, 1) := dk_28 (dk_at dksX1_player_0 9 rfl rfl)
theorem dX1_player_10 : decode cX1_player 10 = .ok (.tableswitch 86 0 4 #[34, 44, 54, 64, 76], 34) := by decide +kernel
theorem dX1_player_44 : decode cX1_player 44 = .ok (.aload_n 0, 1) := dk_42 (dk_at dksX1_player_2 0 rfl rfl)
theorem dX1_player_45 : decode cX1_player 45 = .ok (.getfield 140, 3) := dk_180 0 140 (dk_at dksX1_player_2 1 rfl rfl)
theorem dX1_player_48 : decode cX1_player 48 = .ok (.getfield 84, 3) := dk_180 0 84 (dk_at dksX1_player_2 4 rfl rfl)
theorem dX1_player_51 : decode cX1_player 51 = .ok (.iload_n 1, 1) := dk_27 (dk_at dksX1_player_2 7 rfl rfl)
theorem dX1_player_52 : decode cX1_player 52 = .ok (.iaload, 1) := dk_46 (dk_at dksX1_player_2 8 rfl rfl)
theorem dX1_player_53 : decode cX1_player 53 = .ok (.ireturn, 1) := dk_172 (dk_at dksX1_player_2 9 rfl rfl)
theorem dX1_player_54 : decode cX1_player 54 = .ok (.aload_n 0, 1) := dk_42 (dk_at dksX1_player_2 10 rfl rfl)
theorem dX1_player_55 : decode cX1_player 55 = .ok (.getfield 140, 3) := dk_180 0 140 (dk_at dksX1_player_2 11 rfl rfl)
theorem dX1_player_58 : decode cX1_player 58 = .ok (.getfield 87, 3) := dk_180 0 87 (dk_at dksX1_player_2 14 rfl rfl)
theorem dX1_player_61 : decode cX1_player 61 = .ok (.iload_n 1, 1) := dk_27 (dk_at dksX1_player_2 17 rfl rfl)
theorem dX1_player_62 : decode cX1_player 62 = .ok (.iaload, 1) := dk_46 (dk_at dksX1_player_2 18 rfl rfl)
theorem dX1_player_63 : decode cX1_player 63 = .ok (.ireturn, 1) := dk_172 (dk_at dksX1_player_2 19 rfl rfl)
theorem dX1_player_64 : decode cX1_player 64 = .ok (.aload_n 0, 1) := dk_42 (dk_at dksX1_player_2 20 rfl rfl)
theorem dX1_player_65 : decode cX1_player 65 = .ok (.getfield 140, 3) := dk_180 0 140 (dk_at dksX1_player_2 21 rfl rfl)
theorem dX1_player_68 : decode cX1_player 68 = .ok (.getfield 72, 3) := dk_180 0 72 (dk_at dksX1_player_3 0 rfl rfl)
theorem dX1_player_71 : decode cX1_player 71 = .ok (.iload_n 1, 1) := dk_27 (dk_at dksX1_player_3 3 rfl rfl)
theorem dX1_player_72 : decode cX1_player 72 = .ok (.iaload, 1) := dk_46 (dk_at dksX1_player_3 4 rfl rfl)
theorem dX1_player_73 : decode cX1_player 73 = .ok (.ireturn, 1) := dk_172 (dk_at dksX1_player_3 5 rfl rfl)
theorem dX1_player_74 : decode cX1_player 74 = .ok (.aload_n 0, 1) := dk_42 (dk_at dksX1_player_3 6 rfl rfl)
theorem dX1_player_75 : decode cX1_player 75 = .ok (.getfield 140, 3) := dk_180 0 140 (dk_at dksX1_player_3 7 rfl rfl)
theorem dX1_player_78 : decode cX1_player 78 = .ok (.getfield 75, 3) := dk_180 0 75 (dk_at dksX1_player_3 10 rfl rfl)
theorem dX1_player_81 : decode cX1_player 81 = .ok (.iload_n 1, 1) := dk_27 (dk_at dksX1_player_3 13 rfl rfl)
theorem dX1_player_82 : decode cX1_player 82 = .ok (.ishr, 1) := dk_122 (dk_at dksX1_player_3 14 rfl rfl)
theorem dX1_player_83 : decode cX1_player 83 = .ok (.iconst 1, 1) := dk_4 (dk_at dksX1_player_3 15 rfl rfl)
theorem dX1_player_84 : decode cX1_player 84 = .ok (.iand, 1) := dk_126 (dk_at dksX1_player_3 16 rfl rfl)
theorem dX1_player_85 : decode cX1_player 85 = .ok (.ireturn, 1) := dk_172 (dk_at dksX1_player_3 17 rfl rfl)
theorem dX1_player_86 : decode cX1_player 86 = .ok (.aload_n 0, 1) := dk_42 (dk_at dksX1_player_3 18 rfl rfl)
theorem dX1_player_87 : decode cX1_player 87 = .ok (.getfield 140, 3) := dk_180 0 140 (dk_at dksX1_player_3 19 rfl rfl)
theorem dX1_player_90 : decode cX1_player 90 = .ok (.iload_n 1, 1) := dk_27 (dk_at dksX1_player_3 22 rfl rfl)
theorem dX1_player_91 : decode cX1_player 91 = .ok (.iconst 1, 1) := dk_4 (dk_at dksX1_player_3 23 rfl rfl)
theorem dX1_player_92 : decode cX1_player 92 = .ok (.invokevirtual 196, 3) := dk_182 0 196 (dk_at dksX1_player_4 0 rfl rfl)
theorem dX1_player_95 : decode cX1_player 95 = .ok (.ireturn, 1) := dk_172 (dk_at dksX1_player_4 3 rfl rfl)
theorem dX1_player_96 : decode cX1_player 96 = .ok (.iconst (-1), 1) := dk_2 (dk_at dksX1_player_4 4 rfl rfl)
theorem dX1_player_97 : decode cX1_player 97 = .ok (.ireturn, 1) := dk_172 (dk_at dksX1_player_4 5 rfl rfl)
abbrev cX1_side : ByteArray := prog_1_method_20_code
def yX1_side : MethodName := ⟨RX1, "side", "(II)I"⟩
def dkwX1_side_4 : List UInt8 := [180, 0, 140, 180, 0, 203, 167, 0, 6, 5, 27, 104, 182, 0, 206, 172, 2, 172]
abbrev dktX1_side_4 : List UInt8 := dkwX1_side_4 ++ []
def dkwX1_side_3 : List UInt8 := [180, 0, 52, 27, 46, 172, 42, 180, 0, 140, 42, 180, 0, 140, 182, 0, 200, 27, 160, 0, 13, 42]
abbrev dktX1_side_3 : List UInt8 := dkwX1_side_3 ++ dktX1_side_4
def dkwX1_side_2 : List UInt8 := [42, 180, 0, 140, 180, 0, 111, 27, 46, 172, 42, 180, 0, 140, 180, 0, 114, 27, 46, 172, 42, 180, 0, 140]
abbrev dktX1_side_2 : List UInt8 := dkwX1_side_2 ++ dktX1_side_3
def dkwX1_side_1 : List UInt8 := [170, 0, 0, 0, 0, 0, 0, 94, 0, 0, 0, 0, 0, 0, 0, 3, 0, 0, 0, 32, 0, 0, 0, 42, 0, 0, 0, 52, 0, 0, 0, 62]
abbrev dktX1_side_1 : List UInt8 := dkwX1_side_1 ++ dktX1_side_2
def dkwX1_side_0 : List UInt8 := [27, 3, 4, 184, 0, 42, 154, 0, 5, 2, 172, 28]
abbrev dktX1_side_0 : List UInt8 := dkwX1_side_0 ++ dktX1_side_1
theorem dksX1_side_0 : cX1_side.data.toList.drop 0 = dktX1_side_0 := by decide +kernel
theorem dksX1_side_1 : cX1_side.data.toList.drop 12 = dktX1_side_1 := dk_seg dksX1_side_0 12 rfl rfl
theorem dksX1_side_2 : cX1_side.data.toList.drop 44 = dktX1_side_2 := dk_seg dksX1_side_1 32 rfl rfl
theorem dksX1_side_3 : cX1_side.data.toList.drop 68 = dktX1_side_3 := dk_seg dksX1_side_2 24 rfl rfl
theorem dksX1_side_4 : cX1_side.data.toList.drop 90 = dktX1_side_4 := dk_seg dksX1_side_3 22 rfl rfl
theorem dX1_side_0 : decode cX1_side 0 = .ok (.iload_n 1, 1) := dk_27 (dk_at dksX1_side_0 0 rfl rfl)
theorem dX1_side_1 : decode cX1_side 1 = .ok (.iconst 0, 1) := dk_3 (dk_at dksX1_side_0 1 rfl rfl)
theorem dX1_side_2 : decode cX1_side 2 = .ok (.iconst 1, 1) := dk_4 (dk_at dksX1_side_0 2 rfl rfl)
theorem dX1_side_3 : decode cX1_side 3 = .ok (.invokestatic 42, 3) := dk_184 0 42 (dk_at dksX1_side_0 3 rfl rfl)
theorem dX1_side_6 : decode cX1_side 6 = .ok (.ifCond .ne 5, 3) := dk_154 0 5 (dk_at dksX1_side_0 6 rfl rfl)
theorem dX1_side_9 : decode cX1_side 9 = .ok (.iconst (-1), 1) := dk_2 (dk_at dksX1_side_0 9 rfl rfl)
theorem dX1_side_10 : decode cX1_side 10 = .ok (.ireturn, 1) := dk_172 (dk_at dksX1_side_0 10 rfl rfl)
theorem dX1_side_11 : decode cX1_side 11 = .ok (.iload_n 2, 1) := dk_28 (dk_at dksX1_side_0 11 rfl rfl)
theorem dX1_side_12 : decode cX1_side 12 = .ok (.tableswitch 94 0 3 #[32, 42, 52, 62], 32) := by decide +kernel
theorem dX1_side_44 : decode cX1_side 44 = .ok (.aload_n 0, 1) := dk_42 (dk_at dksX1_side_2 0 rfl rfl)
theorem dX1_side_45 : decode cX1_side 45 = .ok (.getfield 140, 3) := dk_180 0 140 (dk_at dksX1_side_2 1 rfl rfl)
theorem dX1_side_48 : decode cX1_side 48 = .ok (.getfield 111, 3) := dk_180 0 111 (dk_at dksX1_side_2 4 rfl rfl)
theorem dX1_side_51 : decode cX1_side 51 = .ok (.iload_n 1, 1) := dk_27 (dk_at dksX1_side_2 7 rfl rfl)
theorem dX1_side_52 : decode cX1_side 52 = .ok (.iaload, 1) := dk_46 (dk_at dksX1_side_2 8 rfl rfl)
theorem dX1_side_53 : decode cX1_side 53 = .ok (.ireturn, 1) := dk_172 (dk_at dksX1_side_2 9 rfl rfl)
theorem dX1_side_54 : decode cX1_side 54 = .ok (.aload_n 0, 1) := dk_42 (dk_at dksX1_side_2 10 rfl rfl)
theorem dX1_side_55 : decode cX1_side 55 = .ok (.getfield 140, 3) := dk_180 0 140 (dk_at dksX1_side_2 11 rfl rfl)
theorem dX1_side_58 : decode cX1_side 58 = .ok (.getfield 114, 3) := dk_180 0 114 (dk_at dksX1_side_2 14 rfl rfl)
theorem dX1_side_61 : decode cX1_side 61 = .ok (.iload_n 1, 1) := dk_27 (dk_at dksX1_side_2 17 rfl rfl)
theorem dX1_side_62 : decode cX1_side 62 = .ok (.iaload, 1) := dk_46 (dk_at dksX1_side_2 18 rfl rfl)
theorem dX1_side_63 : decode cX1_side 63 = .ok (.ireturn, 1) := dk_172 (dk_at dksX1_side_2 19 rfl rfl)
theorem dX1_side_64 : decode cX1_side 64 = .ok (.aload_n 0, 1) := dk_42 (dk_at dksX1_side_2 20 rfl rfl)
theorem dX1_side_65 : decode cX1_side 65 = .ok (.getfield 140, 3) := dk_180 0 140 (dk_at dksX1_side_2 21 rfl rfl)
theorem dX1_side_68 : decode cX1_side 68 = .ok (.getfield 52, 3) := dk_180 0 52 (dk_at dksX1_side_3 0 rfl rfl)
theorem dX1_side_71 : decode cX1_side 71 = .ok (.iload_n 1, 1) := dk_27 (dk_at dksX1_side_3 3 rfl rfl)
theorem dX1_side_72 : decode cX1_side 72 = .ok (.iaload, 1) := dk_46 (dk_at dksX1_side_3 4 rfl rfl)
theorem dX1_side_73 : decode cX1_side 73 = .ok (.ireturn, 1) := dk_172 (dk_at dksX1_side_3 5 rfl rfl)
theorem dX1_side_74 : decode cX1_side 74 = .ok (.aload_n 0, 1) := dk_42 (dk_at dksX1_side_3 6 rfl rfl)
theorem dX1_side_75 : decode cX1_side 75 = .ok (.getfield 140, 3) := dk_180 0 140 (dk_at dksX1_side_3 7 rfl rfl)
theorem dX1_side_78 : decode cX1_side 78 = .ok (.aload_n 0, 1) := dk_42 (dk_at dksX1_side_3 10 rfl rfl)
theorem dX1_side_79 : decode cX1_side 79 = .ok (.getfield 140, 3) := dk_180 0 140 (dk_at dksX1_side_3 11 rfl rfl)
theorem dX1_side_82 : decode cX1_side 82 = .ok (.invokevirtual 200, 3) := dk_182 0 200 (dk_at dksX1_side_3 14 rfl rfl)
theorem dX1_side_85 : decode cX1_side 85 = .ok (.iload_n 1, 1) := dk_27 (dk_at dksX1_side_3 17 rfl rfl)
theorem dX1_side_86 : decode cX1_side 86 = .ok (.if_icmp .ne 13, 3) := dk_160 0 13 (dk_at dksX1_side_3 18 rfl rfl)
theorem dX1_side_89 : decode cX1_side 89 = .ok (.aload_n 0, 1) := dk_42 (dk_at dksX1_side_3 21 rfl rfl)
theorem dX1_side_90 : decode cX1_side 90 = .ok (.getfield 140, 3) := dk_180 0 140 (dk_at dksX1_side_4 0 rfl rfl)
theorem dX1_side_93 : decode cX1_side 93 = .ok (.getfield 203, 3) := dk_180 0 203 (dk_at dksX1_side_4 3 rfl rfl)
theorem dX1_side_96 : decode cX1_side 96 = .ok (.goto 6, 3) := dk_167 0 6 (dk_at dksX1_side_4 6 rfl rfl)
theorem dX1_side_99 : decode cX1_side 99 = .ok (.iconst 2, 1) := dk_5 (dk_at dksX1_side_4 9 rfl rfl)
theorem dX1_side_100 : decode cX1_side 100 = .ok (.iload_n 1, 1) := dk_27 (dk_at dksX1_side_4 10 rfl rfl)
theorem dX1_side_101 : decode cX1_side 101 = .ok (.imul, 1) := dk_104 (dk_at dksX1_side_4 11 rfl rfl)
theorem dX1_side_102 : decode cX1_side 102 = .ok (.invokevirtual 206, 3) := dk_182 0 206 (dk_at dksX1_side_4 12 rfl rfl)
theorem dX1_side_105 : decode cX1_side 105 = .ok (.ireturn, 1) := dk_172 (dk_at dksX1_side_4 15 rfl rfl)
theorem dX1_side_106 : decode cX1_side 106 = .ok (.iconst (-1), 1) := dk_2 (dk_at dksX1_side_4 16 rfl rfl)
theorem dX1_side_107 : decode cX1_side 107 = .ok (.ireturn, 1) := dk_172 (dk_at dksX1_side_4 17 rfl rfl)
abbrev cX1_learns : ByteArray := prog_1_method_21_code
def yX1_learns : MethodName := ⟨RX1, "learns", "(I)I"⟩
def dkwX1_learns_2 : List UInt8 := [180, 0, 140, 44, 182, 0, 107, 172, 77, 16, 244, 172]
abbrev dktX1_learns_2 : List UInt8 := dkwX1_learns_2 ++ []
def dkwX1_learns_1 : List UInt8 := [199, 0, 6, 16, 245, 172, 42, 180, 0, 140, 180, 0, 100, 16, 8, 160, 0, 8, 16, 254, 167, 0, 11, 42]
abbrev dktX1_learns_1 : List UInt8 := dkwX1_learns_1 ++ dktX1_learns_2
def dkwX1_learns_0 : List UInt8 := [42, 27, 182, 0, 155, 154, 0, 5, 2, 172, 42, 180, 0, 158, 27, 50, 180, 0, 162, 192, 0, 15, 77, 44]
abbrev dktX1_learns_0 : List UInt8 := dkwX1_learns_0 ++ dktX1_learns_1
theorem dksX1_learns_0 : cX1_learns.data.toList.drop 0 = dktX1_learns_0 := by decide +kernel
theorem dksX1_learns_1 : cX1_learns.data.toList.drop 24 = dktX1_learns_1 := dk_seg dksX1_learns_0 24 rfl rfl
theorem dksX1_learns_2 : cX1_learns.data.toList.drop 48 = dktX1_learns_2 := dk_seg dksX1_learns_1 24 rfl rfl
theorem dX1_learns_0 : decode cX1_learns 0 = .ok (.aload_n 0, 1) := dk_42 (dk_at dksX1_learns_0 0 rfl rfl)
theorem dX1_learns_1 : decode cX1_learns 1 = .ok (.iload_n 1, 1) := dk_27 (dk_at dksX1_learns_0 1 rfl rfl)
theorem dX1_learns_2 : decode cX1_learns 2 = .ok (.invokevirtual 155, 3) := dk_182 0 155 (dk_at dksX1_learns_0 2 rfl rfl)
theorem dX1_learns_5 : decode cX1_learns 5 = .ok (.ifCond .ne 5, 3) := dk_154 0 5 (dk_at dksX1_learns_0 5 rfl rfl)
theorem dX1_learns_8 : decode cX1_learns 8 = .ok (.iconst (-1), 1) := dk_2 (dk_at dksX1_learns_0 8 rfl rfl)
theorem dX1_learns_9 : decode cX1_learns 9 = .ok (.ireturn, 1) := dk_172 (dk_at dksX1_learns_0 9 rfl rfl)
theorem dX1_learns_10 : decode cX1_learns 10 = .ok (.aload_n 0, 1) := dk_42 (dk_at dksX1_learns_0 10 rfl rfl)
theorem dX1_learns_11 : decode cX1_learns 11 = .ok (.getfield 158, 3) := dk_180 0 158 (dk_at dksX1_learns_0 11 rfl rfl)
theorem dX1_learns_14 : decode cX1_learns 14 = .ok (.iload_n 1, 1) := dk_27 (dk_at dksX1_learns_0 14 rfl rfl)
theorem dX1_learns_15 : decode cX1_learns 15 = .ok (.aaload, 1) := dk_50 (dk_at dksX1_learns_0 15 rfl rfl)
theorem dX1_learns_16 : decode cX1_learns 16 = .ok (.getfield 162, 3) := dk_180 0 162 (dk_at dksX1_learns_0 16 rfl rfl)
theorem dX1_learns_19 : decode cX1_learns 19 = .ok (.checkcast 15, 3) := dk_192 0 15 (dk_at dksX1_learns_0 19 rfl rfl)
theorem dX1_learns_22 : decode cX1_learns 22 = .ok (.astore_n 2, 1) := dk_77 (dk_at dksX1_learns_0 22 rfl rfl)
theorem dX1_learns_23 : decode cX1_learns 23 = .ok (.aload_n 2, 1) := dk_44 (dk_at dksX1_learns_0 23 rfl rfl)
theorem dX1_learns_24 : decode cX1_learns 24 = .ok (.ifnonnull 6, 3) := dk_199 0 6 (dk_at dksX1_learns_1 0 rfl rfl)
theorem dX1_learns_27 : decode cX1_learns 27 = .ok (.bipush (-11), 2) := dk_16 245 (dk_at dksX1_learns_1 3 rfl rfl)
theorem dX1_learns_29 : decode cX1_learns 29 = .ok (.ireturn, 1) := dk_172 (dk_at dksX1_learns_1 5 rfl rfl)
theorem dX1_learns_30 : decode cX1_learns 30 = .ok (.aload_n 0, 1) := dk_42 (dk_at dksX1_learns_1 6 rfl rfl)
theorem dX1_learns_31 : decode cX1_learns 31 = .ok (.getfield 140, 3) := dk_180 0 140 (dk_at dksX1_learns_1 7 rfl rfl)
theorem dX1_learns_34 : decode cX1_learns 34 = .ok (.getfield 100, 3) := dk_180 0 100 (dk_at dksX1_learns_1 10 rfl rfl)
theorem dX1_learns_37 : decode cX1_learns 37 = .ok (.bipush 8, 2) := dk_16 8 (dk_at dksX1_learns_1 13 rfl rfl)
theorem dX1_learns_39 : decode cX1_learns 39 = .ok (.if_icmp .ne 8, 3) := dk_160 0 8 (dk_at dksX1_learns_1 15 rfl rfl)
theorem dX1_learns_42 : decode cX1_learns 42 = .ok (.bipush (-2), 2) := dk_16 254 (dk_at dksX1_learns_1 18 rfl rfl)
theorem dX1_learns_44 : decode cX1_learns 44 = .ok (.goto 11, 3) := dk_167 0 11 (dk_at dksX1_learns_1 20 rfl rfl)
theorem dX1_learns_47 : decode cX1_learns 47 = .ok (.aload_n 0, 1) := dk_42 (dk_at dksX1_learns_1 23 rfl rfl)
theorem dX1_learns_48 : decode cX1_learns 48 = .ok (.getfield 140, 3) := dk_180 0 140 (dk_at dksX1_learns_2 0 rfl rfl)
theorem dX1_learns_51 : decode cX1_learns 51 = .ok (.aload_n 2, 1) := dk_44 (dk_at dksX1_learns_2 3 rfl rfl)
theorem dX1_learns_52 : decode cX1_learns 52 = .ok (.invokevirtual 107, 3) := dk_182 0 107 (dk_at dksX1_learns_2 4 rfl rfl)
theorem dX1_learns_55 : decode cX1_learns 55 = .ok (.ireturn, 1) := dk_172 (dk_at dksX1_learns_2 7 rfl rfl)
theorem dX1_learns_56 : decode cX1_learns 56 = .ok (.astore_n 2, 1) := dk_77 (dk_at dksX1_learns_2 8 rfl rfl)
theorem dX1_learns_57 : decode cX1_learns 57 = .ok (.bipush (-12), 2) := dk_16 244 (dk_at dksX1_learns_2 9 rfl rfl)
theorem dX1_learns_59 : decode cX1_learns 59 = .ok (.ireturn, 1) := dk_172 (dk_at dksX1_learns_2 11 rfl rfl)
abbrev cX1_stands : ByteArray := prog_1_method_22_code
def yX1_stands : MethodName := ⟨RX1, "stands", "(III)I"⟩
def dkwX1_stands_2 : List UInt8 := [180, 0, 140, 180, 0, 87, 27, 29, 79, 21, 4, 172]
abbrev dktX1_stands_2 : List UInt8 := dkwX1_stands_2 ++ []
def dkwX1_stands_1 : List UInt8 := [172, 42, 180, 0, 140, 180, 0, 84, 27, 46, 54, 4, 42, 180, 0, 140, 180, 0, 84, 27, 28, 79, 42]
abbrev dktX1_stands_1 : List UInt8 := dkwX1_stands_1 ++ dktX1_stands_2
def dkwX1_stands_0 : List UInt8 := [27, 184, 0, 61, 153, 0, 19, 28, 184, 0, 81, 153, 0, 12, 29, 4, 7, 184, 0, 42, 154, 0, 5, 2]
abbrev dktX1_stands_0 : List UInt8 := dkwX1_stands_0 ++ dktX1_stands_1
theorem dksX1_stands_0 : cX1_stands.data.toList.drop 0 = dktX1_stands_0 := by decide +kernel
theorem dksX1_stands_1 : cX1_stands.data.toList.drop 24 = dktX1_stands_1 := dk_seg dksX1_stands_0 24 rfl rfl
theorem dksX1_stands_2 : cX1_stands.data.toList.drop 47 = dktX1_stands_2 := dk_seg dksX1_stands_1 23 rfl rfl
theorem dX1_stands_0 : decode cX1_stands 0 = .ok (.iload_n 1, 1) := dk_27 (dk_at dksX1_stands_0 0 rfl rfl)
theorem dX1_stands_1 : decode cX1_stands 1 = .ok (.invokestatic 61, 3) := dk_184 0 61 (dk_at dksX1_stands_0 1 rfl rfl)
theorem dX1_stands_4 : decode cX1_stands 4 = .ok (.ifCond .eq 19, 3) := dk_153 0 19 (dk_at dksX1_stands_0 4 rfl rfl)
theorem dX1_stands_7 : decode cX1_stands 7 = .ok (.iload_n 2, 1) := dk_28 (dk_at dksX1_stands_0 7 rfl rfl)
theorem dX1_stands_8 : decode cX1_stands 8 = .ok (.invokestatic 81, 3) := dk_184 0 81 (dk_at dksX1_stands_0 8 rfl rfl)
theorem dX1_stands_11 : decode cX1_stands 11 = .ok (.ifCond .eq 12, 3) := dk_153 0 12 (dk_at dksX1_stands_0 11 rfl rfl)
theorem dX1_stands_14 : decode cX1_stands 14 = .ok (.iload_n 3, 1) := dk_29 (dk_at dksX1_stands_0 14 rfl rfl)
theorem dX1_stands_15 : decode cX1_stands 15 = .ok (.iconst 1, 1) := dk_4 (dk_at dksX1_stands_0 15 rfl rfl)
theorem dX1_stands_16 : decode cX1_stands 16 = .ok (.iconst 4, 1) := dk_7 (dk_at dksX1_stands_0 16 rfl rfl)
theorem dX1_stands_17 : decode cX1_stands 17 = .ok (.invokestatic 42, 3) := dk_184 0 42 (dk_at dksX1_stands_0 17 rfl rfl)
theorem dX1_stands_20 : decode cX1_stands 20 = .ok (.ifCond .ne 5, 3) := dk_154 0 5 (dk_at dksX1_stands_0 20 rfl rfl)
theorem dX1_stands_23 : decode cX1_stands 23 = .ok (.iconst (-1), 1) := dk_2 (dk_at dksX1_stands_0 23 rfl rfl)
theorem dX1_stands_24 : decode cX1_stands 24 = .ok (.ireturn, 1) := dk_172 (dk_at dksX1_stands_1 0 rfl rfl)
theorem dX1_stands_25 : decode cX1_stands 25 = .ok (.aload_n 0, 1) := dk_42 (dk_at dksX1_stands_1 1 rfl rfl)
theorem dX1_stands_26 : decode cX1_stands 26 = .ok (.getfield 140, 3) := dk_180 0 140 (dk_at dksX1_stands_1 2 rfl rfl)
theorem dX1_stands_29 : decode cX1_stands 29 = .ok (.getfield 84, 3) := dk_180 0 84 (dk_at dksX1_stands_1 5 rfl rfl)
theorem dX1_stands_32 : decode cX1_stands 32 = .ok (.iload_n 1, 1) := dk_27 (dk_at dksX1_stands_1 8 rfl rfl)
theorem dX1_stands_33 : decode cX1_stands 33 = .ok (.iaload, 1) := dk_46 (dk_at dksX1_stands_1 9 rfl rfl)
theorem dX1_stands_34 : decode cX1_stands 34 = .ok (.istore 4, 2) := dk_54 4 (dk_at dksX1_stands_1 10 rfl rfl)
theorem dX1_stands_36 : decode cX1_stands 36 = .ok (.aload_n 0, 1) := dk_42 (dk_at dksX1_stands_1 12 rfl rfl)
theorem dX1_stands_37 : decode cX1_stands 37 = .ok (.getfield 140, 3) := dk_180 0 140 (dk_at dksX1_stands_1 13 rfl rfl)
theorem dX1_stands_40 : decode cX1_stands 40 = .ok (.getfield 84, 3) := dk_180 0 84 (dk_at dksX1_stands_1 16 rfl rfl)
theorem dX1_stands_43 : decode cX1_stands 43 = .ok (.iload_n 1, 1) := dk_27 (dk_at dksX1_stands_1 19 rfl rfl)
theorem dX1_stands_44 : decode cX1_stands 44 = .ok (.iload_n 2, 1) := dk_28 (dk_at dksX1_stands_1 20 rfl rfl)
theorem dX1_stands_45 : decode cX1_stands 45 = .ok (.iastore, 1) := dk_79 (dk_at dksX1_stands_1 21 rfl rfl)
theorem dX1_stands_46 : decode cX1_stands 46 = .ok (.aload_n 0, 1) := dk_42 (dk_at dksX1_stands_1 22 rfl rfl)
theorem dX1_stands_47 : decode cX1_stands 47 = .ok (.getfield 140, 3) := dk_180 0 140 (dk_at dksX1_stands_2 0 rfl rfl)
theorem dX1_stands_50 : decode cX1_stands 50 = .ok (.getfield 87, 3) := dk_180 0 87 (dk_at dksX1_stands_2 3 rfl rfl)
theorem dX1_stands_53 : decode cX1_stands 53 = .ok (.iload_n 1, 1) := dk_27 (dk_at dksX1_stands_2 6 rfl rfl)
theorem dX1_stands_54 : decode cX1_stands 54 = .ok (.iload_n 3, 1) := dk_29 (dk_at dksX1_stands_2 7 rfl rfl)
theorem dX1_stands_55 : decode cX1_stands 55 = .ok (.iastore, 1) := dk_79 (dk_at dksX1_stands_2 8 rfl rfl)
theorem dX1_stands_56 : decode cX1_stands 56 = .ok (.iload 4, 2) := dk_21 4 (dk_at dksX1_stands_2 9 rfl rfl)
theorem dX1_stands_58 : decode cX1_stands 58 = .ok (.ireturn, 1) := dk_172 (dk_at dksX1_stands_2 11 rfl rfl)
abbrev cX1_tires : ByteArray := prog_1_method_23_code
def yX1_tires : MethodName := ⟨RX1, "tires", "(II)I"⟩
def dkwX1_tires_1 : List UInt8 := [180, 0, 72, 27, 46, 62, 42, 180, 0, 140, 180, 0, 72, 27, 28, 79, 29, 172]
abbrev dktX1_tires_1 : List UInt8 := dkwX1_tires_1 ++ []
def dkwX1_tires_0 : List UInt8 := [27, 184, 0, 61, 153, 0, 13, 28, 3, 16, 99, 184, 0, 42, 154, 0, 5, 2, 172, 42, 180, 0, 140]
abbrev dktX1_tires_0 : List UInt8 := dkwX1_tires_0 ++ dktX1_tires_1
theorem dksX1_tires_0 : cX1_tires.data.toList.drop 0 = dktX1_tires_0 := by decide +kernel
theorem dksX1_tires_1 : cX1_tires.data.toList.drop 23 = dktX1_tires_1 := dk_seg dksX1_tires_0 23 rfl rfl
theorem dX1_tires_0 : decode cX1_tires 0 = .ok (.iload_n 1, 1) := dk_27 (dk_at dksX1_tires_0 0 rfl rfl)
theorem dX1_tires_1 : decode cX1_tires 1 = .ok (.invokestatic 61, 3) := dk_184 0 61 (dk_at dksX1_tires_0 1 rfl rfl)
theorem dX1_tires_4 : decode cX1_tires 4 = .ok (.ifCond .eq 13, 3) := dk_153 0 13 (dk_at dksX1_tires_0 4 rfl rfl)
theorem dX1_tires_7 : decode cX1_tires 7 = .ok (.iload_n 2, 1) := dk_28 (dk_at dksX1_tires_0 7 rfl rfl)
theorem dX1_tires_8 : decode cX1_tires 8 = .ok (.iconst 0, 1) := dk_3 (dk_at dksX1_tires_0 8 rfl rfl)
theorem dX1_tires_9 : decode cX1_tires 9 = .ok (.bipush 99, 2) := dk_16 99 (dk_at dksX1_tires_0 9 rfl rfl)
theorem dX1_tires_11 : decode cX1_tires 11 = .ok (.invokestatic 42, 3) := dk_184 0 42 (dk_at dksX1_tires_0 11 rfl rfl)
theorem dX1_tires_14 : decode cX1_tires 14 = .ok (.ifCond .ne 5, 3) := dk_154 0 5 (dk_at dksX1_tires_0 14 rfl rfl)
theorem dX1_tires_17 : decode cX1_tires 17 = .ok (.iconst (-1), 1) := dk_2 (dk_at dksX1_tires_0 17 rfl rfl)
theorem dX1_tires_18 : decode cX1_tires 18 = .ok (.ireturn, 1) := dk_172 (dk_at dksX1_tires_0 18 rfl rfl)
theorem dX1_tires_19 : decode cX1_tires 19 = .ok (.aload_n 0, 1) := dk_42 (dk_at dksX1_tires_0 19 rfl rfl)
theorem dX1_tires_20 : decode cX1_tires 20 = .ok (.getfield 140, 3) := dk_180 0 140 (dk_at dksX1_tires_0 20 rfl rfl)
theorem dX1_tires_23 : decode cX1_tires 23 = .ok (.getfield 72, 3) := dk_180 0 72 (dk_at dksX1_tires_1 0 rfl rfl)
theorem dX1_tires_26 : decode cX1_tires 26 = .ok (.iload_n 1, 1) := dk_27 (dk_at dksX1_tires_1 3 rfl rfl)
theorem dX1_tires_27 : decode cX1_tires 27 = .ok (.iaload, 1) := dk_46 (dk_at dksX1_tires_1 4 rfl rfl)
theorem dX1_tires_28 : decode cX1_tires 28 = .ok (.istore_n 3, 1) := dk_62 (dk_at dksX1_tires_1 5 rfl rfl)
theorem dX1_tires_29 : decode cX1_tires 29 = .ok (.aload_n 0, 1) := dk_42 (dk_at dksX1_tires_1 6 rfl rfl)
theorem dX1_tires_30 : decode cX1_tires 30 = .ok (.getfield 140, 3) := dk_180 0 140 (dk_at dksX1_tires_1 7 rfl rfl)
theorem dX1_tires_33 : decode cX1_tires 33 = .ok (.getfield 72, 3) := dk_180 0 72 (dk_at dksX1_tires_1 10 rfl rfl)
theorem dX1_tires_36 : decode cX1_tires 36 = .ok (.iload_n 1, 1) := dk_27 (dk_at dksX1_tires_1 13 rfl rfl)
theorem dX1_tires_37 : decode cX1_tires 37 = .ok (.iload_n 2, 1) := dk_28 (dk_at dksX1_tires_1 14 rfl rfl)
theorem dX1_tires_38 : decode cX1_tires 38 = .ok (.iastore, 1) := dk_79 (dk_at dksX1_tires_1 15 rfl rfl)
theorem dX1_tires_39 : decode cX1_tires 39 = .ok (.iload_n 3, 1) := dk_29 (dk_at dksX1_tires_1 16 rfl rfl)
theorem dX1_tires_40 : decode cX1_tires 40 = .ok (.ireturn, 1) := dk_172 (dk_at dksX1_tires_1 17 rfl rfl)
abbrev cX1_hands : ByteArray := prog_1_method_24_code
def yX1_hands : MethodName := ⟨RX1, "hands", "(I)I"⟩
def dkwX1_hands_1 : List UInt8 := [42, 180, 0, 140, 180, 0, 75, 27, 122, 4, 126, 172]
abbrev dktX1_hands_1 : List UInt8 := dkwX1_hands_1 ++ []
def dkwX1_hands_0 : List UInt8 := [27, 184, 0, 61, 154, 0, 5, 2, 172, 42, 180, 0, 140, 89, 180, 0, 75, 4, 27, 120, 130, 181, 0, 75]
abbrev dktX1_hands_0 : List UInt8 := dkwX1_hands_0 ++ dktX1_hands_1
theorem dksX1_hands_0 : cX1_hands.data.toList.drop 0 = dktX1_hands_0 := by decide +kernel
theorem dksX1_hands_1 : cX1_hands.data.toList.drop 24 = dktX1_hands_1 := dk_seg dksX1_hands_0 24 rfl rfl
theorem dX1_hands_0 : decode cX1_hands 0 = .ok (.iload_n 1, 1) := dk_27 (dk_at dksX1_hands_0 0 rfl rfl)
theorem dX1_hands_1 : decode cX1_hands 1 = .ok (.invokestatic 61, 3) := dk_184 0 61 (dk_at dksX1_hands_0 1 rfl rfl)
theorem dX1_hands_4 : decode cX1_hands 4 = .ok (.ifCond .ne 5, 3) := dk_154 0 5 (dk_at dksX1_hands_0 4 rfl rfl)
theorem dX1_hands_7 : decode cX1_hands 7 = .ok (.iconst (-1), 1) := dk_2 (dk_at dksX1_hands_0 7 rfl rfl)
theorem dX1_hands_8 : decode cX1_hands 8 = .ok (.ireturn, 1) := dk_172 (dk_at dksX1_hands_0 8 rfl rfl)
theorem dX1_hands_9 : decode cX1_hands 9 = .ok (.aload_n 0, 1) := dk_42 (dk_at dksX1_hands_0 9 rfl rfl)
theorem dX1_hands_10 : decode cX1_hands 10 = .ok (.getfield 140, 3) := dk_180 0 140 (dk_at dksX1_hands_0 10 rfl rfl)
theorem dX1_hands_13 : decode cX1_hands 13 = .ok (.dup, 1) := dk_89 (dk_at dksX1_hands_0 13 rfl rfl)
theorem dX1_hands_14 : decode cX1_hands 14 = .ok (.getfield 75, 3) := dk_180 0 75 (dk_at dksX1_hands_0 14 rfl rfl)
theorem dX1_hands_17 : decode cX1_hands 17 = .ok (.iconst 1, 1) := dk_4 (dk_at dksX1_hands_0 17 rfl rfl)
theorem dX1_hands_18 : decode cX1_hands 18 = .ok (.iload_n 1, 1) := dk_27 (dk_at dksX1_hands_0 18 rfl rfl)
theorem dX1_hands_19 : decode cX1_hands 19 = .ok (.ishl, 1) := dk_120 (dk_at dksX1_hands_0 19 rfl rfl)
theorem dX1_hands_20 : decode cX1_hands 20 = .ok (.ixor, 1) := dk_130 (dk_at dksX1_hands_0 20 rfl rfl)
theorem dX1_hands_21 : decode cX1_hands 21 = .ok (.putfield 75, 3) := dk_181 0 75 (dk_at dksX1_hands_0 21 rfl rfl)
theorem dX1_hands_24 : decode cX1_hands 24 = .ok (.aload_n 0, 1) := dk_42 (dk_at dksX1_hands_1 0 rfl rfl)
theorem dX1_hands_25 : decode cX1_hands 25 = .ok (.getfield 140, 3) := dk_180 0 140 (dk_at dksX1_hands_1 1 rfl rfl)
theorem dX1_hands_28 : decode cX1_hands 28 = .ok (.getfield 75, 3) := dk_180 0 75 (dk_at dksX1_hands_1 4 rfl rfl)
theorem dX1_hands_31 : decode cX1_hands 31 = .ok (.iload_n 1, 1) := dk_27 (dk_at dksX1_hands_1 7 rfl rfl)
theorem dX1_hands_32 : decode cX1_hands 32 = .ok (.ishr, 1) := dk_122 (dk_at dksX1_hands_1 8 rfl rfl)
theorem dX1_hands_33 : decode cX1_hands 33 = .ok (.iconst 1, 1) := dk_4 (dk_at dksX1_hands_1 9 rfl rfl)
theorem dX1_hands_34 : decode cX1_hands 34 = .ok (.iand, 1) := dk_126 (dk_at dksX1_hands_1 10 rfl rfl)
theorem dX1_hands_35 : decode cX1_hands 35 = .ok (.ireturn, 1) := dk_172 (dk_at dksX1_hands_1 11 rfl rfl)
abbrev cX1_forms : ByteArray := prog_1_method_25_code
def yX1_forms : MethodName := ⟨RX1, "forms", "(III)I"⟩
def dkwX1_forms_3 : List UInt8 := [21, 5, 172]
abbrev dktX1_forms_3 : List UInt8 := dkwX1_forms_3 ++ []
def dkwX1_forms_2 : List UInt8 := [167, 0, 10, 42, 180, 0, 140, 180, 0, 114, 58, 4, 25, 4, 27, 46, 54, 5, 25, 4, 27, 29, 79]
abbrev dktX1_forms_2 : List UInt8 := dkwX1_forms_2 ++ dktX1_forms_3
def dkwX1_forms_1 : List UInt8 := [4, 167, 0, 4, 6, 184, 0, 42, 154, 0, 5, 2, 172, 28, 154, 0, 13, 42, 180, 0, 140, 180, 0, 111]
abbrev dktX1_forms_1 : List UInt8 := dkwX1_forms_1 ++ dktX1_forms_2
def dkwX1_forms_0 : List UInt8 := [27, 3, 4, 184, 0, 42, 153, 0, 29, 28, 3, 4, 184, 0, 42, 153, 0, 20, 29, 3, 28, 154, 0, 7]
abbrev dktX1_forms_0 : List UInt8 := dkwX1_forms_0 ++ dktX1_forms_1
theorem dksX1_forms_0 : cX1_forms.data.toList.drop 0 = dktX1_forms_0 := by decide +kernel
theorem dksX1_forms_1 : cX1_forms.data.toList.drop 24 = dktX1_forms_1 := dk_seg dksX1_forms_0 24 rfl rfl
theorem dksX1_forms_2 : cX1_forms.data.toList.drop 48 = dktX1_forms_2 := dk_seg dksX1_forms_1 24 rfl rfl
theorem dksX1_forms_3 : cX1_forms.data.toList.drop 71 = dktX1_forms_3 := dk_seg dksX1_forms_2 23 rfl rfl
theorem dX1_forms_0 : decode cX1_forms 0 = .ok (.iload_n 1, 1) := dk_27 (dk_at dksX1_forms_0 0 rfl rfl)
theorem dX1_forms_1 : decode cX1_forms 1 = .ok (.iconst 0, 1) := dk_3 (dk_at dksX1_forms_0 1 rfl rfl)
theorem dX1_forms_2 : decode cX1_forms 2 = .ok (.iconst 1, 1) := dk_4 (dk_at dksX1_forms_0 2 rfl rfl)
theorem dX1_forms_3 : decode cX1_forms 3 = .ok (.invokestatic 42, 3) := dk_184 0 42 (dk_at dksX1_forms_0 3 rfl rfl)
theorem dX1_forms_6 : decode cX1_forms 6 = .ok (.ifCond .eq 29, 3) := dk_153 0 29 (dk_at dksX1_forms_0 6 rfl rfl)
theorem dX1_forms_9 : decode cX1_forms 9 = .ok (.iload_n 2, 1) := dk_28 (dk_at dksX1_forms_0 9 rfl rfl)
theorem dX1_forms_10 : decode cX1_forms 10 = .ok (.iconst 0, 1) := dk_3 (dk_at dksX1_forms_0 10 rfl rfl)
theorem dX1_forms_11 : decode cX1_forms 11 = .ok (.iconst 1, 1) := dk_4 (dk_at dksX1_forms_0 11 rfl rfl)
theorem dX1_forms_12 : decode cX1_forms 12 = .ok (.invokestatic 42, 3) := dk_184 0 42 (dk_at dksX1_forms_0 12 rfl rfl)
theorem dX1_forms_15 : decode cX1_forms 15 = .ok (.ifCond .eq 20, 3) := dk_153 0 20 (dk_at dksX1_forms_0 15 rfl rfl)
theorem dX1_forms_18 : decode cX1_forms 18 = .ok (.iload_n 3, 1) := dk_29 (dk_at dksX1_forms_0 18 rfl rfl)
theorem dX1_forms_19 : decode cX1_forms 19 = .ok (.iconst 0, 1) := dk_3 (dk_at dksX1_forms_0 19 rfl rfl)
theorem dX1_forms_20 : decode cX1_forms 20 = .ok (.iload_n 2, 1) := dk_28 (dk_at dksX1_forms_0 20 rfl rfl)
theorem dX1_forms_21 : decode cX1_forms 21 = .ok (.ifCond .ne 7, 3) := dk_154 0 7 (dk_at dksX1_forms_0 21 rfl rfl)
theorem dX1_forms_24 : decode cX1_forms 24 = .ok (.iconst 1, 1) := dk_4 (dk_at dksX1_forms_1 0 rfl rfl)
theorem dX1_forms_25 : decode cX1_forms 25 = .ok (.goto 4, 3) := dk_167 0 4 (dk_at dksX1_forms_1 1 rfl rfl)
theorem dX1_forms_28 : decode cX1_forms 28 = .ok (.iconst 3, 1) := dk_6 (dk_at dksX1_forms_1 4 rfl rfl)
theorem dX1_forms_29 : decode cX1_forms 29 = .ok (.invokestatic 42, 3) := dk_184 0 42 (dk_at dksX1_forms_1 5 rfl rfl)
theorem dX1_forms_32 : decode cX1_forms 32 = .ok (.ifCond .ne 5, 3) := dk_154 0 5 (dk_at dksX1_forms_1 8 rfl rfl)
theorem dX1_forms_35 : decode cX1_forms 35 = .ok (.iconst (-1), 1) := dk_2 (dk_at dksX1_forms_1 11 rfl rfl)
theorem dX1_forms_36 : decode cX1_forms 36 = .ok (.ireturn, 1) := dk_172 (dk_at dksX1_forms_1 12 rfl rfl)
theorem dX1_forms_37 : decode cX1_forms 37 = .ok (.iload_n 2, 1) := dk_28 (dk_at dksX1_forms_1 13 rfl rfl)
theorem dX1_forms_38 : decode cX1_forms 38 = .ok (.ifCond .ne 13, 3) := dk_154 0 13 (dk_at dksX1_forms_1 14 rfl rfl)
theorem dX1_forms_41 : decode cX1_forms 41 = .ok (.aload_n 0, 1) := dk_42 (dk_at dksX1_forms_1 17 rfl rfl)
theorem dX1_forms_42 : decode cX1_forms 42 = .ok (.getfield 140, 3) := dk_180 0 140 (dk_at dksX1_forms_1 18 rfl rfl)
theorem dX1_forms_45 : decode cX1_forms 45 = .ok (.getfield 111, 3) := dk_180 0 111 (dk_at dksX1_forms_1 21 rfl rfl)
theorem dX1_forms_48 : decode cX1_forms 48 = .ok (.goto 10, 3) := dk_167 0 10 (dk_at dksX1_forms_2 0 rfl rfl)
theorem dX1_forms_51 : decode cX1_forms 51 = .ok (.aload_n 0, 1) := dk_42 (dk_at dksX1_forms_2 3 rfl rfl)
theorem dX1_forms_52 : decode cX1_forms 52 = .ok (.getfield 140, 3) := dk_180 0 140 (dk_at dksX1_forms_2 4 rfl rfl)
theorem dX1_forms_55 : decode cX1_forms 55 = .ok (.getfield 114, 3) := dk_180 0 114 (dk_at dksX1_forms_2 7 rfl rfl)
theorem dX1_forms_58 : decode cX1_forms 58 = .ok (.astore 4, 2) := dk_58 4 (dk_at dksX1_forms_2 10 rfl rfl)
theorem dX1_forms_60 : decode cX1_forms 60 = .ok (.aload 4, 2) := dk_25 4 (dk_at dksX1_forms_2 12 rfl rfl)
theorem dX1_forms_62 : decode cX1_forms 62 = .ok (.iload_n 1, 1) := dk_27 (dk_at dksX1_forms_2 14 rfl rfl)
theorem dX1_forms_63 : decode cX1_forms 63 = .ok (.iaload, 1) := dk_46 (dk_at dksX1_forms_2 15 rfl rfl)
theorem dX1_forms_64 : decode cX1_forms 64 = .ok (.istore 5, 2) := dk_54 5 (dk_at dksX1_forms_2 16 rfl rfl)
theorem dX1_forms_66 : decode cX1_forms 66 = .ok (.aload 4, 2) := dk_25 4 (dk_at dksX1_forms_2 18 rfl rfl)
theorem dX1_forms_68 : decode cX1_forms 68 = .ok (.iload_n 1, 1) := dk_27 (dk_at dksX1_forms_2 20 rfl rfl)
theorem dX1_forms_69 : decode cX1_forms 69 = .ok (.iload_n 3, 1) := dk_29 (dk_at dksX1_forms_2 21 rfl rfl)
theorem dX1_forms_70 : decode cX1_forms 70 = .ok (.iastore, 1) := dk_79 (dk_at dksX1_forms_2 22 rfl rfl)
theorem dX1_forms_71 : decode cX1_forms 71 = .ok (.iload 5, 2) := dk_21 5 (dk_at dksX1_forms_3 0 rfl rfl)
theorem dX1_forms_73 : decode cX1_forms 73 = .ok (.ireturn, 1) := dk_172 (dk_at dksX1_forms_3 2 rfl rfl)
abbrev cX1_blows : ByteArray := prog_1_method_26_code
def yX1_blows : MethodName := ⟨RX1, "blows", "(I)I"⟩
def dkwX1_blows_1 : List UInt8 := [180, 0, 140, 27, 4, 100, 181, 0, 117, 28, 172]
abbrev dktX1_blows_1 : List UInt8 := dkwX1_blows_1 ++ []
def dkwX1_blows_0 : List UInt8 := [27, 3, 5, 184, 0, 42, 154, 0, 5, 2, 172, 42, 180, 0, 140, 180, 0, 117, 4, 96, 61, 42]
abbrev dktX1_blows_0 : List UInt8 := dkwX1_blows_0 ++ dktX1_blows_1
theorem dksX1_blows_0 : cX1_blows.data.toList.drop 0 = dktX1_blows_0 := by decide +kernel
theorem dksX1_blows_1 : cX1_blows.data.toList.drop 22 = dktX1_blows_1 := dk_seg dksX1_blows_0 22 rfl rfl
theorem dX1_blows_0 : decode cX1_blows 0 = .ok (.iload_n 1, 1) := dk_27 (dk_at dksX1_blows_0 0 rfl rfl)
theorem dX1_blows_1 : decode cX1_blows 1 = .ok (.iconst 0, 1) := dk_3 (dk_at dksX1_blows_0 1 rfl rfl)
theorem dX1_blows_2 : decode cX1_blows 2 = .ok (.iconst 2, 1) := dk_5 (dk_at dksX1_blows_0 2 rfl rfl)
theorem dX1_blows_3 : decode cX1_blows 3 = .ok (.invokestatic 42, 3) := dk_184 0 42 (dk_at dksX1_blows_0 3 rfl rfl)
theorem dX1_blows_6 : decode cX1_blows 6 = .ok (.ifCond .ne 5, 3) := dk_154 0 5 (dk_at dksX1_blows_0 6 rfl rfl)
theorem dX1_blows_9 : decode cX1_blows 9 = .ok (.iconst (-1), 1) := dk_2 (dk_at dksX1_blows_0 9 rfl rfl)
theorem dX1_blows_10 : decode cX1_blows 10 = .ok (.ireturn, 1) := dk_172 (dk_at dksX1_blows_0 10 rfl rfl)
theorem dX1_blows_11 : decode cX1_blows 11 = .ok (.aload_n 0, 1) := dk_42 (dk_at dksX1_blows_0 11 rfl rfl)
theorem dX1_blows_12 : decode cX1_blows 12 = .ok (.getfield 140, 3) := dk_180 0 140 (dk_at dksX1_blows_0 12 rfl rfl)
theorem dX1_blows_15 : decode cX1_blows 15 = .ok (.getfield 117, 3) := dk_180 0 117 (dk_at dksX1_blows_0 15 rfl rfl)
theorem dX1_blows_18 : decode cX1_blows 18 = .ok (.iconst 1, 1) := dk_4 (dk_at dksX1_blows_0 18 rfl rfl)
theorem dX1_blows_19 : decode cX1_blows 19 = .ok (.iadd, 1) := dk_96 (dk_at dksX1_blows_0 19 rfl rfl)
theorem dX1_blows_20 : decode cX1_blows 20 = .ok (.istore_n 2, 1) := dk_61 (dk_at dksX1_blows_0 20 rfl rfl)
theorem dX1_blows_21 : decode cX1_blows 21 = .ok (.aload_n 0, 1) := dk_42 (dk_at dksX1_blows_0 21 rfl rfl)
theorem dX1_blows_22 : decode cX1_blows 22 = .ok (.getfield 140, 3) := dk_180 0 140 (dk_at dksX1_blows_1 0 rfl rfl)
theorem dX1_blows_25 : decode cX1_blows 25 = .ok (.iload_n 1, 1) := dk_27 (dk_at dksX1_blows_1 3 rfl rfl)
theorem dX1_blows_26 : decode cX1_blows 26 = .ok (.iconst 1, 1) := dk_4 (dk_at dksX1_blows_1 4 rfl rfl)
theorem dX1_blows_27 : decode cX1_blows 27 = .ok (.isub, 1) := dk_100 (dk_at dksX1_blows_1 5 rfl rfl)
theorem dX1_blows_28 : decode cX1_blows 28 = .ok (.putfield 117, 3) := dk_181 0 117 (dk_at dksX1_blows_1 6 rfl rfl)
theorem dX1_blows_31 : decode cX1_blows 31 = .ok (.iload_n 2, 1) := dk_28 (dk_at dksX1_blows_1 9 rfl rfl)
theorem dX1_blows_32 : decode cX1_blows 32 = .ok (.ireturn, 1) := dk_172 (dk_at dksX1_blows_1 10 rfl rfl)
abbrev cX1_hit : ByteArray := prog_1_method_28_code
def yX1_hit : MethodName := ⟨RX1, "hit", "(II)I"⟩
def dkwX1_hit_1 : List UInt8 := [42, 180, 0, 140, 27, 28, 182, 0, 97, 87, 42, 180, 0, 140, 180, 0, 203, 172]
abbrev dktX1_hit_1 : List UInt8 := dkwX1_hit_1 ++ []
def dkwX1_hit_0 : List UInt8 := [42, 27, 28, 182, 0, 209, 154, 0, 5, 2, 172, 42, 180, 0, 140, 184, 0, 93, 154, 0, 6, 16, 253, 172]
abbrev dktX1_hit_0 : List UInt8 := dkwX1_hit_0 ++ dktX1_hit_1
theorem dksX1_hit_0 : cX1_hit.data.toList.drop 0 = dktX1_hit_0 := by decide +kernel
theorem dksX1_hit_1 : cX1_hit.data.toList.drop 24 = dktX1_hit_1 := dk_seg dksX1_hit_0 24 rfl rfl
theorem dX1_hit_0 : decode cX1_hit 0 = .ok (.aload_n 0, 1) := dk_42 (dk_at dksX1_hit_0 0 rfl rfl)
theorem dX1_hit_1 : decode cX1_hit 1 = .ok (.iload_n 1, 1) := dk_27 (dk_at dksX1_hit_0 1 rfl rfl)
theorem dX1_hit_2 : decode cX1_hit 2 = .ok (.iload_n 2, 1) := dk_28 (dk_at dksX1_hit_0 2 rfl rfl)
theorem dX1_hit_3 : decode cX1_hit 3 = .ok (.invokevirtual 209, 3) := dk_182 0 209 (dk_at dksX1_hit_0 3 rfl rfl)
theorem dX1_hit_6 : decode cX1_hit 6 = .ok (.ifCond .ne 5, 3) := dk_154 0 5 (dk_at dksX1_hit_0 6 rfl rfl)
theorem dX1_hit_9 : decode cX1_hit 9 = .ok (.iconst (-1), 1) := dk_2 (dk_at dksX1_hit_0 9 rfl rfl)
theorem dX1_hit_10 : decode cX1_hit 10 = .ok (.ireturn, 1) := dk_172 (dk_at dksX1_hit_0 10 rfl rfl)
theorem dX1_hit_11 : decode cX1_hit 11 = .ok (.aload_n 0, 1) := dk_42 (dk_at dksX1_hit_0 11 rfl rfl)
theorem dX1_hit_12 : decode cX1_hit 12 = .ok (.getfield 140, 3) := dk_180 0 140 (dk_at dksX1_hit_0 12 rfl rfl)
theorem dX1_hit_15 : decode cX1_hit 15 = .ok (.invokestatic 93, 3) := dk_184 0 93 (dk_at dksX1_hit_0 15 rfl rfl)
theorem dX1_hit_18 : decode cX1_hit 18 = .ok (.ifCond .ne 6, 3) := dk_154 0 6 (dk_at dksX1_hit_0 18 rfl rfl)
theorem dX1_hit_21 : decode cX1_hit 21 = .ok (.bipush (-3), 2) := dk_16 253 (dk_at dksX1_hit_0 21 rfl rfl)
theorem dX1_hit_23 : decode cX1_hit 23 = .ok (.ireturn, 1) := dk_172 (dk_at dksX1_hit_0 23 rfl rfl)
theorem dX1_hit_24 : decode cX1_hit 24 = .ok (.aload_n 0, 1) := dk_42 (dk_at dksX1_hit_1 0 rfl rfl)
theorem dX1_hit_25 : decode cX1_hit 25 = .ok (.getfield 140, 3) := dk_180 0 140 (dk_at dksX1_hit_1 1 rfl rfl)
theorem dX1_hit_28 : decode cX1_hit 28 = .ok (.iload_n 1, 1) := dk_27 (dk_at dksX1_hit_1 4 rfl rfl)
theorem dX1_hit_29 : decode cX1_hit 29 = .ok (.iload_n 2, 1) := dk_28 (dk_at dksX1_hit_1 5 rfl rfl)
theorem dX1_hit_30 : decode cX1_hit 30 = .ok (.invokevirtual 97, 3) := dk_182 0 97 (dk_at dksX1_hit_1 6 rfl rfl)
theorem dX1_hit_33 : decode cX1_hit 33 = .ok (.pop, 1) := dk_87 (dk_at dksX1_hit_1 9 rfl rfl)
theorem dX1_hit_34 : decode cX1_hit 34 = .ok (.aload_n 0, 1) := dk_42 (dk_at dksX1_hit_1 10 rfl rfl)
theorem dX1_hit_35 : decode cX1_hit 35 = .ok (.getfield 140, 3) := dk_180 0 140 (dk_at dksX1_hit_1 11 rfl rfl)
theorem dX1_hit_38 : decode cX1_hit 38 = .ok (.getfield 203, 3) := dk_180 0 203 (dk_at dksX1_hit_1 14 rfl rfl)
theorem dX1_hit_41 : decode cX1_hit 41 = .ok (.ireturn, 1) := dk_172 (dk_at dksX1_hit_1 17 rfl rfl)
abbrev cX1_isHit : ByteArray := prog_1_method_27_code
def yX1_isHit : MethodName := ⟨RX1, "isHit", "(II)Z"⟩
def dkwX1_isHit_0 : List UInt8 := [42, 180, 0, 140, 27, 182, 0, 90, 153, 0, 14, 28, 184, 0, 81, 153, 0, 7, 4, 167, 0, 4, 3, 172]
abbrev dktX1_isHit_0 : List UInt8 := dkwX1_isHit_0 ++ []
theorem dksX1_isHit_0 : cX1_isHit.data.toList.drop 0 = dktX1_isHit_0 := by decide +kernel
theorem dX1_isHit_0 : decode cX1_isHit 0 = .ok (.aload_n 0, 1) := dk_42 (dk_at dksX1_isHit_0 0 rfl rfl)
theorem dX1_isHit_1 : decode cX1_isHit 1 = .ok (.getfield 140, 3) := dk_180 0 140 (dk_at dksX1_isHit_0 1 rfl rfl)
theorem dX1_isHit_4 : decode cX1_isHit 4 = .ok (.iload_n 1, 1) := dk_27 (dk_at dksX1_isHit_0 4 rfl rfl)
theorem dX1_isHit_5 : decode cX1_isHit 5 = .ok (.invokevirtual 90, 3) := dk_182 0 90 (dk_at dksX1_isHit_0 5 rfl rfl)
theorem dX1_isHit_8 : decode cX1_isHit 8 = .ok (.ifCond .eq 14, 3) := dk_153 0 14 (dk_at dksX1_isHit_0 8 rfl rfl)
theorem dX1_isHit_11 : decode cX1_isHit 11 = .ok (.iload_n 2, 1) := dk_28 (dk_at dksX1_isHit_0 11 rfl rfl)
theorem dX1_isHit_12 : decode cX1_isHit 12 = .ok (.invokestatic 81, 3) := dk_184 0 81 (dk_at dksX1_isHit_0 12 rfl rfl)
theorem dX1_isHit_15 : decode cX1_isHit 15 = .ok (.ifCond .eq 7, 3) := dk_153 0 7 (dk_at dksX1_isHit_0 15 rfl rfl)
theorem dX1_isHit_18 : decode cX1_isHit 18 = .ok (.iconst 1, 1) := dk_4 (dk_at dksX1_isHit_0 18 rfl rfl)
theorem dX1_isHit_19 : decode cX1_isHit 19 = .ok (.goto 4, 3) := dk_167 0 4 (dk_at dksX1_isHit_0 19 rfl rfl)
theorem dX1_isHit_22 : decode cX1_isHit 22 = .ok (.iconst 0, 1) := dk_3 (dk_at dksX1_isHit_0 22 rfl rfl)
theorem dX1_isHit_23 : decode cX1_isHit 23 = .ok (.ireturn, 1) := dk_172 (dk_at dksX1_isHit_0 23 rfl rfl)
abbrev cX1_whose : ByteArray := prog_1_method_31_code
def yX1_whose : MethodName := ⟨RX1, "whose", "(II)I"⟩
def dkwX1_whose_1 : List UInt8 := [182, 0, 219, 167, 0, 4, 2, 172]
abbrev dktX1_whose_1 : List UInt8 := dkwX1_whose_1 ++ []
def dkwX1_whose_0 : List UInt8 := [42, 27, 28, 182, 0, 209, 153, 0, 22, 42, 180, 0, 140, 42, 180, 0, 140, 27, 28, 182, 0, 216]
abbrev dktX1_whose_0 : List UInt8 := dkwX1_whose_0 ++ dktX1_whose_1
theorem dksX1_whose_0 : cX1_whose.data.toList.drop 0 = dktX1_whose_0 := by decide +kernel
theorem dksX1_whose_1 : cX1_whose.data.toList.drop 22 = dktX1_whose_1 := dk_seg dksX1_whose_0 22 rfl rfl
theorem dX1_whose_0 : decode cX1_whose 0 = .ok (.aload_n 0, 1) := dk_42 (dk_at dksX1_whose_0 0 rfl rfl)
theorem dX1_whose_1 : decode cX1_whose 1 = .ok (.iload_n 1, 1) := dk_27 (dk_at dksX1_whose_0 1 rfl rfl)
theorem dX1_whose_2 : decode cX1_whose 2 = .ok (.iload_n 2, 1) := dk_28 (dk_at dksX1_whose_0 2 rfl rfl)
theorem dX1_whose_3 : decode cX1_whose 3 = .ok (.invokevirtual 209, 3) := dk_182 0 209 (dk_at dksX1_whose_0 3 rfl rfl)
theorem dX1_whose_6 : decode cX1_whose 6 = .ok (.ifCond .eq 22, 3) := dk_153 0 22 (dk_at dksX1_whose_0 6 rfl rfl)
theorem dX1_whose_9 : decode cX1_whose 9 = .ok (.aload_n 0, 1) := dk_42 (dk_at dksX1_whose_0 9 rfl rfl)
theorem dX1_whose_10 : decode cX1_whose 10 = .ok (.getfield 140, 3) := dk_180 0 140 (dk_at dksX1_whose_0 10 rfl rfl)
theorem dX1_whose_13 : decode cX1_whose 13 = .ok (.aload_n 0, 1) := dk_42 (dk_at dksX1_whose_0 13 rfl rfl)
theorem dX1_whose_14 : decode cX1_whose 14 = .ok (.getfield 140, 3) := dk_180 0 140 (dk_at dksX1_whose_0 14 rfl rfl)
theorem dX1_whose_17 : decode cX1_whose 17 = .ok (.iload_n 1, 1) := dk_27 (dk_at dksX1_whose_0 17 rfl rfl)
theorem dX1_whose_18 : decode cX1_whose 18 = .ok (.iload_n 2, 1) := dk_28 (dk_at dksX1_whose_0 18 rfl rfl)
theorem dX1_whose_19 : decode cX1_whose 19 = .ok (.invokevirtual 216, 3) := dk_182 0 216 (dk_at dksX1_whose_0 19 rfl rfl)
theorem dX1_whose_22 : decode cX1_whose 22 = .ok (.invokevirtual 219, 3) := dk_182 0 219 (dk_at dksX1_whose_1 0 rfl rfl)
theorem dX1_whose_25 : decode cX1_whose 25 = .ok (.goto 4, 3) := dk_167 0 4 (dk_at dksX1_whose_1 3 rfl rfl)
theorem dX1_whose_28 : decode cX1_whose 28 = .ok (.iconst (-1), 1) := dk_2 (dk_at dksX1_whose_1 6 rfl rfl)
theorem dX1_whose_29 : decode cX1_whose 29 = .ok (.ireturn, 1) := dk_172 (dk_at dksX1_whose_1 7 rfl rfl)
abbrev cX1_wins : ByteArray := prog_1_method_32_code
def yX1_wins : MethodName := ⟨RX1, "wins", "(II)I"⟩
def dkwX1_wins_1 : List UInt8 := [3, 172]
abbrev dktX1_wins_1 : List UInt8 := dkwX1_wins_1 ++ []
def dkwX1_wins_0 : List UInt8 := [42, 27, 28, 182, 0, 209, 154, 0, 5, 2, 172, 42, 27, 28, 182, 0, 222, 153, 0, 7, 4, 167, 0, 4]
abbrev dktX1_wins_0 : List UInt8 := dkwX1_wins_0 ++ dktX1_wins_1
theorem dksX1_wins_0 : cX1_wins.data.toList.drop 0 = dktX1_wins_0 := by decide +kernel
theorem dksX1_wins_1 : cX1_wins.data.toList.drop 24 = dktX1_wins_1 := dk_seg dksX1_wins_0 24 rfl rfl
theorem dX1_wins_0 : decode cX1_wins 0 = .ok (.aload_n 0, 1) := dk_42 (dk_at dksX1_wins_0 0 rfl rfl)
theorem dX1_wins_1 : decode cX1_wins 1 = .ok (.iload_n 1, 1) := dk_27 (dk_at dksX1_wins_0 1 rfl rfl)
theorem dX1_wins_2 : decode cX1_wins 2 = .ok (.iload_n 2, 1) := dk_28 (dk_at dksX1_wins_0 2 rfl rfl)
theorem dX1_wins_3 : decode cX1_wins 3 = .ok (.invokevirtual 209, 3) := dk_182 0 209 (dk_at dksX1_wins_0 3 rfl rfl)
theorem dX1_wins_6 : decode cX1_wins 6 = .ok (.ifCond .ne 5, 3) := dk_154 0 5 (dk_at dksX1_wins_0 6 rfl rfl)
theorem dX1_wins_9 : decode cX1_wins 9 = .ok (.iconst (-1), 1) := dk_2 (dk_at dksX1_wins_0 9 rfl rfl)
theorem dX1_wins_10 : decode cX1_wins 10 = .ok (.ireturn, 1) := dk_172 (dk_at dksX1_wins_0 10 rfl rfl)
theorem dX1_wins_11 : decode cX1_wins 11 = .ok (.aload_n 0, 1) := dk_42 (dk_at dksX1_wins_0 11 rfl rfl)
theorem dX1_wins_12 : decode cX1_wins 12 = .ok (.iload_n 1, 1) := dk_27 (dk_at dksX1_wins_0 12 rfl rfl)
theorem dX1_wins_13 : decode cX1_wins 13 = .ok (.iload_n 2, 1) := dk_28 (dk_at dksX1_wins_0 13 rfl rfl)
theorem dX1_wins_14 : decode cX1_wins 14 = .ok (.invokevirtual 222, 3) := dk_182 0 222 (dk_at dksX1_wins_0 14 rfl rfl)
theorem dX1_wins_17 : decode cX1_wins 17 = .ok (.ifCond .eq 7, 3) := dk_153 0 7 (dk_at dksX1_wins_0 17 rfl rfl)
theorem dX1_wins_20 : decode cX1_wins 20 = .ok (.iconst 1, 1) := dk_4 (dk_at dksX1_wins_0 20 rfl rfl)
theorem dX1_wins_21 : decode cX1_wins 21 = .ok (.goto 4, 3) := dk_167 0 4 (dk_at dksX1_wins_0 21 rfl rfl)
theorem dX1_wins_24 : decode cX1_wins 24 = .ok (.iconst 0, 1) := dk_3 (dk_at dksX1_wins_1 0 rfl rfl)
theorem dX1_wins_25 : decode cX1_wins 25 = .ok (.ireturn, 1) := dk_172 (dk_at dksX1_wins_1 1 rfl rfl)
abbrev cX1_winsWith : ByteArray := prog_1_method_30_code
def yX1_winsWith : MethodName := ⟨RX1, "winsWith", "(II)Z"⟩
def dkwX1_winsWith_0 : List UInt8 := [42, 182, 0, 212, 42, 180, 0, 68, 27, 28, 182, 0, 97, 172]
abbrev dktX1_winsWith_0 : List UInt8 := dkwX1_winsWith_0 ++ []
theorem dksX1_winsWith_0 : cX1_winsWith.data.toList.drop 0 = dktX1_winsWith_0 := by decide +kernel
theorem dX1_winsWith_0 : decode cX1_winsWith 0 = .ok (.aload_n 0, 1) := dk_42 (dk_at dksX1_winsWith_0 0 rfl rfl)
theorem dX1_winsWith_1 : decode cX1_winsWith 1 = .ok (.invokevirtual 212, 3) := dk_182 0 212 (dk_at dksX1_winsWith_0 1 rfl rfl)
theorem dX1_winsWith_4 : decode cX1_winsWith 4 = .ok (.aload_n 0, 1) := dk_42 (dk_at dksX1_winsWith_0 4 rfl rfl)
theorem dX1_winsWith_5 : decode cX1_winsWith 5 = .ok (.getfield 68, 3) := dk_180 0 68 (dk_at dksX1_winsWith_0 5 rfl rfl)
theorem dX1_winsWith_8 : decode cX1_winsWith 8 = .ok (.iload_n 1, 1) := dk_27 (dk_at dksX1_winsWith_0 8 rfl rfl)
theorem dX1_winsWith_9 : decode cX1_winsWith 9 = .ok (.iload_n 2, 1) := dk_28 (dk_at dksX1_winsWith_0 9 rfl rfl)
theorem dX1_winsWith_10 : decode cX1_winsWith 10 = .ok (.invokevirtual 97, 3) := dk_182 0 97 (dk_at dksX1_winsWith_0 10 rfl rfl)
theorem dX1_winsWith_13 : decode cX1_winsWith 13 = .ok (.ireturn, 1) := dk_172 (dk_at dksX1_winsWith_0 13 rfl rfl)
abbrev cX1_minds : ByteArray := prog_1_method_29_code
def yX1_minds : MethodName := ⟨RX1, "minds", "()V"⟩
def dkwX1_minds_0 : List UInt8 := [42, 180, 0, 68, 42, 180, 0, 140, 182, 0, 143, 177]
abbrev dktX1_minds_0 : List UInt8 := dkwX1_minds_0 ++ []
theorem dksX1_minds_0 : cX1_minds.data.toList.drop 0 = dktX1_minds_0 := by decide +kernel
theorem dX1_minds_0 : decode cX1_minds 0 = .ok (.aload_n 0, 1) := dk_42 (dk_at dksX1_minds_0 0 rfl rfl)
theorem dX1_minds_1 : decode cX1_minds 1 = .ok (.getfield 68, 3) := dk_180 0 68 (dk_at dksX1_minds_0 1 rfl rfl)
theorem dX1_minds_4 : decode cX1_minds 4 = .ok (.aload_n 0, 1) := dk_42 (dk_at dksX1_minds_0 4 rfl rfl)
theorem dX1_minds_5 : decode cX1_minds 5 = .ok (.getfield 140, 3) := dk_180 0 140 (dk_at dksX1_minds_0 5 rfl rfl)
theorem dX1_minds_8 : decode cX1_minds 8 = .ok (.invokevirtual 143, 3) := dk_182 0 143 (dk_at dksX1_minds_0 8 rfl rfl)
theorem dX1_minds_11 : decode cX1_minds 11 = .ok (.return_, 1) := dk_177 (dk_at dksX1_minds_0 11 rfl rfl)
abbrev cX1_falls : ByteArray := prog_1_method_33_code
def yX1_falls : MethodName := ⟨RX1, "falls", "(II)I"⟩
def dkwX1_falls_0 : List UInt8 := [42, 27, 28, 182, 0, 209, 153, 0, 15, 42, 180, 0, 140, 27, 28, 182, 0, 216, 167, 0, 4, 2, 172]
abbrev dktX1_falls_0 : List UInt8 := dkwX1_falls_0 ++ []
theorem dksX1_falls_0 : cX1_falls.data.toList.drop 0 = dktX1_falls_0 := by decide +kernel
theorem dX1_falls_0 : decode cX1_falls 0 = .ok (.aload_n 0, 1) := dk_42 (dk_at dksX1_falls_0 0 rfl rfl)
theorem dX1_falls_1 : decode cX1_falls 1 = .ok (.iload_n 1, 1) := dk_27 (dk_at dksX1_falls_0 1 rfl rfl)
theorem dX1_falls_2 : decode cX1_falls 2 = .ok (.iload_n 2, 1) := dk_28 (dk_at dksX1_falls_0 2 rfl rfl)
theorem dX1_falls_3 : decode cX1_falls 3 = .ok (.invokevirtual 209, 3) := dk_182 0 209 (dk_at dksX1_falls_0 3 rfl rfl)
theorem dX1_falls_6 : decode cX1_falls 6 = .ok (.ifCond .eq 15, 3) := dk_153 0 15 (dk_at dksX1_falls_0 6 rfl rfl)
theorem dX1_falls_9 : decode cX1_falls 9 = .ok (.aload_n 0, 1) := dk_42 (dk_at dksX1_falls_0 9 rfl rfl)
theorem dX1_falls_10 : decode cX1_falls 10 = .ok (.getfield 140, 3) := dk_180 0 140 (dk_at dksX1_falls_0 10 rfl rfl)
theorem dX1_falls_13 : decode cX1_falls 13 = .ok (.iload_n 1, 1) := dk_27 (dk_at dksX1_falls_0 13 rfl rfl)
theorem dX1_falls_14 : decode cX1_falls 14 = .ok (.iload_n 2, 1) := dk_28 (dk_at dksX1_falls_0 14 rfl rfl)
theorem dX1_falls_15 : decode cX1_falls 15 = .ok (.invokevirtual 216, 3) := dk_182 0 216 (dk_at dksX1_falls_0 15 rfl rfl)
theorem dX1_falls_18 : decode cX1_falls 18 = .ok (.goto 4, 3) := dk_167 0 4 (dk_at dksX1_falls_0 18 rfl rfl)
theorem dX1_falls_21 : decode cX1_falls 21 = .ok (.iconst (-1), 1) := dk_2 (dk_at dksX1_falls_0 21 rfl rfl)
theorem dX1_falls_22 : decode cX1_falls 22 = .ok (.ireturn, 1) := dk_172 (dk_at dksX1_falls_0 22 rfl rfl)
abbrev cX1_open : ByteArray := prog_1_method_34_code
def yX1_open : MethodName := ⟨RX1, "open", "(I)I"⟩
def dkwX1_open_2 : List UInt8 := [28, 172]
abbrev dktX1_open_2 : List UInt8 := dkwX1_open_2 ++ []
def dkwX1_open_1 : List UInt8 := [42, 27, 29, 182, 0, 222, 153, 0, 9, 4, 29, 120, 167, 0, 4, 3, 128, 61, 132, 3, 1, 167, 255, 228]
abbrev dktX1_open_1 : List UInt8 := dkwX1_open_1 ++ dktX1_open_2
def dkwX1_open_0 : List UInt8 := [42, 180, 0, 140, 27, 182, 0, 90, 154, 0, 5, 2, 172, 3, 61, 3, 62, 29, 16, 9, 162, 0, 28, 28]
abbrev dktX1_open_0 : List UInt8 := dkwX1_open_0 ++ dktX1_open_1
theorem dksX1_open_0 : cX1_open.data.toList.drop 0 = dktX1_open_0 := by decide +kernel
theorem dksX1_open_1 : cX1_open.data.toList.drop 24 = dktX1_open_1 := dk_seg dksX1_open_0 24 rfl rfl
theorem dksX1_open_2 : cX1_open.data.toList.drop 48 = dktX1_open_2 := dk_seg dksX1_open_1 24 rfl rfl
theorem dX1_open_0 : decode cX1_open 0 = .ok (.aload_n 0, 1) := dk_42 (dk_at dksX1_open_0 0 rfl rfl)
theorem dX1_open_1 : decode cX1_open 1 = .ok (.getfield 140, 3) := dk_180 0 140 (dk_at dksX1_open_0 1 rfl rfl)
theorem dX1_open_4 : decode cX1_open 4 = .ok (.iload_n 1, 1) := dk_27 (dk_at dksX1_open_0 4 rfl rfl)
theorem dX1_open_5 : decode cX1_open 5 = .ok (.invokevirtual 90, 3) := dk_182 0 90 (dk_at dksX1_open_0 5 rfl rfl)
theorem dX1_open_8 : decode cX1_open 8 = .ok (.ifCond .ne 5, 3) := dk_154 0 5 (dk_at dksX1_open_0 8 rfl rfl)
theorem dX1_open_11 : decode cX1_open 11 = .ok (.iconst (-1), 1) := dk_2 (dk_at dksX1_open_0 11 rfl rfl)
theorem dX1_open_12 : decode cX1_open 12 = .ok (.ireturn, 1) := dk_172 (dk_at dksX1_open_0 12 rfl rfl)
theorem dX1_open_13 : decode cX1_open 13 = .ok (.iconst 0, 1) := dk_3 (dk_at dksX1_open_0 13 rfl rfl)
theorem dX1_open_14 : decode cX1_open 14 = .ok (.istore_n 2, 1) := dk_61 (dk_at dksX1_open_0 14 rfl rfl)
theorem dX1_open_15 : decode cX1_open 15 = .ok (.iconst 0, 1) := dk_3 (dk_at dksX1_open_0 15 rfl rfl)
theorem dX1_open_16 : decode cX1_open 16 = .ok (.istore_n 3, 1) := dk_62 (dk_at dksX1_open_0 16 rfl rfl)
theorem dX1_open_17 : decode cX1_open 17 = .ok (.iload_n 3, 1) := dk_29 (dk_at dksX1_open_0 17 rfl rfl)
theorem dX1_open_18 : decode cX1_open 18 = .ok (.bipush 9, 2) := dk_16 9 (dk_at dksX1_open_0 18 rfl rfl)
theorem dX1_open_20 : decode cX1_open 20 = .ok (.if_icmp .ge 28, 3) := dk_162 0 28 (dk_at dksX1_open_0 20 rfl rfl)
theorem dX1_open_23 : decode cX1_open 23 = .ok (.iload_n 2, 1) := dk_28 (dk_at dksX1_open_0 23 rfl rfl)
theorem dX1_open_24 : decode cX1_open 24 = .ok (.aload_n 0, 1) := dk_42 (dk_at dksX1_open_1 0 rfl rfl)
theorem dX1_open_25 : decode cX1_open 25 = .ok (.iload_n 1, 1) := dk_27 (dk_at dksX1_open_1 1 rfl rfl)
theorem dX1_open_26 : decode cX1_open 26 = .ok (.iload_n 3, 1) := dk_29 (dk_at dksX1_open_1 2 rfl rfl)
theorem dX1_open_27 : decode cX1_open 27 = .ok (.invokevirtual 222, 3) := dk_182 0 222 (dk_at dksX1_open_1 3 rfl rfl)
theorem dX1_open_30 : decode cX1_open 30 = .ok (.ifCond .eq 9, 3) := dk_153 0 9 (dk_at dksX1_open_1 6 rfl rfl)
theorem dX1_open_33 : decode cX1_open 33 = .ok (.iconst 1, 1) := dk_4 (dk_at dksX1_open_1 9 rfl rfl)
theorem dX1_open_34 : decode cX1_open 34 = .ok (.iload_n 3, 1) := dk_29 (dk_at dksX1_open_1 10 rfl rfl)
theorem dX1_open_35 : decode cX1_open 35 = .ok (.ishl, 1) := dk_120 (dk_at dksX1_open_1 11 rfl rfl)
theorem dX1_open_36 : decode cX1_open 36 = .ok (.goto 4, 3) := dk_167 0 4 (dk_at dksX1_open_1 12 rfl rfl)
theorem dX1_open_39 : decode cX1_open 39 = .ok (.iconst 0, 1) := dk_3 (dk_at dksX1_open_1 15 rfl rfl)
theorem dX1_open_40 : decode cX1_open 40 = .ok (.ior, 1) := dk_128 (dk_at dksX1_open_1 16 rfl rfl)
theorem dX1_open_41 : decode cX1_open 41 = .ok (.istore_n 2, 1) := dk_61 (dk_at dksX1_open_1 17 rfl rfl)
theorem dX1_open_42 : decode cX1_open 42 = .ok (.iinc 3 1, 3) := dk_132 3 1 (dk_at dksX1_open_1 18 rfl rfl)
theorem dX1_open_45 : decode cX1_open 45 = .ok (.goto (-28), 3) := dk_167 255 228 (dk_at dksX1_open_1 21 rfl rfl)
theorem dX1_open_48 : decode cX1_open 48 = .ok (.iload_n 2, 1) := dk_28 (dk_at dksX1_open_2 0 rfl rfl)
theorem dX1_open_49 : decode cX1_open 49 = .ok (.ireturn, 1) := dk_172 (dk_at dksX1_open_2 1 rfl rfl)
abbrev cX1_forced : ByteArray := prog_1_method_35_code
def yX1_forced : MethodName := ⟨RX1, "forced", "()I"⟩
def dkwX1_forced_2 : List UInt8 := [167, 255, 212, 16, 252, 172]
abbrev dktX1_forced_2 : List UInt8 := dkwX1_forced_2 ++ []
def dkwX1_forced_1 : List UInt8 := [182, 0, 222, 153, 0, 10, 16, 10, 27, 104, 28, 96, 172, 132, 2, 1, 167, 255, 231, 132, 1, 1]
abbrev dktX1_forced_1 : List UInt8 := dkwX1_forced_1 ++ dktX1_forced_2
def dkwX1_forced_0 : List UInt8 := [3, 60, 27, 42, 180, 0, 140, 180, 0, 100, 162, 0, 39, 3, 61, 28, 16, 9, 162, 0, 25, 42, 27, 28]
abbrev dktX1_forced_0 : List UInt8 := dkwX1_forced_0 ++ dktX1_forced_1
theorem dksX1_forced_0 : cX1_forced.data.toList.drop 0 = dktX1_forced_0 := by decide +kernel
theorem dksX1_forced_1 : cX1_forced.data.toList.drop 24 = dktX1_forced_1 := dk_seg dksX1_forced_0 24 rfl rfl
theorem dksX1_forced_2 : cX1_forced.data.toList.drop 46 = dktX1_forced_2 := dk_seg dksX1_forced_1 22 rfl rfl
theorem dX1_forced_0 : decode cX1_forced 0 = .ok (.iconst 0, 1) := dk_3 (dk_at dksX1_forced_0 0 rfl rfl)
theorem dX1_forced_1 : decode cX1_forced 1 = .ok (.istore_n 1, 1) := dk_60 (dk_at dksX1_forced_0 1 rfl rfl)
theorem dX1_forced_2 : decode cX1_forced 2 = .ok (.iload_n 1, 1) := dk_27 (dk_at dksX1_forced_0 2 rfl rfl)
theorem dX1_forced_3 : decode cX1_forced 3 = .ok (.aload_n 0, 1) := dk_42 (dk_at dksX1_forced_0 3 rfl rfl)
theorem dX1_forced_4 : decode cX1_forced 4 = .ok (.getfield 140, 3) := dk_180 0 140 (dk_at dksX1_forced_0 4 rfl rfl)
theorem dX1_forced_7 : decode cX1_forced 7 = .ok (.getfield 100, 3) := dk_180 0 100 (dk_at dksX1_forced_0 7 rfl rfl)
theorem dX1_forced_10 : decode cX1_forced 10 = .ok (.if_icmp .ge 39, 3) := dk_162 0 39 (dk_at dksX1_forced_0 10 rfl rfl)
theorem dX1_forced_13 : decode cX1_forced 13 = .ok (.iconst 0, 1) := dk_3 (dk_at dksX1_forced_0 13 rfl rfl)
theorem dX1_forced_14 : decode cX1_forced 14 = .ok (.istore_n 2, 1) := dk_61 (dk_at dksX1_forced_0 14 rfl rfl)
theorem dX1_forced_15 : decode cX1_forced 15 = .ok (.iload_n 2, 1) := dk_28 (dk_at dksX1_forced_0 15 rfl rfl)
theorem dX1_forced_16 : decode cX1_forced 16 = .ok (.bipush 9, 2) := dk_16 9 (dk_at dksX1_forced_0 16 rfl rfl)
theorem dX1_forced_18 : decode cX1_forced 18 = .ok (.if_icmp .ge 25, 3) := dk_162 0 25 (dk_at dksX1_forced_0 18 rfl rfl)
theorem dX1_forced_21 : decode cX1_forced 21 = .ok (.aload_n 0, 1) := dk_42 (dk_at dksX1_forced_0 21 rfl rfl)
theorem dX1_forced_22 : decode cX1_forced 22 = .ok (.iload_n 1, 1) := dk_27 (dk_at dksX1_forced_0 22 rfl rfl)
theorem dX1_forced_23 : decode cX1_forced 23 = .ok (.iload_n 2, 1) := dk_28 (dk_at dksX1_forced_0 23 rfl rfl)
theorem dX1_forced_24 : decode cX1_forced 24 = .ok (.invokevirtual 222, 3) := dk_182 0 222 (dk_at dksX1_forced_1 0 rfl rfl)
theorem dX1_forced_27 : decode cX1_forced 27 = .ok (.ifCond .eq 10, 3) := dk_153 0 10 (dk_at dksX1_forced_1 3 rfl rfl)
theorem dX1_forced_30 : decode cX1_forced 30 = .ok (.bipush 10, 2) := dk_16 10 (dk_at dksX1_forced_1 6 rfl rfl)
theorem dX1_forced_32 : decode cX1_forced 32 = .ok (.iload_n 1, 1) := dk_27 (dk_at dksX1_forced_1 8 rfl rfl)
theorem dX1_forced_33 : decode cX1_forced 33 = .ok (.imul, 1) := dk_104 (dk_at dksX1_forced_1 9 rfl rfl)
theorem dX1_forced_34 : decode cX1_forced 34 = .ok (.iload_n 2, 1) := dk_28 (dk_at dksX1_forced_1 10 rfl rfl)
theorem dX1_forced_35 : decode cX1_forced 35 = .ok (.iadd, 1) := dk_96 (dk_at dksX1_forced_1 11 rfl rfl)
theorem dX1_forced_36 : decode cX1_forced 36 = .ok (.ireturn, 1) := dk_172 (dk_at dksX1_forced_1 12 rfl rfl)
theorem dX1_forced_37 : decode cX1_forced 37 = .ok (.iinc 2 1, 3) := dk_132 2 1 (dk_at dksX1_forced_1 13 rfl rfl)
theorem dX1_forced_40 : decode cX1_forced 40 = .ok (.goto (-25), 3) := dk_167 255 231 (dk_at dksX1_forced_1 16 rfl rfl)
theorem dX1_forced_43 : decode cX1_forced 43 = .ok (.iinc 1 1, 3) := dk_132 1 1 (dk_at dksX1_forced_1 19 rfl rfl)
theorem dX1_forced_46 : decode cX1_forced 46 = .ok (.goto (-44), 3) := dk_167 255 212 (dk_at dksX1_forced_2 0 rfl rfl)
theorem dX1_forced_49 : decode cX1_forced 49 = .ok (.bipush (-4), 2) := dk_16 252 (dk_at dksX1_forced_2 3 rfl rfl)
theorem dX1_forced_51 : decode cX1_forced 51 = .ok (.ireturn, 1) := dk_172 (dk_at dksX1_forced_2 5 rfl rfl)
abbrev cX1_farthest : ByteArray := prog_1_method_37_code
def yX1_farthest : MethodName := ⟨RX1, "farthest", "(II)I"⟩
def dkwX1_farthest_3 : List UInt8 := [42, 27, 29, 182, 0, 228, 172]
abbrev dktX1_farthest_3 : List UInt8 := dkwX1_farthest_3 ++ []
def dkwX1_farthest_2 : List UInt8 := [164, 0, 8, 21, 4, 167, 0, 4, 29, 62, 132, 4, 1, 167, 255, 223, 28, 154, 0, 7, 29, 167, 0, 9]
abbrev dktX1_farthest_2 : List UInt8 := dkwX1_farthest_2 ++ dktX1_farthest_3
def dkwX1_farthest_1 : List UInt8 := [4, 54, 4, 21, 4, 16, 9, 162, 0, 32, 42, 27, 21, 4, 182, 0, 228, 42, 27, 29, 182, 0, 228]
abbrev dktX1_farthest_1 : List UInt8 := dkwX1_farthest_1 ++ dktX1_farthest_2
def dkwX1_farthest_0 : List UInt8 := [42, 180, 0, 140, 27, 182, 0, 90, 153, 0, 12, 28, 3, 4, 184, 0, 42, 154, 0, 5, 2, 172, 3, 62]
abbrev dktX1_farthest_0 : List UInt8 := dkwX1_farthest_0 ++ dktX1_farthest_1
theorem dksX1_farthest_0 : cX1_farthest.data.toList.drop 0 = dktX1_farthest_0 := by decide +kernel
theorem dksX1_farthest_1 : cX1_farthest.data.toList.drop 24 = dktX1_farthest_1 := dk_seg dksX1_farthest_0 24 rfl rfl
theorem dksX1_farthest_2 : cX1_farthest.data.toList.drop 47 = dktX1_farthest_2 := dk_seg dksX1_farthest_1 23 rfl rfl
theorem dksX1_farthest_3 : cX1_farthest.data.toList.drop 71 = dktX1_farthest_3 := dk_seg dksX1_farthest_2 24 rfl rfl
theorem dX1_farthest_0 : decode cX1_farthest 0 = .ok (.aload_n 0, 1) := dk_42 (dk_at dksX1_farthest_0 0 rfl rfl)
theorem dX1_farthest_1 : decode cX1_farthest 1 = .ok (.getfield 140, 3) := dk_180 0 140 (dk_at dksX1_farthest_0 1 rfl rfl)
theorem dX1_farthest_4 : decode cX1_farthest 4 = .ok (.iload_n 1, 1) := dk_27 (dk_at dksX1_farthest_0 4 rfl rfl)
theorem dX1_farthest_5 : decode cX1_farthest 5 = .ok (.invokevirtual 90, 3) := dk_182 0 90 (dk_at dksX1_farthest_0 5 rfl rfl)
theorem dX1_farthest_8 : decode cX1_farthest 8 = .ok (.ifCond .eq 12, 3) := dk_153 0 12 (dk_at dksX1_farthest_0 8 rfl rfl)
theorem dX1_farthest_11 : decode cX1_farthest 11 = .ok (.iload_n 2, 1) := dk_28 (dk_at dksX1_farthest_0 11 rfl rfl)
theorem dX1_farthest_12 : decode cX1_farthest 12 = .ok (.iconst 0, 1) := dk_3 (dk_at dksX1_farthest_0 12 rfl rfl)
theorem dX1_farthest_13 : decode cX1_farthest 13 = .ok (.iconst 1, 1) := dk_4 (dk_at dksX1_farthest_0 13 rfl rfl)
theorem dX1_farthest_14 : decode cX1_farthest 14 = .ok (.invokestatic 42, 3) := dk_184 0 42 (dk_at dksX1_farthest_0 14 rfl rfl)
theorem dX1_farthest_17 : decode cX1_farthest 17 = .ok (.ifCond .ne 5, 3) := dk_154 0 5 (dk_at dksX1_farthest_0 17 rfl rfl)
theorem dX1_farthest_20 : decode cX1_farthest 20 = .ok (.iconst (-1), 1) := dk_2 (dk_at dksX1_farthest_0 20 rfl rfl)
theorem dX1_farthest_21 : decode cX1_farthest 21 = .ok (.ireturn, 1) := dk_172 (dk_at dksX1_farthest_0 21 rfl rfl)
theorem dX1_farthest_22 : decode cX1_farthest 22 = .ok (.iconst 0, 1) := dk_3 (dk_at dksX1_farthest_0 22 rfl rfl)
theorem dX1_farthest_23 : decode cX1_farthest 23 = .ok (.istore_n 3, 1) := dk_62 (dk_at dksX1_farthest_0 23 rfl rfl)
theorem dX1_farthest_24 : decode cX1_farthest 24 = .ok (.iconst 1, 1) := dk_4 (dk_at dksX1_farthest_1 0 rfl rfl)
theorem dX1_farthest_25 : decode cX1_farthest 25 = .ok (.istore 4, 2) := dk_54 4 (dk_at dksX1_farthest_1 1 rfl rfl)
theorem dX1_farthest_27 : decode cX1_farthest 27 = .ok (.iload 4, 2) := dk_21 4 (dk_at dksX1_farthest_1 3 rfl rfl)
theorem dX1_farthest_29 : decode cX1_farthest 29 = .ok (.bipush 9, 2) := dk_16 9 (dk_at dksX1_farthest_1 5 rfl rfl)
theorem dX1_farthest_31 : decode cX1_farthest 31 = .ok (.if_icmp .ge 32, 3) := dk_162 0 32 (dk_at dksX1_farthest_1 7 rfl rfl)
theorem dX1_farthest_34 : decode cX1_farthest 34 = .ok (.aload_n 0, 1) := dk_42 (dk_at dksX1_farthest_1 10 rfl rfl)
theorem dX1_farthest_35 : decode cX1_farthest 35 = .ok (.iload_n 1, 1) := dk_27 (dk_at dksX1_farthest_1 11 rfl rfl)
theorem dX1_farthest_36 : decode cX1_farthest 36 = .ok (.iload 4, 2) := dk_21 4 (dk_at dksX1_farthest_1 12 rfl rfl)
theorem dX1_farthest_38 : decode cX1_farthest 38 = .ok (.invokevirtual 228, 3) := dk_182 0 228 (dk_at dksX1_farthest_1 14 rfl rfl)
theorem dX1_farthest_41 : decode cX1_farthest 41 = .ok (.aload_n 0, 1) := dk_42 (dk_at dksX1_farthest_1 17 rfl rfl)
theorem dX1_farthest_42 : decode cX1_farthest 42 = .ok (.iload_n 1, 1) := dk_27 (dk_at dksX1_farthest_1 18 rfl rfl)
theorem dX1_farthest_43 : decode cX1_farthest 43 = .ok (.iload_n 3, 1) := dk_29 (dk_at dksX1_farthest_1 19 rfl rfl)
theorem dX1_farthest_44 : decode cX1_farthest 44 = .ok (.invokevirtual 228, 3) := dk_182 0 228 (dk_at dksX1_farthest_1 20 rfl rfl)
theorem dX1_farthest_47 : decode cX1_farthest 47 = .ok (.if_icmp .le 8, 3) := dk_164 0 8 (dk_at dksX1_farthest_2 0 rfl rfl)
theorem dX1_farthest_50 : decode cX1_farthest 50 = .ok (.iload 4, 2) := dk_21 4 (dk_at dksX1_farthest_2 3 rfl rfl)
theorem dX1_farthest_52 : decode cX1_farthest 52 = .ok (.goto 4, 3) := dk_167 0 4 (dk_at dksX1_farthest_2 5 rfl rfl)
theorem dX1_farthest_55 : decode cX1_farthest 55 = .ok (.iload_n 3, 1) := dk_29 (dk_at dksX1_farthest_2 8 rfl rfl)
theorem dX1_farthest_56 : decode cX1_farthest 56 = .ok (.istore_n 3, 1) := dk_62 (dk_at dksX1_farthest_2 9 rfl rfl)
theorem dX1_farthest_57 : decode cX1_farthest 57 = .ok (.iinc 4 1, 3) := dk_132 4 1 (dk_at dksX1_farthest_2 10 rfl rfl)
theorem dX1_farthest_60 : decode cX1_farthest 60 = .ok (.goto (-33), 3) := dk_167 255 223 (dk_at dksX1_farthest_2 13 rfl rfl)
theorem dX1_farthest_63 : decode cX1_farthest 63 = .ok (.iload_n 2, 1) := dk_28 (dk_at dksX1_farthest_2 16 rfl rfl)
theorem dX1_farthest_64 : decode cX1_farthest 64 = .ok (.ifCond .ne 7, 3) := dk_154 0 7 (dk_at dksX1_farthest_2 17 rfl rfl)
theorem dX1_farthest_67 : decode cX1_farthest 67 = .ok (.iload_n 3, 1) := dk_29 (dk_at dksX1_farthest_2 20 rfl rfl)
theorem dX1_farthest_68 : decode cX1_farthest 68 = .ok (.goto 9, 3) := dk_167 0 9 (dk_at dksX1_farthest_2 21 rfl rfl)
theorem dX1_farthest_71 : decode cX1_farthest 71 = .ok (.aload_n 0, 1) := dk_42 (dk_at dksX1_farthest_3 0 rfl rfl)
theorem dX1_farthest_72 : decode cX1_farthest 72 = .ok (.iload_n 1, 1) := dk_27 (dk_at dksX1_farthest_3 1 rfl rfl)
theorem dX1_farthest_73 : decode cX1_farthest 73 = .ok (.iload_n 3, 1) := dk_29 (dk_at dksX1_farthest_3 2 rfl rfl)
theorem dX1_farthest_74 : decode cX1_farthest 74 = .ok (.invokevirtual 228, 3) := dk_182 0 228 (dk_at dksX1_farthest_3 3 rfl rfl)
theorem dX1_farthest_77 : decode cX1_farthest 77 = .ok (.ireturn, 1) := dk_172 (dk_at dksX1_farthest_3 6 rfl rfl)
abbrev cX1_farFor : ByteArray := prog_1_method_36_code
def yX1_farFor : MethodName := ⟨RX1, "farFor", "(II)I"⟩
def dkwX1_farFor_1 : List UInt8 := [160, 0, 8, 16, 99, 167, 0, 17, 42, 180, 0, 140, 180, 0, 84, 21, 4, 46, 29, 184, 0, 225, 172]
abbrev dktX1_farFor_1 : List UInt8 := dkwX1_farFor_1 ++ []
def dkwX1_farFor_0 : List UInt8 := [42, 180, 0, 140, 27, 28, 182, 0, 216, 62, 42, 180, 0, 140, 29, 182, 0, 219, 54, 4, 21, 4, 16, 9]
abbrev dktX1_farFor_0 : List UInt8 := dkwX1_farFor_0 ++ dktX1_farFor_1
theorem dksX1_farFor_0 : cX1_farFor.data.toList.drop 0 = dktX1_farFor_0 := by decide +kernel
theorem dksX1_farFor_1 : cX1_farFor.data.toList.drop 24 = dktX1_farFor_1 := dk_seg dksX1_farFor_0 24 rfl rfl
theorem dX1_farFor_0 : decode cX1_farFor 0 = .ok (.aload_n 0, 1) := dk_42 (dk_at dksX1_farFor_0 0 rfl rfl)
theorem dX1_farFor_1 : decode cX1_farFor 1 = .ok (.getfield 140, 3) := dk_180 0 140 (dk_at dksX1_farFor_0 1 rfl rfl)
theorem dX1_farFor_4 : decode cX1_farFor 4 = .ok (.iload_n 1, 1) := dk_27 (dk_at dksX1_farFor_0 4 rfl rfl)
theorem dX1_farFor_5 : decode cX1_farFor 5 = .ok (.iload_n 2, 1) := dk_28 (dk_at dksX1_farFor_0 5 rfl rfl)
theorem dX1_farFor_6 : decode cX1_farFor 6 = .ok (.invokevirtual 216, 3) := dk_182 0 216 (dk_at dksX1_farFor_0 6 rfl rfl)
theorem dX1_farFor_9 : decode cX1_farFor 9 = .ok (.istore_n 3, 1) := dk_62 (dk_at dksX1_farFor_0 9 rfl rfl)
theorem dX1_farFor_10 : decode cX1_farFor 10 = .ok (.aload_n 0, 1) := dk_42 (dk_at dksX1_farFor_0 10 rfl rfl)
theorem dX1_farFor_11 : decode cX1_farFor 11 = .ok (.getfield 140, 3) := dk_180 0 140 (dk_at dksX1_farFor_0 11 rfl rfl)
theorem dX1_farFor_14 : decode cX1_farFor 14 = .ok (.iload_n 3, 1) := dk_29 (dk_at dksX1_farFor_0 14 rfl rfl)
theorem dX1_farFor_15 : decode cX1_farFor 15 = .ok (.invokevirtual 219, 3) := dk_182 0 219 (dk_at dksX1_farFor_0 15 rfl rfl)
theorem dX1_farFor_18 : decode cX1_farFor 18 = .ok (.istore 4, 2) := dk_54 4 (dk_at dksX1_farFor_0 18 rfl rfl)
theorem dX1_farFor_20 : decode cX1_farFor 20 = .ok (.iload 4, 2) := dk_21 4 (dk_at dksX1_farFor_0 20 rfl rfl)
theorem dX1_farFor_22 : decode cX1_farFor 22 = .ok (.bipush 9, 2) := dk_16 9 (dk_at dksX1_farFor_0 22 rfl rfl)
theorem dX1_farFor_24 : decode cX1_farFor 24 = .ok (.if_icmp .ne 8, 3) := dk_160 0 8 (dk_at dksX1_farFor_1 0 rfl rfl)
theorem dX1_farFor_27 : decode cX1_farFor 27 = .ok (.bipush 99, 2) := dk_16 99 (dk_at dksX1_farFor_1 3 rfl rfl)
theorem dX1_farFor_29 : decode cX1_farFor 29 = .ok (.goto 17, 3) := dk_167 0 17 (dk_at dksX1_farFor_1 5 rfl rfl)
theorem dX1_farFor_32 : decode cX1_farFor 32 = .ok (.aload_n 0, 1) := dk_42 (dk_at dksX1_farFor_1 8 rfl rfl)
theorem dX1_farFor_33 : decode cX1_farFor 33 = .ok (.getfield 140, 3) := dk_180 0 140 (dk_at dksX1_farFor_1 9 rfl rfl)
theorem dX1_farFor_36 : decode cX1_farFor 36 = .ok (.getfield 84, 3) := dk_180 0 84 (dk_at dksX1_farFor_1 12 rfl rfl)
theorem dX1_farFor_39 : decode cX1_farFor 39 = .ok (.iload 4, 2) := dk_21 4 (dk_at dksX1_farFor_1 15 rfl rfl)
theorem dX1_farFor_41 : decode cX1_farFor 41 = .ok (.iaload, 1) := dk_46 (dk_at dksX1_farFor_1 17 rfl rfl)
theorem dX1_farFor_42 : decode cX1_farFor 42 = .ok (.iload_n 3, 1) := dk_29 (dk_at dksX1_farFor_1 18 rfl rfl)
theorem dX1_farFor_43 : decode cX1_farFor 43 = .ok (.invokestatic 225, 3) := dk_184 0 225 (dk_at dksX1_farFor_1 19 rfl rfl)
theorem dX1_farFor_46 : decode cX1_farFor 46 = .ok (.ireturn, 1) := dk_172 (dk_at dksX1_farFor_1 22 rfl rfl)
abbrev cX1_atWhom : ByteArray := prog_1_method_38_code
def yX1_atWhom : MethodName := ⟨RX1, "atWhom", "(I)I"⟩
def dkwX1_atWhom_3 : List UInt8 := [42, 180, 0, 68, 180, 0, 203, 46, 62, 132, 4, 1, 167, 255, 195, 28, 172]
abbrev dktX1_atWhom_3 : List UInt8 := dkwX1_atWhom_3 ++ []
def dkwX1_atWhom_2 : List UInt8 := [180, 0, 68, 180, 0, 203, 46, 29, 163, 0, 6, 167, 0, 22, 21, 4, 61, 42, 180, 0, 68, 180, 0, 72]
abbrev dktX1_atWhom_2 : List UInt8 := dkwX1_atWhom_2 ++ dktX1_atWhom_3
def dkwX1_atWhom_1 : List UInt8 := [16, 9, 162, 0, 60, 42, 27, 21, 4, 182, 0, 222, 154, 0, 44, 42, 180, 0, 68, 180, 0, 72, 42]
abbrev dktX1_atWhom_1 : List UInt8 := dkwX1_atWhom_1 ++ dktX1_atWhom_2
def dkwX1_atWhom_0 : List UInt8 := [42, 180, 0, 140, 27, 182, 0, 90, 154, 0, 5, 2, 172, 16, 252, 61, 16, 252, 62, 3, 54, 4, 21, 4]
abbrev dktX1_atWhom_0 : List UInt8 := dkwX1_atWhom_0 ++ dktX1_atWhom_1
theorem dksX1_atWhom_0 : cX1_atWhom.data.toList.drop 0 = dktX1_atWhom_0 := by decide +kernel
theorem dksX1_atWhom_1 : cX1_atWhom.data.toList.drop 24 = dktX1_atWhom_1 := dk_seg dksX1_atWhom_0 24 rfl rfl
theorem dksX1_atWhom_2 : cX1_atWhom.data.toList.drop 47 = dktX1_atWhom_2 := dk_seg dksX1_atWhom_1 23 rfl rfl
theorem dksX1_atWhom_3 : cX1_atWhom.data.toList.drop 71 = dktX1_atWhom_3 := dk_seg dksX1_atWhom_2 24 rfl rfl
theorem dX1_atWhom_0 : decode cX1_atWhom 0 = .ok (.aload_n 0, 1) := dk_42 (dk_at dksX1_atWhom_0 0 rfl rfl)
theorem dX1_atWhom_1 : decode cX1_atWhom 1 = .ok (.getfield 140, 3) := dk_180 0 140 (dk_at dksX1_atWhom_0 1 rfl rfl)
theorem dX1_atWhom_4 : decode cX1_atWhom 4 = .ok (.iload_n 1, 1) := dk_27 (dk_at dksX1_atWhom_0 4 rfl rfl)
theorem dX1_atWhom_5 : decode cX1_atWhom 5 = .ok (.invokevirtual 90, 3) := dk_182 0 90 (dk_at dksX1_atWhom_0 5 rfl rfl)
theorem dX1_atWhom_8 : decode cX1_atWhom 8 = .ok (.ifCond .ne 5, 3) := dk_154 0 5 (dk_at dksX1_atWhom_0 8 rfl rfl)
theorem dX1_atWhom_11 : decode cX1_atWhom 11 = .ok (.iconst (-1), 1) := dk_2 (dk_at dksX1_atWhom_0 11 rfl rfl)
theorem dX1_atWhom_12 : decode cX1_atWhom 12 = .ok (.ireturn, 1) := dk_172 (dk_at dksX1_atWhom_0 12 rfl rfl)
theorem dX1_atWhom_13 : decode cX1_atWhom 13 = .ok (.bipush (-4), 2) := dk_16 252 (dk_at dksX1_atWhom_0 13 rfl rfl)
theorem dX1_atWhom_15 : decode cX1_atWhom 15 = .ok (.istore_n 2, 1) := dk_61 (dk_at dksX1_atWhom_0 15 rfl rfl)
theorem dX1_atWhom_16 : decode cX1_atWhom 16 = .ok (.bipush (-4), 2) := dk_16 252 (dk_at dksX1_atWhom_0 16 rfl rfl)
theorem dX1_atWhom_18 : decode cX1_atWhom 18 = .ok (.istore_n 3, 1) := dk_62 (dk_at dksX1_atWhom_0 18 rfl rfl)
theorem dX1_atWhom_19 : decode cX1_atWhom 19 = .ok (.iconst 0, 1) := dk_3 (dk_at dksX1_atWhom_0 19 rfl rfl)
theorem dX1_atWhom_20 : decode cX1_atWhom 20 = .ok (.istore 4, 2) := dk_54 4 (dk_at dksX1_atWhom_0 20 rfl rfl)
theorem dX1_atWhom_22 : decode cX1_atWhom 22 = .ok (.iload 4, 2) := dk_21 4 (dk_at dksX1_atWhom_0 22 rfl rfl)
theorem dX1_atWhom_24 : decode cX1_atWhom 24 = .ok (.bipush 9, 2) := dk_16 9 (dk_at dksX1_atWhom_1 0 rfl rfl)
theorem dX1_atWhom_26 : decode cX1_atWhom 26 = .ok (.if_icmp .ge 60, 3) := dk_162 0 60 (dk_at dksX1_atWhom_1 2 rfl rfl)
theorem dX1_atWhom_29 : decode cX1_atWhom 29 = .ok (.aload_n 0, 1) := dk_42 (dk_at dksX1_atWhom_1 5 rfl rfl)
theorem dX1_atWhom_30 : decode cX1_atWhom 30 = .ok (.iload_n 1, 1) := dk_27 (dk_at dksX1_atWhom_1 6 rfl rfl)
theorem dX1_atWhom_31 : decode cX1_atWhom 31 = .ok (.iload 4, 2) := dk_21 4 (dk_at dksX1_atWhom_1 7 rfl rfl)
theorem dX1_atWhom_33 : decode cX1_atWhom 33 = .ok (.invokevirtual 222, 3) := dk_182 0 222 (dk_at dksX1_atWhom_1 9 rfl rfl)
theorem dX1_atWhom_36 : decode cX1_atWhom 36 = .ok (.ifCond .ne 44, 3) := dk_154 0 44 (dk_at dksX1_atWhom_1 12 rfl rfl)
theorem dX1_atWhom_39 : decode cX1_atWhom 39 = .ok (.aload_n 0, 1) := dk_42 (dk_at dksX1_atWhom_1 15 rfl rfl)
theorem dX1_atWhom_40 : decode cX1_atWhom 40 = .ok (.getfield 68, 3) := dk_180 0 68 (dk_at dksX1_atWhom_1 16 rfl rfl)
theorem dX1_atWhom_43 : decode cX1_atWhom 43 = .ok (.getfield 72, 3) := dk_180 0 72 (dk_at dksX1_atWhom_1 19 rfl rfl)
theorem dX1_atWhom_46 : decode cX1_atWhom 46 = .ok (.aload_n 0, 1) := dk_42 (dk_at dksX1_atWhom_1 22 rfl rfl)
theorem dX1_atWhom_47 : decode cX1_atWhom 47 = .ok (.getfield 68, 3) := dk_180 0 68 (dk_at dksX1_atWhom_2 0 rfl rfl)
theorem dX1_atWhom_50 : decode cX1_atWhom 50 = .ok (.getfield 203, 3) := dk_180 0 203 (dk_at dksX1_atWhom_2 3 rfl rfl)
theorem dX1_atWhom_53 : decode cX1_atWhom 53 = .ok (.iaload, 1) := dk_46 (dk_at dksX1_atWhom_2 6 rfl rfl)
theorem dX1_atWhom_54 : decode cX1_atWhom 54 = .ok (.iload_n 3, 1) := dk_29 (dk_at dksX1_atWhom_2 7 rfl rfl)
theorem dX1_atWhom_55 : decode cX1_atWhom 55 = .ok (.if_icmp .gt 6, 3) := dk_163 0 6 (dk_at dksX1_atWhom_2 8 rfl rfl)
theorem dX1_atWhom_58 : decode cX1_atWhom 58 = .ok (.goto 22, 3) := dk_167 0 22 (dk_at dksX1_atWhom_2 11 rfl rfl)
theorem dX1_atWhom_61 : decode cX1_atWhom 61 = .ok (.iload 4, 2) := dk_21 4 (dk_at dksX1_atWhom_2 14 rfl rfl)
theorem dX1_atWhom_63 : decode cX1_atWhom 63 = .ok (.istore_n 2, 1) := dk_61 (dk_at dksX1_atWhom_2 16 rfl rfl)
theorem dX1_atWhom_64 : decode cX1_atWhom 64 = .ok (.aload_n 0, 1) := dk_42 (dk_at dksX1_atWhom_2 17 rfl rfl)
theorem dX1_atWhom_65 : decode cX1_atWhom 65 = .ok (.getfield 68, 3) := dk_180 0 68 (dk_at dksX1_atWhom_2 18 rfl rfl)
theorem dX1_atWhom_68 : decode cX1_atWhom 68 = .ok (.getfield 72, 3) := dk_180 0 72 (dk_at dksX1_atWhom_2 21 rfl rfl)
theorem dX1_atWhom_71 : decode cX1_atWhom 71 = .ok (.aload_n 0, 1) := dk_42 (dk_at dksX1_atWhom_3 0 rfl rfl)
theorem dX1_atWhom_72 : decode cX1_atWhom 72 = .ok (.getfield 68, 3) := dk_180 0 68 (dk_at dksX1_atWhom_3 1 rfl rfl)
theorem dX1_atWhom_75 : decode cX1_atWhom 75 = .ok (.getfield 203, 3) := dk_180 0 203 (dk_at dksX1_atWhom_3 4 rfl rfl)
theorem dX1_atWhom_78 : decode cX1_atWhom 78 = .ok (.iaload, 1) := dk_46 (dk_at dksX1_atWhom_3 7 rfl rfl)
theorem dX1_atWhom_79 : decode cX1_atWhom 79 = .ok (.istore_n 3, 1) := dk_62 (dk_at dksX1_atWhom_3 8 rfl rfl)
theorem dX1_atWhom_80 : decode cX1_atWhom 80 = .ok (.iinc 4 1, 3) := dk_132 4 1 (dk_at dksX1_atWhom_3 9 rfl rfl)
theorem dX1_atWhom_83 : decode cX1_atWhom 83 = .ok (.goto (-61), 3) := dk_167 255 195 (dk_at dksX1_atWhom_3 12 rfl rfl)
theorem dX1_atWhom_86 : decode cX1_atWhom 86 = .ok (.iload_n 2, 1) := dk_28 (dk_at dksX1_atWhom_3 15 rfl rfl)
theorem dX1_atWhom_87 : decode cX1_atWhom 87 = .ok (.ireturn, 1) := dk_172 (dk_at dksX1_atWhom_3 16 rfl rfl)
abbrev cX1_fewest : ByteArray := prog_1_method_41_code
def yX1_fewest : MethodName := ⟨RX1, "fewest", "(I)I"⟩
def dkwX1_fewest_2 : List UInt8 := [27, 4, 159, 0, 7, 29, 156, 0, 7, 29, 167, 0, 4, 6, 172]
abbrev dktX1_fewest_2 : List UInt8 := dkwX1_fewest_2 ++ []
def dkwX1_fewest_1 : List UInt8 := [42, 182, 0, 237, 61, 28, 155, 0, 13, 27, 154, 0, 7, 4, 167, 0, 4, 28, 172, 42, 182, 0, 240, 62]
abbrev dktX1_fewest_1 : List UInt8 := dkwX1_fewest_1 ++ dktX1_fewest_2
def dkwX1_fewest_0 : List UInt8 := [27, 3, 4, 184, 0, 42, 154, 0, 5, 2, 172, 42, 180, 0, 140, 180, 0, 100, 154, 0, 6, 16, 253, 172]
abbrev dktX1_fewest_0 : List UInt8 := dkwX1_fewest_0 ++ dktX1_fewest_1
theorem dksX1_fewest_0 : cX1_fewest.data.toList.drop 0 = dktX1_fewest_0 := by decide +kernel
theorem dksX1_fewest_1 : cX1_fewest.data.toList.drop 24 = dktX1_fewest_1 := dk_seg dksX1_fewest_0 24 rfl rfl
theorem dksX1_fewest_2 : cX1_fewest.data.toList.drop 48 = dktX1_fewest_2 := dk_seg dksX1_fewest_1 24 rfl rfl
theorem dX1_fewest_0 : decode cX1_fewest 0 = .ok (.iload_n 1, 1) := dk_27 (dk_at dksX1_fewest_0 0 rfl rfl)
theorem dX1_fewest_1 : decode cX1_fewest 1 = .ok (.iconst 0, 1) := dk_3 (dk_at dksX1_fewest_0 1 rfl rfl)
theorem dX1_fewest_2 : decode cX1_fewest 2 = .ok (.iconst 1, 1) := dk_4 (dk_at dksX1_fewest_0 2 rfl rfl)
theorem dX1_fewest_3 : decode cX1_fewest 3 = .ok (.invokestatic 42, 3) := dk_184 0 42 (dk_at dksX1_fewest_0 3 rfl rfl)
theorem dX1_fewest_6 : decode cX1_fewest 6 = .ok (.ifCond .ne 5, 3) := dk_154 0 5 (dk_at dksX1_fewest_0 6 rfl rfl)
theorem dX1_fewest_9 : decode cX1_fewest 9 = .ok (.iconst (-1), 1) := dk_2 (dk_at dksX1_fewest_0 9 rfl rfl)
theorem dX1_fewest_10 : decode cX1_fewest 10 = .ok (.ireturn, 1) := dk_172 (dk_at dksX1_fewest_0 10 rfl rfl)
theorem dX1_fewest_11 : decode cX1_fewest 11 = .ok (.aload_n 0, 1) := dk_42 (dk_at dksX1_fewest_0 11 rfl rfl)
theorem dX1_fewest_12 : decode cX1_fewest 12 = .ok (.getfield 140, 3) := dk_180 0 140 (dk_at dksX1_fewest_0 12 rfl rfl)
theorem dX1_fewest_15 : decode cX1_fewest 15 = .ok (.getfield 100, 3) := dk_180 0 100 (dk_at dksX1_fewest_0 15 rfl rfl)
theorem dX1_fewest_18 : decode cX1_fewest 18 = .ok (.ifCond .ne 6, 3) := dk_154 0 6 (dk_at dksX1_fewest_0 18 rfl rfl)
theorem dX1_fewest_21 : decode cX1_fewest 21 = .ok (.bipush (-3), 2) := dk_16 253 (dk_at dksX1_fewest_0 21 rfl rfl)
theorem dX1_fewest_23 : decode cX1_fewest 23 = .ok (.ireturn, 1) := dk_172 (dk_at dksX1_fewest_0 23 rfl rfl)
theorem dX1_fewest_24 : decode cX1_fewest 24 = .ok (.aload_n 0, 1) := dk_42 (dk_at dksX1_fewest_1 0 rfl rfl)
theorem dX1_fewest_25 : decode cX1_fewest 25 = .ok (.invokevirtual 237, 3) := dk_182 0 237 (dk_at dksX1_fewest_1 1 rfl rfl)
theorem dX1_fewest_28 : decode cX1_fewest 28 = .ok (.istore_n 2, 1) := dk_61 (dk_at dksX1_fewest_1 4 rfl rfl)
theorem dX1_fewest_29 : decode cX1_fewest 29 = .ok (.iload_n 2, 1) := dk_28 (dk_at dksX1_fewest_1 5 rfl rfl)
theorem dX1_fewest_30 : decode cX1_fewest 30 = .ok (.ifCond .lt 13, 3) := dk_155 0 13 (dk_at dksX1_fewest_1 6 rfl rfl)
theorem dX1_fewest_33 : decode cX1_fewest 33 = .ok (.iload_n 1, 1) := dk_27 (dk_at dksX1_fewest_1 9 rfl rfl)
theorem dX1_fewest_34 : decode cX1_fewest 34 = .ok (.ifCond .ne 7, 3) := dk_154 0 7 (dk_at dksX1_fewest_1 10 rfl rfl)
theorem dX1_fewest_37 : decode cX1_fewest 37 = .ok (.iconst 1, 1) := dk_4 (dk_at dksX1_fewest_1 13 rfl rfl)
theorem dX1_fewest_38 : decode cX1_fewest 38 = .ok (.goto 4, 3) := dk_167 0 4 (dk_at dksX1_fewest_1 14 rfl rfl)
theorem dX1_fewest_41 : decode cX1_fewest 41 = .ok (.iload_n 2, 1) := dk_28 (dk_at dksX1_fewest_1 17 rfl rfl)
theorem dX1_fewest_42 : decode cX1_fewest 42 = .ok (.ireturn, 1) := dk_172 (dk_at dksX1_fewest_1 18 rfl rfl)
theorem dX1_fewest_43 : decode cX1_fewest 43 = .ok (.aload_n 0, 1) := dk_42 (dk_at dksX1_fewest_1 19 rfl rfl)
theorem dX1_fewest_44 : decode cX1_fewest 44 = .ok (.invokevirtual 240, 3) := dk_182 0 240 (dk_at dksX1_fewest_1 20 rfl rfl)
theorem dX1_fewest_47 : decode cX1_fewest 47 = .ok (.istore_n 3, 1) := dk_62 (dk_at dksX1_fewest_1 23 rfl rfl)
theorem dX1_fewest_48 : decode cX1_fewest 48 = .ok (.iload_n 1, 1) := dk_27 (dk_at dksX1_fewest_2 0 rfl rfl)
theorem dX1_fewest_49 : decode cX1_fewest 49 = .ok (.iconst 1, 1) := dk_4 (dk_at dksX1_fewest_2 1 rfl rfl)
theorem dX1_fewest_50 : decode cX1_fewest 50 = .ok (.if_icmp .eq 7, 3) := dk_159 0 7 (dk_at dksX1_fewest_2 2 rfl rfl)
theorem dX1_fewest_53 : decode cX1_fewest 53 = .ok (.iload_n 3, 1) := dk_29 (dk_at dksX1_fewest_2 5 rfl rfl)
theorem dX1_fewest_54 : decode cX1_fewest 54 = .ok (.ifCond .ge 7, 3) := dk_156 0 7 (dk_at dksX1_fewest_2 6 rfl rfl)
theorem dX1_fewest_57 : decode cX1_fewest 57 = .ok (.iload_n 3, 1) := dk_29 (dk_at dksX1_fewest_2 9 rfl rfl)
theorem dX1_fewest_58 : decode cX1_fewest 58 = .ok (.goto 4, 3) := dk_167 0 4 (dk_at dksX1_fewest_2 10 rfl rfl)
theorem dX1_fewest_61 : decode cX1_fewest 61 = .ok (.iconst 3, 1) := dk_6 (dk_at dksX1_fewest_2 13 rfl rfl)
theorem dX1_fewest_62 : decode cX1_fewest 62 = .ok (.ireturn, 1) := dk_172 (dk_at dksX1_fewest_2 14 rfl rfl)
abbrev cX1_laterHit : ByteArray := prog_1_method_40_code
def yX1_laterHit : MethodName := ⟨RX1, "laterHit", "()I"⟩
def dkwX1_laterHit_2 : List UInt8 := [167, 255, 212, 16, 252, 172]
abbrev dktX1_laterHit_2 : List UInt8 := dkwX1_laterHit_2 ++ []
def dkwX1_laterHit_1 : List UInt8 := [182, 0, 234, 153, 0, 10, 16, 10, 27, 104, 28, 96, 172, 132, 2, 1, 167, 255, 231, 132, 1, 1]
abbrev dktX1_laterHit_1 : List UInt8 := dkwX1_laterHit_1 ++ dktX1_laterHit_2
def dkwX1_laterHit_0 : List UInt8 := [3, 60, 27, 42, 180, 0, 140, 180, 0, 100, 162, 0, 39, 3, 61, 28, 16, 9, 162, 0, 25, 42, 27, 28]
abbrev dktX1_laterHit_0 : List UInt8 := dkwX1_laterHit_0 ++ dktX1_laterHit_1
theorem dksX1_laterHit_0 : cX1_laterHit.data.toList.drop 0 = dktX1_laterHit_0 := by decide +kernel
theorem dksX1_laterHit_1 : cX1_laterHit.data.toList.drop 24 = dktX1_laterHit_1 := dk_seg dksX1_laterHit_0 24 rfl rfl
theorem dksX1_laterHit_2 : cX1_laterHit.data.toList.drop 46 = dktX1_laterHit_2 := dk_seg dksX1_laterHit_1 22 rfl rfl
theorem dX1_laterHit_0 : decode cX1_laterHit 0 = .ok (.iconst 0, 1) := dk_3 (dk_at dksX1_laterHit_0 0 rfl rfl)
theorem dX1_laterHit_1 : decode cX1_laterHit 1 = .ok (.istore_n 1, 1) := dk_60 (dk_at dksX1_laterHit_0 1 rfl rfl)
theorem dX1_laterHit_2 : decode cX1_laterHit 2 = .ok (.iload_n 1, 1) := dk_27 (dk_at dksX1_laterHit_0 2 rfl rfl)
theorem dX1_laterHit_3 : decode cX1_laterHit 3 = .ok (.aload_n 0, 1) := dk_42 (dk_at dksX1_laterHit_0 3 rfl rfl)
theorem dX1_laterHit_4 : decode cX1_laterHit 4 = .ok (.getfield 140, 3) := dk_180 0 140 (dk_at dksX1_laterHit_0 4 rfl rfl)
theorem dX1_laterHit_7 : decode cX1_laterHit 7 = .ok (.getfield 100, 3) := dk_180 0 100 (dk_at dksX1_laterHit_0 7 rfl rfl)
theorem dX1_laterHit_10 : decode cX1_laterHit 10 = .ok (.if_icmp .ge 39, 3) := dk_162 0 39 (dk_at dksX1_laterHit_0 10 rfl rfl)
theorem dX1_laterHit_13 : decode cX1_laterHit 13 = .ok (.iconst 0, 1) := dk_3 (dk_at dksX1_laterHit_0 13 rfl rfl)
theorem dX1_laterHit_14 : decode cX1_laterHit 14 = .ok (.istore_n 2, 1) := dk_61 (dk_at dksX1_laterHit_0 14 rfl rfl)
theorem dX1_laterHit_15 : decode cX1_laterHit 15 = .ok (.iload_n 2, 1) := dk_28 (dk_at dksX1_laterHit_0 15 rfl rfl)
theorem dX1_laterHit_16 : decode cX1_laterHit 16 = .ok (.bipush 9, 2) := dk_16 9 (dk_at dksX1_laterHit_0 16 rfl rfl)
theorem dX1_laterHit_18 : decode cX1_laterHit 18 = .ok (.if_icmp .ge 25, 3) := dk_162 0 25 (dk_at dksX1_laterHit_0 18 rfl rfl)
theorem dX1_laterHit_21 : decode cX1_laterHit 21 = .ok (.aload_n 0, 1) := dk_42 (dk_at dksX1_laterHit_0 21 rfl rfl)
theorem dX1_laterHit_22 : decode cX1_laterHit 22 = .ok (.iload_n 1, 1) := dk_27 (dk_at dksX1_laterHit_0 22 rfl rfl)
theorem dX1_laterHit_23 : decode cX1_laterHit 23 = .ok (.iload_n 2, 1) := dk_28 (dk_at dksX1_laterHit_0 23 rfl rfl)
theorem dX1_laterHit_24 : decode cX1_laterHit 24 = .ok (.invokevirtual 234, 3) := dk_182 0 234 (dk_at dksX1_laterHit_1 0 rfl rfl)
theorem dX1_laterHit_27 : decode cX1_laterHit 27 = .ok (.ifCond .eq 10, 3) := dk_153 0 10 (dk_at dksX1_laterHit_1 3 rfl rfl)
theorem dX1_laterHit_30 : decode cX1_laterHit 30 = .ok (.bipush 10, 2) := dk_16 10 (dk_at dksX1_laterHit_1 6 rfl rfl)
theorem dX1_laterHit_32 : decode cX1_laterHit 32 = .ok (.iload_n 1, 1) := dk_27 (dk_at dksX1_laterHit_1 8 rfl rfl)
theorem dX1_laterHit_33 : decode cX1_laterHit 33 = .ok (.imul, 1) := dk_104 (dk_at dksX1_laterHit_1 9 rfl rfl)
theorem dX1_laterHit_34 : decode cX1_laterHit 34 = .ok (.iload_n 2, 1) := dk_28 (dk_at dksX1_laterHit_1 10 rfl rfl)
theorem dX1_laterHit_35 : decode cX1_laterHit 35 = .ok (.iadd, 1) := dk_96 (dk_at dksX1_laterHit_1 11 rfl rfl)
theorem dX1_laterHit_36 : decode cX1_laterHit 36 = .ok (.ireturn, 1) := dk_172 (dk_at dksX1_laterHit_1 12 rfl rfl)
theorem dX1_laterHit_37 : decode cX1_laterHit 37 = .ok (.iinc 2 1, 3) := dk_132 2 1 (dk_at dksX1_laterHit_1 13 rfl rfl)
theorem dX1_laterHit_40 : decode cX1_laterHit 40 = .ok (.goto (-25), 3) := dk_167 255 231 (dk_at dksX1_laterHit_1 16 rfl rfl)
theorem dX1_laterHit_43 : decode cX1_laterHit 43 = .ok (.iinc 1 1, 3) := dk_132 1 1 (dk_at dksX1_laterHit_1 19 rfl rfl)
theorem dX1_laterHit_46 : decode cX1_laterHit 46 = .ok (.goto (-44), 3) := dk_167 255 212 (dk_at dksX1_laterHit_2 0 rfl rfl)
theorem dX1_laterHit_49 : decode cX1_laterHit 49 = .ok (.bipush (-4), 2) := dk_16 252 (dk_at dksX1_laterHit_2 3 rfl rfl)
theorem dX1_laterHit_51 : decode cX1_laterHit 51 = .ok (.ireturn, 1) := dk_172 (dk_at dksX1_laterHit_2 5 rfl rfl)
abbrev cX1_winsLater : ByteArray := prog_1_method_39_code
def yX1_winsLater : MethodName := ⟨RX1, "winsLater", "(II)Z"⟩
def dkwX1_winsLater_4 : List UInt8 := [167, 255, 220, 132, 3, 1, 167, 255, 200, 3, 172]
abbrev dktX1_winsLater_4 : List UInt8 := dkwX1_winsLater_4 ++ []
def dkwX1_winsLater_3 : List UInt8 := [180, 0, 231, 182, 0, 143, 42, 180, 0, 68, 29, 21, 4, 182, 0, 97, 153, 0, 5, 4, 172, 132, 4, 1]
abbrev dktX1_winsLater_3 : List UInt8 := dkwX1_winsLater_3 ++ dktX1_winsLater_4
def dkwX1_winsLater_2 : List UInt8 := [180, 0, 140, 180, 0, 100, 162, 0, 51, 3, 54, 4, 21, 4, 16, 9, 162, 0, 35, 42, 180, 0, 68, 42]
abbrev dktX1_winsLater_2 : List UInt8 := dkwX1_winsLater_2 ++ dktX1_winsLater_3
def dkwX1_winsLater_1 : List UInt8 := [182, 0, 97, 153, 0, 5, 3, 172, 42, 180, 0, 231, 42, 180, 0, 68, 182, 0, 143, 3, 62, 29, 42]
abbrev dktX1_winsLater_1 : List UInt8 := dkwX1_winsLater_1 ++ dktX1_winsLater_2
def dkwX1_winsLater_0 : List UInt8 := [42, 182, 0, 212, 42, 180, 0, 68, 27, 28, 182, 0, 97, 154, 0, 15, 42, 180, 0, 68, 3, 7]
abbrev dktX1_winsLater_0 : List UInt8 := dkwX1_winsLater_0 ++ dktX1_winsLater_1
theorem dksX1_winsLater_0 : cX1_winsLater.data.toList.drop 0 = dktX1_winsLater_0 := by decide +kernel
theorem dksX1_winsLater_1 : cX1_winsLater.data.toList.drop 22 = dktX1_winsLater_1 := dk_seg dksX1_winsLater_0 22 rfl rfl
theorem dksX1_winsLater_2 : cX1_winsLater.data.toList.drop 45 = dktX1_winsLater_2 := dk_seg dksX1_winsLater_1 23 rfl rfl
theorem dksX1_winsLater_3 : cX1_winsLater.data.toList.drop 69 = dktX1_winsLater_3 := dk_seg dksX1_winsLater_2 24 rfl rfl
theorem dksX1_winsLater_4 : cX1_winsLater.data.toList.drop 93 = dktX1_winsLater_4 := dk_seg dksX1_winsLater_3 24 rfl rfl
theorem dX1_winsLater_0 : decode cX1_winsLater 0 = .ok (.aload_n 0, 1) := dk_42 (dk_at dksX1_winsLater_0 0 rfl rfl)
theorem dX1_winsLater_1 : decode cX1_winsLater 1 = .ok (.invokevirtual 212, 3) := dk_182 0 212 (dk_at dksX1_winsLater_0 1 rfl rfl)
theorem dX1_winsLater_4 : decode cX1_winsLater 4 = .ok (.aload_n 0, 1) := dk_42 (dk_at dksX1_winsLater_0 4 rfl rfl)
theorem dX1_winsLater_5 : decode cX1_winsLater 5 = .ok (.getfield 68, 3) := dk_180 0 68 (dk_at dksX1_winsLater_0 5 rfl rfl)
theorem dX1_winsLater_8 : decode cX1_winsLater 8 = .ok (.iload_n 1, 1) := dk_27 (dk_at dksX1_winsLater_0 8 rfl rfl)
theorem dX1_winsLater_9 : decode cX1_winsLater 9 = .ok (.iload_n 2, 1) := dk_28 (dk_at dksX1_winsLater_0 9 rfl rfl)
theorem dX1_winsLater_10 : decode cX1_winsLater 10 = .ok (.invokevirtual 97, 3) := dk_182 0 97 (dk_at dksX1_winsLater_0 10 rfl rfl)
theorem dX1_winsLater_13 : decode cX1_winsLater 13 = .ok (.ifCond .ne 15, 3) := dk_154 0 15 (dk_at dksX1_winsLater_0 13 rfl rfl)
theorem dX1_winsLater_16 : decode cX1_winsLater 16 = .ok (.aload_n 0, 1) := dk_42 (dk_at dksX1_winsLater_0 16 rfl rfl)
theorem dX1_winsLater_17 : decode cX1_winsLater 17 = .ok (.getfield 68, 3) := dk_180 0 68 (dk_at dksX1_winsLater_0 17 rfl rfl)
theorem dX1_winsLater_20 : decode cX1_winsLater 20 = .ok (.iconst 0, 1) := dk_3 (dk_at dksX1_winsLater_0 20 rfl rfl)
theorem dX1_winsLater_21 : decode cX1_winsLater 21 = .ok (.iconst 4, 1) := dk_7 (dk_at dksX1_winsLater_0 21 rfl rfl)
theorem dX1_winsLater_22 : decode cX1_winsLater 22 = .ok (.invokevirtual 97, 3) := dk_182 0 97 (dk_at dksX1_winsLater_1 0 rfl rfl)
theorem dX1_winsLater_25 : decode cX1_winsLater 25 = .ok (.ifCond .eq 5, 3) := dk_153 0 5 (dk_at dksX1_winsLater_1 3 rfl rfl)
theorem dX1_winsLater_28 : decode cX1_winsLater 28 = .ok (.iconst 0, 1) := dk_3 (dk_at dksX1_winsLater_1 6 rfl rfl)
theorem dX1_winsLater_29 : decode cX1_winsLater 29 = .ok (.ireturn, 1) := dk_172 (dk_at dksX1_winsLater_1 7 rfl rfl)
theorem dX1_winsLater_30 : decode cX1_winsLater 30 = .ok (.aload_n 0, 1) := dk_42 (dk_at dksX1_winsLater_1 8 rfl rfl)
theorem dX1_winsLater_31 : decode cX1_winsLater 31 = .ok (.getfield 231, 3) := dk_180 0 231 (dk_at dksX1_winsLater_1 9 rfl rfl)
theorem dX1_winsLater_34 : decode cX1_winsLater 34 = .ok (.aload_n 0, 1) := dk_42 (dk_at dksX1_winsLater_1 12 rfl rfl)
theorem dX1_winsLater_35 : decode cX1_winsLater 35 = .ok (.getfield 68, 3) := dk_180 0 68 (dk_at dksX1_winsLater_1 13 rfl rfl)
theorem dX1_winsLater_38 : decode cX1_winsLater 38 = .ok (.invokevirtual 143, 3) := dk_182 0 143 (dk_at dksX1_winsLater_1 16 rfl rfl)
theorem dX1_winsLater_41 : decode cX1_winsLater 41 = .ok (.iconst 0, 1) := dk_3 (dk_at dksX1_winsLater_1 19 rfl rfl)
theorem dX1_winsLater_42 : decode cX1_winsLater 42 = .ok (.istore_n 3, 1) := dk_62 (dk_at dksX1_winsLater_1 20 rfl rfl)
theorem dX1_winsLater_43 : decode cX1_winsLater 43 = .ok (.iload_n 3, 1) := dk_29 (dk_at dksX1_winsLater_1 21 rfl rfl)
theorem dX1_winsLater_44 : decode cX1_winsLater 44 = .ok (.aload_n 0, 1) := dk_42 (dk_at dksX1_winsLater_1 22 rfl rfl)
theorem dX1_winsLater_45 : decode cX1_winsLater 45 = .ok (.getfield 140, 3) := dk_180 0 140 (dk_at dksX1_winsLater_2 0 rfl rfl)
theorem dX1_winsLater_48 : decode cX1_winsLater 48 = .ok (.getfield 100, 3) := dk_180 0 100 (dk_at dksX1_winsLater_2 3 rfl rfl)
theorem dX1_winsLater_51 : decode cX1_winsLater 51 = .ok (.if_icmp .ge 51, 3) := dk_162 0 51 (dk_at dksX1_winsLater_2 6 rfl rfl)
theorem dX1_winsLater_54 : decode cX1_winsLater 54 = .ok (.iconst 0, 1) := dk_3 (dk_at dksX1_winsLater_2 9 rfl rfl)
theorem dX1_winsLater_55 : decode cX1_winsLater 55 = .ok (.istore 4, 2) := dk_54 4 (dk_at dksX1_winsLater_2 10 rfl rfl)
theorem dX1_winsLater_57 : decode cX1_winsLater 57 = .ok (.iload 4, 2) := dk_21 4 (dk_at dksX1_winsLater_2 12 rfl rfl)
theorem dX1_winsLater_59 : decode cX1_winsLater 59 = .ok (.bipush 9, 2) := dk_16 9 (dk_at dksX1_winsLater_2 14 rfl rfl)
theorem dX1_winsLater_61 : decode cX1_winsLater 61 = .ok (.if_icmp .ge 35, 3) := dk_162 0 35 (dk_at dksX1_winsLater_2 16 rfl rfl)
theorem dX1_winsLater_64 : decode cX1_winsLater 64 = .ok (.aload_n 0, 1) := dk_42 (dk_at dksX1_winsLater_2 19 rfl rfl)
theorem dX1_winsLater_65 : decode cX1_winsLater 65 = .ok (.getfield 68, 3) := dk_180 0 68 (dk_at dksX1_winsLater_2 20 rfl rfl)
theorem dX1_winsLater_68 : decode cX1_winsLater 68 = .ok (.aload_n 0, 1) := dk_42 (dk_at dksX1_winsLater_2 23 rfl rfl)
theorem dX1_winsLater_69 : decode cX1_winsLater 69 = .ok (.getfield 231, 3) := dk_180 0 231 (dk_at dksX1_winsLater_3 0 rfl rfl)
theorem dX1_winsLater_72 : decode cX1_winsLater 72 = .ok (.invokevirtual 143, 3) := dk_182 0 143 (dk_at dksX1_winsLater_3 3 rfl rfl)
theorem dX1_winsLater_75 : decode cX1_winsLater 75 = .ok (.aload_n 0, 1) := dk_42 (dk_at dksX1_winsLater_3 6 rfl rfl)
theorem dX1_winsLater_76 : decode cX1_winsLater 76 = .ok (.getfield 68, 3) := dk_180 0 68 (dk_at dksX1_winsLater_3 7 rfl rfl)
theorem dX1_winsLater_79 : decode cX1_winsLater 79 = .ok (.iload_n 3, 1) := dk_29 (dk_at dksX1_winsLater_3 10 rfl rfl)
theorem dX1_winsLater_80 : decode cX1_winsLater 80 = .ok (.iload 4, 2) := dk_21 4 (dk_at dksX1_winsLater_3 11 rfl rfl)
theorem dX1_winsLater_82 : decode cX1_winsLater 82 = .ok (.invokevirtual 97, 3) := dk_182 0 97 (dk_at dksX1_winsLater_3 13 rfl rfl)
theorem dX1_winsLater_85 : decode cX1_winsLater 85 = .ok (.ifCond .eq 5, 3) := dk_153 0 5 (dk_at dksX1_winsLater_3 16 rfl rfl)
theorem dX1_winsLater_88 : decode cX1_winsLater 88 = .ok (.iconst 1, 1) := dk_4 (dk_at dksX1_winsLater_3 19 rfl rfl)
theorem dX1_winsLater_89 : decode cX1_winsLater 89 = .ok (.ireturn, 1) := dk_172 (dk_at dksX1_winsLater_3 20 rfl rfl)
theorem dX1_winsLater_90 : decode cX1_winsLater 90 = .ok (.iinc 4 1, 3) := dk_132 4 1 (dk_at dksX1_winsLater_3 21 rfl rfl)
theorem dX1_winsLater_93 : decode cX1_winsLater 93 = .ok (.goto (-36), 3) := dk_167 255 220 (dk_at dksX1_winsLater_4 0 rfl rfl)
theorem dX1_winsLater_96 : decode cX1_winsLater 96 = .ok (.iinc 3 1, 3) := dk_132 3 1 (dk_at dksX1_winsLater_4 3 rfl rfl)
theorem dX1_winsLater_99 : decode cX1_winsLater 99 = .ok (.goto (-56), 3) := dk_167 255 200 (dk_at dksX1_winsLater_4 6 rfl rfl)
theorem dX1_winsLater_102 : decode cX1_winsLater 102 = .ok (.iconst 0, 1) := dk_3 (dk_at dksX1_winsLater_4 9 rfl rfl)
theorem dX1_winsLater_103 : decode cX1_winsLater 103 = .ok (.ireturn, 1) := dk_172 (dk_at dksX1_winsLater_4 10 rfl rfl)
abbrev cX1_bestForm : ByteArray := prog_1_method_45_code
def yX1_bestForm : MethodName := ⟨RX1, "bestForm", "(II)I"⟩
def dkwX1_bestForm_2 : List UInt8 := [3, 182, 0, 250, 172]
abbrev dktX1_bestForm_2 : List UInt8 := dkwX1_bestForm_2 ++ []
def dkwX1_bestForm_1 : List UInt8 := [180, 0, 100, 154, 0, 8, 16, 253, 167, 0, 20, 42, 27, 3, 5, 28, 4, 160, 0, 7, 4, 167, 0, 4]
abbrev dktX1_bestForm_1 : List UInt8 := dkwX1_bestForm_1 ++ dktX1_bestForm_2
def dkwX1_bestForm_0 : List UInt8 := [27, 3, 4, 184, 0, 42, 153, 0, 12, 28, 3, 4, 184, 0, 42, 154, 0, 5, 2, 172, 42, 180, 0, 140]
abbrev dktX1_bestForm_0 : List UInt8 := dkwX1_bestForm_0 ++ dktX1_bestForm_1
theorem dksX1_bestForm_0 : cX1_bestForm.data.toList.drop 0 = dktX1_bestForm_0 := by decide +kernel
theorem dksX1_bestForm_1 : cX1_bestForm.data.toList.drop 24 = dktX1_bestForm_1 := dk_seg dksX1_bestForm_0 24 rfl rfl
theorem dksX1_bestForm_2 : cX1_bestForm.data.toList.drop 48 = dktX1_bestForm_2 := dk_seg dksX1_bestForm_1 24 rfl rfl
theorem dX1_bestForm_0 : decode cX1_bestForm 0 = .ok (.iload_n 1, 1) := dk_27 (dk_at dksX1_bestForm_0 0 rfl rfl)
theorem dX1_bestForm_1 : decode cX1_bestForm 1 = .ok (.iconst 0, 1) := dk_3 (dk_at dksX1_bestForm_0 1 rfl rfl)
theorem dX1_bestForm_2 : decode cX1_bestForm 2 = .ok (.iconst 1, 1) := dk_4 (dk_at dksX1_bestForm_0 2 rfl rfl)
theorem dX1_bestForm_3 : decode cX1_bestForm 3 = .ok (.invokestatic 42, 3) := dk_184 0 42 (dk_at dksX1_bestForm_0 3 rfl rfl)
theorem dX1_bestForm_6 : decode cX1_bestForm 6 = .ok (.ifCond .eq 12, 3) := dk_153 0 12 (dk_at dksX1_bestForm_0 6 rfl rfl)
theorem dX1_bestForm_9 : decode cX1_bestForm 9 = .ok (.iload_n 2, 1) := dk_28 (dk_at dksX1_bestForm_0 9 rfl rfl)
theorem dX1_bestForm_10 : decode cX1_bestForm 10 = .ok (.iconst 0, 1) := dk_3 (dk_at dksX1_bestForm_0 10 rfl rfl)
theorem dX1_bestForm_11 : decode cX1_bestForm 11 = .ok (.iconst 1, 1) := dk_4 (dk_at dksX1_bestForm_0 11 rfl rfl)
theorem dX1_bestForm_12 : decode cX1_bestForm 12 = .ok (.invokestatic 42, 3) := dk_184 0 42 (dk_at dksX1_bestForm_0 12 rfl rfl)
theorem dX1_bestForm_15 : decode cX1_bestForm 15 = .ok (.ifCond .ne 5, 3) := dk_154 0 5 (dk_at dksX1_bestForm_0 15 rfl rfl)
theorem dX1_bestForm_18 : decode cX1_bestForm 18 = .ok (.iconst (-1), 1) := dk_2 (dk_at dksX1_bestForm_0 18 rfl rfl)
theorem dX1_bestForm_19 : decode cX1_bestForm 19 = .ok (.ireturn, 1) := dk_172 (dk_at dksX1_bestForm_0 19 rfl rfl)
theorem dX1_bestForm_20 : decode cX1_bestForm 20 = .ok (.aload_n 0, 1) := dk_42 (dk_at dksX1_bestForm_0 20 rfl rfl)
theorem dX1_bestForm_21 : decode cX1_bestForm 21 = .ok (.getfield 140, 3) := dk_180 0 140 (dk_at dksX1_bestForm_0 21 rfl rfl)
theorem dX1_bestForm_24 : decode cX1_bestForm 24 = .ok (.getfield 100, 3) := dk_180 0 100 (dk_at dksX1_bestForm_1 0 rfl rfl)
theorem dX1_bestForm_27 : decode cX1_bestForm 27 = .ok (.ifCond .ne 8, 3) := dk_154 0 8 (dk_at dksX1_bestForm_1 3 rfl rfl)
theorem dX1_bestForm_30 : decode cX1_bestForm 30 = .ok (.bipush (-3), 2) := dk_16 253 (dk_at dksX1_bestForm_1 6 rfl rfl)
theorem dX1_bestForm_32 : decode cX1_bestForm 32 = .ok (.goto 20, 3) := dk_167 0 20 (dk_at dksX1_bestForm_1 8 rfl rfl)
theorem dX1_bestForm_35 : decode cX1_bestForm 35 = .ok (.aload_n 0, 1) := dk_42 (dk_at dksX1_bestForm_1 11 rfl rfl)
theorem dX1_bestForm_36 : decode cX1_bestForm 36 = .ok (.iload_n 1, 1) := dk_27 (dk_at dksX1_bestForm_1 12 rfl rfl)
theorem dX1_bestForm_37 : decode cX1_bestForm 37 = .ok (.iconst 0, 1) := dk_3 (dk_at dksX1_bestForm_1 13 rfl rfl)
theorem dX1_bestForm_38 : decode cX1_bestForm 38 = .ok (.iconst 2, 1) := dk_5 (dk_at dksX1_bestForm_1 14 rfl rfl)
theorem dX1_bestForm_39 : decode cX1_bestForm 39 = .ok (.iload_n 2, 1) := dk_28 (dk_at dksX1_bestForm_1 15 rfl rfl)
theorem dX1_bestForm_40 : decode cX1_bestForm 40 = .ok (.iconst 1, 1) := dk_4 (dk_at dksX1_bestForm_1 16 rfl rfl)
theorem dX1_bestForm_41 : decode cX1_bestForm 41 = .ok (.if_icmp .ne 7, 3) := dk_160 0 7 (dk_at dksX1_bestForm_1 17 rfl rfl)
theorem dX1_bestForm_44 : decode cX1_bestForm 44 = .ok (.iconst 1, 1) := dk_4 (dk_at dksX1_bestForm_1 20 rfl rfl)
theorem dX1_bestForm_45 : decode cX1_bestForm 45 = .ok (.goto 4, 3) := dk_167 0 4 (dk_at dksX1_bestForm_1 21 rfl rfl)
theorem dX1_bestForm_48 : decode cX1_bestForm 48 = .ok (.iconst 0, 1) := dk_3 (dk_at dksX1_bestForm_2 0 rfl rfl)
theorem dX1_bestForm_49 : decode cX1_bestForm 49 = .ok (.invokevirtual 250, 3) := dk_182 0 250 (dk_at dksX1_bestForm_2 1 rfl rfl)
theorem dX1_bestForm_52 : decode cX1_bestForm 52 = .ok (.ireturn, 1) := dk_172 (dk_at dksX1_bestForm_2 4 rfl rfl)
abbrev cX1_bestOf : ByteArray := prog_1_method_44_code
def yX1_bestOf : MethodName := ⟨RX1, "bestOf", "(IIIZ)I"⟩
def dkwX1_bestOf_2 : List UInt8 := [21, 4, 153, 0, 14, 42, 27, 28, 21, 5, 182, 0, 246, 167, 0, 5, 21, 5, 172]
abbrev dktX1_bestOf_2 : List UInt8 := dkwX1_bestOf_2 ++ []
def dkwX1_bestOf_1 : List UInt8 := [21, 5, 182, 0, 246, 164, 0, 8, 21, 6, 167, 0, 5, 21, 5, 54, 5, 132, 6, 1, 167, 255, 219]
abbrev dktX1_bestOf_1 : List UInt8 := dkwX1_bestOf_1 ++ dktX1_bestOf_2
def dkwX1_bestOf_0 : List UInt8 := [3, 54, 5, 4, 54, 6, 21, 6, 29, 162, 0, 37, 42, 27, 28, 21, 6, 182, 0, 246, 42, 27, 28]
abbrev dktX1_bestOf_0 : List UInt8 := dkwX1_bestOf_0 ++ dktX1_bestOf_1
theorem dksX1_bestOf_0 : cX1_bestOf.data.toList.drop 0 = dktX1_bestOf_0 := by decide +kernel
theorem dksX1_bestOf_1 : cX1_bestOf.data.toList.drop 23 = dktX1_bestOf_1 := dk_seg dksX1_bestOf_0 23 rfl rfl
theorem dksX1_bestOf_2 : cX1_bestOf.data.toList.drop 46 = dktX1_bestOf_2 := dk_seg dksX1_bestOf_1 23 rfl rfl
theorem dX1_bestOf_0 : decode cX1_bestOf 0 = .ok (.iconst 0, 1) := dk_3 (dk_at dksX1_bestOf_0 0 rfl rfl)
theorem dX1_bestOf_1 : decode cX1_bestOf 1 = .ok (.istore 5, 2) := dk_54 5 (dk_at dksX1_bestOf_0 1 rfl rfl)
theorem dX1_bestOf_3 : decode cX1_bestOf 3 = .ok (.iconst 1, 1) := dk_4 (dk_at dksX1_bestOf_0 3 rfl rfl)
theorem dX1_bestOf_4 : decode cX1_bestOf 4 = .ok (.istore 6, 2) := dk_54 6 (dk_at dksX1_bestOf_0 4 rfl rfl)
theorem dX1_bestOf_6 : decode cX1_bestOf 6 = .ok (.iload 6, 2) := dk_21 6 (dk_at dksX1_bestOf_0 6 rfl rfl)
theorem dX1_bestOf_8 : decode cX1_bestOf 8 = .ok (.iload_n 3, 1) := dk_29 (dk_at dksX1_bestOf_0 8 rfl rfl)
theorem dX1_bestOf_9 : decode cX1_bestOf 9 = .ok (.if_icmp .ge 37, 3) := dk_162 0 37 (dk_at dksX1_bestOf_0 9 rfl rfl)
theorem dX1_bestOf_12 : decode cX1_bestOf 12 = .ok (.aload_n 0, 1) := dk_42 (dk_at dksX1_bestOf_0 12 rfl rfl)
theorem dX1_bestOf_13 : decode cX1_bestOf 13 = .ok (.iload_n 1, 1) := dk_27 (dk_at dksX1_bestOf_0 13 rfl rfl)
theorem dX1_bestOf_14 : decode cX1_bestOf 14 = .ok (.iload_n 2, 1) := dk_28 (dk_at dksX1_bestOf_0 14 rfl rfl)
theorem dX1_bestOf_15 : decode cX1_bestOf 15 = .ok (.iload 6, 2) := dk_21 6 (dk_at dksX1_bestOf_0 15 rfl rfl)
theorem dX1_bestOf_17 : decode cX1_bestOf 17 = .ok (.invokevirtual 246, 3) := dk_182 0 246 (dk_at dksX1_bestOf_0 17 rfl rfl)
theorem dX1_bestOf_20 : decode cX1_bestOf 20 = .ok (.aload_n 0, 1) := dk_42 (dk_at dksX1_bestOf_0 20 rfl rfl)
theorem dX1_bestOf_21 : decode cX1_bestOf 21 = .ok (.iload_n 1, 1) := dk_27 (dk_at dksX1_bestOf_0 21 rfl rfl)
theorem dX1_bestOf_22 : decode cX1_bestOf 22 = .ok (.iload_n 2, 1) := dk_28 (dk_at dksX1_bestOf_0 22 rfl rfl)
theorem dX1_bestOf_23 : decode cX1_bestOf 23 = .ok (.iload 5, 2) := dk_21 5 (dk_at dksX1_bestOf_1 0 rfl rfl)
theorem dX1_bestOf_25 : decode cX1_bestOf 25 = .ok (.invokevirtual 246, 3) := dk_182 0 246 (dk_at dksX1_bestOf_1 2 rfl rfl)
theorem dX1_bestOf_28 : decode cX1_bestOf 28 = .ok (.if_icmp .le 8, 3) := dk_164 0 8 (dk_at dksX1_bestOf_1 5 rfl rfl)
theorem dX1_bestOf_31 : decode cX1_bestOf 31 = .ok (.iload 6, 2) := dk_21 6 (dk_at dksX1_bestOf_1 8 rfl rfl)
theorem dX1_bestOf_33 : decode cX1_bestOf 33 = .ok (.goto 5, 3) := dk_167 0 5 (dk_at dksX1_bestOf_1 10 rfl rfl)
theorem dX1_bestOf_36 : decode cX1_bestOf 36 = .ok (.iload 5, 2) := dk_21 5 (dk_at dksX1_bestOf_1 13 rfl rfl)
theorem dX1_bestOf_38 : decode cX1_bestOf 38 = .ok (.istore 5, 2) := dk_54 5 (dk_at dksX1_bestOf_1 15 rfl rfl)
theorem dX1_bestOf_40 : decode cX1_bestOf 40 = .ok (.iinc 6 1, 3) := dk_132 6 1 (dk_at dksX1_bestOf_1 17 rfl rfl)
theorem dX1_bestOf_43 : decode cX1_bestOf 43 = .ok (.goto (-37), 3) := dk_167 255 219 (dk_at dksX1_bestOf_1 20 rfl rfl)
theorem dX1_bestOf_46 : decode cX1_bestOf 46 = .ok (.iload 4, 2) := dk_21 4 (dk_at dksX1_bestOf_2 0 rfl rfl)
theorem dX1_bestOf_48 : decode cX1_bestOf 48 = .ok (.ifCond .eq 14, 3) := dk_153 0 14 (dk_at dksX1_bestOf_2 2 rfl rfl)
theorem dX1_bestOf_51 : decode cX1_bestOf 51 = .ok (.aload_n 0, 1) := dk_42 (dk_at dksX1_bestOf_2 5 rfl rfl)
theorem dX1_bestOf_52 : decode cX1_bestOf 52 = .ok (.iload_n 1, 1) := dk_27 (dk_at dksX1_bestOf_2 6 rfl rfl)
theorem dX1_bestOf_53 : decode cX1_bestOf 53 = .ok (.iload_n 2, 1) := dk_28 (dk_at dksX1_bestOf_2 7 rfl rfl)
theorem dX1_bestOf_54 : decode cX1_bestOf 54 = .ok (.iload 5, 2) := dk_21 5 (dk_at dksX1_bestOf_2 8 rfl rfl)
theorem dX1_bestOf_56 : decode cX1_bestOf 56 = .ok (.invokevirtual 246, 3) := dk_182 0 246 (dk_at dksX1_bestOf_2 10 rfl rfl)
theorem dX1_bestOf_59 : decode cX1_bestOf 59 = .ok (.goto 5, 3) := dk_167 0 5 (dk_at dksX1_bestOf_2 13 rfl rfl)
theorem dX1_bestOf_62 : decode cX1_bestOf 62 = .ok (.iload 5, 2) := dk_21 5 (dk_at dksX1_bestOf_2 16 rfl rfl)
theorem dX1_bestOf_64 : decode cX1_bestOf 64 = .ok (.ireturn, 1) := dk_172 (dk_at dksX1_bestOf_2 18 rfl rfl)
abbrev cX1_standsBy : ByteArray := prog_1_method_43_code
def yX1_standsBy : MethodName := ⟨RX1, "standsBy", "(III)I"⟩
def dkwX1_standsBy_3 : List UInt8 := [21, 4, 172]
abbrev dktX1_standsBy_3 : List UInt8 := dkwX1_standsBy_3 ++ []
def dkwX1_standsBy_2 : List UInt8 := [42, 27, 21, 5, 182, 0, 243, 153, 0, 7, 4, 167, 0, 4, 3, 96, 54, 4, 132, 5, 1, 167, 255, 195]
abbrev dktX1_standsBy_2 : List UInt8 := dkwX1_standsBy_2 ++ dktX1_standsBy_3
def dkwX1_standsBy_1 : List UInt8 := [180, 0, 68, 180, 0, 111, 27, 29, 79, 167, 0, 13, 42, 180, 0, 68, 180, 0, 114, 27, 29, 79, 21, 4]
abbrev dktX1_standsBy_1 : List UInt8 := dkwX1_standsBy_1 ++ dktX1_standsBy_2
def dkwX1_standsBy_0 : List UInt8 := [3, 54, 4, 3, 54, 5, 21, 5, 16, 9, 162, 0, 60, 42, 182, 0, 212, 28, 154, 0, 16, 42]
abbrev dktX1_standsBy_0 : List UInt8 := dkwX1_standsBy_0 ++ dktX1_standsBy_1
theorem dksX1_standsBy_0 : cX1_standsBy.data.toList.drop 0 = dktX1_standsBy_0 := by decide +kernel
theorem dksX1_standsBy_1 : cX1_standsBy.data.toList.drop 22 = dktX1_standsBy_1 := dk_seg dksX1_standsBy_0 22 rfl rfl
theorem dksX1_standsBy_2 : cX1_standsBy.data.toList.drop 46 = dktX1_standsBy_2 := dk_seg dksX1_standsBy_1 24 rfl rfl
theorem dksX1_standsBy_3 : cX1_standsBy.data.toList.drop 70 = dktX1_standsBy_3 := dk_seg dksX1_standsBy_2 24 rfl rfl
theorem dX1_standsBy_0 : decode cX1_standsBy 0 = .ok (.iconst 0, 1) := dk_3 (dk_at dksX1_standsBy_0 0 rfl rfl)
theorem dX1_standsBy_1 : decode cX1_standsBy 1 = .ok (.istore 4, 2) := dk_54 4 (dk_at dksX1_standsBy_0 1 rfl rfl)
theorem dX1_standsBy_3 : decode cX1_standsBy 3 = .ok (.iconst 0, 1) := dk_3 (dk_at dksX1_standsBy_0 3 rfl rfl)
theorem dX1_standsBy_4 : decode cX1_standsBy 4 = .ok (.istore 5, 2) := dk_54 5 (dk_at dksX1_standsBy_0 4 rfl rfl)
theorem dX1_standsBy_6 : decode cX1_standsBy 6 = .ok (.iload 5, 2) := dk_21 5 (dk_at dksX1_standsBy_0 6 rfl rfl)
theorem dX1_standsBy_8 : decode cX1_standsBy 8 = .ok (.bipush 9, 2) := dk_16 9 (dk_at dksX1_standsBy_0 8 rfl rfl)
theorem dX1_standsBy_10 : decode cX1_standsBy 10 = .ok (.if_icmp .ge 60, 3) := dk_162 0 60 (dk_at dksX1_standsBy_0 10 rfl rfl)
theorem dX1_standsBy_13 : decode cX1_standsBy 13 = .ok (.aload_n 0, 1) := dk_42 (dk_at dksX1_standsBy_0 13 rfl rfl)
theorem dX1_standsBy_14 : decode cX1_standsBy 14 = .ok (.invokevirtual 212, 3) := dk_182 0 212 (dk_at dksX1_standsBy_0 14 rfl rfl)
theorem dX1_standsBy_17 : decode cX1_standsBy 17 = .ok (.iload_n 2, 1) := dk_28 (dk_at dksX1_standsBy_0 17 rfl rfl)
theorem dX1_standsBy_18 : decode cX1_standsBy 18 = .ok (.ifCond .ne 16, 3) := dk_154 0 16 (dk_at dksX1_standsBy_0 18 rfl rfl)
theorem dX1_standsBy_21 : decode cX1_standsBy 21 = .ok (.aload_n 0, 1) := dk_42 (dk_at dksX1_standsBy_0 21 rfl rfl)
theorem dX1_standsBy_22 : decode cX1_standsBy 22 = .ok (.getfield 68, 3) := dk_180 0 68 (dk_at dksX1_standsBy_1 0 rfl rfl)
theorem dX1_standsBy_25 : decode cX1_standsBy 25 = .ok (.getfield 111, 3) := dk_180 0 111 (dk_at dksX1_standsBy_1 3 rfl rfl)
theorem dX1_standsBy_28 : decode cX1_standsBy 28 = .ok (.iload_n 1, 1) := dk_27 (dk_at dksX1_standsBy_1 6 rfl rfl)
theorem dX1_standsBy_29 : decode cX1_standsBy 29 = .ok (.iload_n 3, 1) := dk_29 (dk_at dksX1_standsBy_1 7 rfl rfl)
theorem dX1_standsBy_30 : decode cX1_standsBy 30 = .ok (.iastore, 1) := dk_79 (dk_at dksX1_standsBy_1 8 rfl rfl)
theorem dX1_standsBy_31 : decode cX1_standsBy 31 = .ok (.goto 13, 3) := dk_167 0 13 (dk_at dksX1_standsBy_1 9 rfl rfl)
theorem dX1_standsBy_34 : decode cX1_standsBy 34 = .ok (.aload_n 0, 1) := dk_42 (dk_at dksX1_standsBy_1 12 rfl rfl)
theorem dX1_standsBy_35 : decode cX1_standsBy 35 = .ok (.getfield 68, 3) := dk_180 0 68 (dk_at dksX1_standsBy_1 13 rfl rfl)
theorem dX1_standsBy_38 : decode cX1_standsBy 38 = .ok (.getfield 114, 3) := dk_180 0 114 (dk_at dksX1_standsBy_1 16 rfl rfl)
theorem dX1_standsBy_41 : decode cX1_standsBy 41 = .ok (.iload_n 1, 1) := dk_27 (dk_at dksX1_standsBy_1 19 rfl rfl)
theorem dX1_standsBy_42 : decode cX1_standsBy 42 = .ok (.iload_n 3, 1) := dk_29 (dk_at dksX1_standsBy_1 20 rfl rfl)
theorem dX1_standsBy_43 : decode cX1_standsBy 43 = .ok (.iastore, 1) := dk_79 (dk_at dksX1_standsBy_1 21 rfl rfl)
theorem dX1_standsBy_44 : decode cX1_standsBy 44 = .ok (.iload 4, 2) := dk_21 4 (dk_at dksX1_standsBy_1 22 rfl rfl)
theorem dX1_standsBy_46 : decode cX1_standsBy 46 = .ok (.aload_n 0, 1) := dk_42 (dk_at dksX1_standsBy_2 0 rfl rfl)
theorem dX1_standsBy_47 : decode cX1_standsBy 47 = .ok (.iload_n 1, 1) := dk_27 (dk_at dksX1_standsBy_2 1 rfl rfl)
theorem dX1_standsBy_48 : decode cX1_standsBy 48 = .ok (.iload 5, 2) := dk_21 5 (dk_at dksX1_standsBy_2 2 rfl rfl)
theorem dX1_standsBy_50 : decode cX1_standsBy 50 = .ok (.invokevirtual 243, 3) := dk_182 0 243 (dk_at dksX1_standsBy_2 4 rfl rfl)
theorem dX1_standsBy_53 : decode cX1_standsBy 53 = .ok (.ifCond .eq 7, 3) := dk_153 0 7 (dk_at dksX1_standsBy_2 7 rfl rfl)
theorem dX1_standsBy_56 : decode cX1_standsBy 56 = .ok (.iconst 1, 1) := dk_4 (dk_at dksX1_standsBy_2 10 rfl rfl)
theorem dX1_standsBy_57 : decode cX1_standsBy 57 = .ok (.goto 4, 3) := dk_167 0 4 (dk_at dksX1_standsBy_2 11 rfl rfl)
theorem dX1_standsBy_60 : decode cX1_standsBy 60 = .ok (.iconst 0, 1) := dk_3 (dk_at dksX1_standsBy_2 14 rfl rfl)
theorem dX1_standsBy_61 : decode cX1_standsBy 61 = .ok (.iadd, 1) := dk_96 (dk_at dksX1_standsBy_2 15 rfl rfl)
theorem dX1_standsBy_62 : decode cX1_standsBy 62 = .ok (.istore 4, 2) := dk_54 4 (dk_at dksX1_standsBy_2 16 rfl rfl)
theorem dX1_standsBy_64 : decode cX1_standsBy 64 = .ok (.iinc 5 1, 3) := dk_132 5 1 (dk_at dksX1_standsBy_2 18 rfl rfl)
theorem dX1_standsBy_67 : decode cX1_standsBy 67 = .ok (.goto (-61), 3) := dk_167 255 195 (dk_at dksX1_standsBy_2 21 rfl rfl)
theorem dX1_standsBy_70 : decode cX1_standsBy 70 = .ok (.iload 4, 2) := dk_21 4 (dk_at dksX1_standsBy_3 0 rfl rfl)
theorem dX1_standsBy_72 : decode cX1_standsBy 72 = .ok (.ireturn, 1) := dk_172 (dk_at dksX1_standsBy_3 2 rfl rfl)
abbrev cX1_stands_2 : ByteArray := prog_1_method_42_code
def yX1_stands_2 : MethodName := ⟨RX1, "stands", "(II)Z"⟩
def dkwX1_stands_2_2 : List UInt8 := [154, 0, 18, 42, 180, 0, 68, 3, 16, 8, 28, 100, 182, 0, 97, 154, 0, 7, 4, 167, 0, 4, 3, 172]
abbrev dktX1_stands_2_2 : List UInt8 := dkwX1_stands_2_2 ++ []
def dkwX1_stands_2_1 : List UInt8 := [180, 0, 68, 3, 28, 182, 0, 97, 153, 0, 5, 3, 172, 42, 180, 0, 68, 3, 7, 182, 0, 97]
abbrev dktX1_stands_2_1 : List UInt8 := dkwX1_stands_2_1 ++ dktX1_stands_2_2
def dkwX1_stands_2_0 : List UInt8 := [42, 180, 0, 68, 182, 0, 200, 27, 160, 0, 15, 42, 180, 0, 68, 5, 5, 27, 104, 100, 181, 0, 203, 42]
abbrev dktX1_stands_2_0 : List UInt8 := dkwX1_stands_2_0 ++ dktX1_stands_2_1
theorem dksX1_stands_2_0 : cX1_stands_2.data.toList.drop 0 = dktX1_stands_2_0 := by decide +kernel
theorem dksX1_stands_2_1 : cX1_stands_2.data.toList.drop 24 = dktX1_stands_2_1 := dk_seg dksX1_stands_2_0 24 rfl rfl
theorem dksX1_stands_2_2 : cX1_stands_2.data.toList.drop 46 = dktX1_stands_2_2 := dk_seg dksX1_stands_2_1 22 rfl rfl
theorem dX1_stands_2_0 : decode cX1_stands_2 0 = .ok (.aload_n 0, 1) := dk_42 (dk_at dksX1_stands_2_0 0 rfl rfl)
theorem dX1_stands_2_1 : decode cX1_stands_2 1 = .ok (.getfield 68, 3) := dk_180 0 68 (dk_at dksX1_stands_2_0 1 rfl rfl)
theorem dX1_stands_2_4 : decode cX1_stands_2 4 = .ok (.invokevirtual 200, 3) := dk_182 0 200 (dk_at dksX1_stands_2_0 4 rfl rfl)
theorem dX1_stands_2_7 : decode cX1_stands_2 7 = .ok (.iload_n 1, 1) := dk_27 (dk_at dksX1_stands_2_0 7 rfl rfl)
theorem dX1_stands_2_8 : decode cX1_stands_2 8 = .ok (.if_icmp .ne 15, 3) := dk_160 0 15 (dk_at dksX1_stands_2_0 8 rfl rfl)
theorem dX1_stands_2_11 : decode cX1_stands_2 11 = .ok (.aload_n 0, 1) := dk_42 (dk_at dksX1_stands_2_0 11 rfl rfl)
theorem dX1_stands_2_12 : decode cX1_stands_2 12 = .ok (.getfield 68, 3) := dk_180 0 68 (dk_at dksX1_stands_2_0 12 rfl rfl)
theorem dX1_stands_2_15 : decode cX1_stands_2 15 = .ok (.iconst 2, 1) := dk_5 (dk_at dksX1_stands_2_0 15 rfl rfl)
theorem dX1_stands_2_16 : decode cX1_stands_2 16 = .ok (.iconst 2, 1) := dk_5 (dk_at dksX1_stands_2_0 16 rfl rfl)
theorem dX1_stands_2_17 : decode cX1_stands_2 17 = .ok (.iload_n 1, 1) := dk_27 (dk_at dksX1_stands_2_0 17 rfl rfl)
theorem dX1_stands_2_18 : decode cX1_stands_2 18 = .ok (.imul, 1) := dk_104 (dk_at dksX1_stands_2_0 18 rfl rfl)
theorem dX1_stands_2_19 : decode cX1_stands_2 19 = .ok (.isub, 1) := dk_100 (dk_at dksX1_stands_2_0 19 rfl rfl)
theorem dX1_stands_2_20 : decode cX1_stands_2 20 = .ok (.putfield 203, 3) := dk_181 0 203 (dk_at dksX1_stands_2_0 20 rfl rfl)
theorem dX1_stands_2_23 : decode cX1_stands_2 23 = .ok (.aload_n 0, 1) := dk_42 (dk_at dksX1_stands_2_0 23 rfl rfl)
theorem dX1_stands_2_24 : decode cX1_stands_2 24 = .ok (.getfield 68, 3) := dk_180 0 68 (dk_at dksX1_stands_2_1 0 rfl rfl)
theorem dX1_stands_2_27 : decode cX1_stands_2 27 = .ok (.iconst 0, 1) := dk_3 (dk_at dksX1_stands_2_1 3 rfl rfl)
theorem dX1_stands_2_28 : decode cX1_stands_2 28 = .ok (.iload_n 2, 1) := dk_28 (dk_at dksX1_stands_2_1 4 rfl rfl)
theorem dX1_stands_2_29 : decode cX1_stands_2 29 = .ok (.invokevirtual 97, 3) := dk_182 0 97 (dk_at dksX1_stands_2_1 5 rfl rfl)
theorem dX1_stands_2_32 : decode cX1_stands_2 32 = .ok (.ifCond .eq 5, 3) := dk_153 0 5 (dk_at dksX1_stands_2_1 8 rfl rfl)
theorem dX1_stands_2_35 : decode cX1_stands_2 35 = .ok (.iconst 0, 1) := dk_3 (dk_at dksX1_stands_2_1 11 rfl rfl)
theorem dX1_stands_2_36 : decode cX1_stands_2 36 = .ok (.ireturn, 1) := dk_172 (dk_at dksX1_stands_2_1 12 rfl rfl)
theorem dX1_stands_2_37 : decode cX1_stands_2 37 = .ok (.aload_n 0, 1) := dk_42 (dk_at dksX1_stands_2_1 13 rfl rfl)
theorem dX1_stands_2_38 : decode cX1_stands_2 38 = .ok (.getfield 68, 3) := dk_180 0 68 (dk_at dksX1_stands_2_1 14 rfl rfl)
theorem dX1_stands_2_41 : decode cX1_stands_2 41 = .ok (.iconst 0, 1) := dk_3 (dk_at dksX1_stands_2_1 17 rfl rfl)
theorem dX1_stands_2_42 : decode cX1_stands_2 42 = .ok (.iconst 4, 1) := dk_7 (dk_at dksX1_stands_2_1 18 rfl rfl)
theorem dX1_stands_2_43 : decode cX1_stands_2 43 = .ok (.invokevirtual 97, 3) := dk_182 0 97 (dk_at dksX1_stands_2_1 19 rfl rfl)
theorem dX1_stands_2_46 : decode cX1_stands_2 46 = .ok (.ifCond .ne 18, 3) := dk_154 0 18 (dk_at dksX1_stands_2_2 0 rfl rfl)
theorem dX1_stands_2_49 : decode cX1_stands_2 49 = .ok (.aload_n 0, 1) := dk_42 (dk_at dksX1_stands_2_2 3 rfl rfl)
theorem dX1_stands_2_50 : decode cX1_stands_2 50 = .ok (.getfield 68, 3) := dk_180 0 68 (dk_at dksX1_stands_2_2 4 rfl rfl)
theorem dX1_stands_2_53 : decode cX1_stands_2 53 = .ok (.iconst 0, 1) := dk_3 (dk_at dksX1_stands_2_2 7 rfl rfl)
theorem dX1_stands_2_54 : decode cX1_stands_2 54 = .ok (.bipush 8, 2) := dk_16 8 (dk_at dksX1_stands_2_2 8 rfl rfl)
theorem dX1_stands_2_56 : decode cX1_stands_2 56 = .ok (.iload_n 2, 1) := dk_28 (dk_at dksX1_stands_2_2 10 rfl rfl)
theorem dX1_stands_2_57 : decode cX1_stands_2 57 = .ok (.isub, 1) := dk_100 (dk_at dksX1_stands_2_2 11 rfl rfl)
theorem dX1_stands_2_58 : decode cX1_stands_2 58 = .ok (.invokevirtual 97, 3) := dk_182 0 97 (dk_at dksX1_stands_2_2 12 rfl rfl)
theorem dX1_stands_2_61 : decode cX1_stands_2 61 = .ok (.ifCond .ne 7, 3) := dk_154 0 7 (dk_at dksX1_stands_2_2 15 rfl rfl)
theorem dX1_stands_2_64 : decode cX1_stands_2 64 = .ok (.iconst 1, 1) := dk_4 (dk_at dksX1_stands_2_2 18 rfl rfl)
theorem dX1_stands_2_65 : decode cX1_stands_2 65 = .ok (.goto 4, 3) := dk_167 0 4 (dk_at dksX1_stands_2_2 19 rfl rfl)
theorem dX1_stands_2_68 : decode cX1_stands_2 68 = .ok (.iconst 0, 1) := dk_3 (dk_at dksX1_stands_2_2 22 rfl rfl)
theorem dX1_stands_2_69 : decode cX1_stands_2 69 = .ok (.ireturn, 1) := dk_172 (dk_at dksX1_stands_2_2 23 rfl rfl)
abbrev cX1_bestHabit : ByteArray := prog_1_method_46_code
def yX1_bestHabit : MethodName := ⟨RX1, "bestHabit", "(II)I"⟩
def dkwX1_bestHabit_2 : List UInt8 := [3, 182, 0, 250, 172]
abbrev dktX1_bestHabit_2 : List UInt8 := dkwX1_bestHabit_2 ++ []
def dkwX1_bestHabit_1 : List UInt8 := [180, 0, 100, 154, 0, 8, 16, 253, 167, 0, 20, 42, 27, 4, 7, 28, 4, 160, 0, 7, 4, 167, 0, 4]
abbrev dktX1_bestHabit_1 : List UInt8 := dkwX1_bestHabit_1 ++ dktX1_bestHabit_2
def dkwX1_bestHabit_0 : List UInt8 := [27, 3, 4, 184, 0, 42, 153, 0, 12, 28, 3, 4, 184, 0, 42, 154, 0, 5, 2, 172, 42, 180, 0, 140]
abbrev dktX1_bestHabit_0 : List UInt8 := dkwX1_bestHabit_0 ++ dktX1_bestHabit_1
theorem dksX1_bestHabit_0 : cX1_bestHabit.data.toList.drop 0 = dktX1_bestHabit_0 := by decide +kernel
theorem dksX1_bestHabit_1 : cX1_bestHabit.data.toList.drop 24 = dktX1_bestHabit_1 := dk_seg dksX1_bestHabit_0 24 rfl rfl
theorem dksX1_bestHabit_2 : cX1_bestHabit.data.toList.drop 48 = dktX1_bestHabit_2 := dk_seg dksX1_bestHabit_1 24 rfl rfl
theorem dX1_bestHabit_0 : decode cX1_bestHabit 0 = .ok (.iload_n 1, 1) := dk_27 (dk_at dksX1_bestHabit_0 0 rfl rfl)
theorem dX1_bestHabit_1 : decode cX1_bestHabit 1 = .ok (.iconst 0, 1) := dk_3 (dk_at dksX1_bestHabit_0 1 rfl rfl)
theorem dX1_bestHabit_2 : decode cX1_bestHabit 2 = .ok (.iconst 1, 1) := dk_4 (dk_at dksX1_bestHabit_0 2 rfl rfl)
theorem dX1_bestHabit_3 : decode cX1_bestHabit 3 = .ok (.invokestatic 42, 3) := dk_184 0 42 (dk_at dksX1_bestHabit_0 3 rfl rfl)
theorem dX1_bestHabit_6 : decode cX1_bestHabit 6 = .ok (.ifCond .eq 12, 3) := dk_153 0 12 (dk_at dksX1_bestHabit_0 6 rfl rfl)
theorem dX1_bestHabit_9 : decode cX1_bestHabit 9 = .ok (.iload_n 2, 1) := dk_28 (dk_at dksX1_bestHabit_0 9 rfl rfl)
theorem dX1_bestHabit_10 : decode cX1_bestHabit 10 = .ok (.iconst 0, 1) := dk_3 (dk_at dksX1_bestHabit_0 10 rfl rfl)
theorem dX1_bestHabit_11 : decode cX1_bestHabit 11 = .ok (.iconst 1, 1) := dk_4 (dk_at dksX1_bestHabit_0 11 rfl rfl)
theorem dX1_bestHabit_12 : decode cX1_bestHabit 12 = .ok (.invokestatic 42, 3) := dk_184 0 42 (dk_at dksX1_bestHabit_0 12 rfl rfl)
theorem dX1_bestHabit_15 : decode cX1_bestHabit 15 = .ok (.ifCond .ne 5, 3) := dk_154 0 5 (dk_at dksX1_bestHabit_0 15 rfl rfl)
theorem dX1_bestHabit_18 : decode cX1_bestHabit 18 = .ok (.iconst (-1), 1) := dk_2 (dk_at dksX1_bestHabit_0 18 rfl rfl)
theorem dX1_bestHabit_19 : decode cX1_bestHabit 19 = .ok (.ireturn, 1) := dk_172 (dk_at dksX1_bestHabit_0 19 rfl rfl)
theorem dX1_bestHabit_20 : decode cX1_bestHabit 20 = .ok (.aload_n 0, 1) := dk_42 (dk_at dksX1_bestHabit_0 20 rfl rfl)
theorem dX1_bestHabit_21 : decode cX1_bestHabit 21 = .ok (.getfield 140, 3) := dk_180 0 140 (dk_at dksX1_bestHabit_0 21 rfl rfl)
theorem dX1_bestHabit_24 : decode cX1_bestHabit 24 = .ok (.getfield 100, 3) := dk_180 0 100 (dk_at dksX1_bestHabit_1 0 rfl rfl)
theorem dX1_bestHabit_27 : decode cX1_bestHabit 27 = .ok (.ifCond .ne 8, 3) := dk_154 0 8 (dk_at dksX1_bestHabit_1 3 rfl rfl)
theorem dX1_bestHabit_30 : decode cX1_bestHabit 30 = .ok (.bipush (-3), 2) := dk_16 253 (dk_at dksX1_bestHabit_1 6 rfl rfl)
theorem dX1_bestHabit_32 : decode cX1_bestHabit 32 = .ok (.goto 20, 3) := dk_167 0 20 (dk_at dksX1_bestHabit_1 8 rfl rfl)
theorem dX1_bestHabit_35 : decode cX1_bestHabit 35 = .ok (.aload_n 0, 1) := dk_42 (dk_at dksX1_bestHabit_1 11 rfl rfl)
theorem dX1_bestHabit_36 : decode cX1_bestHabit 36 = .ok (.iload_n 1, 1) := dk_27 (dk_at dksX1_bestHabit_1 12 rfl rfl)
theorem dX1_bestHabit_37 : decode cX1_bestHabit 37 = .ok (.iconst 1, 1) := dk_4 (dk_at dksX1_bestHabit_1 13 rfl rfl)
theorem dX1_bestHabit_38 : decode cX1_bestHabit 38 = .ok (.iconst 4, 1) := dk_7 (dk_at dksX1_bestHabit_1 14 rfl rfl)
theorem dX1_bestHabit_39 : decode cX1_bestHabit 39 = .ok (.iload_n 2, 1) := dk_28 (dk_at dksX1_bestHabit_1 15 rfl rfl)
theorem dX1_bestHabit_40 : decode cX1_bestHabit 40 = .ok (.iconst 1, 1) := dk_4 (dk_at dksX1_bestHabit_1 16 rfl rfl)
theorem dX1_bestHabit_41 : decode cX1_bestHabit 41 = .ok (.if_icmp .ne 7, 3) := dk_160 0 7 (dk_at dksX1_bestHabit_1 17 rfl rfl)
theorem dX1_bestHabit_44 : decode cX1_bestHabit 44 = .ok (.iconst 1, 1) := dk_4 (dk_at dksX1_bestHabit_1 20 rfl rfl)
theorem dX1_bestHabit_45 : decode cX1_bestHabit 45 = .ok (.goto 4, 3) := dk_167 0 4 (dk_at dksX1_bestHabit_1 21 rfl rfl)
theorem dX1_bestHabit_48 : decode cX1_bestHabit 48 = .ok (.iconst 0, 1) := dk_3 (dk_at dksX1_bestHabit_2 0 rfl rfl)
theorem dX1_bestHabit_49 : decode cX1_bestHabit 49 = .ok (.invokevirtual 250, 3) := dk_182 0 250 (dk_at dksX1_bestHabit_2 1 rfl rfl)
theorem dX1_bestHabit_52 : decode cX1_bestHabit 52 = .ok (.ireturn, 1) := dk_172 (dk_at dksX1_bestHabit_2 4 rfl rfl)
abbrev cX1_change : ByteArray := prog_1_method_47_code
def yX1_change : MethodName := ⟨RX1, "change", "(IIII)I"⟩
def dkwX1_change_2 : List UInt8 := [29, 46, 167, 0, 12, 42, 180, 0, 68, 180, 0, 72, 29, 46, 172]
abbrev dktX1_change_2 : List UInt8 := dkwX1_change_2 ++ []
def dkwX1_change_1 : List UInt8 := [154, 0, 5, 2, 172, 42, 27, 28, 182, 0, 222, 87, 21, 4, 154, 0, 15, 42, 180, 0, 68, 180, 0, 84]
abbrev dktX1_change_1 : List UInt8 := dkwX1_change_1 ++ dktX1_change_2
def dkwX1_change_0 : List UInt8 := [42, 27, 28, 182, 0, 209, 153, 0, 20, 29, 184, 0, 61, 153, 0, 13, 21, 4, 3, 4, 184, 0, 42]
abbrev dktX1_change_0 : List UInt8 := dkwX1_change_0 ++ dktX1_change_1
theorem dksX1_change_0 : cX1_change.data.toList.drop 0 = dktX1_change_0 := by decide +kernel
theorem dksX1_change_1 : cX1_change.data.toList.drop 23 = dktX1_change_1 := dk_seg dksX1_change_0 23 rfl rfl
theorem dksX1_change_2 : cX1_change.data.toList.drop 47 = dktX1_change_2 := dk_seg dksX1_change_1 24 rfl rfl
theorem dX1_change_0 : decode cX1_change 0 = .ok (.aload_n 0, 1) := dk_42 (dk_at dksX1_change_0 0 rfl rfl)
theorem dX1_change_1 : decode cX1_change 1 = .ok (.iload_n 1, 1) := dk_27 (dk_at dksX1_change_0 1 rfl rfl)
theorem dX1_change_2 : decode cX1_change 2 = .ok (.iload_n 2, 1) := dk_28 (dk_at dksX1_change_0 2 rfl rfl)
theorem dX1_change_3 : decode cX1_change 3 = .ok (.invokevirtual 209, 3) := dk_182 0 209 (dk_at dksX1_change_0 3 rfl rfl)
theorem dX1_change_6 : decode cX1_change 6 = .ok (.ifCond .eq 20, 3) := dk_153 0 20 (dk_at dksX1_change_0 6 rfl rfl)
theorem dX1_change_9 : decode cX1_change 9 = .ok (.iload_n 3, 1) := dk_29 (dk_at dksX1_change_0 9 rfl rfl)
theorem dX1_change_10 : decode cX1_change 10 = .ok (.invokestatic 61, 3) := dk_184 0 61 (dk_at dksX1_change_0 10 rfl rfl)
theorem dX1_change_13 : decode cX1_change 13 = .ok (.ifCond .eq 13, 3) := dk_153 0 13 (dk_at dksX1_change_0 13 rfl rfl)
theorem dX1_change_16 : decode cX1_change 16 = .ok (.iload 4, 2) := dk_21 4 (dk_at dksX1_change_0 16 rfl rfl)
theorem dX1_change_18 : decode cX1_change 18 = .ok (.iconst 0, 1) := dk_3 (dk_at dksX1_change_0 18 rfl rfl)
theorem dX1_change_19 : decode cX1_change 19 = .ok (.iconst 1, 1) := dk_4 (dk_at dksX1_change_0 19 rfl rfl)
theorem dX1_change_20 : decode cX1_change 20 = .ok (.invokestatic 42, 3) := dk_184 0 42 (dk_at dksX1_change_0 20 rfl rfl)
theorem dX1_change_23 : decode cX1_change 23 = .ok (.ifCond .ne 5, 3) := dk_154 0 5 (dk_at dksX1_change_1 0 rfl rfl)
theorem dX1_change_26 : decode cX1_change 26 = .ok (.iconst (-1), 1) := dk_2 (dk_at dksX1_change_1 3 rfl rfl)
theorem dX1_change_27 : decode cX1_change 27 = .ok (.ireturn, 1) := dk_172 (dk_at dksX1_change_1 4 rfl rfl)
theorem dX1_change_28 : decode cX1_change 28 = .ok (.aload_n 0, 1) := dk_42 (dk_at dksX1_change_1 5 rfl rfl)
theorem dX1_change_29 : decode cX1_change 29 = .ok (.iload_n 1, 1) := dk_27 (dk_at dksX1_change_1 6 rfl rfl)
theorem dX1_change_30 : decode cX1_change 30 = .ok (.iload_n 2, 1) := dk_28 (dk_at dksX1_change_1 7 rfl rfl)
theorem dX1_change_31 : decode cX1_change 31 = .ok (.invokevirtual 222, 3) := dk_182 0 222 (dk_at dksX1_change_1 8 rfl rfl)
theorem dX1_change_34 : decode cX1_change 34 = .ok (.pop, 1) := dk_87 (dk_at dksX1_change_1 11 rfl rfl)
theorem dX1_change_35 : decode cX1_change 35 = .ok (.iload 4, 2) := dk_21 4 (dk_at dksX1_change_1 12 rfl rfl)
theorem dX1_change_37 : decode cX1_change 37 = .ok (.ifCond .ne 15, 3) := dk_154 0 15 (dk_at dksX1_change_1 14 rfl rfl)
theorem dX1_change_40 : decode cX1_change 40 = .ok (.aload_n 0, 1) := dk_42 (dk_at dksX1_change_1 17 rfl rfl)
theorem dX1_change_41 : decode cX1_change 41 = .ok (.getfield 68, 3) := dk_180 0 68 (dk_at dksX1_change_1 18 rfl rfl)
theorem dX1_change_44 : decode cX1_change 44 = .ok (.getfield 84, 3) := dk_180 0 84 (dk_at dksX1_change_1 21 rfl rfl)
theorem dX1_change_47 : decode cX1_change 47 = .ok (.iload_n 3, 1) := dk_29 (dk_at dksX1_change_2 0 rfl rfl)
theorem dX1_change_48 : decode cX1_change 48 = .ok (.iaload, 1) := dk_46 (dk_at dksX1_change_2 1 rfl rfl)
theorem dX1_change_49 : decode cX1_change 49 = .ok (.goto 12, 3) := dk_167 0 12 (dk_at dksX1_change_2 2 rfl rfl)
theorem dX1_change_52 : decode cX1_change 52 = .ok (.aload_n 0, 1) := dk_42 (dk_at dksX1_change_2 5 rfl rfl)
theorem dX1_change_53 : decode cX1_change 53 = .ok (.getfield 68, 3) := dk_180 0 68 (dk_at dksX1_change_2 6 rfl rfl)
theorem dX1_change_56 : decode cX1_change 56 = .ok (.getfield 72, 3) := dk_180 0 72 (dk_at dksX1_change_2 9 rfl rfl)
theorem dX1_change_59 : decode cX1_change 59 = .ok (.iload_n 3, 1) := dk_29 (dk_at dksX1_change_2 12 rfl rfl)
theorem dX1_change_60 : decode cX1_change 60 = .ok (.iaload, 1) := dk_46 (dk_at dksX1_change_2 13 rfl rfl)
theorem dX1_change_61 : decode cX1_change 61 = .ok (.ireturn, 1) := dk_172 (dk_at dksX1_change_2 14 rfl rfl)
abbrev cX1_rally : ByteArray := prog_1_method_56_code
def yX1_rally : MethodName := ⟨RX1, "rally", "(II)I"⟩
def dkwX1_rally_2 : List UInt8 := [167, 0, 7, 42, 180, 1, 25, 172]
abbrev dktX1_rally_2 : List UInt8 := dkwX1_rally_2 ++ []
def dkwX1_rally_1 : List UInt8 := [172, 42, 42, 180, 0, 158, 27, 50, 180, 0, 162, 182, 1, 31, 54, 4, 28, 154, 0, 8, 21, 4]
abbrev dktX1_rally_1 : List UInt8 := dkwX1_rally_1 ++ dktX1_rally_2
def dkwX1_rally_0 : List UInt8 := [28, 3, 4, 184, 0, 42, 153, 0, 11, 42, 27, 182, 1, 28, 167, 0, 4, 2, 62, 29, 153, 0, 5, 29]
abbrev dktX1_rally_0 : List UInt8 := dkwX1_rally_0 ++ dktX1_rally_1
theorem dksX1_rally_0 : cX1_rally.data.toList.drop 0 = dktX1_rally_0 := by decide +kernel
theorem dksX1_rally_1 : cX1_rally.data.toList.drop 24 = dktX1_rally_1 := dk_seg dksX1_rally_0 24 rfl rfl
theorem dksX1_rally_2 : cX1_rally.data.toList.drop 46 = dktX1_rally_2 := dk_seg dksX1_rally_1 22 rfl rfl
theorem dX1_rally_0 : decode cX1_rally 0 = .ok (.iload_n 2, 1) := dk_28 (dk_at dksX1_rally_0 0 rfl rfl)
theorem dX1_rally_1 : decode cX1_rally 1 = .ok (.iconst 0, 1) := dk_3 (dk_at dksX1_rally_0 1 rfl rfl)
theorem dX1_rally_2 : decode cX1_rally 2 = .ok (.iconst 1, 1) := dk_4 (dk_at dksX1_rally_0 2 rfl rfl)
theorem dX1_rally_3 : decode cX1_rally 3 = .ok (.invokestatic 42, 3) := dk_184 0 42 (dk_at dksX1_rally_0 3 rfl rfl)
theorem dX1_rally_6 : decode cX1_rally 6 = .ok (.ifCond .eq 11, 3) := dk_153 0 11 (dk_at dksX1_rally_0 6 rfl rfl)
theorem dX1_rally_9 : decode cX1_rally 9 = .ok (.aload_n 0, 1) := dk_42 (dk_at dksX1_rally_0 9 rfl rfl)
theorem dX1_rally_10 : decode cX1_rally 10 = .ok (.iload_n 1, 1) := dk_27 (dk_at dksX1_rally_0 10 rfl rfl)
theorem dX1_rally_11 : decode cX1_rally 11 = .ok (.invokevirtual 284, 3) := dk_182 1 28 (dk_at dksX1_rally_0 11 rfl rfl)
theorem dX1_rally_14 : decode cX1_rally 14 = .ok (.goto 4, 3) := dk_167 0 4 (dk_at dksX1_rally_0 14 rfl rfl)
theorem dX1_rally_17 : decode cX1_rally 17 = .ok (.iconst (-1), 1) := dk_2 (dk_at dksX1_rally_0 17 rfl rfl)
theorem dX1_rally_18 : decode cX1_rally 18 = .ok (.istore_n 3, 1) := dk_62 (dk_at dksX1_rally_0 18 rfl rfl)
theorem dX1_rally_19 : decode cX1_rally 19 = .ok (.iload_n 3, 1) := dk_29 (dk_at dksX1_rally_0 19 rfl rfl)
theorem dX1_rally_20 : decode cX1_rally 20 = .ok (.ifCond .eq 5, 3) := dk_153 0 5 (dk_at dksX1_rally_0 20 rfl rfl)
theorem dX1_rally_23 : decode cX1_rally 23 = .ok (.iload_n 3, 1) := dk_29 (dk_at dksX1_rally_0 23 rfl rfl)
theorem dX1_rally_24 : decode cX1_rally 24 = .ok (.ireturn, 1) := dk_172 (dk_at dksX1_rally_1 0 rfl rfl)
theorem dX1_rally_25 : decode cX1_rally 25 = .ok (.aload_n 0, 1) := dk_42 (dk_at dksX1_rally_1 1 rfl rfl)
theorem dX1_rally_26 : decode cX1_rally 26 = .ok (.aload_n 0, 1) := dk_42 (dk_at dksX1_rally_1 2 rfl rfl)
theorem dX1_rally_27 : decode cX1_rally 27 = .ok (.getfield 158, 3) := dk_180 0 158 (dk_at dksX1_rally_1 3 rfl rfl)
theorem dX1_rally_30 : decode cX1_rally 30 = .ok (.iload_n 1, 1) := dk_27 (dk_at dksX1_rally_1 6 rfl rfl)
theorem dX1_rally_31 : decode cX1_rally 31 = .ok (.aaload, 1) := dk_50 (dk_at dksX1_rally_1 7 rfl rfl)
theorem dX1_rally_32 : decode cX1_rally 32 = .ok (.getfield 162, 3) := dk_180 0 162 (dk_at dksX1_rally_1 8 rfl rfl)
theorem dX1_rally_35 : decode cX1_rally 35 = .ok (.invokevirtual 287, 3) := dk_182 1 31 (dk_at dksX1_rally_1 11 rfl rfl)
theorem dX1_rally_38 : decode cX1_rally 38 = .ok (.istore 4, 2) := dk_54 4 (dk_at dksX1_rally_1 14 rfl rfl)
theorem dX1_rally_40 : decode cX1_rally 40 = .ok (.iload_n 2, 1) := dk_28 (dk_at dksX1_rally_1 16 rfl rfl)
theorem dX1_rally_41 : decode cX1_rally 41 = .ok (.ifCond .ne 8, 3) := dk_154 0 8 (dk_at dksX1_rally_1 17 rfl rfl)
theorem dX1_rally_44 : decode cX1_rally 44 = .ok (.iload 4, 2) := dk_21 4 (dk_at dksX1_rally_1 20 rfl rfl)
theorem dX1_rally_46 : decode cX1_rally 46 = .ok (.goto 7, 3) := dk_167 0 7 (dk_at dksX1_rally_2 0 rfl rfl)
theorem dX1_rally_49 : decode cX1_rally 49 = .ok (.aload_n 0, 1) := dk_42 (dk_at dksX1_rally_2 3 rfl rfl)
theorem dX1_rally_50 : decode cX1_rally 50 = .ok (.getfield 281, 3) := dk_180 1 25 (dk_at dksX1_rally_2 4 rfl rfl)
theorem dX1_rally_53 : decode cX1_rally 53 = .ok (.ireturn, 1) := dk_172 (dk_at dksX1_rally_2 7 rfl rfl)
abbrev cX1_notHits : ByteArray := prog_1_method_54_code
def yX1_notHits : MethodName := ⟨RX1, "notHits", "(I)I"⟩
def dkwX1_notHits_3 : List UInt8 := [167, 255, 212, 45, 184, 1, 22, 5, 112, 4, 160, 0, 8, 16, 243, 167, 0, 4, 3, 172]
abbrev dktX1_notHits_3 : List UInt8 := dkwX1_notHits_3 ++ []
def dkwX1_notHits_2 : List UInt8 := [45, 5, 21, 4, 104, 4, 96, 184, 1, 8, 182, 0, 209, 154, 0, 6, 16, 243, 172, 132, 4, 1]
abbrev dktX1_notHits_2 : List UInt8 := dkwX1_notHits_2 ++ dktX1_notHits_3
def dkwX1_notHits_1 : List UInt8 := [54, 4, 5, 21, 4, 104, 4, 96, 45, 184, 1, 22, 162, 0, 37, 42, 45, 5, 21, 4, 104, 184, 1, 8]
abbrev dktX1_notHits_1 : List UInt8 := dkwX1_notHits_1 ++ dktX1_notHits_2
def dkwX1_notHits_0 : List UInt8 := [42, 27, 182, 1, 19, 61, 28, 153, 0, 5, 28, 172, 42, 180, 0, 158, 27, 50, 180, 0, 162, 78, 3]
abbrev dktX1_notHits_0 : List UInt8 := dkwX1_notHits_0 ++ dktX1_notHits_1
theorem dksX1_notHits_0 : cX1_notHits.data.toList.drop 0 = dktX1_notHits_0 := by decide +kernel
theorem dksX1_notHits_1 : cX1_notHits.data.toList.drop 23 = dktX1_notHits_1 := dk_seg dksX1_notHits_0 23 rfl rfl
theorem dksX1_notHits_2 : cX1_notHits.data.toList.drop 47 = dktX1_notHits_2 := dk_seg dksX1_notHits_1 24 rfl rfl
theorem dksX1_notHits_3 : cX1_notHits.data.toList.drop 69 = dktX1_notHits_3 := dk_seg dksX1_notHits_2 22 rfl rfl
theorem dX1_notHits_0 : decode cX1_notHits 0 = .ok (.aload_n 0, 1) := dk_42 (dk_at dksX1_notHits_0 0 rfl rfl)
theorem dX1_notHits_1 : decode cX1_notHits 1 = .ok (.iload_n 1, 1) := dk_27 (dk_at dksX1_notHits_0 1 rfl rfl)
theorem dX1_notHits_2 : decode cX1_notHits 2 = .ok (.invokevirtual 275, 3) := dk_182 1 19 (dk_at dksX1_notHits_0 2 rfl rfl)
theorem dX1_notHits_5 : decode cX1_notHits 5 = .ok (.istore_n 2, 1) := dk_61 (dk_at dksX1_notHits_0 5 rfl rfl)
theorem dX1_notHits_6 : decode cX1_notHits 6 = .ok (.iload_n 2, 1) := dk_28 (dk_at dksX1_notHits_0 6 rfl rfl)
theorem dX1_notHits_7 : decode cX1_notHits 7 = .ok (.ifCond .eq 5, 3) := dk_153 0 5 (dk_at dksX1_notHits_0 7 rfl rfl)
theorem dX1_notHits_10 : decode cX1_notHits 10 = .ok (.iload_n 2, 1) := dk_28 (dk_at dksX1_notHits_0 10 rfl rfl)
theorem dX1_notHits_11 : decode cX1_notHits 11 = .ok (.ireturn, 1) := dk_172 (dk_at dksX1_notHits_0 11 rfl rfl)
theorem dX1_notHits_12 : decode cX1_notHits 12 = .ok (.aload_n 0, 1) := dk_42 (dk_at dksX1_notHits_0 12 rfl rfl)
theorem dX1_notHits_13 : decode cX1_notHits 13 = .ok (.getfield 158, 3) := dk_180 0 158 (dk_at dksX1_notHits_0 13 rfl rfl)
theorem dX1_notHits_16 : decode cX1_notHits 16 = .ok (.iload_n 1, 1) := dk_27 (dk_at dksX1_notHits_0 16 rfl rfl)
theorem dX1_notHits_17 : decode cX1_notHits 17 = .ok (.aaload, 1) := dk_50 (dk_at dksX1_notHits_0 17 rfl rfl)
theorem dX1_notHits_18 : decode cX1_notHits 18 = .ok (.getfield 162, 3) := dk_180 0 162 (dk_at dksX1_notHits_0 18 rfl rfl)
theorem dX1_notHits_21 : decode cX1_notHits 21 = .ok (.astore_n 3, 1) := dk_78 (dk_at dksX1_notHits_0 21 rfl rfl)
theorem dX1_notHits_22 : decode cX1_notHits 22 = .ok (.iconst 0, 1) := dk_3 (dk_at dksX1_notHits_0 22 rfl rfl)
theorem dX1_notHits_23 : decode cX1_notHits 23 = .ok (.istore 4, 2) := dk_54 4 (dk_at dksX1_notHits_1 0 rfl rfl)
theorem dX1_notHits_25 : decode cX1_notHits 25 = .ok (.iconst 2, 1) := dk_5 (dk_at dksX1_notHits_1 2 rfl rfl)
theorem dX1_notHits_26 : decode cX1_notHits 26 = .ok (.iload 4, 2) := dk_21 4 (dk_at dksX1_notHits_1 3 rfl rfl)
theorem dX1_notHits_28 : decode cX1_notHits 28 = .ok (.imul, 1) := dk_104 (dk_at dksX1_notHits_1 5 rfl rfl)
theorem dX1_notHits_29 : decode cX1_notHits 29 = .ok (.iconst 1, 1) := dk_4 (dk_at dksX1_notHits_1 6 rfl rfl)
theorem dX1_notHits_30 : decode cX1_notHits 30 = .ok (.iadd, 1) := dk_96 (dk_at dksX1_notHits_1 7 rfl rfl)
theorem dX1_notHits_31 : decode cX1_notHits 31 = .ok (.aload_n 3, 1) := dk_45 (dk_at dksX1_notHits_1 8 rfl rfl)
theorem dX1_notHits_32 : decode cX1_notHits 32 = .ok (.invokestatic 278, 3) := dk_184 1 22 (dk_at dksX1_notHits_1 9 rfl rfl)
theorem dX1_notHits_35 : decode cX1_notHits 35 = .ok (.if_icmp .ge 37, 3) := dk_162 0 37 (dk_at dksX1_notHits_1 12 rfl rfl)
theorem dX1_notHits_38 : decode cX1_notHits 38 = .ok (.aload_n 0, 1) := dk_42 (dk_at dksX1_notHits_1 15 rfl rfl)
theorem dX1_notHits_39 : decode cX1_notHits 39 = .ok (.aload_n 3, 1) := dk_45 (dk_at dksX1_notHits_1 16 rfl rfl)
theorem dX1_notHits_40 : decode cX1_notHits 40 = .ok (.iconst 2, 1) := dk_5 (dk_at dksX1_notHits_1 17 rfl rfl)
theorem dX1_notHits_41 : decode cX1_notHits 41 = .ok (.iload 4, 2) := dk_21 4 (dk_at dksX1_notHits_1 18 rfl rfl)
theorem dX1_notHits_43 : decode cX1_notHits 43 = .ok (.imul, 1) := dk_104 (dk_at dksX1_notHits_1 20 rfl rfl)
theorem dX1_notHits_44 : decode cX1_notHits 44 = .ok (.invokestatic 264, 3) := dk_184 1 8 (dk_at dksX1_notHits_1 21 rfl rfl)
theorem dX1_notHits_47 : decode cX1_notHits 47 = .ok (.aload_n 3, 1) := dk_45 (dk_at dksX1_notHits_2 0 rfl rfl)
theorem dX1_notHits_48 : decode cX1_notHits 48 = .ok (.iconst 2, 1) := dk_5 (dk_at dksX1_notHits_2 1 rfl rfl)
theorem dX1_notHits_49 : decode cX1_notHits 49 = .ok (.iload 4, 2) := dk_21 4 (dk_at dksX1_notHits_2 2 rfl rfl)
theorem dX1_notHits_51 : decode cX1_notHits 51 = .ok (.imul, 1) := dk_104 (dk_at dksX1_notHits_2 4 rfl rfl)
theorem dX1_notHits_52 : decode cX1_notHits 52 = .ok (.iconst 1, 1) := dk_4 (dk_at dksX1_notHits_2 5 rfl rfl)
theorem dX1_notHits_53 : decode cX1_notHits 53 = .ok (.iadd, 1) := dk_96 (dk_at dksX1_notHits_2 6 rfl rfl)
theorem dX1_notHits_54 : decode cX1_notHits 54 = .ok (.invokestatic 264, 3) := dk_184 1 8 (dk_at dksX1_notHits_2 7 rfl rfl)
theorem dX1_notHits_57 : decode cX1_notHits 57 = .ok (.invokevirtual 209, 3) := dk_182 0 209 (dk_at dksX1_notHits_2 10 rfl rfl)
theorem dX1_notHits_60 : decode cX1_notHits 60 = .ok (.ifCond .ne 6, 3) := dk_154 0 6 (dk_at dksX1_notHits_2 13 rfl rfl)
theorem dX1_notHits_63 : decode cX1_notHits 63 = .ok (.bipush (-13), 2) := dk_16 243 (dk_at dksX1_notHits_2 16 rfl rfl)
theorem dX1_notHits_65 : decode cX1_notHits 65 = .ok (.ireturn, 1) := dk_172 (dk_at dksX1_notHits_2 18 rfl rfl)
theorem dX1_notHits_66 : decode cX1_notHits 66 = .ok (.iinc 4 1, 3) := dk_132 4 1 (dk_at dksX1_notHits_2 19 rfl rfl)
theorem dX1_notHits_69 : decode cX1_notHits 69 = .ok (.goto (-44), 3) := dk_167 255 212 (dk_at dksX1_notHits_3 0 rfl rfl)
theorem dX1_notHits_72 : decode cX1_notHits 72 = .ok (.aload_n 3, 1) := dk_45 (dk_at dksX1_notHits_3 3 rfl rfl)
theorem dX1_notHits_73 : decode cX1_notHits 73 = .ok (.invokestatic 278, 3) := dk_184 1 22 (dk_at dksX1_notHits_3 4 rfl rfl)
theorem dX1_notHits_76 : decode cX1_notHits 76 = .ok (.iconst 2, 1) := dk_5 (dk_at dksX1_notHits_3 7 rfl rfl)
theorem dX1_notHits_77 : decode cX1_notHits 77 = .ok (.irem, 1) := dk_112 (dk_at dksX1_notHits_3 8 rfl rfl)
theorem dX1_notHits_78 : decode cX1_notHits 78 = .ok (.iconst 1, 1) := dk_4 (dk_at dksX1_notHits_3 9 rfl rfl)
theorem dX1_notHits_79 : decode cX1_notHits 79 = .ok (.if_icmp .ne 8, 3) := dk_160 0 8 (dk_at dksX1_notHits_3 10 rfl rfl)
theorem dX1_notHits_82 : decode cX1_notHits 82 = .ok (.bipush (-13), 2) := dk_16 243 (dk_at dksX1_notHits_3 13 rfl rfl)
theorem dX1_notHits_84 : decode cX1_notHits 84 = .ok (.goto 4, 3) := dk_167 0 4 (dk_at dksX1_notHits_3 15 rfl rfl)
theorem dX1_notHits_87 : decode cX1_notHits 87 = .ok (.iconst 0, 1) := dk_3 (dk_at dksX1_notHits_3 18 rfl rfl)
theorem dX1_notHits_88 : decode cX1_notHits 88 = .ok (.ireturn, 1) := dk_172 (dk_at dksX1_notHits_3 19 rfl rfl)
abbrev cX1_notRow : ByteArray := prog_1_method_53_code
def yX1_notRow : MethodName := ⟨RX1, "notRow", "(I)I"⟩
def dkwX1_notRow_1 : List UInt8 := [16, 245, 167, 0, 17, 44, 184, 1, 16, 2, 160, 0, 8, 16, 244, 167, 0, 4, 3, 172]
abbrev dktX1_notRow_1 : List UInt8 := dkwX1_notRow_1 ++ []
def dkwX1_notRow_0 : List UInt8 := [42, 27, 182, 0, 155, 154, 0, 5, 2, 172, 42, 180, 0, 158, 27, 50, 180, 0, 162, 77, 44, 199, 0, 8]
abbrev dktX1_notRow_0 : List UInt8 := dkwX1_notRow_0 ++ dktX1_notRow_1
theorem dksX1_notRow_0 : cX1_notRow.data.toList.drop 0 = dktX1_notRow_0 := by decide +kernel
theorem dksX1_notRow_1 : cX1_notRow.data.toList.drop 24 = dktX1_notRow_1 := dk_seg dksX1_notRow_0 24 rfl rfl
theorem dX1_notRow_0 : decode cX1_notRow 0 = .ok (.aload_n 0, 1) := dk_42 (dk_at dksX1_notRow_0 0 rfl rfl)
theorem dX1_notRow_1 : decode cX1_notRow 1 = .ok (.iload_n 1, 1) := dk_27 (dk_at dksX1_notRow_0 1 rfl rfl)
theorem dX1_notRow_2 : decode cX1_notRow 2 = .ok (.invokevirtual 155, 3) := dk_182 0 155 (dk_at dksX1_notRow_0 2 rfl rfl)
theorem dX1_notRow_5 : decode cX1_notRow 5 = .ok (.ifCond .ne 5, 3) := dk_154 0 5 (dk_at dksX1_notRow_0 5 rfl rfl)
theorem dX1_notRow_8 : decode cX1_notRow 8 = .ok (.iconst (-1), 1) := dk_2 (dk_at dksX1_notRow_0 8 rfl rfl)
theorem dX1_notRow_9 : decode cX1_notRow 9 = .ok (.ireturn, 1) := dk_172 (dk_at dksX1_notRow_0 9 rfl rfl)
theorem dX1_notRow_10 : decode cX1_notRow 10 = .ok (.aload_n 0, 1) := dk_42 (dk_at dksX1_notRow_0 10 rfl rfl)
theorem dX1_notRow_11 : decode cX1_notRow 11 = .ok (.getfield 158, 3) := dk_180 0 158 (dk_at dksX1_notRow_0 11 rfl rfl)
theorem dX1_notRow_14 : decode cX1_notRow 14 = .ok (.iload_n 1, 1) := dk_27 (dk_at dksX1_notRow_0 14 rfl rfl)
theorem dX1_notRow_15 : decode cX1_notRow 15 = .ok (.aaload, 1) := dk_50 (dk_at dksX1_notRow_0 15 rfl rfl)
theorem dX1_notRow_16 : decode cX1_notRow 16 = .ok (.getfield 162, 3) := dk_180 0 162 (dk_at dksX1_notRow_0 16 rfl rfl)
theorem dX1_notRow_19 : decode cX1_notRow 19 = .ok (.astore_n 2, 1) := dk_77 (dk_at dksX1_notRow_0 19 rfl rfl)
theorem dX1_notRow_20 : decode cX1_notRow 20 = .ok (.aload_n 2, 1) := dk_44 (dk_at dksX1_notRow_0 20 rfl rfl)
theorem dX1_notRow_21 : decode cX1_notRow 21 = .ok (.ifnonnull 8, 3) := dk_199 0 8 (dk_at dksX1_notRow_0 21 rfl rfl)
theorem dX1_notRow_24 : decode cX1_notRow 24 = .ok (.bipush (-11), 2) := dk_16 245 (dk_at dksX1_notRow_1 0 rfl rfl)
theorem dX1_notRow_26 : decode cX1_notRow 26 = .ok (.goto 17, 3) := dk_167 0 17 (dk_at dksX1_notRow_1 2 rfl rfl)
theorem dX1_notRow_29 : decode cX1_notRow 29 = .ok (.aload_n 2, 1) := dk_44 (dk_at dksX1_notRow_1 5 rfl rfl)
theorem dX1_notRow_30 : decode cX1_notRow 30 = .ok (.invokestatic 272, 3) := dk_184 1 16 (dk_at dksX1_notRow_1 6 rfl rfl)
theorem dX1_notRow_33 : decode cX1_notRow 33 = .ok (.iconst (-1), 1) := dk_2 (dk_at dksX1_notRow_1 9 rfl rfl)
theorem dX1_notRow_34 : decode cX1_notRow 34 = .ok (.if_icmp .ne 8, 3) := dk_160 0 8 (dk_at dksX1_notRow_1 10 rfl rfl)
theorem dX1_notRow_37 : decode cX1_notRow 37 = .ok (.bipush (-12), 2) := dk_16 244 (dk_at dksX1_notRow_1 13 rfl rfl)
theorem dX1_notRow_39 : decode cX1_notRow 39 = .ok (.goto 4, 3) := dk_167 0 4 (dk_at dksX1_notRow_1 15 rfl rfl)
theorem dX1_notRow_42 : decode cX1_notRow 42 = .ok (.iconst 0, 1) := dk_3 (dk_at dksX1_notRow_1 18 rfl rfl)
theorem dX1_notRow_43 : decode cX1_notRow 43 = .ok (.ireturn, 1) := dk_172 (dk_at dksX1_notRow_1 19 rfl rfl)
abbrev cX1_sortOf : ByteArray := prog_1_method_51_code
def yX1_sortOf : MethodName := ⟨RX1, "sortOf", "(Ljava/lang/Object;)I"⟩
def dkwX1_sortOf_1 : List UInt8 := [193, 1, 0, 153, 0, 7, 5, 167, 0, 4, 2, 172]
abbrev dktX1_sortOf_1 : List UInt8 := dkwX1_sortOf_1 ++ []
def dkwX1_sortOf_0 : List UInt8 := [42, 193, 0, 168, 153, 0, 7, 3, 167, 0, 26, 42, 193, 0, 254, 153, 0, 7, 4, 167, 0, 15, 42]
abbrev dktX1_sortOf_0 : List UInt8 := dkwX1_sortOf_0 ++ dktX1_sortOf_1
theorem dksX1_sortOf_0 : cX1_sortOf.data.toList.drop 0 = dktX1_sortOf_0 := by decide +kernel
theorem dksX1_sortOf_1 : cX1_sortOf.data.toList.drop 23 = dktX1_sortOf_1 := dk_seg dksX1_sortOf_0 23 rfl rfl
theorem dX1_sortOf_0 : decode cX1_sortOf 0 = .ok (.aload_n 0, 1) := dk_42 (dk_at dksX1_sortOf_0 0 rfl rfl)
theorem dX1_sortOf_1 : decode cX1_sortOf 1 = .ok (.instanceof 168, 3) := dk_193 0 168 (dk_at dksX1_sortOf_0 1 rfl rfl)
theorem dX1_sortOf_4 : decode cX1_sortOf 4 = .ok (.ifCond .eq 7, 3) := dk_153 0 7 (dk_at dksX1_sortOf_0 4 rfl rfl)
theorem dX1_sortOf_7 : decode cX1_sortOf 7 = .ok (.iconst 0, 1) := dk_3 (dk_at dksX1_sortOf_0 7 rfl rfl)
theorem dX1_sortOf_8 : decode cX1_sortOf 8 = .ok (.goto 26, 3) := dk_167 0 26 (dk_at dksX1_sortOf_0 8 rfl rfl)
theorem dX1_sortOf_11 : decode cX1_sortOf 11 = .ok (.aload_n 0, 1) := dk_42 (dk_at dksX1_sortOf_0 11 rfl rfl)
theorem dX1_sortOf_12 : decode cX1_sortOf 12 = .ok (.instanceof 254, 3) := dk_193 0 254 (dk_at dksX1_sortOf_0 12 rfl rfl)
theorem dX1_sortOf_15 : decode cX1_sortOf 15 = .ok (.ifCond .eq 7, 3) := dk_153 0 7 (dk_at dksX1_sortOf_0 15 rfl rfl)
theorem dX1_sortOf_18 : decode cX1_sortOf 18 = .ok (.iconst 1, 1) := dk_4 (dk_at dksX1_sortOf_0 18 rfl rfl)
theorem dX1_sortOf_19 : decode cX1_sortOf 19 = .ok (.goto 15, 3) := dk_167 0 15 (dk_at dksX1_sortOf_0 19 rfl rfl)
theorem dX1_sortOf_22 : decode cX1_sortOf 22 = .ok (.aload_n 0, 1) := dk_42 (dk_at dksX1_sortOf_0 22 rfl rfl)
theorem dX1_sortOf_23 : decode cX1_sortOf 23 = .ok (.instanceof 256, 3) := dk_193 1 0 (dk_at dksX1_sortOf_1 0 rfl rfl)
theorem dX1_sortOf_26 : decode cX1_sortOf 26 = .ok (.ifCond .eq 7, 3) := dk_153 0 7 (dk_at dksX1_sortOf_1 3 rfl rfl)
theorem dX1_sortOf_29 : decode cX1_sortOf 29 = .ok (.iconst 2, 1) := dk_5 (dk_at dksX1_sortOf_1 6 rfl rfl)
theorem dX1_sortOf_30 : decode cX1_sortOf 30 = .ok (.goto 4, 3) := dk_167 0 4 (dk_at dksX1_sortOf_1 7 rfl rfl)
theorem dX1_sortOf_33 : decode cX1_sortOf 33 = .ok (.iconst (-1), 1) := dk_2 (dk_at dksX1_sortOf_1 10 rfl rfl)
theorem dX1_sortOf_34 : decode cX1_sortOf 34 = .ok (.ireturn, 1) := dk_172 (dk_at dksX1_sortOf_1 11 rfl rfl)
abbrev cX1_sizeOf : ByteArray := prog_1_method_48_code
def yX1_sizeOf : MethodName := ⟨RX1, "sizeOf", "(Ljava/lang/Object;)I"⟩
def dkwX1_sizeOf_1 : List UInt8 := [192, 0, 254, 190, 167, 0, 8, 42, 192, 1, 0, 190, 172]
abbrev dktX1_sizeOf_1 : List UInt8 := dkwX1_sizeOf_1 ++ []
def dkwX1_sizeOf_0 : List UInt8 := [42, 193, 0, 168, 153, 0, 11, 42, 192, 0, 168, 190, 167, 0, 23, 42, 193, 0, 254, 153, 0, 11, 42]
abbrev dktX1_sizeOf_0 : List UInt8 := dkwX1_sizeOf_0 ++ dktX1_sizeOf_1
theorem dksX1_sizeOf_0 : cX1_sizeOf.data.toList.drop 0 = dktX1_sizeOf_0 := by decide +kernel
theorem dksX1_sizeOf_1 : cX1_sizeOf.data.toList.drop 23 = dktX1_sizeOf_1 := dk_seg dksX1_sizeOf_0 23 rfl rfl
theorem dX1_sizeOf_0 : decode cX1_sizeOf 0 = .ok (.aload_n 0, 1) := dk_42 (dk_at dksX1_sizeOf_0 0 rfl rfl)
theorem dX1_sizeOf_1 : decode cX1_sizeOf 1 = .ok (.instanceof 168, 3) := dk_193 0 168 (dk_at dksX1_sizeOf_0 1 rfl rfl)
theorem dX1_sizeOf_4 : decode cX1_sizeOf 4 = .ok (.ifCond .eq 11, 3) := dk_153 0 11 (dk_at dksX1_sizeOf_0 4 rfl rfl)
theorem dX1_sizeOf_7 : decode cX1_sizeOf 7 = .ok (.aload_n 0, 1) := dk_42 (dk_at dksX1_sizeOf_0 7 rfl rfl)
theorem dX1_sizeOf_8 : decode cX1_sizeOf 8 = .ok (.checkcast 168, 3) := dk_192 0 168 (dk_at dksX1_sizeOf_0 8 rfl rfl)
theorem dX1_sizeOf_11 : decode cX1_sizeOf 11 = .ok (.arraylength, 1) := dk_190 (dk_at dksX1_sizeOf_0 11 rfl rfl)
theorem dX1_sizeOf_12 : decode cX1_sizeOf 12 = .ok (.goto 23, 3) := dk_167 0 23 (dk_at dksX1_sizeOf_0 12 rfl rfl)
theorem dX1_sizeOf_15 : decode cX1_sizeOf 15 = .ok (.aload_n 0, 1) := dk_42 (dk_at dksX1_sizeOf_0 15 rfl rfl)
theorem dX1_sizeOf_16 : decode cX1_sizeOf 16 = .ok (.instanceof 254, 3) := dk_193 0 254 (dk_at dksX1_sizeOf_0 16 rfl rfl)
theorem dX1_sizeOf_19 : decode cX1_sizeOf 19 = .ok (.ifCond .eq 11, 3) := dk_153 0 11 (dk_at dksX1_sizeOf_0 19 rfl rfl)
theorem dX1_sizeOf_22 : decode cX1_sizeOf 22 = .ok (.aload_n 0, 1) := dk_42 (dk_at dksX1_sizeOf_0 22 rfl rfl)
theorem dX1_sizeOf_23 : decode cX1_sizeOf 23 = .ok (.checkcast 254, 3) := dk_192 0 254 (dk_at dksX1_sizeOf_1 0 rfl rfl)
theorem dX1_sizeOf_26 : decode cX1_sizeOf 26 = .ok (.arraylength, 1) := dk_190 (dk_at dksX1_sizeOf_1 3 rfl rfl)
theorem dX1_sizeOf_27 : decode cX1_sizeOf 27 = .ok (.goto 8, 3) := dk_167 0 8 (dk_at dksX1_sizeOf_1 4 rfl rfl)
theorem dX1_sizeOf_30 : decode cX1_sizeOf 30 = .ok (.aload_n 0, 1) := dk_42 (dk_at dksX1_sizeOf_1 7 rfl rfl)
theorem dX1_sizeOf_31 : decode cX1_sizeOf 31 = .ok (.checkcast 256, 3) := dk_192 1 0 (dk_at dksX1_sizeOf_1 8 rfl rfl)
theorem dX1_sizeOf_34 : decode cX1_sizeOf 34 = .ok (.arraylength, 1) := dk_190 (dk_at dksX1_sizeOf_1 11 rfl rfl)
theorem dX1_sizeOf_35 : decode cX1_sizeOf 35 = .ok (.ireturn, 1) := dk_172 (dk_at dksX1_sizeOf_1 12 rfl rfl)
abbrev cX1_elementOf : ByteArray := prog_1_method_49_code
def yX1_elementOf : MethodName := ⟨RX1, "elementOf", "(Ljava/lang/Object;I)I"⟩
def dkwX1_elementOf_1 : List UInt8 := [192, 0, 254, 27, 53, 167, 0, 9, 42, 192, 1, 0, 27, 46, 172]
abbrev dktX1_elementOf_1 : List UInt8 := dkwX1_elementOf_1 ++ []
def dkwX1_elementOf_0 : List UInt8 := [42, 193, 0, 168, 153, 0, 12, 42, 192, 0, 168, 27, 51, 167, 0, 25, 42, 193, 0, 254, 153, 0, 12, 42]
abbrev dktX1_elementOf_0 : List UInt8 := dkwX1_elementOf_0 ++ dktX1_elementOf_1
theorem dksX1_elementOf_0 : cX1_elementOf.data.toList.drop 0 = dktX1_elementOf_0 := by decide +kernel
theorem dksX1_elementOf_1 : cX1_elementOf.data.toList.drop 24 = dktX1_elementOf_1 := dk_seg dksX1_elementOf_0 24 rfl rfl
theorem dX1_elementOf_0 : decode cX1_elementOf 0 = .ok (.aload_n 0, 1) := dk_42 (dk_at dksX1_elementOf_0 0 rfl rfl)
theorem dX1_elementOf_1 : decode cX1_elementOf 1 = .ok (.instanceof 168, 3) := dk_193 0 168 (dk_at dksX1_elementOf_0 1 rfl rfl)
theorem dX1_elementOf_4 : decode cX1_elementOf 4 = .ok (.ifCond .eq 12, 3) := dk_153 0 12 (dk_at dksX1_elementOf_0 4 rfl rfl)
theorem dX1_elementOf_7 : decode cX1_elementOf 7 = .ok (.aload_n 0, 1) := dk_42 (dk_at dksX1_elementOf_0 7 rfl rfl)
theorem dX1_elementOf_8 : decode cX1_elementOf 8 = .ok (.checkcast 168, 3) := dk_192 0 168 (dk_at dksX1_elementOf_0 8 rfl rfl)
theorem dX1_elementOf_11 : decode cX1_elementOf 11 = .ok (.iload_n 1, 1) := dk_27 (dk_at dksX1_elementOf_0 11 rfl rfl)
theorem dX1_elementOf_12 : decode cX1_elementOf 12 = .ok (.baload, 1) := dk_51 (dk_at dksX1_elementOf_0 12 rfl rfl)
theorem dX1_elementOf_13 : decode cX1_elementOf 13 = .ok (.goto 25, 3) := dk_167 0 25 (dk_at dksX1_elementOf_0 13 rfl rfl)
theorem dX1_elementOf_16 : decode cX1_elementOf 16 = .ok (.aload_n 0, 1) := dk_42 (dk_at dksX1_elementOf_0 16 rfl rfl)
theorem dX1_elementOf_17 : decode cX1_elementOf 17 = .ok (.instanceof 254, 3) := dk_193 0 254 (dk_at dksX1_elementOf_0 17 rfl rfl)
theorem dX1_elementOf_20 : decode cX1_elementOf 20 = .ok (.ifCond .eq 12, 3) := dk_153 0 12 (dk_at dksX1_elementOf_0 20 rfl rfl)
theorem dX1_elementOf_23 : decode cX1_elementOf 23 = .ok (.aload_n 0, 1) := dk_42 (dk_at dksX1_elementOf_0 23 rfl rfl)
theorem dX1_elementOf_24 : decode cX1_elementOf 24 = .ok (.checkcast 254, 3) := dk_192 0 254 (dk_at dksX1_elementOf_1 0 rfl rfl)
theorem dX1_elementOf_27 : decode cX1_elementOf 27 = .ok (.iload_n 1, 1) := dk_27 (dk_at dksX1_elementOf_1 3 rfl rfl)
theorem dX1_elementOf_28 : decode cX1_elementOf 28 = .ok (.saload, 1) := dk_53 (dk_at dksX1_elementOf_1 4 rfl rfl)
theorem dX1_elementOf_29 : decode cX1_elementOf 29 = .ok (.goto 9, 3) := dk_167 0 9 (dk_at dksX1_elementOf_1 5 rfl rfl)
theorem dX1_elementOf_32 : decode cX1_elementOf 32 = .ok (.aload_n 0, 1) := dk_42 (dk_at dksX1_elementOf_1 8 rfl rfl)
theorem dX1_elementOf_33 : decode cX1_elementOf 33 = .ok (.checkcast 256, 3) := dk_192 1 0 (dk_at dksX1_elementOf_1 9 rfl rfl)
theorem dX1_elementOf_36 : decode cX1_elementOf 36 = .ok (.iload_n 1, 1) := dk_27 (dk_at dksX1_elementOf_1 12 rfl rfl)
theorem dX1_elementOf_37 : decode cX1_elementOf 37 = .ok (.iaload, 1) := dk_46 (dk_at dksX1_elementOf_1 13 rfl rfl)
theorem dX1_elementOf_38 : decode cX1_elementOf 38 = .ok (.ireturn, 1) := dk_172 (dk_at dksX1_elementOf_1 14 rfl rfl)
abbrev cX1_rallies : ByteArray := prog_1_method_55_code
def yX1_rallies : MethodName := ⟨RX1, "rallies", "(Ljava/lang/Object;)I"⟩
def dkwX1_rallies_3 : List UInt8 := [167, 255, 197, 43, 184, 1, 22, 5, 108, 172]
abbrev dktX1_rallies_3 : List UInt8 := dkwX1_rallies_3 ++ []
def dkwX1_rallies_2 : List UInt8 := [184, 1, 8, 182, 0, 97, 154, 0, 6, 167, 0, 12, 42, 29, 181, 1, 25, 28, 4, 96, 172, 132, 2, 1]
abbrev dktX1_rallies_2 : List UInt8 := dkwX1_rallies_2 ++ dktX1_rallies_3
def dkwX1_rallies_1 : List UInt8 := [180, 0, 68, 182, 0, 200, 62, 42, 180, 0, 68, 43, 5, 28, 104, 184, 1, 8, 43, 5, 28, 104, 4, 96]
abbrev dktX1_rallies_1 : List UInt8 := dkwX1_rallies_1 ++ dktX1_rallies_2
def dkwX1_rallies_0 : List UInt8 := [42, 182, 0, 212, 42, 5, 181, 1, 25, 3, 61, 5, 28, 104, 43, 184, 1, 22, 162, 0, 55, 42]
abbrev dktX1_rallies_0 : List UInt8 := dkwX1_rallies_0 ++ dktX1_rallies_1
theorem dksX1_rallies_0 : cX1_rallies.data.toList.drop 0 = dktX1_rallies_0 := by decide +kernel
theorem dksX1_rallies_1 : cX1_rallies.data.toList.drop 22 = dktX1_rallies_1 := dk_seg dksX1_rallies_0 22 rfl rfl
theorem dksX1_rallies_2 : cX1_rallies.data.toList.drop 46 = dktX1_rallies_2 := dk_seg dksX1_rallies_1 24 rfl rfl
theorem dksX1_rallies_3 : cX1_rallies.data.toList.drop 70 = dktX1_rallies_3 := dk_seg dksX1_rallies_2 24 rfl rfl
theorem dX1_rallies_0 : decode cX1_rallies 0 = .ok (.aload_n 0, 1) := dk_42 (dk_at dksX1_rallies_0 0 rfl rfl)
theorem dX1_rallies_1 : decode cX1_rallies 1 = .ok (.invokevirtual 212, 3) := dk_182 0 212 (dk_at dksX1_rallies_0 1 rfl rfl)
theorem dX1_rallies_4 : decode cX1_rallies 4 = .ok (.aload_n 0, 1) := dk_42 (dk_at dksX1_rallies_0 4 rfl rfl)
theorem dX1_rallies_5 : decode cX1_rallies 5 = .ok (.iconst 2, 1) := dk_5 (dk_at dksX1_rallies_0 5 rfl rfl)
theorem dX1_rallies_6 : decode cX1_rallies 6 = .ok (.putfield 281, 3) := dk_181 1 25 (dk_at dksX1_rallies_0 6 rfl rfl)
theorem dX1_rallies_9 : decode cX1_rallies 9 = .ok (.iconst 0, 1) := dk_3 (dk_at dksX1_rallies_0 9 rfl rfl)
theorem dX1_rallies_10 : decode cX1_rallies 10 = .ok (.istore_n 2, 1) := dk_61 (dk_at dksX1_rallies_0 10 rfl rfl)
theorem dX1_rallies_11 : decode cX1_rallies 11 = .ok (.iconst 2, 1) := dk_5 (dk_at dksX1_rallies_0 11 rfl rfl)
theorem dX1_rallies_12 : decode cX1_rallies 12 = .ok (.iload_n 2, 1) := dk_28 (dk_at dksX1_rallies_0 12 rfl rfl)
theorem dX1_rallies_13 : decode cX1_rallies 13 = .ok (.imul, 1) := dk_104 (dk_at dksX1_rallies_0 13 rfl rfl)
theorem dX1_rallies_14 : decode cX1_rallies 14 = .ok (.aload_n 1, 1) := dk_43 (dk_at dksX1_rallies_0 14 rfl rfl)
theorem dX1_rallies_15 : decode cX1_rallies 15 = .ok (.invokestatic 278, 3) := dk_184 1 22 (dk_at dksX1_rallies_0 15 rfl rfl)
theorem dX1_rallies_18 : decode cX1_rallies 18 = .ok (.if_icmp .ge 55, 3) := dk_162 0 55 (dk_at dksX1_rallies_0 18 rfl rfl)
theorem dX1_rallies_21 : decode cX1_rallies 21 = .ok (.aload_n 0, 1) := dk_42 (dk_at dksX1_rallies_0 21 rfl rfl)
theorem dX1_rallies_22 : decode cX1_rallies 22 = .ok (.getfield 68, 3) := dk_180 0 68 (dk_at dksX1_rallies_1 0 rfl rfl)
theorem dX1_rallies_25 : decode cX1_rallies 25 = .ok (.invokevirtual 200, 3) := dk_182 0 200 (dk_at dksX1_rallies_1 3 rfl rfl)
theorem dX1_rallies_28 : decode cX1_rallies 28 = .ok (.istore_n 3, 1) := dk_62 (dk_at dksX1_rallies_1 6 rfl rfl)
theorem dX1_rallies_29 : decode cX1_rallies 29 = .ok (.aload_n 0, 1) := dk_42 (dk_at dksX1_rallies_1 7 rfl rfl)
theorem dX1_rallies_30 : decode cX1_rallies 30 = .ok (.getfield 68, 3) := dk_180 0 68 (dk_at dksX1_rallies_1 8 rfl rfl)
theorem dX1_rallies_33 : decode cX1_rallies 33 = .ok (.aload_n 1, 1) := dk_43 (dk_at dksX1_rallies_1 11 rfl rfl)
theorem dX1_rallies_34 : decode cX1_rallies 34 = .ok (.iconst 2, 1) := dk_5 (dk_at dksX1_rallies_1 12 rfl rfl)
theorem dX1_rallies_35 : decode cX1_rallies 35 = .ok (.iload_n 2, 1) := dk_28 (dk_at dksX1_rallies_1 13 rfl rfl)
theorem dX1_rallies_36 : decode cX1_rallies 36 = .ok (.imul, 1) := dk_104 (dk_at dksX1_rallies_1 14 rfl rfl)
theorem dX1_rallies_37 : decode cX1_rallies 37 = .ok (.invokestatic 264, 3) := dk_184 1 8 (dk_at dksX1_rallies_1 15 rfl rfl)
theorem dX1_rallies_40 : decode cX1_rallies 40 = .ok (.aload_n 1, 1) := dk_43 (dk_at dksX1_rallies_1 18 rfl rfl)
theorem dX1_rallies_41 : decode cX1_rallies 41 = .ok (.iconst 2, 1) := dk_5 (dk_at dksX1_rallies_1 19 rfl rfl)
theorem dX1_rallies_42 : decode cX1_rallies 42 = .ok (.iload_n 2, 1) := dk_28 (dk_at dksX1_rallies_1 20 rfl rfl)
theorem dX1_rallies_43 : decode cX1_rallies 43 = .ok (.imul, 1) := dk_104 (dk_at dksX1_rallies_1 21 rfl rfl)
theorem dX1_rallies_44 : decode cX1_rallies 44 = .ok (.iconst 1, 1) := dk_4 (dk_at dksX1_rallies_1 22 rfl rfl)
theorem dX1_rallies_45 : decode cX1_rallies 45 = .ok (.iadd, 1) := dk_96 (dk_at dksX1_rallies_1 23 rfl rfl)
theorem dX1_rallies_46 : decode cX1_rallies 46 = .ok (.invokestatic 264, 3) := dk_184 1 8 (dk_at dksX1_rallies_2 0 rfl rfl)
theorem dX1_rallies_49 : decode cX1_rallies 49 = .ok (.invokevirtual 97, 3) := dk_182 0 97 (dk_at dksX1_rallies_2 3 rfl rfl)
theorem dX1_rallies_52 : decode cX1_rallies 52 = .ok (.ifCond .ne 6, 3) := dk_154 0 6 (dk_at dksX1_rallies_2 6 rfl rfl)
theorem dX1_rallies_55 : decode cX1_rallies 55 = .ok (.goto 12, 3) := dk_167 0 12 (dk_at dksX1_rallies_2 9 rfl rfl)
theorem dX1_rallies_58 : decode cX1_rallies 58 = .ok (.aload_n 0, 1) := dk_42 (dk_at dksX1_rallies_2 12 rfl rfl)
theorem dX1_rallies_59 : decode cX1_rallies 59 = .ok (.iload_n 3, 1) := dk_29 (dk_at dksX1_rallies_2 13 rfl rfl)
theorem dX1_rallies_60 : decode cX1_rallies 60 = .ok (.putfield 281, 3) := dk_181 1 25 (dk_at dksX1_rallies_2 14 rfl rfl)
theorem dX1_rallies_63 : decode cX1_rallies 63 = .ok (.iload_n 2, 1) := dk_28 (dk_at dksX1_rallies_2 17 rfl rfl)
theorem dX1_rallies_64 : decode cX1_rallies 64 = .ok (.iconst 1, 1) := dk_4 (dk_at dksX1_rallies_2 18 rfl rfl)
theorem dX1_rallies_65 : decode cX1_rallies 65 = .ok (.iadd, 1) := dk_96 (dk_at dksX1_rallies_2 19 rfl rfl)
theorem dX1_rallies_66 : decode cX1_rallies 66 = .ok (.ireturn, 1) := dk_172 (dk_at dksX1_rallies_2 20 rfl rfl)
theorem dX1_rallies_67 : decode cX1_rallies 67 = .ok (.iinc 2 1, 3) := dk_132 2 1 (dk_at dksX1_rallies_2 21 rfl rfl)
theorem dX1_rallies_70 : decode cX1_rallies 70 = .ok (.goto (-59), 3) := dk_167 255 197 (dk_at dksX1_rallies_3 0 rfl rfl)
theorem dX1_rallies_73 : decode cX1_rallies 73 = .ok (.aload_n 1, 1) := dk_43 (dk_at dksX1_rallies_3 3 rfl rfl)
theorem dX1_rallies_74 : decode cX1_rallies 74 = .ok (.invokestatic 278, 3) := dk_184 1 22 (dk_at dksX1_rallies_3 4 rfl rfl)
theorem dX1_rallies_77 : decode cX1_rallies 77 = .ok (.iconst 2, 1) := dk_5 (dk_at dksX1_rallies_3 7 rfl rfl)
theorem dX1_rallies_78 : decode cX1_rallies 78 = .ok (.idiv, 1) := dk_108 (dk_at dksX1_rallies_3 8 rfl rfl)
theorem dX1_rallies_79 : decode cX1_rallies 79 = .ok (.ireturn, 1) := dk_172 (dk_at dksX1_rallies_3 9 rfl rfl)
abbrev cX1_ways : ByteArray := prog_1_method_57_code
def yX1_ways : MethodName := ⟨RX1, "ways", "(II)I"⟩
def dkwX1_ways_1 : List UInt8 := [42, 180, 0, 158, 27, 50, 180, 0, 162, 182, 1, 31, 87, 42, 180, 0, 68, 180, 1, 34, 28, 46, 172]
abbrev dktX1_ways_1 : List UInt8 := dkwX1_ways_1 ++ []
def dkwX1_ways_0 : List UInt8 := [28, 184, 0, 61, 153, 0, 11, 42, 27, 182, 1, 28, 167, 0, 4, 2, 62, 29, 153, 0, 5, 29, 172, 42]
abbrev dktX1_ways_0 : List UInt8 := dkwX1_ways_0 ++ dktX1_ways_1
theorem dksX1_ways_0 : cX1_ways.data.toList.drop 0 = dktX1_ways_0 := by decide +kernel
theorem dksX1_ways_1 : cX1_ways.data.toList.drop 24 = dktX1_ways_1 := dk_seg dksX1_ways_0 24 rfl rfl
theorem dX1_ways_0 : decode cX1_ways 0 = .ok (.iload_n 2, 1) := dk_28 (dk_at dksX1_ways_0 0 rfl rfl)
theorem dX1_ways_1 : decode cX1_ways 1 = .ok (.invokestatic 61, 3) := dk_184 0 61 (dk_at dksX1_ways_0 1 rfl rfl)
theorem dX1_ways_4 : decode cX1_ways 4 = .ok (.ifCond .eq 11, 3) := dk_153 0 11 (dk_at dksX1_ways_0 4 rfl rfl)
theorem dX1_ways_7 : decode cX1_ways 7 = .ok (.aload_n 0, 1) := dk_42 (dk_at dksX1_ways_0 7 rfl rfl)
theorem dX1_ways_8 : decode cX1_ways 8 = .ok (.iload_n 1, 1) := dk_27 (dk_at dksX1_ways_0 8 rfl rfl)
theorem dX1_ways_9 : decode cX1_ways 9 = .ok (.invokevirtual 284, 3) := dk_182 1 28 (dk_at dksX1_ways_0 9 rfl rfl)
theorem dX1_ways_12 : decode cX1_ways 12 = .ok (.goto 4, 3) := dk_167 0 4 (dk_at dksX1_ways_0 12 rfl rfl)
theorem dX1_ways_15 : decode cX1_ways 15 = .ok (.iconst (-1), 1) := dk_2 (dk_at dksX1_ways_0 15 rfl rfl)
theorem dX1_ways_16 : decode cX1_ways 16 = .ok (.istore_n 3, 1) := dk_62 (dk_at dksX1_ways_0 16 rfl rfl)
theorem dX1_ways_17 : decode cX1_ways 17 = .ok (.iload_n 3, 1) := dk_29 (dk_at dksX1_ways_0 17 rfl rfl)
theorem dX1_ways_18 : decode cX1_ways 18 = .ok (.ifCond .eq 5, 3) := dk_153 0 5 (dk_at dksX1_ways_0 18 rfl rfl)
theorem dX1_ways_21 : decode cX1_ways 21 = .ok (.iload_n 3, 1) := dk_29 (dk_at dksX1_ways_0 21 rfl rfl)
theorem dX1_ways_22 : decode cX1_ways 22 = .ok (.ireturn, 1) := dk_172 (dk_at dksX1_ways_0 22 rfl rfl)
theorem dX1_ways_23 : decode cX1_ways 23 = .ok (.aload_n 0, 1) := dk_42 (dk_at dksX1_ways_0 23 rfl rfl)
theorem dX1_ways_24 : decode cX1_ways 24 = .ok (.aload_n 0, 1) := dk_42 (dk_at dksX1_ways_1 0 rfl rfl)
theorem dX1_ways_25 : decode cX1_ways 25 = .ok (.getfield 158, 3) := dk_180 0 158 (dk_at dksX1_ways_1 1 rfl rfl)
theorem dX1_ways_28 : decode cX1_ways 28 = .ok (.iload_n 1, 1) := dk_27 (dk_at dksX1_ways_1 4 rfl rfl)
theorem dX1_ways_29 : decode cX1_ways 29 = .ok (.aaload, 1) := dk_50 (dk_at dksX1_ways_1 5 rfl rfl)
theorem dX1_ways_30 : decode cX1_ways 30 = .ok (.getfield 162, 3) := dk_180 0 162 (dk_at dksX1_ways_1 6 rfl rfl)
theorem dX1_ways_33 : decode cX1_ways 33 = .ok (.invokevirtual 287, 3) := dk_182 1 31 (dk_at dksX1_ways_1 9 rfl rfl)
theorem dX1_ways_36 : decode cX1_ways 36 = .ok (.pop, 1) := dk_87 (dk_at dksX1_ways_1 12 rfl rfl)
theorem dX1_ways_37 : decode cX1_ways 37 = .ok (.aload_n 0, 1) := dk_42 (dk_at dksX1_ways_1 13 rfl rfl)
theorem dX1_ways_38 : decode cX1_ways 38 = .ok (.getfield 68, 3) := dk_180 0 68 (dk_at dksX1_ways_1 14 rfl rfl)
theorem dX1_ways_41 : decode cX1_ways 41 = .ok (.getfield 290, 3) := dk_180 1 34 (dk_at dksX1_ways_1 17 rfl rfl)
theorem dX1_ways_44 : decode cX1_ways 44 = .ok (.iload_n 2, 1) := dk_28 (dk_at dksX1_ways_1 20 rfl rfl)
theorem dX1_ways_45 : decode cX1_ways 45 = .ok (.iaload, 1) := dk_46 (dk_at dksX1_ways_1 21 rfl rfl)
theorem dX1_ways_46 : decode cX1_ways 46 = .ok (.ireturn, 1) := dk_172 (dk_at dksX1_ways_1 22 rfl rfl)
abbrev cX1_spent : ByteArray := prog_1_method_58_code
def yX1_spent : MethodName := ⟨RX1, "spent", "(I)I"⟩
def dkwX1_spent_3 : List UInt8 := [167, 255, 218, 29, 172]
abbrev dktX1_spent_3 : List UInt8 := dkwX1_spent_3 ++ []
def dkwX1_spent_2 : List UInt8 := [46, 42, 180, 0, 68, 180, 0, 72, 29, 46, 164, 0, 8, 21, 4, 167, 0, 4, 29, 62, 132, 4, 1]
abbrev dktX1_spent_2 : List UInt8 := dkwX1_spent_2 ++ dktX1_spent_3
def dkwX1_spent_1 : List UInt8 := [182, 1, 31, 87, 3, 62, 4, 54, 4, 21, 4, 7, 162, 0, 38, 42, 180, 0, 68, 180, 0, 72, 21, 4]
abbrev dktX1_spent_1 : List UInt8 := dkwX1_spent_1 ++ dktX1_spent_2
def dkwX1_spent_0 : List UInt8 := [42, 27, 182, 1, 28, 61, 28, 153, 0, 5, 28, 172, 42, 42, 180, 0, 158, 27, 50, 180, 0, 162]
abbrev dktX1_spent_0 : List UInt8 := dkwX1_spent_0 ++ dktX1_spent_1
theorem dksX1_spent_0 : cX1_spent.data.toList.drop 0 = dktX1_spent_0 := by decide +kernel
theorem dksX1_spent_1 : cX1_spent.data.toList.drop 22 = dktX1_spent_1 := dk_seg dksX1_spent_0 22 rfl rfl
theorem dksX1_spent_2 : cX1_spent.data.toList.drop 46 = dktX1_spent_2 := dk_seg dksX1_spent_1 24 rfl rfl
theorem dksX1_spent_3 : cX1_spent.data.toList.drop 69 = dktX1_spent_3 := dk_seg dksX1_spent_2 23 rfl rfl
theorem dX1_spent_0 : decode cX1_spent 0 = .ok (.aload_n 0, 1) := dk_42 (dk_at dksX1_spent_0 0 rfl rfl)
theorem dX1_spent_1 : decode cX1_spent 1 = .ok (.iload_n 1, 1) := dk_27 (dk_at dksX1_spent_0 1 rfl rfl)
theorem dX1_spent_2 : decode cX1_spent 2 = .ok (.invokevirtual 284, 3) := dk_182 1 28 (dk_at dksX1_spent_0 2 rfl rfl)
theorem dX1_spent_5 : decode cX1_spent 5 = .ok (.istore_n 2, 1) := dk_61 (dk_at dksX1_spent_0 5 rfl rfl)
theorem dX1_spent_6 : decode cX1_spent 6 = .ok (.iload_n 2, 1) := dk_28 (dk_at dksX1_spent_0 6 rfl rfl)
theorem dX1_spent_7 : decode cX1_spent 7 = .ok (.ifCond .eq 5, 3) := dk_153 0 5 (dk_at dksX1_spent_0 7 rfl rfl)
theorem dX1_spent_10 : decode cX1_spent 10 = .ok (.iload_n 2, 1) := dk_28 (dk_at dksX1_spent_0 10 rfl rfl)
theorem dX1_spent_11 : decode cX1_spent 11 = .ok (.ireturn, 1) := dk_172 (dk_at dksX1_spent_0 11 rfl rfl)
theorem dX1_spent_12 : decode cX1_spent 12 = .ok (.aload_n 0, 1) := dk_42 (dk_at dksX1_spent_0 12 rfl rfl)
theorem dX1_spent_13 : decode cX1_spent 13 = .ok (.aload_n 0, 1) := dk_42 (dk_at dksX1_spent_0 13 rfl rfl)
theorem dX1_spent_14 : decode cX1_spent 14 = .ok (.getfield 158, 3) := dk_180 0 158 (dk_at dksX1_spent_0 14 rfl rfl)
theorem dX1_spent_17 : decode cX1_spent 17 = .ok (.iload_n 1, 1) := dk_27 (dk_at dksX1_spent_0 17 rfl rfl)
theorem dX1_spent_18 : decode cX1_spent 18 = .ok (.aaload, 1) := dk_50 (dk_at dksX1_spent_0 18 rfl rfl)
theorem dX1_spent_19 : decode cX1_spent 19 = .ok (.getfield 162, 3) := dk_180 0 162 (dk_at dksX1_spent_0 19 rfl rfl)
theorem dX1_spent_22 : decode cX1_spent 22 = .ok (.invokevirtual 287, 3) := dk_182 1 31 (dk_at dksX1_spent_1 0 rfl rfl)
theorem dX1_spent_25 : decode cX1_spent 25 = .ok (.pop, 1) := dk_87 (dk_at dksX1_spent_1 3 rfl rfl)
theorem dX1_spent_26 : decode cX1_spent 26 = .ok (.iconst 0, 1) := dk_3 (dk_at dksX1_spent_1 4 rfl rfl)
theorem dX1_spent_27 : decode cX1_spent 27 = .ok (.istore_n 3, 1) := dk_62 (dk_at dksX1_spent_1 5 rfl rfl)
theorem dX1_spent_28 : decode cX1_spent 28 = .ok (.iconst 1, 1) := dk_4 (dk_at dksX1_spent_1 6 rfl rfl)
theorem dX1_spent_29 : decode cX1_spent 29 = .ok (.istore 4, 2) := dk_54 4 (dk_at dksX1_spent_1 7 rfl rfl)
theorem dX1_spent_31 : decode cX1_spent 31 = .ok (.iload 4, 2) := dk_21 4 (dk_at dksX1_spent_1 9 rfl rfl)
theorem dX1_spent_33 : decode cX1_spent 33 = .ok (.iconst 4, 1) := dk_7 (dk_at dksX1_spent_1 11 rfl rfl)
theorem dX1_spent_34 : decode cX1_spent 34 = .ok (.if_icmp .ge 38, 3) := dk_162 0 38 (dk_at dksX1_spent_1 12 rfl rfl)
theorem dX1_spent_37 : decode cX1_spent 37 = .ok (.aload_n 0, 1) := dk_42 (dk_at dksX1_spent_1 15 rfl rfl)
theorem dX1_spent_38 : decode cX1_spent 38 = .ok (.getfield 68, 3) := dk_180 0 68 (dk_at dksX1_spent_1 16 rfl rfl)
theorem dX1_spent_41 : decode cX1_spent 41 = .ok (.getfield 72, 3) := dk_180 0 72 (dk_at dksX1_spent_1 19 rfl rfl)
theorem dX1_spent_44 : decode cX1_spent 44 = .ok (.iload 4, 2) := dk_21 4 (dk_at dksX1_spent_1 22 rfl rfl)
theorem dX1_spent_46 : decode cX1_spent 46 = .ok (.iaload, 1) := dk_46 (dk_at dksX1_spent_2 0 rfl rfl)
theorem dX1_spent_47 : decode cX1_spent 47 = .ok (.aload_n 0, 1) := dk_42 (dk_at dksX1_spent_2 1 rfl rfl)
theorem dX1_spent_48 : decode cX1_spent 48 = .ok (.getfield 68, 3) := dk_180 0 68 (dk_at dksX1_spent_2 2 rfl rfl)
theorem dX1_spent_51 : decode cX1_spent 51 = .ok (.getfield 72, 3) := dk_180 0 72 (dk_at dksX1_spent_2 5 rfl rfl)
theorem dX1_spent_54 : decode cX1_spent 54 = .ok (.iload_n 3, 1) := dk_29 (dk_at dksX1_spent_2 8 rfl rfl)
theorem dX1_spent_55 : decode cX1_spent 55 = .ok (.iaload, 1) := dk_46 (dk_at dksX1_spent_2 9 rfl rfl)
theorem dX1_spent_56 : decode cX1_spent 56 = .ok (.if_icmp .le 8, 3) := dk_164 0 8 (dk_at dksX1_spent_2 10 rfl rfl)
theorem dX1_spent_59 : decode cX1_spent 59 = .ok (.iload 4, 2) := dk_21 4 (dk_at dksX1_spent_2 13 rfl rfl)
theorem dX1_spent_61 : decode cX1_spent 61 = .ok (.goto 4, 3) := dk_167 0 4 (dk_at dksX1_spent_2 15 rfl rfl)
theorem dX1_spent_64 : decode cX1_spent 64 = .ok (.iload_n 3, 1) := dk_29 (dk_at dksX1_spent_2 18 rfl rfl)
theorem dX1_spent_65 : decode cX1_spent 65 = .ok (.istore_n 3, 1) := dk_62 (dk_at dksX1_spent_2 19 rfl rfl)
theorem dX1_spent_66 : decode cX1_spent 66 = .ok (.iinc 4 1, 3) := dk_132 4 1 (dk_at dksX1_spent_2 20 rfl rfl)
theorem dX1_spent_69 : decode cX1_spent 69 = .ok (.goto (-38), 3) := dk_167 255 218 (dk_at dksX1_spent_3 0 rfl rfl)
theorem dX1_spent_72 : decode cX1_spent 72 = .ok (.iload_n 3, 1) := dk_29 (dk_at dksX1_spent_3 3 rfl rfl)
theorem dX1_spent_73 : decode cX1_spent 73 = .ok (.ireturn, 1) := dk_172 (dk_at dksX1_spent_3 4 rfl rfl)
abbrev cX1_whatIs : ByteArray := prog_1_method_61_code
def yX1_whatIs : MethodName := ⟨RX1, "whatIs", "(III)I"⟩
def dkwX1_whatIs_6 : List UInt8 := [120, 167, 0, 4, 3, 128, 54, 6, 132, 7, 1, 167, 255, 162, 21, 6, 172]
abbrev dktX1_whatIs_6 : List UInt8 := dkwX1_whatIs_6 ++ []
def dkwX1_whatIs_5 : List UInt8 := [180, 0, 162, 25, 5, 21, 7, 4, 100, 182, 1, 45, 54, 8, 21, 6, 21, 8, 153, 0, 10, 4, 21, 7]
abbrev dktX1_whatIs_5 : List UInt8 := dkwX1_whatIs_5 ++ dktX1_whatIs_6
def dkwX1_whatIs_4 : List UInt8 := [184, 0, 103, 42, 180, 0, 140, 180, 0, 117, 182, 1, 45, 167, 0, 22, 42, 42, 180, 0, 158, 27, 50]
abbrev dktX1_whatIs_4 : List UInt8 := dkwX1_whatIs_4 ++ dktX1_whatIs_5
def dkwX1_whatIs_3 : List UInt8 := [162, 0, 85, 29, 154, 0, 36, 42, 42, 180, 0, 158, 27, 50, 180, 0, 162, 21, 7, 25, 5, 180, 0, 187]
abbrev dktX1_whatIs_3 : List UInt8 := dkwX1_whatIs_3 ++ dktX1_whatIs_4
def dkwX1_whatIs_2 : List UInt8 := [28, 50, 58, 5, 3, 54, 6, 3, 54, 7, 21, 7, 29, 154, 0, 8, 16, 8, 167, 0, 4, 6]
abbrev dktX1_whatIs_2 : List UInt8 := dkwX1_whatIs_2 ++ dktX1_whatIs_3
def dkwX1_whatIs_1 : List UInt8 := [182, 1, 42, 167, 0, 4, 2, 54, 4, 21, 4, 153, 0, 6, 21, 4, 172, 42, 180, 0, 140, 180, 0, 179]
abbrev dktX1_whatIs_1 : List UInt8 := dkwX1_whatIs_1 ++ dktX1_whatIs_2
def dkwX1_whatIs_0 : List UInt8 := [42, 180, 0, 140, 28, 182, 0, 90, 153, 0, 20, 29, 3, 4, 184, 0, 42, 153, 0, 11, 42, 27]
abbrev dktX1_whatIs_0 : List UInt8 := dkwX1_whatIs_0 ++ dktX1_whatIs_1
theorem dksX1_whatIs_0 : cX1_whatIs.data.toList.drop 0 = dktX1_whatIs_0 := by decide +kernel
theorem dksX1_whatIs_1 : cX1_whatIs.data.toList.drop 22 = dktX1_whatIs_1 := dk_seg dksX1_whatIs_0 22 rfl rfl
theorem dksX1_whatIs_2 : cX1_whatIs.data.toList.drop 46 = dktX1_whatIs_2 := dk_seg dksX1_whatIs_1 24 rfl rfl
theorem dksX1_whatIs_3 : cX1_whatIs.data.toList.drop 68 = dktX1_whatIs_3 := dk_seg dksX1_whatIs_2 22 rfl rfl
theorem dksX1_whatIs_4 : cX1_whatIs.data.toList.drop 92 = dktX1_whatIs_4 := dk_seg dksX1_whatIs_3 24 rfl rfl
theorem dksX1_whatIs_5 : cX1_whatIs.data.toList.drop 115 = dktX1_whatIs_5 := dk_seg dksX1_whatIs_4 23 rfl rfl
theorem dksX1_whatIs_6 : cX1_whatIs.data.toList.drop 139 = dktX1_whatIs_6 := dk_seg dksX1_whatIs_5 24 rfl rfl
theorem dX1_whatIs_0 : decode cX1_whatIs 0 = .ok (.aload_n 0, 1) := dk_42 (dk_at dksX1_whatIs_0 0 rfl rfl)
theorem dX1_whatIs_1 : decode cX1_whatIs 1 = .ok (.getfield 140, 3) := dk_180 0 140 (dk_at dksX1_whatIs_0 1 rfl rfl)
theorem dX1_whatIs_4 : decode cX1_whatIs 4 = .ok (.iload_n 2, 1) := dk_28 (dk_at dksX1_whatIs_0 4 rfl rfl)
theorem dX1_whatIs_5 : decode cX1_whatIs 5 = .ok (.invokevirtual 90, 3) := dk_182 0 90 (dk_at dksX1_whatIs_0 5 rfl rfl)
theorem dX1_whatIs_8 : decode cX1_whatIs 8 = .ok (.ifCond .eq 20, 3) := dk_153 0 20 (dk_at dksX1_whatIs_0 8 rfl rfl)
theorem dX1_whatIs_11 : decode cX1_whatIs 11 = .ok (.iload_n 3, 1) := dk_29 (dk_at dksX1_whatIs_0 11 rfl rfl)
theorem dX1_whatIs_12 : decode cX1_whatIs 12 = .ok (.iconst 0, 1) := dk_3 (dk_at dksX1_whatIs_0 12 rfl rfl)
theorem dX1_whatIs_13 : decode cX1_whatIs 13 = .ok (.iconst 1, 1) := dk_4 (dk_at dksX1_whatIs_0 13 rfl rfl)
theorem dX1_whatIs_14 : decode cX1_whatIs 14 = .ok (.invokestatic 42, 3) := dk_184 0 42 (dk_at dksX1_whatIs_0 14 rfl rfl)
theorem dX1_whatIs_17 : decode cX1_whatIs 17 = .ok (.ifCond .eq 11, 3) := dk_153 0 11 (dk_at dksX1_whatIs_0 17 rfl rfl)
theorem dX1_whatIs_20 : decode cX1_whatIs 20 = .ok (.aload_n 0, 1) := dk_42 (dk_at dksX1_whatIs_0 20 rfl rfl)
theorem dX1_whatIs_21 : decode cX1_whatIs 21 = .ok (.iload_n 1, 1) := dk_27 (dk_at dksX1_whatIs_0 21 rfl rfl)
theorem dX1_whatIs_22 : decode cX1_whatIs 22 = .ok (.invokevirtual 298, 3) := dk_182 1 42 (dk_at dksX1_whatIs_1 0 rfl rfl)
theorem dX1_whatIs_25 : decode cX1_whatIs 25 = .ok (.goto 4, 3) := dk_167 0 4 (dk_at dksX1_whatIs_1 3 rfl rfl)
theorem dX1_whatIs_28 : decode cX1_whatIs 28 = .ok (.iconst (-1), 1) := dk_2 (dk_at dksX1_whatIs_1 6 rfl rfl)
theorem dX1_whatIs_29 : decode cX1_whatIs 29 = .ok (.istore 4, 2) := dk_54 4 (dk_at dksX1_whatIs_1 7 rfl rfl)
theorem dX1_whatIs_31 : decode cX1_whatIs 31 = .ok (.iload 4, 2) := dk_21 4 (dk_at dksX1_whatIs_1 9 rfl rfl)
theorem dX1_whatIs_33 : decode cX1_whatIs 33 = .ok (.ifCond .eq 6, 3) := dk_153 0 6 (dk_at dksX1_whatIs_1 11 rfl rfl)
theorem dX1_whatIs_36 : decode cX1_whatIs 36 = .ok (.iload 4, 2) := dk_21 4 (dk_at dksX1_whatIs_1 14 rfl rfl)
theorem dX1_whatIs_38 : decode cX1_whatIs 38 = .ok (.ireturn, 1) := dk_172 (dk_at dksX1_whatIs_1 16 rfl rfl)
theorem dX1_whatIs_39 : decode cX1_whatIs 39 = .ok (.aload_n 0, 1) := dk_42 (dk_at dksX1_whatIs_1 17 rfl rfl)
theorem dX1_whatIs_40 : decode cX1_whatIs 40 = .ok (.getfield 140, 3) := dk_180 0 140 (dk_at dksX1_whatIs_1 18 rfl rfl)
theorem dX1_whatIs_43 : decode cX1_whatIs 43 = .ok (.getfield 179, 3) := dk_180 0 179 (dk_at dksX1_whatIs_1 21 rfl rfl)
theorem dX1_whatIs_46 : decode cX1_whatIs 46 = .ok (.iload_n 2, 1) := dk_28 (dk_at dksX1_whatIs_2 0 rfl rfl)
theorem dX1_whatIs_47 : decode cX1_whatIs 47 = .ok (.aaload, 1) := dk_50 (dk_at dksX1_whatIs_2 1 rfl rfl)
theorem dX1_whatIs_48 : decode cX1_whatIs 48 = .ok (.astore 5, 2) := dk_58 5 (dk_at dksX1_whatIs_2 2 rfl rfl)
theorem dX1_whatIs_50 : decode cX1_whatIs 50 = .ok (.iconst 0, 1) := dk_3 (dk_at dksX1_whatIs_2 4 rfl rfl)
theorem dX1_whatIs_51 : decode cX1_whatIs 51 = .ok (.istore 6, 2) := dk_54 6 (dk_at dksX1_whatIs_2 5 rfl rfl)
theorem dX1_whatIs_53 : decode cX1_whatIs 53 = .ok (.iconst 0, 1) := dk_3 (dk_at dksX1_whatIs_2 7 rfl rfl)
theorem dX1_whatIs_54 : decode cX1_whatIs 54 = .ok (.istore 7, 2) := dk_54 7 (dk_at dksX1_whatIs_2 8 rfl rfl)
theorem dX1_whatIs_56 : decode cX1_whatIs 56 = .ok (.iload 7, 2) := dk_21 7 (dk_at dksX1_whatIs_2 10 rfl rfl)
theorem dX1_whatIs_58 : decode cX1_whatIs 58 = .ok (.iload_n 3, 1) := dk_29 (dk_at dksX1_whatIs_2 12 rfl rfl)
theorem dX1_whatIs_59 : decode cX1_whatIs 59 = .ok (.ifCond .ne 8, 3) := dk_154 0 8 (dk_at dksX1_whatIs_2 13 rfl rfl)
theorem dX1_whatIs_62 : decode cX1_whatIs 62 = .ok (.bipush 8, 2) := dk_16 8 (dk_at dksX1_whatIs_2 16 rfl rfl)
theorem dX1_whatIs_64 : decode cX1_whatIs 64 = .ok (.goto 4, 3) := dk_167 0 4 (dk_at dksX1_whatIs_2 18 rfl rfl)
theorem dX1_whatIs_67 : decode cX1_whatIs 67 = .ok (.iconst 3, 1) := dk_6 (dk_at dksX1_whatIs_2 21 rfl rfl)
theorem dX1_whatIs_68 : decode cX1_whatIs 68 = .ok (.if_icmp .ge 85, 3) := dk_162 0 85 (dk_at dksX1_whatIs_3 0 rfl rfl)
theorem dX1_whatIs_71 : decode cX1_whatIs 71 = .ok (.iload_n 3, 1) := dk_29 (dk_at dksX1_whatIs_3 3 rfl rfl)
theorem dX1_whatIs_72 : decode cX1_whatIs 72 = .ok (.ifCond .ne 36, 3) := dk_154 0 36 (dk_at dksX1_whatIs_3 4 rfl rfl)
theorem dX1_whatIs_75 : decode cX1_whatIs 75 = .ok (.aload_n 0, 1) := dk_42 (dk_at dksX1_whatIs_3 7 rfl rfl)
theorem dX1_whatIs_76 : decode cX1_whatIs 76 = .ok (.aload_n 0, 1) := dk_42 (dk_at dksX1_whatIs_3 8 rfl rfl)
theorem dX1_whatIs_77 : decode cX1_whatIs 77 = .ok (.getfield 158, 3) := dk_180 0 158 (dk_at dksX1_whatIs_3 9 rfl rfl)
theorem dX1_whatIs_80 : decode cX1_whatIs 80 = .ok (.iload_n 1, 1) := dk_27 (dk_at dksX1_whatIs_3 12 rfl rfl)
theorem dX1_whatIs_81 : decode cX1_whatIs 81 = .ok (.aaload, 1) := dk_50 (dk_at dksX1_whatIs_3 13 rfl rfl)
theorem dX1_whatIs_82 : decode cX1_whatIs 82 = .ok (.getfield 162, 3) := dk_180 0 162 (dk_at dksX1_whatIs_3 14 rfl rfl)
theorem dX1_whatIs_85 : decode cX1_whatIs 85 = .ok (.iload 7, 2) := dk_21 7 (dk_at dksX1_whatIs_3 17 rfl rfl)
theorem dX1_whatIs_87 : decode cX1_whatIs 87 = .ok (.aload 5, 2) := dk_25 5 (dk_at dksX1_whatIs_3 19 rfl rfl)
theorem dX1_whatIs_89 : decode cX1_whatIs 89 = .ok (.getfield 187, 3) := dk_180 0 187 (dk_at dksX1_whatIs_3 21 rfl rfl)
theorem dX1_whatIs_92 : decode cX1_whatIs 92 = .ok (.invokestatic 103, 3) := dk_184 0 103 (dk_at dksX1_whatIs_4 0 rfl rfl)
theorem dX1_whatIs_95 : decode cX1_whatIs 95 = .ok (.aload_n 0, 1) := dk_42 (dk_at dksX1_whatIs_4 3 rfl rfl)
theorem dX1_whatIs_96 : decode cX1_whatIs 96 = .ok (.getfield 140, 3) := dk_180 0 140 (dk_at dksX1_whatIs_4 4 rfl rfl)
theorem dX1_whatIs_99 : decode cX1_whatIs 99 = .ok (.getfield 117, 3) := dk_180 0 117 (dk_at dksX1_whatIs_4 7 rfl rfl)
theorem dX1_whatIs_102 : decode cX1_whatIs 102 = .ok (.invokevirtual 301, 3) := dk_182 1 45 (dk_at dksX1_whatIs_4 10 rfl rfl)
theorem dX1_whatIs_105 : decode cX1_whatIs 105 = .ok (.goto 22, 3) := dk_167 0 22 (dk_at dksX1_whatIs_4 13 rfl rfl)
theorem dX1_whatIs_108 : decode cX1_whatIs 108 = .ok (.aload_n 0, 1) := dk_42 (dk_at dksX1_whatIs_4 16 rfl rfl)
theorem dX1_whatIs_109 : decode cX1_whatIs 109 = .ok (.aload_n 0, 1) := dk_42 (dk_at dksX1_whatIs_4 17 rfl rfl)
theorem dX1_whatIs_110 : decode cX1_whatIs 110 = .ok (.getfield 158, 3) := dk_180 0 158 (dk_at dksX1_whatIs_4 18 rfl rfl)
theorem dX1_whatIs_113 : decode cX1_whatIs 113 = .ok (.iload_n 1, 1) := dk_27 (dk_at dksX1_whatIs_4 21 rfl rfl)
theorem dX1_whatIs_114 : decode cX1_whatIs 114 = .ok (.aaload, 1) := dk_50 (dk_at dksX1_whatIs_4 22 rfl rfl)
theorem dX1_whatIs_115 : decode cX1_whatIs 115 = .ok (.getfield 162, 3) := dk_180 0 162 (dk_at dksX1_whatIs_5 0 rfl rfl)
theorem dX1_whatIs_118 : decode cX1_whatIs 118 = .ok (.aload 5, 2) := dk_25 5 (dk_at dksX1_whatIs_5 3 rfl rfl)
theorem dX1_whatIs_120 : decode cX1_whatIs 120 = .ok (.iload 7, 2) := dk_21 7 (dk_at dksX1_whatIs_5 5 rfl rfl)
theorem dX1_whatIs_122 : decode cX1_whatIs 122 = .ok (.iconst 1, 1) := dk_4 (dk_at dksX1_whatIs_5 7 rfl rfl)
theorem dX1_whatIs_123 : decode cX1_whatIs 123 = .ok (.isub, 1) := dk_100 (dk_at dksX1_whatIs_5 8 rfl rfl)
theorem dX1_whatIs_124 : decode cX1_whatIs 124 = .ok (.invokevirtual 301, 3) := dk_182 1 45 (dk_at dksX1_whatIs_5 9 rfl rfl)
theorem dX1_whatIs_127 : decode cX1_whatIs 127 = .ok (.istore 8, 2) := dk_54 8 (dk_at dksX1_whatIs_5 12 rfl rfl)
theorem dX1_whatIs_129 : decode cX1_whatIs 129 = .ok (.iload 6, 2) := dk_21 6 (dk_at dksX1_whatIs_5 14 rfl rfl)
theorem dX1_whatIs_131 : decode cX1_whatIs 131 = .ok (.iload 8, 2) := dk_21 8 (dk_at dksX1_whatIs_5 16 rfl rfl)
theorem dX1_whatIs_133 : decode cX1_whatIs 133 = .ok (.ifCond .eq 10, 3) := dk_153 0 10 (dk_at dksX1_whatIs_5 18 rfl rfl)
theorem dX1_whatIs_136 : decode cX1_whatIs 136 = .ok (.iconst 1, 1) := dk_4 (dk_at dksX1_whatIs_5 21 rfl rfl)
theorem dX1_whatIs_137 : decode cX1_whatIs 137 = .ok (.iload 7, 2) := dk_21 7 (dk_at dksX1_whatIs_5 22 rfl rfl)
theorem dX1_whatIs_139 : decode cX1_whatIs 139 = .ok (.ishl, 1) := dk_120 (dk_at dksX1_whatIs_6 0 rfl rfl)
theorem dX1_whatIs_140 : decode cX1_whatIs 140 = .ok (.goto 4, 3) := dk_167 0 4 (dk_at dksX1_whatIs_6 1 rfl rfl)
theorem dX1_whatIs_143 : decode cX1_whatIs 143 = .ok (.iconst 0, 1) := dk_3 (dk_at dksX1_whatIs_6 4 rfl rfl)
theorem dX1_whatIs_144 : decode cX1_whatIs 144 = .ok (.ior, 1) := dk_128 (dk_at dksX1_whatIs_6 5 rfl rfl)
theorem dX1_whatIs_145 : decode cX1_whatIs 145 = .ok (.istore 6, 2) := dk_54 6 (dk_at dksX1_whatIs_6 6 rfl rfl)
theorem dX1_whatIs_147 : decode cX1_whatIs 147 = .ok (.iinc 7 1, 3) := dk_132 7 1 (dk_at dksX1_whatIs_6 8 rfl rfl)
theorem dX1_whatIs_150 : decode cX1_whatIs 150 = .ok (.goto (-94), 3) := dk_167 255 162 (dk_at dksX1_whatIs_6 11 rfl rfl)
theorem dX1_whatIs_153 : decode cX1_whatIs 153 = .ok (.iload 6, 2) := dk_21 6 (dk_at dksX1_whatIs_6 14 rfl rfl)
theorem dX1_whatIs_155 : decode cX1_whatIs 155 = .ok (.ireturn, 1) := dk_172 (dk_at dksX1_whatIs_6 16 rfl rfl)
abbrev cX1_notNine : ByteArray := prog_1_method_60_code
def yX1_notNine : MethodName := ⟨RX1, "notNine", "(I)I"⟩
def dkwX1_notNine_1 : List UInt8 := [184, 1, 22, 16, 9, 164, 0, 8, 16, 243, 167, 0, 4, 3, 172]
abbrev dktX1_notNine_1 : List UInt8 := dkwX1_notNine_1 ++ []
def dkwX1_notNine_0 : List UInt8 := [42, 27, 182, 1, 19, 61, 28, 153, 0, 7, 28, 167, 0, 26, 42, 180, 0, 158, 27, 50, 180, 0, 162]
abbrev dktX1_notNine_0 : List UInt8 := dkwX1_notNine_0 ++ dktX1_notNine_1
theorem dksX1_notNine_0 : cX1_notNine.data.toList.drop 0 = dktX1_notNine_0 := by decide +kernel
theorem dksX1_notNine_1 : cX1_notNine.data.toList.drop 23 = dktX1_notNine_1 := dk_seg dksX1_notNine_0 23 rfl rfl
theorem dX1_notNine_0 : decode cX1_notNine 0 = .ok (.aload_n 0, 1) := dk_42 (dk_at dksX1_notNine_0 0 rfl rfl)
theorem dX1_notNine_1 : decode cX1_notNine 1 = .ok (.iload_n 1, 1) := dk_27 (dk_at dksX1_notNine_0 1 rfl rfl)
theorem dX1_notNine_2 : decode cX1_notNine 2 = .ok (.invokevirtual 275, 3) := dk_182 1 19 (dk_at dksX1_notNine_0 2 rfl rfl)
theorem dX1_notNine_5 : decode cX1_notNine 5 = .ok (.istore_n 2, 1) := dk_61 (dk_at dksX1_notNine_0 5 rfl rfl)
theorem dX1_notNine_6 : decode cX1_notNine 6 = .ok (.iload_n 2, 1) := dk_28 (dk_at dksX1_notNine_0 6 rfl rfl)
theorem dX1_notNine_7 : decode cX1_notNine 7 = .ok (.ifCond .eq 7, 3) := dk_153 0 7 (dk_at dksX1_notNine_0 7 rfl rfl)
theorem dX1_notNine_10 : decode cX1_notNine 10 = .ok (.iload_n 2, 1) := dk_28 (dk_at dksX1_notNine_0 10 rfl rfl)
theorem dX1_notNine_11 : decode cX1_notNine 11 = .ok (.goto 26, 3) := dk_167 0 26 (dk_at dksX1_notNine_0 11 rfl rfl)
theorem dX1_notNine_14 : decode cX1_notNine 14 = .ok (.aload_n 0, 1) := dk_42 (dk_at dksX1_notNine_0 14 rfl rfl)
theorem dX1_notNine_15 : decode cX1_notNine 15 = .ok (.getfield 158, 3) := dk_180 0 158 (dk_at dksX1_notNine_0 15 rfl rfl)
theorem dX1_notNine_18 : decode cX1_notNine 18 = .ok (.iload_n 1, 1) := dk_27 (dk_at dksX1_notNine_0 18 rfl rfl)
theorem dX1_notNine_19 : decode cX1_notNine 19 = .ok (.aaload, 1) := dk_50 (dk_at dksX1_notNine_0 19 rfl rfl)
theorem dX1_notNine_20 : decode cX1_notNine 20 = .ok (.getfield 162, 3) := dk_180 0 162 (dk_at dksX1_notNine_0 20 rfl rfl)
theorem dX1_notNine_23 : decode cX1_notNine 23 = .ok (.invokestatic 278, 3) := dk_184 1 22 (dk_at dksX1_notNine_1 0 rfl rfl)
theorem dX1_notNine_26 : decode cX1_notNine 26 = .ok (.bipush 9, 2) := dk_16 9 (dk_at dksX1_notNine_1 3 rfl rfl)
theorem dX1_notNine_28 : decode cX1_notNine 28 = .ok (.if_icmp .le 8, 3) := dk_164 0 8 (dk_at dksX1_notNine_1 5 rfl rfl)
theorem dX1_notNine_31 : decode cX1_notNine 31 = .ok (.bipush (-13), 2) := dk_16 243 (dk_at dksX1_notNine_1 8 rfl rfl)
theorem dX1_notNine_33 : decode cX1_notNine 33 = .ok (.goto 4, 3) := dk_167 0 4 (dk_at dksX1_notNine_1 10 rfl rfl)
theorem dX1_notNine_36 : decode cX1_notNine 36 = .ok (.iconst 0, 1) := dk_3 (dk_at dksX1_notNine_1 13 rfl rfl)
theorem dX1_notNine_37 : decode cX1_notNine 37 = .ok (.ireturn, 1) := dk_172 (dk_at dksX1_notNine_1 14 rfl rfl)
abbrev cX1_fellSo : ByteArray := prog_1_method_59_code
def yX1_fellSo : MethodName := ⟨RX1, "fellSo", "(Ljava/lang/Object;LSideBySide$Stroke;I)Z"⟩
def dkwX1_fellSo_1 : List UInt8 := [184, 1, 8, 44, 21, 4, 29, 182, 1, 41, 159, 0, 5, 3, 172, 132, 4, 1, 167, 255, 217, 4, 172]
abbrev dktX1_fellSo_1 : List UInt8 := dkwX1_fellSo_1 ++ []
def dkwX1_fellSo_0 : List UInt8 := [3, 54, 4, 21, 4, 43, 184, 1, 22, 162, 0, 36, 43, 21, 4, 184, 1, 37, 154, 0, 21, 43, 21, 4]
abbrev dktX1_fellSo_0 : List UInt8 := dkwX1_fellSo_0 ++ dktX1_fellSo_1
theorem dksX1_fellSo_0 : cX1_fellSo.data.toList.drop 0 = dktX1_fellSo_0 := by decide +kernel
theorem dksX1_fellSo_1 : cX1_fellSo.data.toList.drop 24 = dktX1_fellSo_1 := dk_seg dksX1_fellSo_0 24 rfl rfl
theorem dX1_fellSo_0 : decode cX1_fellSo 0 = .ok (.iconst 0, 1) := dk_3 (dk_at dksX1_fellSo_0 0 rfl rfl)
theorem dX1_fellSo_1 : decode cX1_fellSo 1 = .ok (.istore 4, 2) := dk_54 4 (dk_at dksX1_fellSo_0 1 rfl rfl)
theorem dX1_fellSo_3 : decode cX1_fellSo 3 = .ok (.iload 4, 2) := dk_21 4 (dk_at dksX1_fellSo_0 3 rfl rfl)
theorem dX1_fellSo_5 : decode cX1_fellSo 5 = .ok (.aload_n 1, 1) := dk_43 (dk_at dksX1_fellSo_0 5 rfl rfl)
theorem dX1_fellSo_6 : decode cX1_fellSo 6 = .ok (.invokestatic 278, 3) := dk_184 1 22 (dk_at dksX1_fellSo_0 6 rfl rfl)
theorem dX1_fellSo_9 : decode cX1_fellSo 9 = .ok (.if_icmp .ge 36, 3) := dk_162 0 36 (dk_at dksX1_fellSo_0 9 rfl rfl)
theorem dX1_fellSo_12 : decode cX1_fellSo 12 = .ok (.aload_n 1, 1) := dk_43 (dk_at dksX1_fellSo_0 12 rfl rfl)
theorem dX1_fellSo_13 : decode cX1_fellSo 13 = .ok (.iload 4, 2) := dk_21 4 (dk_at dksX1_fellSo_0 13 rfl rfl)
theorem dX1_fellSo_15 : decode cX1_fellSo 15 = .ok (.invokestatic 293, 3) := dk_184 1 37 (dk_at dksX1_fellSo_0 15 rfl rfl)
theorem dX1_fellSo_18 : decode cX1_fellSo 18 = .ok (.ifCond .ne 21, 3) := dk_154 0 21 (dk_at dksX1_fellSo_0 18 rfl rfl)
theorem dX1_fellSo_21 : decode cX1_fellSo 21 = .ok (.aload_n 1, 1) := dk_43 (dk_at dksX1_fellSo_0 21 rfl rfl)
theorem dX1_fellSo_22 : decode cX1_fellSo 22 = .ok (.iload 4, 2) := dk_21 4 (dk_at dksX1_fellSo_0 22 rfl rfl)
theorem dX1_fellSo_24 : decode cX1_fellSo 24 = .ok (.invokestatic 264, 3) := dk_184 1 8 (dk_at dksX1_fellSo_1 0 rfl rfl)
theorem dX1_fellSo_27 : decode cX1_fellSo 27 = .ok (.aload_n 2, 1) := dk_44 (dk_at dksX1_fellSo_1 3 rfl rfl)
theorem dX1_fellSo_28 : decode cX1_fellSo 28 = .ok (.iload 4, 2) := dk_21 4 (dk_at dksX1_fellSo_1 4 rfl rfl)
theorem dX1_fellSo_30 : decode cX1_fellSo 30 = .ok (.iload_n 3, 1) := dk_29 (dk_at dksX1_fellSo_1 6 rfl rfl)
theorem dX1_fellSo_31 : decode cX1_fellSo 31 = .ok (.invokevirtual 297, 3) := dk_182 1 41 (dk_at dksX1_fellSo_1 7 rfl rfl)
theorem dX1_fellSo_34 : decode cX1_fellSo 34 = .ok (.if_icmp .eq 5, 3) := dk_159 0 5 (dk_at dksX1_fellSo_1 10 rfl rfl)
theorem dX1_fellSo_37 : decode cX1_fellSo 37 = .ok (.iconst 0, 1) := dk_3 (dk_at dksX1_fellSo_1 13 rfl rfl)
theorem dX1_fellSo_38 : decode cX1_fellSo 38 = .ok (.ireturn, 1) := dk_172 (dk_at dksX1_fellSo_1 14 rfl rfl)
theorem dX1_fellSo_39 : decode cX1_fellSo 39 = .ok (.iinc 4 1, 3) := dk_132 4 1 (dk_at dksX1_fellSo_1 15 rfl rfl)
theorem dX1_fellSo_42 : decode cX1_fellSo 42 = .ok (.goto (-39), 3) := dk_167 255 217 (dk_at dksX1_fellSo_1 18 rfl rfl)
theorem dX1_fellSo_45 : decode cX1_fellSo 45 = .ok (.iconst 1, 1) := dk_4 (dk_at dksX1_fellSo_1 21 rfl rfl)
theorem dX1_fellSo_46 : decode cX1_fellSo 46 = .ok (.ireturn, 1) := dk_172 (dk_at dksX1_fellSo_1 22 rfl rfl)
abbrev cX1_isSkipped : ByteArray := prog_1_method_52_code
def yX1_isSkipped : MethodName := ⟨RX1, "isSkipped", "(Ljava/lang/Object;I)Z"⟩
def dkwX1_isSkipped_0 : List UInt8 := [42, 27, 184, 1, 8, 42, 184, 1, 12, 160, 0, 7, 4, 167, 0, 4, 3, 172]
abbrev dktX1_isSkipped_0 : List UInt8 := dkwX1_isSkipped_0 ++ []
theorem dksX1_isSkipped_0 : cX1_isSkipped.data.toList.drop 0 = dktX1_isSkipped_0 := by decide +kernel
theorem dX1_isSkipped_0 : decode cX1_isSkipped 0 = .ok (.aload_n 0, 1) := dk_42 (dk_at dksX1_isSkipped_0 0 rfl rfl)
theorem dX1_isSkipped_1 : decode cX1_isSkipped 1 = .ok (.iload_n 1, 1) := dk_27 (dk_at dksX1_isSkipped_0 1 rfl rfl)
theorem dX1_isSkipped_2 : decode cX1_isSkipped 2 = .ok (.invokestatic 264, 3) := dk_184 1 8 (dk_at dksX1_isSkipped_0 2 rfl rfl)
theorem dX1_isSkipped_5 : decode cX1_isSkipped 5 = .ok (.aload_n 0, 1) := dk_42 (dk_at dksX1_isSkipped_0 5 rfl rfl)
theorem dX1_isSkipped_6 : decode cX1_isSkipped 6 = .ok (.invokestatic 268, 3) := dk_184 1 12 (dk_at dksX1_isSkipped_0 6 rfl rfl)
theorem dX1_isSkipped_9 : decode cX1_isSkipped 9 = .ok (.if_icmp .ne 7, 3) := dk_160 0 7 (dk_at dksX1_isSkipped_0 9 rfl rfl)
theorem dX1_isSkipped_12 : decode cX1_isSkipped 12 = .ok (.iconst 1, 1) := dk_4 (dk_at dksX1_isSkipped_0 12 rfl rfl)
theorem dX1_isSkipped_13 : decode cX1_isSkipped 13 = .ok (.goto 4, 3) := dk_167 0 4 (dk_at dksX1_isSkipped_0 13 rfl rfl)
theorem dX1_isSkipped_16 : decode cX1_isSkipped 16 = .ok (.iconst 0, 1) := dk_3 (dk_at dksX1_isSkipped_0 16 rfl rfl)
theorem dX1_isSkipped_17 : decode cX1_isSkipped 17 = .ok (.ireturn, 1) := dk_172 (dk_at dksX1_isSkipped_0 17 rfl rfl)
abbrev cX1_leastElement : ByteArray := prog_1_method_50_code
def yX1_leastElement : MethodName := ⟨RX1, "leastElement", "(Ljava/lang/Object;)I"⟩
def dkwX1_leastElement_1 : List UInt8 := [167, 0, 6, 19, 1, 7, 172]
abbrev dktX1_leastElement_1 : List UInt8 := dkwX1_leastElement_1 ++ []
def dkwX1_leastElement_0 : List UInt8 := [42, 193, 0, 168, 153, 0, 8, 16, 128, 167, 0, 19, 42, 193, 0, 254, 153, 0, 9, 17, 128, 0]
abbrev dktX1_leastElement_0 : List UInt8 := dkwX1_leastElement_0 ++ dktX1_leastElement_1
theorem dksX1_leastElement_0 : cX1_leastElement.data.toList.drop 0 = dktX1_leastElement_0 := by decide +kernel
theorem dksX1_leastElement_1 : cX1_leastElement.data.toList.drop 22 = dktX1_leastElement_1 := dk_seg dksX1_leastElement_0 22 rfl rfl
theorem dX1_leastElement_0 : decode cX1_leastElement 0 = .ok (.aload_n 0, 1) := dk_42 (dk_at dksX1_leastElement_0 0 rfl rfl)
theorem dX1_leastElement_1 : decode cX1_leastElement 1 = .ok (.instanceof 168, 3) := dk_193 0 168 (dk_at dksX1_leastElement_0 1 rfl rfl)
theorem dX1_leastElement_4 : decode cX1_leastElement 4 = .ok (.ifCond .eq 8, 3) := dk_153 0 8 (dk_at dksX1_leastElement_0 4 rfl rfl)
theorem dX1_leastElement_7 : decode cX1_leastElement 7 = .ok (.bipush (-128), 2) := dk_16 128 (dk_at dksX1_leastElement_0 7 rfl rfl)
theorem dX1_leastElement_9 : decode cX1_leastElement 9 = .ok (.goto 19, 3) := dk_167 0 19 (dk_at dksX1_leastElement_0 9 rfl rfl)
theorem dX1_leastElement_12 : decode cX1_leastElement 12 = .ok (.aload_n 0, 1) := dk_42 (dk_at dksX1_leastElement_0 12 rfl rfl)
theorem dX1_leastElement_13 : decode cX1_leastElement 13 = .ok (.instanceof 254, 3) := dk_193 0 254 (dk_at dksX1_leastElement_0 13 rfl rfl)
theorem dX1_leastElement_16 : decode cX1_leastElement 16 = .ok (.ifCond .eq 9, 3) := dk_153 0 9 (dk_at dksX1_leastElement_0 16 rfl rfl)
theorem dX1_leastElement_19 : decode cX1_leastElement 19 = .ok (.sipush (-32768), 3) := dk_17 128 0 (dk_at dksX1_leastElement_0 19 rfl rfl)
theorem dX1_leastElement_22 : decode cX1_leastElement 22 = .ok (.goto 6, 3) := dk_167 0 6 (dk_at dksX1_leastElement_1 0 rfl rfl)
theorem dX1_leastElement_25 : decode cX1_leastElement 25 = .ok (.ldc_w 263, 3) := dk_19 1 7 (dk_at dksX1_leastElement_1 3 rfl rfl)
theorem dX1_leastElement_28 : decode cX1_leastElement 28 = .ok (.ireturn, 1) := dk_172 (dk_at dksX1_leastElement_1 6 rfl rfl)
abbrev cX1_habits : ByteArray := prog_1_method_63_code
def yX1_habits : MethodName := ⟨RX1, "habits", "(I)I"⟩
def dkwX1_habits_3 : List UInt8 := [182, 1, 49, 153, 0, 10, 4, 21, 4, 120, 167, 0, 4, 3, 128, 62, 132, 4, 1, 167, 255, 197, 29, 172]
abbrev dktX1_habits_3 : List UInt8 := dkwX1_habits_3 ++ []
def dkwX1_habits_2 : List UInt8 := [42, 180, 0, 68, 182, 0, 200, 100, 21, 4, 79, 29, 42, 42, 180, 0, 158, 27, 50, 180, 0, 162]
abbrev dktX1_habits_2 : List UInt8 := dkwX1_habits_2 ++ dktX1_habits_3
def dkwX1_habits_1 : List UInt8 := [172, 3, 62, 3, 54, 4, 21, 4, 7, 162, 0, 59, 42, 182, 0, 212, 42, 180, 0, 68, 180, 0, 114, 4]
abbrev dktX1_habits_1 : List UInt8 := dkwX1_habits_1 ++ dktX1_habits_2
def dkwX1_habits_0 : List UInt8 := [42, 27, 182, 1, 42, 61, 28, 153, 0, 5, 28, 172, 42, 180, 0, 140, 180, 0, 100, 154, 0, 6, 16, 253]
abbrev dktX1_habits_0 : List UInt8 := dkwX1_habits_0 ++ dktX1_habits_1
theorem dksX1_habits_0 : cX1_habits.data.toList.drop 0 = dktX1_habits_0 := by decide +kernel
theorem dksX1_habits_1 : cX1_habits.data.toList.drop 24 = dktX1_habits_1 := dk_seg dksX1_habits_0 24 rfl rfl
theorem dksX1_habits_2 : cX1_habits.data.toList.drop 48 = dktX1_habits_2 := dk_seg dksX1_habits_1 24 rfl rfl
theorem dksX1_habits_3 : cX1_habits.data.toList.drop 70 = dktX1_habits_3 := dk_seg dksX1_habits_2 22 rfl rfl
theorem dX1_habits_0 : decode cX1_habits 0 = .ok (.aload_n 0, 1) := dk_42 (dk_at dksX1_habits_0 0 rfl rfl)
theorem dX1_habits_1 : decode cX1_habits 1 = .ok (.iload_n 1, 1) := dk_27 (dk_at dksX1_habits_0 1 rfl rfl)
theorem dX1_habits_2 : decode cX1_habits 2 = .ok (.invokevirtual 298, 3) := dk_182 1 42 (dk_at dksX1_habits_0 2 rfl rfl)
theorem dX1_habits_5 : decode cX1_habits 5 = .ok (.istore_n 2, 1) := dk_61 (dk_at dksX1_habits_0 5 rfl rfl)
theorem dX1_habits_6 : decode cX1_habits 6 = .ok (.iload_n 2, 1) := dk_28 (dk_at dksX1_habits_0 6 rfl rfl)
theorem dX1_habits_7 : decode cX1_habits 7 = .ok (.ifCond .eq 5, 3) := dk_153 0 5 (dk_at dksX1_habits_0 7 rfl rfl)
theorem dX1_habits_10 : decode cX1_habits 10 = .ok (.iload_n 2, 1) := dk_28 (dk_at dksX1_habits_0 10 rfl rfl)
theorem dX1_habits_11 : decode cX1_habits 11 = .ok (.ireturn, 1) := dk_172 (dk_at dksX1_habits_0 11 rfl rfl)
theorem dX1_habits_12 : decode cX1_habits 12 = .ok (.aload_n 0, 1) := dk_42 (dk_at dksX1_habits_0 12 rfl rfl)
theorem dX1_habits_13 : decode cX1_habits 13 = .ok (.getfield 140, 3) := dk_180 0 140 (dk_at dksX1_habits_0 13 rfl rfl)
theorem dX1_habits_16 : decode cX1_habits 16 = .ok (.getfield 100, 3) := dk_180 0 100 (dk_at dksX1_habits_0 16 rfl rfl)
theorem dX1_habits_19 : decode cX1_habits 19 = .ok (.ifCond .ne 6, 3) := dk_154 0 6 (dk_at dksX1_habits_0 19 rfl rfl)
theorem dX1_habits_22 : decode cX1_habits 22 = .ok (.bipush (-3), 2) := dk_16 253 (dk_at dksX1_habits_0 22 rfl rfl)
theorem dX1_habits_24 : decode cX1_habits 24 = .ok (.ireturn, 1) := dk_172 (dk_at dksX1_habits_1 0 rfl rfl)
theorem dX1_habits_25 : decode cX1_habits 25 = .ok (.iconst 0, 1) := dk_3 (dk_at dksX1_habits_1 1 rfl rfl)
theorem dX1_habits_26 : decode cX1_habits 26 = .ok (.istore_n 3, 1) := dk_62 (dk_at dksX1_habits_1 2 rfl rfl)
theorem dX1_habits_27 : decode cX1_habits 27 = .ok (.iconst 0, 1) := dk_3 (dk_at dksX1_habits_1 3 rfl rfl)
theorem dX1_habits_28 : decode cX1_habits 28 = .ok (.istore 4, 2) := dk_54 4 (dk_at dksX1_habits_1 4 rfl rfl)
theorem dX1_habits_30 : decode cX1_habits 30 = .ok (.iload 4, 2) := dk_21 4 (dk_at dksX1_habits_1 6 rfl rfl)
theorem dX1_habits_32 : decode cX1_habits 32 = .ok (.iconst 4, 1) := dk_7 (dk_at dksX1_habits_1 8 rfl rfl)
theorem dX1_habits_33 : decode cX1_habits 33 = .ok (.if_icmp .ge 59, 3) := dk_162 0 59 (dk_at dksX1_habits_1 9 rfl rfl)
theorem dX1_habits_36 : decode cX1_habits 36 = .ok (.aload_n 0, 1) := dk_42 (dk_at dksX1_habits_1 12 rfl rfl)
theorem dX1_habits_37 : decode cX1_habits 37 = .ok (.invokevirtual 212, 3) := dk_182 0 212 (dk_at dksX1_habits_1 13 rfl rfl)
theorem dX1_habits_40 : decode cX1_habits 40 = .ok (.aload_n 0, 1) := dk_42 (dk_at dksX1_habits_1 16 rfl rfl)
theorem dX1_habits_41 : decode cX1_habits 41 = .ok (.getfield 68, 3) := dk_180 0 68 (dk_at dksX1_habits_1 17 rfl rfl)
theorem dX1_habits_44 : decode cX1_habits 44 = .ok (.getfield 114, 3) := dk_180 0 114 (dk_at dksX1_habits_1 20 rfl rfl)
theorem dX1_habits_47 : decode cX1_habits 47 = .ok (.iconst 1, 1) := dk_4 (dk_at dksX1_habits_1 23 rfl rfl)
theorem dX1_habits_48 : decode cX1_habits 48 = .ok (.aload_n 0, 1) := dk_42 (dk_at dksX1_habits_2 0 rfl rfl)
theorem dX1_habits_49 : decode cX1_habits 49 = .ok (.getfield 68, 3) := dk_180 0 68 (dk_at dksX1_habits_2 1 rfl rfl)
theorem dX1_habits_52 : decode cX1_habits 52 = .ok (.invokevirtual 200, 3) := dk_182 0 200 (dk_at dksX1_habits_2 4 rfl rfl)
theorem dX1_habits_55 : decode cX1_habits 55 = .ok (.isub, 1) := dk_100 (dk_at dksX1_habits_2 7 rfl rfl)
theorem dX1_habits_56 : decode cX1_habits 56 = .ok (.iload 4, 2) := dk_21 4 (dk_at dksX1_habits_2 8 rfl rfl)
theorem dX1_habits_58 : decode cX1_habits 58 = .ok (.iastore, 1) := dk_79 (dk_at dksX1_habits_2 10 rfl rfl)
theorem dX1_habits_59 : decode cX1_habits 59 = .ok (.iload_n 3, 1) := dk_29 (dk_at dksX1_habits_2 11 rfl rfl)
theorem dX1_habits_60 : decode cX1_habits 60 = .ok (.aload_n 0, 1) := dk_42 (dk_at dksX1_habits_2 12 rfl rfl)
theorem dX1_habits_61 : decode cX1_habits 61 = .ok (.aload_n 0, 1) := dk_42 (dk_at dksX1_habits_2 13 rfl rfl)
theorem dX1_habits_62 : decode cX1_habits 62 = .ok (.getfield 158, 3) := dk_180 0 158 (dk_at dksX1_habits_2 14 rfl rfl)
theorem dX1_habits_65 : decode cX1_habits 65 = .ok (.iload_n 1, 1) := dk_27 (dk_at dksX1_habits_2 17 rfl rfl)
theorem dX1_habits_66 : decode cX1_habits 66 = .ok (.aaload, 1) := dk_50 (dk_at dksX1_habits_2 18 rfl rfl)
theorem dX1_habits_67 : decode cX1_habits 67 = .ok (.getfield 162, 3) := dk_180 0 162 (dk_at dksX1_habits_2 19 rfl rfl)
theorem dX1_habits_70 : decode cX1_habits 70 = .ok (.invokevirtual 305, 3) := dk_182 1 49 (dk_at dksX1_habits_3 0 rfl rfl)
theorem dX1_habits_73 : decode cX1_habits 73 = .ok (.ifCond .eq 10, 3) := dk_153 0 10 (dk_at dksX1_habits_3 3 rfl rfl)
theorem dX1_habits_76 : decode cX1_habits 76 = .ok (.iconst 1, 1) := dk_4 (dk_at dksX1_habits_3 6 rfl rfl)
theorem dX1_habits_77 : decode cX1_habits 77 = .ok (.iload 4, 2) := dk_21 4 (dk_at dksX1_habits_3 7 rfl rfl)
theorem dX1_habits_79 : decode cX1_habits 79 = .ok (.ishl, 1) := dk_120 (dk_at dksX1_habits_3 9 rfl rfl)
theorem dX1_habits_80 : decode cX1_habits 80 = .ok (.goto 4, 3) := dk_167 0 4 (dk_at dksX1_habits_3 10 rfl rfl)
theorem dX1_habits_83 : decode cX1_habits 83 = .ok (.iconst 0, 1) := dk_3 (dk_at dksX1_habits_3 13 rfl rfl)
theorem dX1_habits_84 : decode cX1_habits 84 = .ok (.ior, 1) := dk_128 (dk_at dksX1_habits_3 14 rfl rfl)
theorem dX1_habits_85 : decode cX1_habits 85 = .ok (.istore_n 3, 1) := dk_62 (dk_at dksX1_habits_3 15 rfl rfl)
theorem dX1_habits_86 : decode cX1_habits 86 = .ok (.iinc 4 1, 3) := dk_132 4 1 (dk_at dksX1_habits_3 16 rfl rfl)
theorem dX1_habits_89 : decode cX1_habits 89 = .ok (.goto (-59), 3) := dk_167 255 197 (dk_at dksX1_habits_3 19 rfl rfl)
theorem dX1_habits_92 : decode cX1_habits 92 = .ok (.iload_n 3, 1) := dk_29 (dk_at dksX1_habits_3 22 rfl rfl)
theorem dX1_habits_93 : decode cX1_habits 93 = .ok (.ireturn, 1) := dk_172 (dk_at dksX1_habits_3 23 rfl rfl)
abbrev cX1_wereSo : ByteArray := prog_1_method_62_code
def yX1_wereSo : MethodName := ⟨RX1, "wereSo", "(Ljava/lang/Object;)Z"⟩
def dkwX1_wereSo_2 : List UInt8 := [167, 255, 211, 4, 172]
abbrev dktX1_wereSo_2 : List UInt8 := dkwX1_wereSo_2 ++ []
def dkwX1_wereSo_1 : List UInt8 := [180, 0, 68, 42, 180, 0, 68, 3, 28, 182, 0, 216, 182, 0, 219, 159, 0, 5, 3, 172, 132, 2, 1]
abbrev dktX1_wereSo_1 : List UInt8 := dkwX1_wereSo_1 ++ dktX1_wereSo_2
def dkwX1_wereSo_0 : List UInt8 := [3, 61, 28, 43, 184, 1, 22, 162, 0, 43, 43, 28, 184, 1, 37, 154, 0, 29, 43, 28, 184, 1, 8, 42]
abbrev dktX1_wereSo_0 : List UInt8 := dkwX1_wereSo_0 ++ dktX1_wereSo_1
theorem dksX1_wereSo_0 : cX1_wereSo.data.toList.drop 0 = dktX1_wereSo_0 := by decide +kernel
theorem dksX1_wereSo_1 : cX1_wereSo.data.toList.drop 24 = dktX1_wereSo_1 := dk_seg dksX1_wereSo_0 24 rfl rfl
theorem dksX1_wereSo_2 : cX1_wereSo.data.toList.drop 47 = dktX1_wereSo_2 := dk_seg dksX1_wereSo_1 23 rfl rfl
theorem dX1_wereSo_0 : decode cX1_wereSo 0 = .ok (.iconst 0, 1) := dk_3 (dk_at dksX1_wereSo_0 0 rfl rfl)
theorem dX1_wereSo_1 : decode cX1_wereSo 1 = .ok (.istore_n 2, 1) := dk_61 (dk_at dksX1_wereSo_0 1 rfl rfl)
theorem dX1_wereSo_2 : decode cX1_wereSo 2 = .ok (.iload_n 2, 1) := dk_28 (dk_at dksX1_wereSo_0 2 rfl rfl)
theorem dX1_wereSo_3 : decode cX1_wereSo 3 = .ok (.aload_n 1, 1) := dk_43 (dk_at dksX1_wereSo_0 3 rfl rfl)
theorem dX1_wereSo_4 : decode cX1_wereSo 4 = .ok (.invokestatic 278, 3) := dk_184 1 22 (dk_at dksX1_wereSo_0 4 rfl rfl)
theorem dX1_wereSo_7 : decode cX1_wereSo 7 = .ok (.if_icmp .ge 43, 3) := dk_162 0 43 (dk_at dksX1_wereSo_0 7 rfl rfl)
theorem dX1_wereSo_10 : decode cX1_wereSo 10 = .ok (.aload_n 1, 1) := dk_43 (dk_at dksX1_wereSo_0 10 rfl rfl)
theorem dX1_wereSo_11 : decode cX1_wereSo 11 = .ok (.iload_n 2, 1) := dk_28 (dk_at dksX1_wereSo_0 11 rfl rfl)
theorem dX1_wereSo_12 : decode cX1_wereSo 12 = .ok (.invokestatic 293, 3) := dk_184 1 37 (dk_at dksX1_wereSo_0 12 rfl rfl)
theorem dX1_wereSo_15 : decode cX1_wereSo 15 = .ok (.ifCond .ne 29, 3) := dk_154 0 29 (dk_at dksX1_wereSo_0 15 rfl rfl)
theorem dX1_wereSo_18 : decode cX1_wereSo 18 = .ok (.aload_n 1, 1) := dk_43 (dk_at dksX1_wereSo_0 18 rfl rfl)
theorem dX1_wereSo_19 : decode cX1_wereSo 19 = .ok (.iload_n 2, 1) := dk_28 (dk_at dksX1_wereSo_0 19 rfl rfl)
theorem dX1_wereSo_20 : decode cX1_wereSo 20 = .ok (.invokestatic 264, 3) := dk_184 1 8 (dk_at dksX1_wereSo_0 20 rfl rfl)
theorem dX1_wereSo_23 : decode cX1_wereSo 23 = .ok (.aload_n 0, 1) := dk_42 (dk_at dksX1_wereSo_0 23 rfl rfl)
theorem dX1_wereSo_24 : decode cX1_wereSo 24 = .ok (.getfield 68, 3) := dk_180 0 68 (dk_at dksX1_wereSo_1 0 rfl rfl)
theorem dX1_wereSo_27 : decode cX1_wereSo 27 = .ok (.aload_n 0, 1) := dk_42 (dk_at dksX1_wereSo_1 3 rfl rfl)
theorem dX1_wereSo_28 : decode cX1_wereSo 28 = .ok (.getfield 68, 3) := dk_180 0 68 (dk_at dksX1_wereSo_1 4 rfl rfl)
theorem dX1_wereSo_31 : decode cX1_wereSo 31 = .ok (.iconst 0, 1) := dk_3 (dk_at dksX1_wereSo_1 7 rfl rfl)
theorem dX1_wereSo_32 : decode cX1_wereSo 32 = .ok (.iload_n 2, 1) := dk_28 (dk_at dksX1_wereSo_1 8 rfl rfl)
theorem dX1_wereSo_33 : decode cX1_wereSo 33 = .ok (.invokevirtual 216, 3) := dk_182 0 216 (dk_at dksX1_wereSo_1 9 rfl rfl)
theorem dX1_wereSo_36 : decode cX1_wereSo 36 = .ok (.invokevirtual 219, 3) := dk_182 0 219 (dk_at dksX1_wereSo_1 12 rfl rfl)
theorem dX1_wereSo_39 : decode cX1_wereSo 39 = .ok (.if_icmp .eq 5, 3) := dk_159 0 5 (dk_at dksX1_wereSo_1 15 rfl rfl)
theorem dX1_wereSo_42 : decode cX1_wereSo 42 = .ok (.iconst 0, 1) := dk_3 (dk_at dksX1_wereSo_1 18 rfl rfl)
theorem dX1_wereSo_43 : decode cX1_wereSo 43 = .ok (.ireturn, 1) := dk_172 (dk_at dksX1_wereSo_1 19 rfl rfl)
theorem dX1_wereSo_44 : decode cX1_wereSo 44 = .ok (.iinc 2 1, 3) := dk_132 2 1 (dk_at dksX1_wereSo_1 20 rfl rfl)
theorem dX1_wereSo_47 : decode cX1_wereSo 47 = .ok (.goto (-45), 3) := dk_167 255 211 (dk_at dksX1_wereSo_2 0 rfl rfl)
theorem dX1_wereSo_50 : decode cX1_wereSo 50 = .ok (.iconst 1, 1) := dk_4 (dk_at dksX1_wereSo_2 3 rfl rfl)
theorem dX1_wereSo_51 : decode cX1_wereSo 51 = .ok (.ireturn, 1) := dk_172 (dk_at dksX1_wereSo_2 4 rfl rfl)
abbrev cX1_two : ByteArray := prog_1_method_65_code
def yX1_two : MethodName := ⟨RX1, "two", "()I"⟩
def dkwX1_two_3 : List UInt8 := [172, 132, 1, 1, 167, 255, 195, 16, 252, 172]
abbrev dktX1_two_3 : List UInt8 := dkwX1_two_3 ++ []
def dkwX1_two_2 : List UInt8 := [28, 4, 29, 100, 4, 182, 1, 56, 42, 28, 29, 4, 182, 1, 56, 161, 0, 10, 16, 10, 28, 104, 29, 96]
abbrev dktX1_two_2 : List UInt8 := dkwX1_two_2 ++ dktX1_two_3
def dkwX1_two_1 : List UInt8 := [27, 5, 112, 62, 42, 4, 28, 100, 29, 3, 182, 1, 56, 42, 28, 29, 3, 182, 1, 56, 161, 0, 29, 42]
abbrev dktX1_two_1 : List UInt8 := dkwX1_two_1 ++ dktX1_two_2
def dkwX1_two_0 : List UInt8 := [42, 180, 0, 140, 180, 0, 100, 154, 0, 6, 16, 253, 172, 3, 60, 27, 7, 162, 0, 62, 27, 5, 108, 61]
abbrev dktX1_two_0 : List UInt8 := dkwX1_two_0 ++ dktX1_two_1
theorem dksX1_two_0 : cX1_two.data.toList.drop 0 = dktX1_two_0 := by decide +kernel
theorem dksX1_two_1 : cX1_two.data.toList.drop 24 = dktX1_two_1 := dk_seg dksX1_two_0 24 rfl rfl
theorem dksX1_two_2 : cX1_two.data.toList.drop 48 = dktX1_two_2 := dk_seg dksX1_two_1 24 rfl rfl
theorem dksX1_two_3 : cX1_two.data.toList.drop 72 = dktX1_two_3 := dk_seg dksX1_two_2 24 rfl rfl
theorem dX1_two_0 : decode cX1_two 0 = .ok (.aload_n 0, 1) := dk_42 (dk_at dksX1_two_0 0 rfl rfl)
theorem dX1_two_1 : decode cX1_two 1 = .ok (.getfield 140, 3) := dk_180 0 140 (dk_at dksX1_two_0 1 rfl rfl)
theorem dX1_two_4 : decode cX1_two 4 = .ok (.getfield 100, 3) := dk_180 0 100 (dk_at dksX1_two_0 4 rfl rfl)
theorem dX1_two_7 : decode cX1_two 7 = .ok (.ifCond .ne 6, 3) := dk_154 0 6 (dk_at dksX1_two_0 7 rfl rfl)
theorem dX1_two_10 : decode cX1_two 10 = .ok (.bipush (-3), 2) := dk_16 253 (dk_at dksX1_two_0 10 rfl rfl)
theorem dX1_two_12 : decode cX1_two 12 = .ok (.ireturn, 1) := dk_172 (dk_at dksX1_two_0 12 rfl rfl)
theorem dX1_two_13 : decode cX1_two 13 = .ok (.iconst 0, 1) := dk_3 (dk_at dksX1_two_0 13 rfl rfl)
theorem dX1_two_14 : decode cX1_two 14 = .ok (.istore_n 1, 1) := dk_60 (dk_at dksX1_two_0 14 rfl rfl)
theorem dX1_two_15 : decode cX1_two 15 = .ok (.iload_n 1, 1) := dk_27 (dk_at dksX1_two_0 15 rfl rfl)
theorem dX1_two_16 : decode cX1_two 16 = .ok (.iconst 4, 1) := dk_7 (dk_at dksX1_two_0 16 rfl rfl)
theorem dX1_two_17 : decode cX1_two 17 = .ok (.if_icmp .ge 62, 3) := dk_162 0 62 (dk_at dksX1_two_0 17 rfl rfl)
theorem dX1_two_20 : decode cX1_two 20 = .ok (.iload_n 1, 1) := dk_27 (dk_at dksX1_two_0 20 rfl rfl)
theorem dX1_two_21 : decode cX1_two 21 = .ok (.iconst 2, 1) := dk_5 (dk_at dksX1_two_0 21 rfl rfl)
theorem dX1_two_22 : decode cX1_two 22 = .ok (.idiv, 1) := dk_108 (dk_at dksX1_two_0 22 rfl rfl)
theorem dX1_two_23 : decode cX1_two 23 = .ok (.istore_n 2, 1) := dk_61 (dk_at dksX1_two_0 23 rfl rfl)
theorem dX1_two_24 : decode cX1_two 24 = .ok (.iload_n 1, 1) := dk_27 (dk_at dksX1_two_1 0 rfl rfl)
theorem dX1_two_25 : decode cX1_two 25 = .ok (.iconst 2, 1) := dk_5 (dk_at dksX1_two_1 1 rfl rfl)
theorem dX1_two_26 : decode cX1_two 26 = .ok (.irem, 1) := dk_112 (dk_at dksX1_two_1 2 rfl rfl)
theorem dX1_two_27 : decode cX1_two 27 = .ok (.istore_n 3, 1) := dk_62 (dk_at dksX1_two_1 3 rfl rfl)
theorem dX1_two_28 : decode cX1_two 28 = .ok (.aload_n 0, 1) := dk_42 (dk_at dksX1_two_1 4 rfl rfl)
theorem dX1_two_29 : decode cX1_two 29 = .ok (.iconst 1, 1) := dk_4 (dk_at dksX1_two_1 5 rfl rfl)
theorem dX1_two_30 : decode cX1_two 30 = .ok (.iload_n 2, 1) := dk_28 (dk_at dksX1_two_1 6 rfl rfl)
theorem dX1_two_31 : decode cX1_two 31 = .ok (.isub, 1) := dk_100 (dk_at dksX1_two_1 7 rfl rfl)
theorem dX1_two_32 : decode cX1_two 32 = .ok (.iload_n 3, 1) := dk_29 (dk_at dksX1_two_1 8 rfl rfl)
theorem dX1_two_33 : decode cX1_two 33 = .ok (.iconst 0, 1) := dk_3 (dk_at dksX1_two_1 9 rfl rfl)
theorem dX1_two_34 : decode cX1_two 34 = .ok (.invokevirtual 312, 3) := dk_182 1 56 (dk_at dksX1_two_1 10 rfl rfl)
theorem dX1_two_37 : decode cX1_two 37 = .ok (.aload_n 0, 1) := dk_42 (dk_at dksX1_two_1 13 rfl rfl)
theorem dX1_two_38 : decode cX1_two 38 = .ok (.iload_n 2, 1) := dk_28 (dk_at dksX1_two_1 14 rfl rfl)
theorem dX1_two_39 : decode cX1_two 39 = .ok (.iload_n 3, 1) := dk_29 (dk_at dksX1_two_1 15 rfl rfl)
theorem dX1_two_40 : decode cX1_two 40 = .ok (.iconst 0, 1) := dk_3 (dk_at dksX1_two_1 16 rfl rfl)
theorem dX1_two_41 : decode cX1_two 41 = .ok (.invokevirtual 312, 3) := dk_182 1 56 (dk_at dksX1_two_1 17 rfl rfl)
theorem dX1_two_44 : decode cX1_two 44 = .ok (.if_icmp .lt 29, 3) := dk_161 0 29 (dk_at dksX1_two_1 20 rfl rfl)
theorem dX1_two_47 : decode cX1_two 47 = .ok (.aload_n 0, 1) := dk_42 (dk_at dksX1_two_1 23 rfl rfl)
theorem dX1_two_48 : decode cX1_two 48 = .ok (.iload_n 2, 1) := dk_28 (dk_at dksX1_two_2 0 rfl rfl)
theorem dX1_two_49 : decode cX1_two 49 = .ok (.iconst 1, 1) := dk_4 (dk_at dksX1_two_2 1 rfl rfl)
theorem dX1_two_50 : decode cX1_two 50 = .ok (.iload_n 3, 1) := dk_29 (dk_at dksX1_two_2 2 rfl rfl)
theorem dX1_two_51 : decode cX1_two 51 = .ok (.isub, 1) := dk_100 (dk_at dksX1_two_2 3 rfl rfl)
theorem dX1_two_52 : decode cX1_two 52 = .ok (.iconst 1, 1) := dk_4 (dk_at dksX1_two_2 4 rfl rfl)
theorem dX1_two_53 : decode cX1_two 53 = .ok (.invokevirtual 312, 3) := dk_182 1 56 (dk_at dksX1_two_2 5 rfl rfl)
theorem dX1_two_56 : decode cX1_two 56 = .ok (.aload_n 0, 1) := dk_42 (dk_at dksX1_two_2 8 rfl rfl)
theorem dX1_two_57 : decode cX1_two 57 = .ok (.iload_n 2, 1) := dk_28 (dk_at dksX1_two_2 9 rfl rfl)
theorem dX1_two_58 : decode cX1_two 58 = .ok (.iload_n 3, 1) := dk_29 (dk_at dksX1_two_2 10 rfl rfl)
theorem dX1_two_59 : decode cX1_two 59 = .ok (.iconst 1, 1) := dk_4 (dk_at dksX1_two_2 11 rfl rfl)
theorem dX1_two_60 : decode cX1_two 60 = .ok (.invokevirtual 312, 3) := dk_182 1 56 (dk_at dksX1_two_2 12 rfl rfl)
theorem dX1_two_63 : decode cX1_two 63 = .ok (.if_icmp .lt 10, 3) := dk_161 0 10 (dk_at dksX1_two_2 15 rfl rfl)
theorem dX1_two_66 : decode cX1_two 66 = .ok (.bipush 10, 2) := dk_16 10 (dk_at dksX1_two_2 18 rfl rfl)
theorem dX1_two_68 : decode cX1_two 68 = .ok (.iload_n 2, 1) := dk_28 (dk_at dksX1_two_2 20 rfl rfl)
theorem dX1_two_69 : decode cX1_two 69 = .ok (.imul, 1) := dk_104 (dk_at dksX1_two_2 21 rfl rfl)
theorem dX1_two_70 : decode cX1_two 70 = .ok (.iload_n 3, 1) := dk_29 (dk_at dksX1_two_2 22 rfl rfl)
theorem dX1_two_71 : decode cX1_two 71 = .ok (.iadd, 1) := dk_96 (dk_at dksX1_two_2 23 rfl rfl)
theorem dX1_two_72 : decode cX1_two 72 = .ok (.ireturn, 1) := dk_172 (dk_at dksX1_two_3 0 rfl rfl)
theorem dX1_two_73 : decode cX1_two 73 = .ok (.iinc 1 1, 3) := dk_132 1 1 (dk_at dksX1_two_3 1 rfl rfl)
theorem dX1_two_76 : decode cX1_two 76 = .ok (.goto (-61), 3) := dk_167 255 195 (dk_at dksX1_two_3 4 rfl rfl)
theorem dX1_two_79 : decode cX1_two 79 = .ok (.bipush (-4), 2) := dk_16 252 (dk_at dksX1_two_3 7 rfl rfl)
theorem dX1_two_81 : decode cX1_two 81 = .ok (.ireturn, 1) := dk_172 (dk_at dksX1_two_3 9 rfl rfl)
abbrev cX1_costs : ByteArray := prog_1_method_64_code
def yX1_costs : MethodName := ⟨RX1, "costs", "(III)I"⟩
def dkwX1_costs_4 : List UInt8 := [180, 0, 52, 29, 46, 21, 4, 164, 0, 8, 16, 9, 167, 0, 4, 3, 100, 172]
abbrev dktX1_costs_4 : List UInt8 := dkwX1_costs_4 ++ []
def dkwX1_costs_3 : List UInt8 := [182, 0, 97, 54, 5, 132, 6, 1, 167, 255, 218, 42, 180, 0, 68, 29, 182, 1, 53, 42, 180, 0, 68]
abbrev dktX1_costs_3 : List UInt8 := dkwX1_costs_3 ++ dktX1_costs_4
def dkwX1_costs_2 : List UInt8 := [21, 5, 154, 0, 32, 42, 180, 0, 68, 3, 21, 6, 5, 112, 154, 0, 7, 3, 167, 0, 5, 16, 8]
abbrev dktX1_costs_2 : List UInt8 := dkwX1_costs_2 ++ dktX1_costs_3
def dkwX1_costs_1 : List UInt8 := [42, 180, 0, 68, 180, 0, 52, 29, 46, 54, 4, 3, 54, 5, 3, 54, 6, 21, 6, 16, 6, 162, 0, 37]
abbrev dktX1_costs_1 : List UInt8 := dkwX1_costs_1 ++ dktX1_costs_2
def dkwX1_costs_0 : List UInt8 := [42, 182, 0, 212, 42, 180, 0, 68, 180, 0, 111, 3, 27, 79, 42, 180, 0, 68, 180, 0, 111, 4, 28, 79]
abbrev dktX1_costs_0 : List UInt8 := dkwX1_costs_0 ++ dktX1_costs_1
theorem dksX1_costs_0 : cX1_costs.data.toList.drop 0 = dktX1_costs_0 := by decide +kernel
theorem dksX1_costs_1 : cX1_costs.data.toList.drop 24 = dktX1_costs_1 := dk_seg dksX1_costs_0 24 rfl rfl
theorem dksX1_costs_2 : cX1_costs.data.toList.drop 48 = dktX1_costs_2 := dk_seg dksX1_costs_1 24 rfl rfl
theorem dksX1_costs_3 : cX1_costs.data.toList.drop 71 = dktX1_costs_3 := dk_seg dksX1_costs_2 23 rfl rfl
theorem dksX1_costs_4 : cX1_costs.data.toList.drop 94 = dktX1_costs_4 := dk_seg dksX1_costs_3 23 rfl rfl
theorem dX1_costs_0 : decode cX1_costs 0 = .ok (.aload_n 0, 1) := dk_42 (dk_at dksX1_costs_0 0 rfl rfl)
theorem dX1_costs_1 : decode cX1_costs 1 = .ok (.invokevirtual 212, 3) := dk_182 0 212 (dk_at dksX1_costs_0 1 rfl rfl)
theorem dX1_costs_4 : decode cX1_costs 4 = .ok (.aload_n 0, 1) := dk_42 (dk_at dksX1_costs_0 4 rfl rfl)
theorem dX1_costs_5 : decode cX1_costs 5 = .ok (.getfield 68, 3) := dk_180 0 68 (dk_at dksX1_costs_0 5 rfl rfl)
theorem dX1_costs_8 : decode cX1_costs 8 = .ok (.getfield 111, 3) := dk_180 0 111 (dk_at dksX1_costs_0 8 rfl rfl)
theorem dX1_costs_11 : decode cX1_costs 11 = .ok (.iconst 0, 1) := dk_3 (dk_at dksX1_costs_0 11 rfl rfl)
theorem dX1_costs_12 : decode cX1_costs 12 = .ok (.iload_n 1, 1) := dk_27 (dk_at dksX1_costs_0 12 rfl rfl)
theorem dX1_costs_13 : decode cX1_costs 13 = .ok (.iastore, 1) := dk_79 (dk_at dksX1_costs_0 13 rfl rfl)
theorem dX1_costs_14 : decode cX1_costs 14 = .ok (.aload_n 0, 1) := dk_42 (dk_at dksX1_costs_0 14 rfl rfl)
theorem dX1_costs_15 : decode cX1_costs 15 = .ok (.getfield 68, 3) := dk_180 0 68 (dk_at dksX1_costs_0 15 rfl rfl)
theorem dX1_costs_18 : decode cX1_costs 18 = .ok (.getfield 111, 3) := dk_180 0 111 (dk_at dksX1_costs_0 18 rfl rfl)
theorem dX1_costs_21 : decode cX1_costs 21 = .ok (.iconst 1, 1) := dk_4 (dk_at dksX1_costs_0 21 rfl rfl)
theorem dX1_costs_22 : decode cX1_costs 22 = .ok (.iload_n 2, 1) := dk_28 (dk_at dksX1_costs_0 22 rfl rfl)
theorem dX1_costs_23 : decode cX1_costs 23 = .ok (.iastore, 1) := dk_79 (dk_at dksX1_costs_0 23 rfl rfl)
theorem dX1_costs_24 : decode cX1_costs 24 = .ok (.aload_n 0, 1) := dk_42 (dk_at dksX1_costs_1 0 rfl rfl)
theorem dX1_costs_25 : decode cX1_costs 25 = .ok (.getfield 68, 3) := dk_180 0 68 (dk_at dksX1_costs_1 1 rfl rfl)
theorem dX1_costs_28 : decode cX1_costs 28 = .ok (.getfield 52, 3) := dk_180 0 52 (dk_at dksX1_costs_1 4 rfl rfl)
theorem dX1_costs_31 : decode cX1_costs 31 = .ok (.iload_n 3, 1) := dk_29 (dk_at dksX1_costs_1 7 rfl rfl)
theorem dX1_costs_32 : decode cX1_costs 32 = .ok (.iaload, 1) := dk_46 (dk_at dksX1_costs_1 8 rfl rfl)
theorem dX1_costs_33 : decode cX1_costs 33 = .ok (.istore 4, 2) := dk_54 4 (dk_at dksX1_costs_1 9 rfl rfl)
theorem dX1_costs_35 : decode cX1_costs 35 = .ok (.iconst 0, 1) := dk_3 (dk_at dksX1_costs_1 11 rfl rfl)
theorem dX1_costs_36 : decode cX1_costs 36 = .ok (.istore 5, 2) := dk_54 5 (dk_at dksX1_costs_1 12 rfl rfl)
theorem dX1_costs_38 : decode cX1_costs 38 = .ok (.iconst 0, 1) := dk_3 (dk_at dksX1_costs_1 14 rfl rfl)
theorem dX1_costs_39 : decode cX1_costs 39 = .ok (.istore 6, 2) := dk_54 6 (dk_at dksX1_costs_1 15 rfl rfl)
theorem dX1_costs_41 : decode cX1_costs 41 = .ok (.iload 6, 2) := dk_21 6 (dk_at dksX1_costs_1 17 rfl rfl)
theorem dX1_costs_43 : decode cX1_costs 43 = .ok (.bipush 6, 2) := dk_16 6 (dk_at dksX1_costs_1 19 rfl rfl)
theorem dX1_costs_45 : decode cX1_costs 45 = .ok (.if_icmp .ge 37, 3) := dk_162 0 37 (dk_at dksX1_costs_1 21 rfl rfl)
theorem dX1_costs_48 : decode cX1_costs 48 = .ok (.iload 5, 2) := dk_21 5 (dk_at dksX1_costs_2 0 rfl rfl)
theorem dX1_costs_50 : decode cX1_costs 50 = .ok (.ifCond .ne 32, 3) := dk_154 0 32 (dk_at dksX1_costs_2 2 rfl rfl)
theorem dX1_costs_53 : decode cX1_costs 53 = .ok (.aload_n 0, 1) := dk_42 (dk_at dksX1_costs_2 5 rfl rfl)
theorem dX1_costs_54 : decode cX1_costs 54 = .ok (.getfield 68, 3) := dk_180 0 68 (dk_at dksX1_costs_2 6 rfl rfl)
theorem dX1_costs_57 : decode cX1_costs 57 = .ok (.iconst 0, 1) := dk_3 (dk_at dksX1_costs_2 9 rfl rfl)
theorem dX1_costs_58 : decode cX1_costs 58 = .ok (.iload 6, 2) := dk_21 6 (dk_at dksX1_costs_2 10 rfl rfl)
theorem dX1_costs_60 : decode cX1_costs 60 = .ok (.iconst 2, 1) := dk_5 (dk_at dksX1_costs_2 12 rfl rfl)
theorem dX1_costs_61 : decode cX1_costs 61 = .ok (.irem, 1) := dk_112 (dk_at dksX1_costs_2 13 rfl rfl)
theorem dX1_costs_62 : decode cX1_costs 62 = .ok (.ifCond .ne 7, 3) := dk_154 0 7 (dk_at dksX1_costs_2 14 rfl rfl)
theorem dX1_costs_65 : decode cX1_costs 65 = .ok (.iconst 0, 1) := dk_3 (dk_at dksX1_costs_2 17 rfl rfl)
theorem dX1_costs_66 : decode cX1_costs 66 = .ok (.goto 5, 3) := dk_167 0 5 (dk_at dksX1_costs_2 18 rfl rfl)
theorem dX1_costs_69 : decode cX1_costs 69 = .ok (.bipush 8, 2) := dk_16 8 (dk_at dksX1_costs_2 21 rfl rfl)
theorem dX1_costs_71 : decode cX1_costs 71 = .ok (.invokevirtual 97, 3) := dk_182 0 97 (dk_at dksX1_costs_3 0 rfl rfl)
theorem dX1_costs_74 : decode cX1_costs 74 = .ok (.istore 5, 2) := dk_54 5 (dk_at dksX1_costs_3 3 rfl rfl)
theorem dX1_costs_76 : decode cX1_costs 76 = .ok (.iinc 6 1, 3) := dk_132 6 1 (dk_at dksX1_costs_3 5 rfl rfl)
theorem dX1_costs_79 : decode cX1_costs 79 = .ok (.goto (-38), 3) := dk_167 255 218 (dk_at dksX1_costs_3 8 rfl rfl)
theorem dX1_costs_82 : decode cX1_costs 82 = .ok (.aload_n 0, 1) := dk_42 (dk_at dksX1_costs_3 11 rfl rfl)
theorem dX1_costs_83 : decode cX1_costs 83 = .ok (.getfield 68, 3) := dk_180 0 68 (dk_at dksX1_costs_3 12 rfl rfl)
theorem dX1_costs_86 : decode cX1_costs 86 = .ok (.iload_n 3, 1) := dk_29 (dk_at dksX1_costs_3 15 rfl rfl)
theorem dX1_costs_87 : decode cX1_costs 87 = .ok (.invokevirtual 309, 3) := dk_182 1 53 (dk_at dksX1_costs_3 16 rfl rfl)
theorem dX1_costs_90 : decode cX1_costs 90 = .ok (.aload_n 0, 1) := dk_42 (dk_at dksX1_costs_3 19 rfl rfl)
theorem dX1_costs_91 : decode cX1_costs 91 = .ok (.getfield 68, 3) := dk_180 0 68 (dk_at dksX1_costs_3 20 rfl rfl)
theorem dX1_costs_94 : decode cX1_costs 94 = .ok (.getfield 52, 3) := dk_180 0 52 (dk_at dksX1_costs_4 0 rfl rfl)
theorem dX1_costs_97 : decode cX1_costs 97 = .ok (.iload_n 3, 1) := dk_29 (dk_at dksX1_costs_4 3 rfl rfl)
theorem dX1_costs_98 : decode cX1_costs 98 = .ok (.iaload, 1) := dk_46 (dk_at dksX1_costs_4 4 rfl rfl)
theorem dX1_costs_99 : decode cX1_costs 99 = .ok (.iload 4, 2) := dk_21 4 (dk_at dksX1_costs_4 5 rfl rfl)
theorem dX1_costs_101 : decode cX1_costs 101 = .ok (.if_icmp .le 8, 3) := dk_164 0 8 (dk_at dksX1_costs_4 7 rfl rfl)
theorem dX1_costs_104 : decode cX1_costs 104 = .ok (.bipush 9, 2) := dk_16 9 (dk_at dksX1_costs_4 10 rfl rfl)
theorem dX1_costs_106 : decode cX1_costs 106 = .ok (.goto 4, 3) := dk_167 0 4 (dk_at dksX1_costs_4 12 rfl rfl)
theorem dX1_costs_109 : decode cX1_costs 109 = .ok (.iconst 0, 1) := dk_3 (dk_at dksX1_costs_4 15 rfl rfl)
theorem dX1_costs_110 : decode cX1_costs 110 = .ok (.isub, 1) := dk_100 (dk_at dksX1_costs_4 16 rfl rfl)
theorem dX1_costs_111 : decode cX1_costs 111 = .ok (.ireturn, 1) := dk_172 (dk_at dksX1_costs_4 17 rfl rfl)
abbrev cX1_draughts : ByteArray := prog_1_method_69_code
def yX1_draughts : MethodName := ⟨RX1, "draughts", "(III)J"⟩
def dkwX1_draughts_6 : List UInt8 := [97, 55, 4, 132, 8, 1, 167, 255, 183, 22, 4, 22, 6, 29, 184, 1, 74, 173]
abbrev dktX1_draughts_6 : List UInt8 := dkwX1_draughts_6 ++ []
def dkwX1_draughts_5 : List UInt8 := [132, 11, 1, 167, 255, 224, 22, 4, 42, 21, 8, 27, 182, 1, 71, 153, 0, 8, 22, 9, 167, 0, 4, 9]
abbrev dktX1_draughts_5 : List UInt8 := dkwX1_draughts_5 ++ dktX1_draughts_6
def dkwX1_draughts_4 : List UInt8 := [22, 9, 21, 8, 21, 11, 184, 1, 63, 153, 0, 7, 10, 167, 0, 7, 28, 4, 100, 133, 105, 55, 9]
abbrev dktX1_draughts_4 : List UInt8 := dkwX1_draughts_4 ++ dktX1_draughts_5
def dkwX1_draughts_3 : List UInt8 := [3, 54, 8, 21, 8, 4, 27, 120, 162, 0, 71, 10, 55, 9, 3, 54, 11, 21, 11, 27, 162, 0, 32]
abbrev dktX1_draughts_3 : List UInt8 := dkwX1_draughts_3 ++ dktX1_draughts_4
def dkwX1_draughts_2 : List UInt8 := [55, 6, 3, 54, 8, 21, 8, 27, 162, 0, 16, 22, 6, 28, 133, 105, 55, 6, 132, 8, 1, 167, 255, 240]
abbrev dktX1_draughts_2 : List UInt8 := dkwX1_draughts_2 ++ dktX1_draughts_3
def dkwX1_draughts_1 : List UInt8 := [184, 0, 42, 153, 0, 12, 29, 3, 4, 184, 0, 42, 154, 0, 7, 20, 1, 69, 173, 9, 55, 4, 10]
abbrev dktX1_draughts_1 : List UInt8 := dkwX1_draughts_1 ++ dktX1_draughts_2
def dkwX1_draughts_0 : List UInt8 := [27, 3, 8, 42, 180, 0, 140, 180, 0, 100, 184, 1, 66, 184, 0, 42, 153, 0, 22, 28, 5, 16, 20]
abbrev dktX1_draughts_0 : List UInt8 := dkwX1_draughts_0 ++ dktX1_draughts_1
theorem dksX1_draughts_0 : cX1_draughts.data.toList.drop 0 = dktX1_draughts_0 := by decide +kernel
theorem dksX1_draughts_1 : cX1_draughts.data.toList.drop 23 = dktX1_draughts_1 := dk_seg dksX1_draughts_0 23 rfl rfl
theorem dksX1_draughts_2 : cX1_draughts.data.toList.drop 46 = dktX1_draughts_2 := dk_seg dksX1_draughts_1 23 rfl rfl
theorem dksX1_draughts_3 : cX1_draughts.data.toList.drop 70 = dktX1_draughts_3 := dk_seg dksX1_draughts_2 24 rfl rfl
theorem dksX1_draughts_4 : cX1_draughts.data.toList.drop 93 = dktX1_draughts_4 := dk_seg dksX1_draughts_3 23 rfl rfl
theorem dksX1_draughts_5 : cX1_draughts.data.toList.drop 116 = dktX1_draughts_5 := dk_seg dksX1_draughts_4 23 rfl rfl
theorem dksX1_draughts_6 : cX1_draughts.data.toList.drop 140 = dktX1_draughts_6 := dk_seg dksX1_draughts_5 24 rfl rfl
theorem dX1_draughts_0 : decode cX1_draughts 0 = .ok (.iload_n 1, 1) := dk_27 (dk_at dksX1_draughts_0 0 rfl rfl)
theorem dX1_draughts_1 : decode cX1_draughts 1 = .ok (.iconst 0, 1) := dk_3 (dk_at dksX1_draughts_0 1 rfl rfl)
theorem dX1_draughts_2 : decode cX1_draughts 2 = .ok (.iconst 5, 1) := dk_8 (dk_at dksX1_draughts_0 2 rfl rfl)
theorem dX1_draughts_3 : decode cX1_draughts 3 = .ok (.aload_n 0, 1) := dk_42 (dk_at dksX1_draughts_0 3 rfl rfl)
theorem dX1_draughts_4 : decode cX1_draughts 4 = .ok (.getfield 140, 3) := dk_180 0 140 (dk_at dksX1_draughts_0 4 rfl rfl)
theorem dX1_draughts_7 : decode cX1_draughts 7 = .ok (.getfield 100, 3) := dk_180 0 100 (dk_at dksX1_draughts_0 7 rfl rfl)
theorem dX1_draughts_10 : decode cX1_draughts 10 = .ok (.invokestatic 322, 3) := dk_184 1 66 (dk_at dksX1_draughts_0 10 rfl rfl)
theorem dX1_draughts_13 : decode cX1_draughts 13 = .ok (.invokestatic 42, 3) := dk_184 0 42 (dk_at dksX1_draughts_0 13 rfl rfl)
theorem dX1_draughts_16 : decode cX1_draughts 16 = .ok (.ifCond .eq 22, 3) := dk_153 0 22 (dk_at dksX1_draughts_0 16 rfl rfl)
theorem dX1_draughts_19 : decode cX1_draughts 19 = .ok (.iload_n 2, 1) := dk_28 (dk_at dksX1_draughts_0 19 rfl rfl)
theorem dX1_draughts_20 : decode cX1_draughts 20 = .ok (.iconst 2, 1) := dk_5 (dk_at dksX1_draughts_0 20 rfl rfl)
theorem dX1_draughts_21 : decode cX1_draughts 21 = .ok (.bipush 20, 2) := dk_16 20 (dk_at dksX1_draughts_0 21 rfl rfl)
theorem dX1_draughts_23 : decode cX1_draughts 23 = .ok (.invokestatic 42, 3) := dk_184 0 42 (dk_at dksX1_draughts_1 0 rfl rfl)
theorem dX1_draughts_26 : decode cX1_draughts 26 = .ok (.ifCond .eq 12, 3) := dk_153 0 12 (dk_at dksX1_draughts_1 3 rfl rfl)
theorem dX1_draughts_29 : decode cX1_draughts 29 = .ok (.iload_n 3, 1) := dk_29 (dk_at dksX1_draughts_1 6 rfl rfl)
theorem dX1_draughts_30 : decode cX1_draughts 30 = .ok (.iconst 0, 1) := dk_3 (dk_at dksX1_draughts_1 7 rfl rfl)
theorem dX1_draughts_31 : decode cX1_draughts 31 = .ok (.iconst 1, 1) := dk_4 (dk_at dksX1_draughts_1 8 rfl rfl)
theorem dX1_draughts_32 : decode cX1_draughts 32 = .ok (.invokestatic 42, 3) := dk_184 0 42 (dk_at dksX1_draughts_1 9 rfl rfl)
theorem dX1_draughts_35 : decode cX1_draughts 35 = .ok (.ifCond .ne 7, 3) := dk_154 0 7 (dk_at dksX1_draughts_1 12 rfl rfl)
theorem dX1_draughts_38 : decode cX1_draughts 38 = .ok (.ldc2_w 325, 3) := dk_20 1 69 (dk_at dksX1_draughts_1 15 rfl rfl)
theorem dX1_draughts_41 : decode cX1_draughts 41 = .ok (.lreturn, 1) := dk_173 (dk_at dksX1_draughts_1 18 rfl rfl)
theorem dX1_draughts_42 : decode cX1_draughts 42 = .ok (.lconst 0, 1) := dk_9 (dk_at dksX1_draughts_1 19 rfl rfl)
theorem dX1_draughts_43 : decode cX1_draughts 43 = .ok (.lstore 4, 2) := dk_55 4 (dk_at dksX1_draughts_1 20 rfl rfl)
theorem dX1_draughts_45 : decode cX1_draughts 45 = .ok (.lconst 1, 1) := dk_10 (dk_at dksX1_draughts_1 22 rfl rfl)
theorem dX1_draughts_46 : decode cX1_draughts 46 = .ok (.lstore 6, 2) := dk_55 6 (dk_at dksX1_draughts_2 0 rfl rfl)
theorem dX1_draughts_48 : decode cX1_draughts 48 = .ok (.iconst 0, 1) := dk_3 (dk_at dksX1_draughts_2 2 rfl rfl)
theorem dX1_draughts_49 : decode cX1_draughts 49 = .ok (.istore 8, 2) := dk_54 8 (dk_at dksX1_draughts_2 3 rfl rfl)
theorem dX1_draughts_51 : decode cX1_draughts 51 = .ok (.iload 8, 2) := dk_21 8 (dk_at dksX1_draughts_2 5 rfl rfl)
theorem dX1_draughts_53 : decode cX1_draughts 53 = .ok (.iload_n 1, 1) := dk_27 (dk_at dksX1_draughts_2 7 rfl rfl)
theorem dX1_draughts_54 : decode cX1_draughts 54 = .ok (.if_icmp .ge 16, 3) := dk_162 0 16 (dk_at dksX1_draughts_2 8 rfl rfl)
theorem dX1_draughts_57 : decode cX1_draughts 57 = .ok (.lload 6, 2) := dk_22 6 (dk_at dksX1_draughts_2 11 rfl rfl)
theorem dX1_draughts_59 : decode cX1_draughts 59 = .ok (.iload_n 2, 1) := dk_28 (dk_at dksX1_draughts_2 13 rfl rfl)
theorem dX1_draughts_60 : decode cX1_draughts 60 = .ok (.i2l, 1) := dk_133 (dk_at dksX1_draughts_2 14 rfl rfl)
theorem dX1_draughts_61 : decode cX1_draughts 61 = .ok (.lmul, 1) := dk_105 (dk_at dksX1_draughts_2 15 rfl rfl)
theorem dX1_draughts_62 : decode cX1_draughts 62 = .ok (.lstore 6, 2) := dk_55 6 (dk_at dksX1_draughts_2 16 rfl rfl)
theorem dX1_draughts_64 : decode cX1_draughts 64 = .ok (.iinc 8 1, 3) := dk_132 8 1 (dk_at dksX1_draughts_2 18 rfl rfl)
theorem dX1_draughts_67 : decode cX1_draughts 67 = .ok (.goto (-16), 3) := dk_167 255 240 (dk_at dksX1_draughts_2 21 rfl rfl)
theorem dX1_draughts_70 : decode cX1_draughts 70 = .ok (.iconst 0, 1) := dk_3 (dk_at dksX1_draughts_3 0 rfl rfl)
theorem dX1_draughts_71 : decode cX1_draughts 71 = .ok (.istore 8, 2) := dk_54 8 (dk_at dksX1_draughts_3 1 rfl rfl)
theorem dX1_draughts_73 : decode cX1_draughts 73 = .ok (.iload 8, 2) := dk_21 8 (dk_at dksX1_draughts_3 3 rfl rfl)
theorem dX1_draughts_75 : decode cX1_draughts 75 = .ok (.iconst 1, 1) := dk_4 (dk_at dksX1_draughts_3 5 rfl rfl)
theorem dX1_draughts_76 : decode cX1_draughts 76 = .ok (.iload_n 1, 1) := dk_27 (dk_at dksX1_draughts_3 6 rfl rfl)
theorem dX1_draughts_77 : decode cX1_draughts 77 = .ok (.ishl, 1) := dk_120 (dk_at dksX1_draughts_3 7 rfl rfl)
theorem dX1_draughts_78 : decode cX1_draughts 78 = .ok (.if_icmp .ge 71, 3) := dk_162 0 71 (dk_at dksX1_draughts_3 8 rfl rfl)
theorem dX1_draughts_81 : decode cX1_draughts 81 = .ok (.lconst 1, 1) := dk_10 (dk_at dksX1_draughts_3 11 rfl rfl)
theorem dX1_draughts_82 : decode cX1_draughts 82 = .ok (.lstore 9, 2) := dk_55 9 (dk_at dksX1_draughts_3 12 rfl rfl)
theorem dX1_draughts_84 : decode cX1_draughts 84 = .ok (.iconst 0, 1) := dk_3 (dk_at dksX1_draughts_3 14 rfl rfl)
theorem dX1_draughts_85 : decode cX1_draughts 85 = .ok (.istore 11, 2) := dk_54 11 (dk_at dksX1_draughts_3 15 rfl rfl)
theorem dX1_draughts_87 : decode cX1_draughts 87 = .ok (.iload 11, 2) := dk_21 11 (dk_at dksX1_draughts_3 17 rfl rfl)
theorem dX1_draughts_89 : decode cX1_draughts 89 = .ok (.iload_n 1, 1) := dk_27 (dk_at dksX1_draughts_3 19 rfl rfl)
theorem dX1_draughts_90 : decode cX1_draughts 90 = .ok (.if_icmp .ge 32, 3) := dk_162 0 32 (dk_at dksX1_draughts_3 20 rfl rfl)
theorem dX1_draughts_93 : decode cX1_draughts 93 = .ok (.lload 9, 2) := dk_22 9 (dk_at dksX1_draughts_4 0 rfl rfl)
theorem dX1_draughts_95 : decode cX1_draughts 95 = .ok (.iload 8, 2) := dk_21 8 (dk_at dksX1_draughts_4 2 rfl rfl)
theorem dX1_draughts_97 : decode cX1_draughts 97 = .ok (.iload 11, 2) := dk_21 11 (dk_at dksX1_draughts_4 4 rfl rfl)
theorem dX1_draughts_99 : decode cX1_draughts 99 = .ok (.invokestatic 319, 3) := dk_184 1 63 (dk_at dksX1_draughts_4 6 rfl rfl)
theorem dX1_draughts_102 : decode cX1_draughts 102 = .ok (.ifCond .eq 7, 3) := dk_153 0 7 (dk_at dksX1_draughts_4 9 rfl rfl)
theorem dX1_draughts_105 : decode cX1_draughts 105 = .ok (.lconst 1, 1) := dk_10 (dk_at dksX1_draughts_4 12 rfl rfl)
theorem dX1_draughts_106 : decode cX1_draughts 106 = .ok (.goto 7, 3) := dk_167 0 7 (dk_at dksX1_draughts_4 13 rfl rfl)
theorem dX1_draughts_109 : decode cX1_draughts 109 = .ok (.iload_n 2, 1) := dk_28 (dk_at dksX1_draughts_4 16 rfl rfl)
theorem dX1_draughts_110 : decode cX1_draughts 110 = .ok (.iconst 1, 1) := dk_4 (dk_at dksX1_draughts_4 17 rfl rfl)
theorem dX1_draughts_111 : decode cX1_draughts 111 = .ok (.isub, 1) := dk_100 (dk_at dksX1_draughts_4 18 rfl rfl)
theorem dX1_draughts_112 : decode cX1_draughts 112 = .ok (.i2l, 1) := dk_133 (dk_at dksX1_draughts_4 19 rfl rfl)
theorem dX1_draughts_113 : decode cX1_draughts 113 = .ok (.lmul, 1) := dk_105 (dk_at dksX1_draughts_4 20 rfl rfl)
theorem dX1_draughts_114 : decode cX1_draughts 114 = .ok (.lstore 9, 2) := dk_55 9 (dk_at dksX1_draughts_4 21 rfl rfl)
theorem dX1_draughts_116 : decode cX1_draughts 116 = .ok (.iinc 11 1, 3) := dk_132 11 1 (dk_at dksX1_draughts_5 0 rfl rfl)
theorem dX1_draughts_119 : decode cX1_draughts 119 = .ok (.goto (-32), 3) := dk_167 255 224 (dk_at dksX1_draughts_5 3 rfl rfl)
theorem dX1_draughts_122 : decode cX1_draughts 122 = .ok (.lload 4, 2) := dk_22 4 (dk_at dksX1_draughts_5 6 rfl rfl)
theorem dX1_draughts_124 : decode cX1_draughts 124 = .ok (.aload_n 0, 1) := dk_42 (dk_at dksX1_draughts_5 8 rfl rfl)
theorem dX1_draughts_125 : decode cX1_draughts 125 = .ok (.iload 8, 2) := dk_21 8 (dk_at dksX1_draughts_5 9 rfl rfl)
theorem dX1_draughts_127 : decode cX1_draughts 127 = .ok (.iload_n 1, 1) := dk_27 (dk_at dksX1_draughts_5 11 rfl rfl)
theorem dX1_draughts_128 : decode cX1_draughts 128 = .ok (.invokevirtual 327, 3) := dk_182 1 71 (dk_at dksX1_draughts_5 12 rfl rfl)
theorem dX1_draughts_131 : decode cX1_draughts 131 = .ok (.ifCond .eq 8, 3) := dk_153 0 8 (dk_at dksX1_draughts_5 15 rfl rfl)
theorem dX1_draughts_134 : decode cX1_draughts 134 = .ok (.lload 9, 2) := dk_22 9 (dk_at dksX1_draughts_5 18 rfl rfl)
theorem dX1_draughts_136 : decode cX1_draughts 136 = .ok (.goto 4, 3) := dk_167 0 4 (dk_at dksX1_draughts_5 20 rfl rfl)
theorem dX1_draughts_139 : decode cX1_draughts 139 = .ok (.lconst 0, 1) := dk_9 (dk_at dksX1_draughts_5 23 rfl rfl)
theorem dX1_draughts_140 : decode cX1_draughts 140 = .ok (.ladd, 1) := dk_97 (dk_at dksX1_draughts_6 0 rfl rfl)
theorem dX1_draughts_141 : decode cX1_draughts 141 = .ok (.lstore 4, 2) := dk_55 4 (dk_at dksX1_draughts_6 1 rfl rfl)
theorem dX1_draughts_143 : decode cX1_draughts 143 = .ok (.iinc 8 1, 3) := dk_132 8 1 (dk_at dksX1_draughts_6 3 rfl rfl)
theorem dX1_draughts_146 : decode cX1_draughts 146 = .ok (.goto (-73), 3) := dk_167 255 183 (dk_at dksX1_draughts_6 6 rfl rfl)
theorem dX1_draughts_149 : decode cX1_draughts 149 = .ok (.lload 4, 2) := dk_22 4 (dk_at dksX1_draughts_6 9 rfl rfl)
theorem dX1_draughts_151 : decode cX1_draughts 151 = .ok (.lload 6, 2) := dk_22 6 (dk_at dksX1_draughts_6 11 rfl rfl)
theorem dX1_draughts_153 : decode cX1_draughts 153 = .ok (.iload_n 3, 1) := dk_29 (dk_at dksX1_draughts_6 13 rfl rfl)
theorem dX1_draughts_154 : decode cX1_draughts 154 = .ok (.invokestatic 330, 3) := dk_184 1 74 (dk_at dksX1_draughts_6 14 rfl rfl)
theorem dX1_draughts_157 : decode cX1_draughts 157 = .ok (.lreturn, 1) := dk_173 (dk_at dksX1_draughts_6 17 rfl rfl)
abbrev cX1_goesOn : ByteArray := prog_1_method_68_code
def yX1_goesOn : MethodName := ⟨RX1, "goesOn", "(II)Z"⟩
def dkwX1_goesOn_3 : List UInt8 := [3, 172]
abbrev dktX1_goesOn_3 : List UInt8 := dkwX1_goesOn_3 ++ []
def dkwX1_goesOn_2 : List UInt8 := [180, 0, 68, 21, 4, 5, 182, 0, 97, 62, 132, 4, 1, 167, 255, 205, 29, 154, 0, 7, 4, 167, 0, 4]
abbrev dktX1_goesOn_2 : List UInt8 := dkwX1_goesOn_2 ++ dktX1_goesOn_3
def dkwX1_goesOn_1 : List UInt8 := [21, 4, 184, 1, 63, 153, 0, 7, 4, 167, 0, 10, 42, 180, 0, 140, 180, 0, 117, 181, 0, 117, 42]
abbrev dktX1_goesOn_1 : List UInt8 := dkwX1_goesOn_1 ++ dktX1_goesOn_2
def dkwX1_goesOn_0 : List UInt8 := [42, 182, 0, 212, 3, 62, 3, 54, 4, 21, 4, 28, 162, 0, 51, 29, 154, 0, 47, 42, 180, 0, 68, 27]
abbrev dktX1_goesOn_0 : List UInt8 := dkwX1_goesOn_0 ++ dktX1_goesOn_1
theorem dksX1_goesOn_0 : cX1_goesOn.data.toList.drop 0 = dktX1_goesOn_0 := by decide +kernel
theorem dksX1_goesOn_1 : cX1_goesOn.data.toList.drop 24 = dktX1_goesOn_1 := dk_seg dksX1_goesOn_0 24 rfl rfl
theorem dksX1_goesOn_2 : cX1_goesOn.data.toList.drop 47 = dktX1_goesOn_2 := dk_seg dksX1_goesOn_1 23 rfl rfl
theorem dksX1_goesOn_3 : cX1_goesOn.data.toList.drop 71 = dktX1_goesOn_3 := dk_seg dksX1_goesOn_2 24 rfl rfl
theorem dX1_goesOn_0 : decode cX1_goesOn 0 = .ok (.aload_n 0, 1) := dk_42 (dk_at dksX1_goesOn_0 0 rfl rfl)
theorem dX1_goesOn_1 : decode cX1_goesOn 1 = .ok (.invokevirtual 212, 3) := dk_182 0 212 (dk_at dksX1_goesOn_0 1 rfl rfl)
theorem dX1_goesOn_4 : decode cX1_goesOn 4 = .ok (.iconst 0, 1) := dk_3 (dk_at dksX1_goesOn_0 4 rfl rfl)
theorem dX1_goesOn_5 : decode cX1_goesOn 5 = .ok (.istore_n 3, 1) := dk_62 (dk_at dksX1_goesOn_0 5 rfl rfl)
theorem dX1_goesOn_6 : decode cX1_goesOn 6 = .ok (.iconst 0, 1) := dk_3 (dk_at dksX1_goesOn_0 6 rfl rfl)
theorem dX1_goesOn_7 : decode cX1_goesOn 7 = .ok (.istore 4, 2) := dk_54 4 (dk_at dksX1_goesOn_0 7 rfl rfl)
theorem dX1_goesOn_9 : decode cX1_goesOn 9 = .ok (.iload 4, 2) := dk_21 4 (dk_at dksX1_goesOn_0 9 rfl rfl)
theorem dX1_goesOn_11 : decode cX1_goesOn 11 = .ok (.iload_n 2, 1) := dk_28 (dk_at dksX1_goesOn_0 11 rfl rfl)
theorem dX1_goesOn_12 : decode cX1_goesOn 12 = .ok (.if_icmp .ge 51, 3) := dk_162 0 51 (dk_at dksX1_goesOn_0 12 rfl rfl)
theorem dX1_goesOn_15 : decode cX1_goesOn 15 = .ok (.iload_n 3, 1) := dk_29 (dk_at dksX1_goesOn_0 15 rfl rfl)
theorem dX1_goesOn_16 : decode cX1_goesOn 16 = .ok (.ifCond .ne 47, 3) := dk_154 0 47 (dk_at dksX1_goesOn_0 16 rfl rfl)
theorem dX1_goesOn_19 : decode cX1_goesOn 19 = .ok (.aload_n 0, 1) := dk_42 (dk_at dksX1_goesOn_0 19 rfl rfl)
theorem dX1_goesOn_20 : decode cX1_goesOn 20 = .ok (.getfield 68, 3) := dk_180 0 68 (dk_at dksX1_goesOn_0 20 rfl rfl)
theorem dX1_goesOn_23 : decode cX1_goesOn 23 = .ok (.iload_n 1, 1) := dk_27 (dk_at dksX1_goesOn_0 23 rfl rfl)
theorem dX1_goesOn_24 : decode cX1_goesOn 24 = .ok (.iload 4, 2) := dk_21 4 (dk_at dksX1_goesOn_1 0 rfl rfl)
theorem dX1_goesOn_26 : decode cX1_goesOn 26 = .ok (.invokestatic 319, 3) := dk_184 1 63 (dk_at dksX1_goesOn_1 2 rfl rfl)
theorem dX1_goesOn_29 : decode cX1_goesOn 29 = .ok (.ifCond .eq 7, 3) := dk_153 0 7 (dk_at dksX1_goesOn_1 5 rfl rfl)
theorem dX1_goesOn_32 : decode cX1_goesOn 32 = .ok (.iconst 1, 1) := dk_4 (dk_at dksX1_goesOn_1 8 rfl rfl)
theorem dX1_goesOn_33 : decode cX1_goesOn 33 = .ok (.goto 10, 3) := dk_167 0 10 (dk_at dksX1_goesOn_1 9 rfl rfl)
theorem dX1_goesOn_36 : decode cX1_goesOn 36 = .ok (.aload_n 0, 1) := dk_42 (dk_at dksX1_goesOn_1 12 rfl rfl)
theorem dX1_goesOn_37 : decode cX1_goesOn 37 = .ok (.getfield 140, 3) := dk_180 0 140 (dk_at dksX1_goesOn_1 13 rfl rfl)
theorem dX1_goesOn_40 : decode cX1_goesOn 40 = .ok (.getfield 117, 3) := dk_180 0 117 (dk_at dksX1_goesOn_1 16 rfl rfl)
theorem dX1_goesOn_43 : decode cX1_goesOn 43 = .ok (.putfield 117, 3) := dk_181 0 117 (dk_at dksX1_goesOn_1 19 rfl rfl)
theorem dX1_goesOn_46 : decode cX1_goesOn 46 = .ok (.aload_n 0, 1) := dk_42 (dk_at dksX1_goesOn_1 22 rfl rfl)
theorem dX1_goesOn_47 : decode cX1_goesOn 47 = .ok (.getfield 68, 3) := dk_180 0 68 (dk_at dksX1_goesOn_2 0 rfl rfl)
theorem dX1_goesOn_50 : decode cX1_goesOn 50 = .ok (.iload 4, 2) := dk_21 4 (dk_at dksX1_goesOn_2 3 rfl rfl)
theorem dX1_goesOn_52 : decode cX1_goesOn 52 = .ok (.iconst 2, 1) := dk_5 (dk_at dksX1_goesOn_2 5 rfl rfl)
theorem dX1_goesOn_53 : decode cX1_goesOn 53 = .ok (.invokevirtual 97, 3) := dk_182 0 97 (dk_at dksX1_goesOn_2 6 rfl rfl)
theorem dX1_goesOn_56 : decode cX1_goesOn 56 = .ok (.istore_n 3, 1) := dk_62 (dk_at dksX1_goesOn_2 9 rfl rfl)
theorem dX1_goesOn_57 : decode cX1_goesOn 57 = .ok (.iinc 4 1, 3) := dk_132 4 1 (dk_at dksX1_goesOn_2 10 rfl rfl)
theorem dX1_goesOn_60 : decode cX1_goesOn 60 = .ok (.goto (-51), 3) := dk_167 255 205 (dk_at dksX1_goesOn_2 13 rfl rfl)
theorem dX1_goesOn_63 : decode cX1_goesOn 63 = .ok (.iload_n 3, 1) := dk_29 (dk_at dksX1_goesOn_2 16 rfl rfl)
theorem dX1_goesOn_64 : decode cX1_goesOn 64 = .ok (.ifCond .ne 7, 3) := dk_154 0 7 (dk_at dksX1_goesOn_2 17 rfl rfl)
theorem dX1_goesOn_67 : decode cX1_goesOn 67 = .ok (.iconst 1, 1) := dk_4 (dk_at dksX1_goesOn_2 20 rfl rfl)
theorem dX1_goesOn_68 : decode cX1_goesOn 68 = .ok (.goto 4, 3) := dk_167 0 4 (dk_at dksX1_goesOn_2 21 rfl rfl)
theorem dX1_goesOn_71 : decode cX1_goesOn 71 = .ok (.iconst 0, 1) := dk_3 (dk_at dksX1_goesOn_3 0 rfl rfl)
theorem dX1_goesOn_72 : decode cX1_goesOn 72 = .ok (.ireturn, 1) := dk_172 (dk_at dksX1_goesOn_3 1 rfl rfl)
abbrev cX1_partOf : ByteArray := prog_1_method_67_code
def yX1_partOf : MethodName := ⟨RX1, "partOf", "(JJI)J"⟩
def dkwX1_partOf_0 : List UInt8 := [21, 4, 154, 0, 7, 30, 167, 0, 4, 32, 30, 32, 184, 1, 59, 109, 173]
abbrev dktX1_partOf_0 : List UInt8 := dkwX1_partOf_0 ++ []
theorem dksX1_partOf_0 : cX1_partOf.data.toList.drop 0 = dktX1_partOf_0 := by decide +kernel
theorem dX1_partOf_0 : decode cX1_partOf 0 = .ok (.iload 4, 2) := dk_21 4 (dk_at dksX1_partOf_0 0 rfl rfl)
theorem dX1_partOf_2 : decode cX1_partOf 2 = .ok (.ifCond .ne 7, 3) := dk_154 0 7 (dk_at dksX1_partOf_0 2 rfl rfl)
theorem dX1_partOf_5 : decode cX1_partOf 5 = .ok (.lload_n 0, 1) := dk_30 (dk_at dksX1_partOf_0 5 rfl rfl)
theorem dX1_partOf_6 : decode cX1_partOf 6 = .ok (.goto 4, 3) := dk_167 0 4 (dk_at dksX1_partOf_0 6 rfl rfl)
theorem dX1_partOf_9 : decode cX1_partOf 9 = .ok (.lload_n 2, 1) := dk_32 (dk_at dksX1_partOf_0 9 rfl rfl)
theorem dX1_partOf_10 : decode cX1_partOf 10 = .ok (.lload_n 0, 1) := dk_30 (dk_at dksX1_partOf_0 10 rfl rfl)
theorem dX1_partOf_11 : decode cX1_partOf 11 = .ok (.lload_n 2, 1) := dk_32 (dk_at dksX1_partOf_0 11 rfl rfl)
theorem dX1_partOf_12 : decode cX1_partOf 12 = .ok (.invokestatic 315, 3) := dk_184 1 59 (dk_at dksX1_partOf_0 12 rfl rfl)
theorem dX1_partOf_15 : decode cX1_partOf 15 = .ok (.ldiv, 1) := dk_109 (dk_at dksX1_partOf_0 15 rfl rfl)
theorem dX1_partOf_16 : decode cX1_partOf 16 = .ok (.lreturn, 1) := dk_173 (dk_at dksX1_partOf_0 16 rfl rfl)
abbrev cX1_divisor : ByteArray := prog_1_method_66_code
def yX1_divisor : MethodName := ⟨RX1, "divisor", "(JJ)J"⟩
def dkwX1_divisor_0 : List UInt8 := [32, 9, 148, 154, 0, 7, 30, 167, 0, 10, 32, 30, 32, 113, 184, 1, 59, 173]
abbrev dktX1_divisor_0 : List UInt8 := dkwX1_divisor_0 ++ []
theorem dksX1_divisor_0 : cX1_divisor.data.toList.drop 0 = dktX1_divisor_0 := by decide +kernel
theorem dX1_divisor_0 : decode cX1_divisor 0 = .ok (.lload_n 2, 1) := dk_32 (dk_at dksX1_divisor_0 0 rfl rfl)
theorem dX1_divisor_1 : decode cX1_divisor 1 = .ok (.lconst 0, 1) := dk_9 (dk_at dksX1_divisor_0 1 rfl rfl)
theorem dX1_divisor_2 : decode cX1_divisor 2 = .ok (.lcmp, 1) := dk_148 (dk_at dksX1_divisor_0 2 rfl rfl)
theorem dX1_divisor_3 : decode cX1_divisor 3 = .ok (.ifCond .ne 7, 3) := dk_154 0 7 (dk_at dksX1_divisor_0 3 rfl rfl)
theorem dX1_divisor_6 : decode cX1_divisor 6 = .ok (.lload_n 0, 1) := dk_30 (dk_at dksX1_divisor_0 6 rfl rfl)
theorem dX1_divisor_7 : decode cX1_divisor 7 = .ok (.goto 10, 3) := dk_167 0 10 (dk_at dksX1_divisor_0 7 rfl rfl)
theorem dX1_divisor_10 : decode cX1_divisor 10 = .ok (.lload_n 2, 1) := dk_32 (dk_at dksX1_divisor_0 10 rfl rfl)
theorem dX1_divisor_11 : decode cX1_divisor 11 = .ok (.lload_n 0, 1) := dk_30 (dk_at dksX1_divisor_0 11 rfl rfl)
theorem dX1_divisor_12 : decode cX1_divisor 12 = .ok (.lload_n 2, 1) := dk_32 (dk_at dksX1_divisor_0 12 rfl rfl)
theorem dX1_divisor_13 : decode cX1_divisor 13 = .ok (.lrem, 1) := dk_113 (dk_at dksX1_divisor_0 13 rfl rfl)
theorem dX1_divisor_14 : decode cX1_divisor 14 = .ok (.invokestatic 315, 3) := dk_184 1 59 (dk_at dksX1_divisor_0 14 rfl rfl)
theorem dX1_divisor_17 : decode cX1_divisor 17 = .ok (.lreturn, 1) := dk_173 (dk_at dksX1_divisor_0 17 rfl rfl)
abbrev cX1_mean : ByteArray := prog_1_method_70_code
def yX1_mean : MethodName := ⟨RX1, "mean", "(I)J"⟩
def dkwX1_mean_1 : List UInt8 := [180, 0, 140, 4, 182, 1, 53, 96, 133, 20, 1, 78, 27, 184, 1, 74, 173]
abbrev dktX1_mean_1 : List UInt8 := dkwX1_mean_1 ++ []
def dkwX1_mean_0 : List UInt8 := [27, 3, 4, 184, 0, 42, 154, 0, 7, 20, 1, 69, 173, 42, 180, 0, 140, 3, 182, 1, 53, 42]
abbrev dktX1_mean_0 : List UInt8 := dkwX1_mean_0 ++ dktX1_mean_1
theorem dksX1_mean_0 : cX1_mean.data.toList.drop 0 = dktX1_mean_0 := by decide +kernel
theorem dksX1_mean_1 : cX1_mean.data.toList.drop 22 = dktX1_mean_1 := dk_seg dksX1_mean_0 22 rfl rfl
theorem dX1_mean_0 : decode cX1_mean 0 = .ok (.iload_n 1, 1) := dk_27 (dk_at dksX1_mean_0 0 rfl rfl)
theorem dX1_mean_1 : decode cX1_mean 1 = .ok (.iconst 0, 1) := dk_3 (dk_at dksX1_mean_0 1 rfl rfl)
theorem dX1_mean_2 : decode cX1_mean 2 = .ok (.iconst 1, 1) := dk_4 (dk_at dksX1_mean_0 2 rfl rfl)
theorem dX1_mean_3 : decode cX1_mean 3 = .ok (.invokestatic 42, 3) := dk_184 0 42 (dk_at dksX1_mean_0 3 rfl rfl)
theorem dX1_mean_6 : decode cX1_mean 6 = .ok (.ifCond .ne 7, 3) := dk_154 0 7 (dk_at dksX1_mean_0 6 rfl rfl)
theorem dX1_mean_9 : decode cX1_mean 9 = .ok (.ldc2_w 325, 3) := dk_20 1 69 (dk_at dksX1_mean_0 9 rfl rfl)
theorem dX1_mean_12 : decode cX1_mean 12 = .ok (.lreturn, 1) := dk_173 (dk_at dksX1_mean_0 12 rfl rfl)
theorem dX1_mean_13 : decode cX1_mean 13 = .ok (.aload_n 0, 1) := dk_42 (dk_at dksX1_mean_0 13 rfl rfl)
theorem dX1_mean_14 : decode cX1_mean 14 = .ok (.getfield 140, 3) := dk_180 0 140 (dk_at dksX1_mean_0 14 rfl rfl)
theorem dX1_mean_17 : decode cX1_mean 17 = .ok (.iconst 0, 1) := dk_3 (dk_at dksX1_mean_0 17 rfl rfl)
theorem dX1_mean_18 : decode cX1_mean 18 = .ok (.invokevirtual 309, 3) := dk_182 1 53 (dk_at dksX1_mean_0 18 rfl rfl)
theorem dX1_mean_21 : decode cX1_mean 21 = .ok (.aload_n 0, 1) := dk_42 (dk_at dksX1_mean_0 21 rfl rfl)
theorem dX1_mean_22 : decode cX1_mean 22 = .ok (.getfield 140, 3) := dk_180 0 140 (dk_at dksX1_mean_1 0 rfl rfl)
theorem dX1_mean_25 : decode cX1_mean 25 = .ok (.iconst 1, 1) := dk_4 (dk_at dksX1_mean_1 3 rfl rfl)
theorem dX1_mean_26 : decode cX1_mean 26 = .ok (.invokevirtual 309, 3) := dk_182 1 53 (dk_at dksX1_mean_1 4 rfl rfl)
theorem dX1_mean_29 : decode cX1_mean 29 = .ok (.iadd, 1) := dk_96 (dk_at dksX1_mean_1 7 rfl rfl)
theorem dX1_mean_30 : decode cX1_mean 30 = .ok (.i2l, 1) := dk_133 (dk_at dksX1_mean_1 8 rfl rfl)
theorem dX1_mean_31 : decode cX1_mean 31 = .ok (.ldc2_w 334, 3) := dk_20 1 78 (dk_at dksX1_mean_1 9 rfl rfl)
theorem dX1_mean_34 : decode cX1_mean 34 = .ok (.iload_n 1, 1) := dk_27 (dk_at dksX1_mean_1 12 rfl rfl)
theorem dX1_mean_35 : decode cX1_mean 35 = .ok (.invokestatic 330, 3) := dk_184 1 74 (dk_at dksX1_mean_1 13 rfl rfl)
theorem dX1_mean_38 : decode cX1_mean 38 = .ok (.lreturn, 1) := dk_173 (dk_at dksX1_mean_1 16 rfl rfl)
abbrev cX1_forged : ByteArray := prog_1_method_71_code
def yX1_forged : MethodName := ⟨RX1, "forged", "(I)I"⟩
def dkwX1_forged_5 : List UInt8 := [172]
abbrev dktX1_forged_5 : List UInt8 := dkwX1_forged_5 ++ []
def dkwX1_forged_4 : List UInt8 := [21, 5, 172, 42, 180, 0, 68, 21, 6, 21, 7, 182, 0, 97, 54, 4, 132, 5, 1, 167, 255, 188, 16, 252]
abbrev dktX1_forged_4 : List UInt8 := dkwX1_forged_4 ++ dktX1_forged_5
def dkwX1_forged_3 : List UInt8 := [104, 4, 96, 184, 1, 8, 54, 7, 21, 4, 154, 0, 14, 42, 21, 6, 21, 7, 182, 0, 209, 154, 0, 6]
abbrev dktX1_forged_3 : List UInt8 := dkwX1_forged_3 ++ dktX1_forged_4
def dkwX1_forged_2 : List UInt8 := [21, 5, 104, 45, 184, 1, 22, 162, 0, 63, 45, 5, 21, 5, 104, 184, 1, 8, 54, 6, 45, 5, 21, 5]
abbrev dktX1_forged_2 : List UInt8 := dkwX1_forged_2 ++ dktX1_forged_3
def dkwX1_forged_1 : List UInt8 := [184, 1, 22, 5, 112, 4, 160, 0, 6, 16, 243, 172, 42, 182, 0, 212, 3, 54, 4, 3, 54, 5, 5]
abbrev dktX1_forged_1 : List UInt8 := dkwX1_forged_1 ++ dktX1_forged_2
def dkwX1_forged_0 : List UInt8 := [42, 27, 182, 1, 19, 61, 28, 153, 0, 5, 28, 172, 42, 180, 0, 158, 27, 50, 180, 0, 162, 78, 45]
abbrev dktX1_forged_0 : List UInt8 := dkwX1_forged_0 ++ dktX1_forged_1
theorem dksX1_forged_0 : cX1_forged.data.toList.drop 0 = dktX1_forged_0 := by decide +kernel
theorem dksX1_forged_1 : cX1_forged.data.toList.drop 23 = dktX1_forged_1 := dk_seg dksX1_forged_0 23 rfl rfl
theorem dksX1_forged_2 : cX1_forged.data.toList.drop 46 = dktX1_forged_2 := dk_seg dksX1_forged_1 23 rfl rfl
theorem dksX1_forged_3 : cX1_forged.data.toList.drop 70 = dktX1_forged_3 := dk_seg dksX1_forged_2 24 rfl rfl
theorem dksX1_forged_4 : cX1_forged.data.toList.drop 94 = dktX1_forged_4 := dk_seg dksX1_forged_3 24 rfl rfl
theorem dksX1_forged_5 : cX1_forged.data.toList.drop 118 = dktX1_forged_5 := dk_seg dksX1_forged_4 24 rfl rfl
theorem dX1_forged_0 : decode cX1_forged 0 = .ok (.aload_n 0, 1) := dk_42 (dk_at dksX1_forged_0 0 rfl rfl)
theorem dX1_forged_1 : decode cX1_forged 1 = .ok (.iload_n 1, 1) := dk_27 (dk_at dksX1_forged_0 1 rfl rfl)
theorem dX1_forged_2 : decode cX1_forged 2 = .ok (.invokevirtual 275, 3) := dk_182 1 19 (dk_at dksX1_forged_0 2 rfl rfl)
theorem dX1_forged_5 : decode cX1_forged 5 = .ok (.istore_n 2, 1) := dk_61 (dk_at dksX1_forged_0 5 rfl rfl)
theorem dX1_forged_6 : decode cX1_forged 6 = .ok (.iload_n 2, 1) := dk_28 (dk_at dksX1_forged_0 6 rfl rfl)
theorem dX1_forged_7 : decode cX1_forged 7 = .ok (.ifCond .eq 5, 3) := dk_153 0 5 (dk_at dksX1_forged_0 7 rfl rfl)
theorem dX1_forged_10 : decode cX1_forged 10 = .ok (.iload_n 2, 1) := dk_28 (dk_at dksX1_forged_0 10 rfl rfl)
theorem dX1_forged_11 : decode cX1_forged 11 = .ok (.ireturn, 1) := dk_172 (dk_at dksX1_forged_0 11 rfl rfl)
theorem dX1_forged_12 : decode cX1_forged 12 = .ok (.aload_n 0, 1) := dk_42 (dk_at dksX1_forged_0 12 rfl rfl)
theorem dX1_forged_13 : decode cX1_forged 13 = .ok (.getfield 158, 3) := dk_180 0 158 (dk_at dksX1_forged_0 13 rfl rfl)
theorem dX1_forged_16 : decode cX1_forged 16 = .ok (.iload_n 1, 1) := dk_27 (dk_at dksX1_forged_0 16 rfl rfl)
theorem dX1_forged_17 : decode cX1_forged 17 = .ok (.aaload, 1) := dk_50 (dk_at dksX1_forged_0 17 rfl rfl)
theorem dX1_forged_18 : decode cX1_forged 18 = .ok (.getfield 162, 3) := dk_180 0 162 (dk_at dksX1_forged_0 18 rfl rfl)
theorem dX1_forged_21 : decode cX1_forged 21 = .ok (.astore_n 3, 1) := dk_78 (dk_at dksX1_forged_0 21 rfl rfl)
theorem dX1_forged_22 : decode cX1_forged 22 = .ok (.aload_n 3, 1) := dk_45 (dk_at dksX1_forged_0 22 rfl rfl)
theorem dX1_forged_23 : decode cX1_forged 23 = .ok (.invokestatic 278, 3) := dk_184 1 22 (dk_at dksX1_forged_1 0 rfl rfl)
theorem dX1_forged_26 : decode cX1_forged 26 = .ok (.iconst 2, 1) := dk_5 (dk_at dksX1_forged_1 3 rfl rfl)
theorem dX1_forged_27 : decode cX1_forged 27 = .ok (.irem, 1) := dk_112 (dk_at dksX1_forged_1 4 rfl rfl)
theorem dX1_forged_28 : decode cX1_forged 28 = .ok (.iconst 1, 1) := dk_4 (dk_at dksX1_forged_1 5 rfl rfl)
theorem dX1_forged_29 : decode cX1_forged 29 = .ok (.if_icmp .ne 6, 3) := dk_160 0 6 (dk_at dksX1_forged_1 6 rfl rfl)
theorem dX1_forged_32 : decode cX1_forged 32 = .ok (.bipush (-13), 2) := dk_16 243 (dk_at dksX1_forged_1 9 rfl rfl)
theorem dX1_forged_34 : decode cX1_forged 34 = .ok (.ireturn, 1) := dk_172 (dk_at dksX1_forged_1 11 rfl rfl)
theorem dX1_forged_35 : decode cX1_forged 35 = .ok (.aload_n 0, 1) := dk_42 (dk_at dksX1_forged_1 12 rfl rfl)
theorem dX1_forged_36 : decode cX1_forged 36 = .ok (.invokevirtual 212, 3) := dk_182 0 212 (dk_at dksX1_forged_1 13 rfl rfl)
theorem dX1_forged_39 : decode cX1_forged 39 = .ok (.iconst 0, 1) := dk_3 (dk_at dksX1_forged_1 16 rfl rfl)
theorem dX1_forged_40 : decode cX1_forged 40 = .ok (.istore 4, 2) := dk_54 4 (dk_at dksX1_forged_1 17 rfl rfl)
theorem dX1_forged_42 : decode cX1_forged 42 = .ok (.iconst 0, 1) := dk_3 (dk_at dksX1_forged_1 19 rfl rfl)
theorem dX1_forged_43 : decode cX1_forged 43 = .ok (.istore 5, 2) := dk_54 5 (dk_at dksX1_forged_1 20 rfl rfl)
theorem dX1_forged_45 : decode cX1_forged 45 = .ok (.iconst 2, 1) := dk_5 (dk_at dksX1_forged_1 22 rfl rfl)
theorem dX1_forged_46 : decode cX1_forged 46 = .ok (.iload 5, 2) := dk_21 5 (dk_at dksX1_forged_2 0 rfl rfl)
theorem dX1_forged_48 : decode cX1_forged 48 = .ok (.imul, 1) := dk_104 (dk_at dksX1_forged_2 2 rfl rfl)
theorem dX1_forged_49 : decode cX1_forged 49 = .ok (.aload_n 3, 1) := dk_45 (dk_at dksX1_forged_2 3 rfl rfl)
theorem dX1_forged_50 : decode cX1_forged 50 = .ok (.invokestatic 278, 3) := dk_184 1 22 (dk_at dksX1_forged_2 4 rfl rfl)
theorem dX1_forged_53 : decode cX1_forged 53 = .ok (.if_icmp .ge 63, 3) := dk_162 0 63 (dk_at dksX1_forged_2 7 rfl rfl)
theorem dX1_forged_56 : decode cX1_forged 56 = .ok (.aload_n 3, 1) := dk_45 (dk_at dksX1_forged_2 10 rfl rfl)
theorem dX1_forged_57 : decode cX1_forged 57 = .ok (.iconst 2, 1) := dk_5 (dk_at dksX1_forged_2 11 rfl rfl)
theorem dX1_forged_58 : decode cX1_forged 58 = .ok (.iload 5, 2) := dk_21 5 (dk_at dksX1_forged_2 12 rfl rfl)
theorem dX1_forged_60 : decode cX1_forged 60 = .ok (.imul, 1) := dk_104 (dk_at dksX1_forged_2 14 rfl rfl)
theorem dX1_forged_61 : decode cX1_forged 61 = .ok (.invokestatic 264, 3) := dk_184 1 8 (dk_at dksX1_forged_2 15 rfl rfl)
theorem dX1_forged_64 : decode cX1_forged 64 = .ok (.istore 6, 2) := dk_54 6 (dk_at dksX1_forged_2 18 rfl rfl)
theorem dX1_forged_66 : decode cX1_forged 66 = .ok (.aload_n 3, 1) := dk_45 (dk_at dksX1_forged_2 20 rfl rfl)
theorem dX1_forged_67 : decode cX1_forged 67 = .ok (.iconst 2, 1) := dk_5 (dk_at dksX1_forged_2 21 rfl rfl)
theorem dX1_forged_68 : decode cX1_forged 68 = .ok (.iload 5, 2) := dk_21 5 (dk_at dksX1_forged_2 22 rfl rfl)
theorem dX1_forged_70 : decode cX1_forged 70 = .ok (.imul, 1) := dk_104 (dk_at dksX1_forged_3 0 rfl rfl)
theorem dX1_forged_71 : decode cX1_forged 71 = .ok (.iconst 1, 1) := dk_4 (dk_at dksX1_forged_3 1 rfl rfl)
theorem dX1_forged_72 : decode cX1_forged 72 = .ok (.iadd, 1) := dk_96 (dk_at dksX1_forged_3 2 rfl rfl)
theorem dX1_forged_73 : decode cX1_forged 73 = .ok (.invokestatic 264, 3) := dk_184 1 8 (dk_at dksX1_forged_3 3 rfl rfl)
theorem dX1_forged_76 : decode cX1_forged 76 = .ok (.istore 7, 2) := dk_54 7 (dk_at dksX1_forged_3 6 rfl rfl)
theorem dX1_forged_78 : decode cX1_forged 78 = .ok (.iload 4, 2) := dk_21 4 (dk_at dksX1_forged_3 8 rfl rfl)
theorem dX1_forged_80 : decode cX1_forged 80 = .ok (.ifCond .ne 14, 3) := dk_154 0 14 (dk_at dksX1_forged_3 10 rfl rfl)
theorem dX1_forged_83 : decode cX1_forged 83 = .ok (.aload_n 0, 1) := dk_42 (dk_at dksX1_forged_3 13 rfl rfl)
theorem dX1_forged_84 : decode cX1_forged 84 = .ok (.iload 6, 2) := dk_21 6 (dk_at dksX1_forged_3 14 rfl rfl)
theorem dX1_forged_86 : decode cX1_forged 86 = .ok (.iload 7, 2) := dk_21 7 (dk_at dksX1_forged_3 16 rfl rfl)
theorem dX1_forged_88 : decode cX1_forged 88 = .ok (.invokevirtual 209, 3) := dk_182 0 209 (dk_at dksX1_forged_3 18 rfl rfl)
theorem dX1_forged_91 : decode cX1_forged 91 = .ok (.ifCond .ne 6, 3) := dk_154 0 6 (dk_at dksX1_forged_3 21 rfl rfl)
theorem dX1_forged_94 : decode cX1_forged 94 = .ok (.iload 5, 2) := dk_21 5 (dk_at dksX1_forged_4 0 rfl rfl)
theorem dX1_forged_96 : decode cX1_forged 96 = .ok (.ireturn, 1) := dk_172 (dk_at dksX1_forged_4 2 rfl rfl)
theorem dX1_forged_97 : decode cX1_forged 97 = .ok (.aload_n 0, 1) := dk_42 (dk_at dksX1_forged_4 3 rfl rfl)
theorem dX1_forged_98 : decode cX1_forged 98 = .ok (.getfield 68, 3) := dk_180 0 68 (dk_at dksX1_forged_4 4 rfl rfl)
theorem dX1_forged_101 : decode cX1_forged 101 = .ok (.iload 6, 2) := dk_21 6 (dk_at dksX1_forged_4 7 rfl rfl)
theorem dX1_forged_103 : decode cX1_forged 103 = .ok (.iload 7, 2) := dk_21 7 (dk_at dksX1_forged_4 9 rfl rfl)
theorem dX1_forged_105 : decode cX1_forged 105 = .ok (.invokevirtual 97, 3) := dk_182 0 97 (dk_at dksX1_forged_4 11 rfl rfl)
theorem dX1_forged_108 : decode cX1_forged 108 = .ok (.istore 4, 2) := dk_54 4 (dk_at dksX1_forged_4 14 rfl rfl)
theorem dX1_forged_110 : decode cX1_forged 110 = .ok (.iinc 5 1, 3) := dk_132 5 1 (dk_at dksX1_forged_4 16 rfl rfl)
theorem dX1_forged_113 : decode cX1_forged 113 = .ok (.goto (-68), 3) := dk_167 255 188 (dk_at dksX1_forged_4 19 rfl rfl)
theorem dX1_forged_116 : decode cX1_forged 116 = .ok (.bipush (-4), 2) := dk_16 252 (dk_at dksX1_forged_4 22 rfl rfl)
theorem dX1_forged_118 : decode cX1_forged 118 = .ok (.ireturn, 1) := dk_172 (dk_at dksX1_forged_5 0 rfl rfl)
abbrev cX1_judge : ByteArray := prog_1_method_72_code
def yX1_judge : MethodName := ⟨RX1, "judge", "(I)I"⟩
def dkwX1_judge_4 : List UInt8 := [167, 0, 5, 16, 8, 182, 0, 97, 87, 132, 4, 1, 167, 255, 194, 16, 252, 172]
abbrev dktX1_judge_4 : List UInt8 := dkwX1_judge_4 ++ []
def dkwX1_judge_3 : List UInt8 := [182, 1, 80, 159, 0, 6, 21, 4, 172, 42, 180, 0, 68, 3, 21, 4, 5, 112, 154, 0, 7, 3]
abbrev dktX1_judge_3 : List UInt8 := dkwX1_judge_3 ++ dktX1_judge_4
def dkwX1_judge_2 : List UInt8 := [162, 0, 59, 45, 21, 4, 184, 1, 37, 154, 0, 22, 45, 21, 4, 184, 1, 8, 42, 180, 0, 68]
abbrev dktX1_judge_2 : List UInt8 := dkwX1_judge_2 ++ dktX1_judge_3
def dkwX1_judge_1 : List UInt8 := [172, 42, 180, 0, 158, 27, 50, 180, 0, 162, 78, 42, 182, 0, 212, 3, 54, 4, 21, 4, 45, 184, 1, 22]
abbrev dktX1_judge_1 : List UInt8 := dkwX1_judge_1 ++ dktX1_judge_2
def dkwX1_judge_0 : List UInt8 := [42, 27, 182, 1, 19, 61, 28, 153, 0, 5, 28, 172, 42, 180, 0, 140, 180, 0, 100, 154, 0, 6, 16, 253]
abbrev dktX1_judge_0 : List UInt8 := dkwX1_judge_0 ++ dktX1_judge_1
theorem dksX1_judge_0 : cX1_judge.data.toList.drop 0 = dktX1_judge_0 := by decide +kernel
theorem dksX1_judge_1 : cX1_judge.data.toList.drop 24 = dktX1_judge_1 := dk_seg dksX1_judge_0 24 rfl rfl
theorem dksX1_judge_2 : cX1_judge.data.toList.drop 48 = dktX1_judge_2 := dk_seg dksX1_judge_1 24 rfl rfl
theorem dksX1_judge_3 : cX1_judge.data.toList.drop 70 = dktX1_judge_3 := dk_seg dksX1_judge_2 22 rfl rfl
theorem dksX1_judge_4 : cX1_judge.data.toList.drop 92 = dktX1_judge_4 := dk_seg dksX1_judge_3 22 rfl rfl
theorem dX1_judge_0 : decode cX1_judge 0 = .ok (.aload_n 0, 1) := dk_42 (dk_at dksX1_judge_0 0 rfl rfl)
theorem dX1_judge_1 : decode cX1_judge 1 = .ok (.iload_n 1, 1) := dk_27 (dk_at dksX1_judge_0 1 rfl rfl)
theorem dX1_judge_2 : decode cX1_judge 2 = .ok (.invokevirtual 275, 3) := dk_182 1 19 (dk_at dksX1_judge_0 2 rfl rfl)
theorem dX1_judge_5 : decode cX1_judge 5 = .ok (.istore_n 2, 1) := dk_61 (dk_at dksX1_judge_0 5 rfl rfl)
theorem dX1_judge_6 : decode cX1_judge 6 = .ok (.iload_n 2, 1) := dk_28 (dk_at dksX1_judge_0 6 rfl rfl)
theorem dX1_judge_7 : decode cX1_judge 7 = .ok (.ifCond .eq 5, 3) := dk_153 0 5 (dk_at dksX1_judge_0 7 rfl rfl)
theorem dX1_judge_10 : decode cX1_judge 10 = .ok (.iload_n 2, 1) := dk_28 (dk_at dksX1_judge_0 10 rfl rfl)
theorem dX1_judge_11 : decode cX1_judge 11 = .ok (.ireturn, 1) := dk_172 (dk_at dksX1_judge_0 11 rfl rfl)
theorem dX1_judge_12 : decode cX1_judge 12 = .ok (.aload_n 0, 1) := dk_42 (dk_at dksX1_judge_0 12 rfl rfl)
theorem dX1_judge_13 : decode cX1_judge 13 = .ok (.getfield 140, 3) := dk_180 0 140 (dk_at dksX1_judge_0 13 rfl rfl)
theorem dX1_judge_16 : decode cX1_judge 16 = .ok (.getfield 100, 3) := dk_180 0 100 (dk_at dksX1_judge_0 16 rfl rfl)
theorem dX1_judge_19 : decode cX1_judge 19 = .ok (.ifCond .ne 6, 3) := dk_154 0 6 (dk_at dksX1_judge_0 19 rfl rfl)
theorem dX1_judge_22 : decode cX1_judge 22 = .ok (.bipush (-3), 2) := dk_16 253 (dk_at dksX1_judge_0 22 rfl rfl)
theorem dX1_judge_24 : decode cX1_judge 24 = .ok (.ireturn, 1) := dk_172 (dk_at dksX1_judge_1 0 rfl rfl)
theorem dX1_judge_25 : decode cX1_judge 25 = .ok (.aload_n 0, 1) := dk_42 (dk_at dksX1_judge_1 1 rfl rfl)
theorem dX1_judge_26 : decode cX1_judge 26 = .ok (.getfield 158, 3) := dk_180 0 158 (dk_at dksX1_judge_1 2 rfl rfl)
theorem dX1_judge_29 : decode cX1_judge 29 = .ok (.iload_n 1, 1) := dk_27 (dk_at dksX1_judge_1 5 rfl rfl)
theorem dX1_judge_30 : decode cX1_judge 30 = .ok (.aaload, 1) := dk_50 (dk_at dksX1_judge_1 6 rfl rfl)
theorem dX1_judge_31 : decode cX1_judge 31 = .ok (.getfield 162, 3) := dk_180 0 162 (dk_at dksX1_judge_1 7 rfl rfl)
theorem dX1_judge_34 : decode cX1_judge 34 = .ok (.astore_n 3, 1) := dk_78 (dk_at dksX1_judge_1 10 rfl rfl)
theorem dX1_judge_35 : decode cX1_judge 35 = .ok (.aload_n 0, 1) := dk_42 (dk_at dksX1_judge_1 11 rfl rfl)
theorem dX1_judge_36 : decode cX1_judge 36 = .ok (.invokevirtual 212, 3) := dk_182 0 212 (dk_at dksX1_judge_1 12 rfl rfl)
theorem dX1_judge_39 : decode cX1_judge 39 = .ok (.iconst 0, 1) := dk_3 (dk_at dksX1_judge_1 15 rfl rfl)
theorem dX1_judge_40 : decode cX1_judge 40 = .ok (.istore 4, 2) := dk_54 4 (dk_at dksX1_judge_1 16 rfl rfl)
theorem dX1_judge_42 : decode cX1_judge 42 = .ok (.iload 4, 2) := dk_21 4 (dk_at dksX1_judge_1 18 rfl rfl)
theorem dX1_judge_44 : decode cX1_judge 44 = .ok (.aload_n 3, 1) := dk_45 (dk_at dksX1_judge_1 20 rfl rfl)
theorem dX1_judge_45 : decode cX1_judge 45 = .ok (.invokestatic 278, 3) := dk_184 1 22 (dk_at dksX1_judge_1 21 rfl rfl)
theorem dX1_judge_48 : decode cX1_judge 48 = .ok (.if_icmp .ge 59, 3) := dk_162 0 59 (dk_at dksX1_judge_2 0 rfl rfl)
theorem dX1_judge_51 : decode cX1_judge 51 = .ok (.aload_n 3, 1) := dk_45 (dk_at dksX1_judge_2 3 rfl rfl)
theorem dX1_judge_52 : decode cX1_judge 52 = .ok (.iload 4, 2) := dk_21 4 (dk_at dksX1_judge_2 4 rfl rfl)
theorem dX1_judge_54 : decode cX1_judge 54 = .ok (.invokestatic 293, 3) := dk_184 1 37 (dk_at dksX1_judge_2 6 rfl rfl)
theorem dX1_judge_57 : decode cX1_judge 57 = .ok (.ifCond .ne 22, 3) := dk_154 0 22 (dk_at dksX1_judge_2 9 rfl rfl)
theorem dX1_judge_60 : decode cX1_judge 60 = .ok (.aload_n 3, 1) := dk_45 (dk_at dksX1_judge_2 12 rfl rfl)
theorem dX1_judge_61 : decode cX1_judge 61 = .ok (.iload 4, 2) := dk_21 4 (dk_at dksX1_judge_2 13 rfl rfl)
theorem dX1_judge_63 : decode cX1_judge 63 = .ok (.invokestatic 264, 3) := dk_184 1 8 (dk_at dksX1_judge_2 15 rfl rfl)
theorem dX1_judge_66 : decode cX1_judge 66 = .ok (.aload_n 0, 1) := dk_42 (dk_at dksX1_judge_2 18 rfl rfl)
theorem dX1_judge_67 : decode cX1_judge 67 = .ok (.getfield 68, 3) := dk_180 0 68 (dk_at dksX1_judge_2 19 rfl rfl)
theorem dX1_judge_70 : decode cX1_judge 70 = .ok (.invokevirtual 336, 3) := dk_182 1 80 (dk_at dksX1_judge_3 0 rfl rfl)
theorem dX1_judge_73 : decode cX1_judge 73 = .ok (.if_icmp .eq 6, 3) := dk_159 0 6 (dk_at dksX1_judge_3 3 rfl rfl)
theorem dX1_judge_76 : decode cX1_judge 76 = .ok (.iload 4, 2) := dk_21 4 (dk_at dksX1_judge_3 6 rfl rfl)
theorem dX1_judge_78 : decode cX1_judge 78 = .ok (.ireturn, 1) := dk_172 (dk_at dksX1_judge_3 8 rfl rfl)
theorem dX1_judge_79 : decode cX1_judge 79 = .ok (.aload_n 0, 1) := dk_42 (dk_at dksX1_judge_3 9 rfl rfl)
theorem dX1_judge_80 : decode cX1_judge 80 = .ok (.getfield 68, 3) := dk_180 0 68 (dk_at dksX1_judge_3 10 rfl rfl)
theorem dX1_judge_83 : decode cX1_judge 83 = .ok (.iconst 0, 1) := dk_3 (dk_at dksX1_judge_3 13 rfl rfl)
theorem dX1_judge_84 : decode cX1_judge 84 = .ok (.iload 4, 2) := dk_21 4 (dk_at dksX1_judge_3 14 rfl rfl)
theorem dX1_judge_86 : decode cX1_judge 86 = .ok (.iconst 2, 1) := dk_5 (dk_at dksX1_judge_3 16 rfl rfl)
theorem dX1_judge_87 : decode cX1_judge 87 = .ok (.irem, 1) := dk_112 (dk_at dksX1_judge_3 17 rfl rfl)
theorem dX1_judge_88 : decode cX1_judge 88 = .ok (.ifCond .ne 7, 3) := dk_154 0 7 (dk_at dksX1_judge_3 18 rfl rfl)
theorem dX1_judge_91 : decode cX1_judge 91 = .ok (.iconst 0, 1) := dk_3 (dk_at dksX1_judge_3 21 rfl rfl)
theorem dX1_judge_92 : decode cX1_judge 92 = .ok (.goto 5, 3) := dk_167 0 5 (dk_at dksX1_judge_4 0 rfl rfl)
theorem dX1_judge_95 : decode cX1_judge 95 = .ok (.bipush 8, 2) := dk_16 8 (dk_at dksX1_judge_4 3 rfl rfl)
theorem dX1_judge_97 : decode cX1_judge 97 = .ok (.invokevirtual 97, 3) := dk_182 0 97 (dk_at dksX1_judge_4 5 rfl rfl)
theorem dX1_judge_100 : decode cX1_judge 100 = .ok (.pop, 1) := dk_87 (dk_at dksX1_judge_4 8 rfl rfl)
theorem dX1_judge_101 : decode cX1_judge 101 = .ok (.iinc 4 1, 3) := dk_132 4 1 (dk_at dksX1_judge_4 9 rfl rfl)
theorem dX1_judge_104 : decode cX1_judge 104 = .ok (.goto (-62), 3) := dk_167 255 194 (dk_at dksX1_judge_4 12 rfl rfl)
theorem dX1_judge_107 : decode cX1_judge 107 = .ok (.bipush (-4), 2) := dk_16 252 (dk_at dksX1_judge_4 15 rfl rfl)
theorem dX1_judge_109 : decode cX1_judge 109 = .ok (.ireturn, 1) := dk_172 (dk_at dksX1_judge_4 17 rfl rfl)
abbrev cX1_nights : ByteArray := prog_1_method_74_code
def yX1_nights : MethodName := ⟨RX1, "nights", "(III)I"⟩
def dkwX1_nights_5 : List UInt8 := [180, 0, 140, 180, 0, 52, 29, 46, 100, 96, 54, 4, 132, 5, 1, 167, 255, 174, 21, 4, 172]
abbrev dktX1_nights_5 : List UInt8 := dkwX1_nights_5 ++ []
def dkwX1_nights_4 : List UInt8 := [182, 0, 97, 87, 132, 6, 1, 167, 255, 217, 21, 4, 42, 180, 0, 68, 180, 0, 52, 29, 46, 42]
abbrev dktX1_nights_4 : List UInt8 := dkwX1_nights_4 ++ dktX1_nights_5
def dkwX1_nights_3 : List UInt8 := [180, 0, 68, 180, 0, 100, 182, 1, 89, 54, 7, 42, 180, 0, 68, 21, 7, 42, 16, 9, 182, 1, 89]
abbrev dktX1_nights_3 : List UInt8 := dkwX1_nights_3 ++ dktX1_nights_4
def dkwX1_nights_2 : List UInt8 := [21, 5, 27, 162, 0, 82, 42, 182, 0, 212, 3, 54, 6, 21, 6, 16, 12, 162, 0, 38, 42, 42]
abbrev dktX1_nights_2 : List UInt8 := dkwX1_nights_2 ++ dktX1_nights_3
def dkwX1_nights_1 : List UInt8 := [180, 0, 140, 180, 0, 100, 154, 0, 6, 16, 253, 172, 42, 28, 181, 1, 83, 3, 54, 4, 3, 54, 5]
abbrev dktX1_nights_1 : List UInt8 := dkwX1_nights_1 ++ dktX1_nights_2
def dkwX1_nights_0 : List UInt8 := [27, 4, 16, 20, 184, 0, 42, 153, 0, 12, 29, 3, 4, 184, 0, 42, 154, 0, 5, 2, 172, 42]
abbrev dktX1_nights_0 : List UInt8 := dkwX1_nights_0 ++ dktX1_nights_1
theorem dksX1_nights_0 : cX1_nights.data.toList.drop 0 = dktX1_nights_0 := by decide +kernel
theorem dksX1_nights_1 : cX1_nights.data.toList.drop 22 = dktX1_nights_1 := dk_seg dksX1_nights_0 22 rfl rfl
theorem dksX1_nights_2 : cX1_nights.data.toList.drop 45 = dktX1_nights_2 := dk_seg dksX1_nights_1 23 rfl rfl
theorem dksX1_nights_3 : cX1_nights.data.toList.drop 67 = dktX1_nights_3 := dk_seg dksX1_nights_2 22 rfl rfl
theorem dksX1_nights_4 : cX1_nights.data.toList.drop 90 = dktX1_nights_4 := dk_seg dksX1_nights_3 23 rfl rfl
theorem dksX1_nights_5 : cX1_nights.data.toList.drop 112 = dktX1_nights_5 := dk_seg dksX1_nights_4 22 rfl rfl
theorem dX1_nights_0 : decode cX1_nights 0 = .ok (.iload_n 1, 1) := dk_27 (dk_at dksX1_nights_0 0 rfl rfl)
theorem dX1_nights_1 : decode cX1_nights 1 = .ok (.iconst 1, 1) := dk_4 (dk_at dksX1_nights_0 1 rfl rfl)
theorem dX1_nights_2 : decode cX1_nights 2 = .ok (.bipush 20, 2) := dk_16 20 (dk_at dksX1_nights_0 2 rfl rfl)
theorem dX1_nights_4 : decode cX1_nights 4 = .ok (.invokestatic 42, 3) := dk_184 0 42 (dk_at dksX1_nights_0 4 rfl rfl)
theorem dX1_nights_7 : decode cX1_nights 7 = .ok (.ifCond .eq 12, 3) := dk_153 0 12 (dk_at dksX1_nights_0 7 rfl rfl)
theorem dX1_nights_10 : decode cX1_nights 10 = .ok (.iload_n 3, 1) := dk_29 (dk_at dksX1_nights_0 10 rfl rfl)
theorem dX1_nights_11 : decode cX1_nights 11 = .ok (.iconst 0, 1) := dk_3 (dk_at dksX1_nights_0 11 rfl rfl)
theorem dX1_nights_12 : decode cX1_nights 12 = .ok (.iconst 1, 1) := dk_4 (dk_at dksX1_nights_0 12 rfl rfl)
theorem dX1_nights_13 : decode cX1_nights 13 = .ok (.invokestatic 42, 3) := dk_184 0 42 (dk_at dksX1_nights_0 13 rfl rfl)
theorem dX1_nights_16 : decode cX1_nights 16 = .ok (.ifCond .ne 5, 3) := dk_154 0 5 (dk_at dksX1_nights_0 16 rfl rfl)
theorem dX1_nights_19 : decode cX1_nights 19 = .ok (.iconst (-1), 1) := dk_2 (dk_at dksX1_nights_0 19 rfl rfl)
theorem dX1_nights_20 : decode cX1_nights 20 = .ok (.ireturn, 1) := dk_172 (dk_at dksX1_nights_0 20 rfl rfl)
theorem dX1_nights_21 : decode cX1_nights 21 = .ok (.aload_n 0, 1) := dk_42 (dk_at dksX1_nights_0 21 rfl rfl)
theorem dX1_nights_22 : decode cX1_nights 22 = .ok (.getfield 140, 3) := dk_180 0 140 (dk_at dksX1_nights_1 0 rfl rfl)
theorem dX1_nights_25 : decode cX1_nights 25 = .ok (.getfield 100, 3) := dk_180 0 100 (dk_at dksX1_nights_1 3 rfl rfl)
theorem dX1_nights_28 : decode cX1_nights 28 = .ok (.ifCond .ne 6, 3) := dk_154 0 6 (dk_at dksX1_nights_1 6 rfl rfl)
theorem dX1_nights_31 : decode cX1_nights 31 = .ok (.bipush (-3), 2) := dk_16 253 (dk_at dksX1_nights_1 9 rfl rfl)
theorem dX1_nights_33 : decode cX1_nights 33 = .ok (.ireturn, 1) := dk_172 (dk_at dksX1_nights_1 11 rfl rfl)
theorem dX1_nights_34 : decode cX1_nights 34 = .ok (.aload_n 0, 1) := dk_42 (dk_at dksX1_nights_1 12 rfl rfl)
theorem dX1_nights_35 : decode cX1_nights 35 = .ok (.iload_n 2, 1) := dk_28 (dk_at dksX1_nights_1 13 rfl rfl)
theorem dX1_nights_36 : decode cX1_nights 36 = .ok (.putfield 339, 3) := dk_181 1 83 (dk_at dksX1_nights_1 14 rfl rfl)
theorem dX1_nights_39 : decode cX1_nights 39 = .ok (.iconst 0, 1) := dk_3 (dk_at dksX1_nights_1 17 rfl rfl)
theorem dX1_nights_40 : decode cX1_nights 40 = .ok (.istore 4, 2) := dk_54 4 (dk_at dksX1_nights_1 18 rfl rfl)
theorem dX1_nights_42 : decode cX1_nights 42 = .ok (.iconst 0, 1) := dk_3 (dk_at dksX1_nights_1 20 rfl rfl)
theorem dX1_nights_43 : decode cX1_nights 43 = .ok (.istore 5, 2) := dk_54 5 (dk_at dksX1_nights_1 21 rfl rfl)
theorem dX1_nights_45 : decode cX1_nights 45 = .ok (.iload 5, 2) := dk_21 5 (dk_at dksX1_nights_2 0 rfl rfl)
theorem dX1_nights_47 : decode cX1_nights 47 = .ok (.iload_n 1, 1) := dk_27 (dk_at dksX1_nights_2 2 rfl rfl)
theorem dX1_nights_48 : decode cX1_nights 48 = .ok (.if_icmp .ge 82, 3) := dk_162 0 82 (dk_at dksX1_nights_2 3 rfl rfl)
theorem dX1_nights_51 : decode cX1_nights 51 = .ok (.aload_n 0, 1) := dk_42 (dk_at dksX1_nights_2 6 rfl rfl)
theorem dX1_nights_52 : decode cX1_nights 52 = .ok (.invokevirtual 212, 3) := dk_182 0 212 (dk_at dksX1_nights_2 7 rfl rfl)
theorem dX1_nights_55 : decode cX1_nights 55 = .ok (.iconst 0, 1) := dk_3 (dk_at dksX1_nights_2 10 rfl rfl)
theorem dX1_nights_56 : decode cX1_nights 56 = .ok (.istore 6, 2) := dk_54 6 (dk_at dksX1_nights_2 11 rfl rfl)
theorem dX1_nights_58 : decode cX1_nights 58 = .ok (.iload 6, 2) := dk_21 6 (dk_at dksX1_nights_2 13 rfl rfl)
theorem dX1_nights_60 : decode cX1_nights 60 = .ok (.bipush 12, 2) := dk_16 12 (dk_at dksX1_nights_2 15 rfl rfl)
theorem dX1_nights_62 : decode cX1_nights 62 = .ok (.if_icmp .ge 38, 3) := dk_162 0 38 (dk_at dksX1_nights_2 17 rfl rfl)
theorem dX1_nights_65 : decode cX1_nights 65 = .ok (.aload_n 0, 1) := dk_42 (dk_at dksX1_nights_2 20 rfl rfl)
theorem dX1_nights_66 : decode cX1_nights 66 = .ok (.aload_n 0, 1) := dk_42 (dk_at dksX1_nights_2 21 rfl rfl)
theorem dX1_nights_67 : decode cX1_nights 67 = .ok (.getfield 68, 3) := dk_180 0 68 (dk_at dksX1_nights_3 0 rfl rfl)
theorem dX1_nights_70 : decode cX1_nights 70 = .ok (.getfield 100, 3) := dk_180 0 100 (dk_at dksX1_nights_3 3 rfl rfl)
theorem dX1_nights_73 : decode cX1_nights 73 = .ok (.invokevirtual 345, 3) := dk_182 1 89 (dk_at dksX1_nights_3 6 rfl rfl)
theorem dX1_nights_76 : decode cX1_nights 76 = .ok (.istore 7, 2) := dk_54 7 (dk_at dksX1_nights_3 9 rfl rfl)
theorem dX1_nights_78 : decode cX1_nights 78 = .ok (.aload_n 0, 1) := dk_42 (dk_at dksX1_nights_3 11 rfl rfl)
theorem dX1_nights_79 : decode cX1_nights 79 = .ok (.getfield 68, 3) := dk_180 0 68 (dk_at dksX1_nights_3 12 rfl rfl)
theorem dX1_nights_82 : decode cX1_nights 82 = .ok (.iload 7, 2) := dk_21 7 (dk_at dksX1_nights_3 15 rfl rfl)
theorem dX1_nights_84 : decode cX1_nights 84 = .ok (.aload_n 0, 1) := dk_42 (dk_at dksX1_nights_3 17 rfl rfl)
theorem dX1_nights_85 : decode cX1_nights 85 = .ok (.bipush 9, 2) := dk_16 9 (dk_at dksX1_nights_3 18 rfl rfl)
theorem dX1_nights_87 : decode cX1_nights 87 = .ok (.invokevirtual 345, 3) := dk_182 1 89 (dk_at dksX1_nights_3 20 rfl rfl)
theorem dX1_nights_90 : decode cX1_nights 90 = .ok (.invokevirtual 97, 3) := dk_182 0 97 (dk_at dksX1_nights_4 0 rfl rfl)
theorem dX1_nights_93 : decode cX1_nights 93 = .ok (.pop, 1) := dk_87 (dk_at dksX1_nights_4 3 rfl rfl)
theorem dX1_nights_94 : decode cX1_nights 94 = .ok (.iinc 6 1, 3) := dk_132 6 1 (dk_at dksX1_nights_4 4 rfl rfl)
theorem dX1_nights_97 : decode cX1_nights 97 = .ok (.goto (-39), 3) := dk_167 255 217 (dk_at dksX1_nights_4 7 rfl rfl)
theorem dX1_nights_100 : decode cX1_nights 100 = .ok (.iload 4, 2) := dk_21 4 (dk_at dksX1_nights_4 10 rfl rfl)
theorem dX1_nights_102 : decode cX1_nights 102 = .ok (.aload_n 0, 1) := dk_42 (dk_at dksX1_nights_4 12 rfl rfl)
theorem dX1_nights_103 : decode cX1_nights 103 = .ok (.getfield 68, 3) := dk_180 0 68 (dk_at dksX1_nights_4 13 rfl rfl)
theorem dX1_nights_106 : decode cX1_nights 106 = .ok (.getfield 52, 3) := dk_180 0 52 (dk_at dksX1_nights_4 16 rfl rfl)
theorem dX1_nights_109 : decode cX1_nights 109 = .ok (.iload_n 3, 1) := dk_29 (dk_at dksX1_nights_4 19 rfl rfl)
theorem dX1_nights_110 : decode cX1_nights 110 = .ok (.iaload, 1) := dk_46 (dk_at dksX1_nights_4 20 rfl rfl)
theorem dX1_nights_111 : decode cX1_nights 111 = .ok (.aload_n 0, 1) := dk_42 (dk_at dksX1_nights_4 21 rfl rfl)
theorem dX1_nights_112 : decode cX1_nights 112 = .ok (.getfield 140, 3) := dk_180 0 140 (dk_at dksX1_nights_5 0 rfl rfl)
theorem dX1_nights_115 : decode cX1_nights 115 = .ok (.getfield 52, 3) := dk_180 0 52 (dk_at dksX1_nights_5 3 rfl rfl)
theorem dX1_nights_118 : decode cX1_nights 118 = .ok (.iload_n 3, 1) := dk_29 (dk_at dksX1_nights_5 6 rfl rfl)
theorem dX1_nights_119 : decode cX1_nights 119 = .ok (.iaload, 1) := dk_46 (dk_at dksX1_nights_5 7 rfl rfl)
theorem dX1_nights_120 : decode cX1_nights 120 = .ok (.isub, 1) := dk_100 (dk_at dksX1_nights_5 8 rfl rfl)
theorem dX1_nights_121 : decode cX1_nights 121 = .ok (.iadd, 1) := dk_96 (dk_at dksX1_nights_5 9 rfl rfl)
theorem dX1_nights_122 : decode cX1_nights 122 = .ok (.istore 4, 2) := dk_54 4 (dk_at dksX1_nights_5 10 rfl rfl)
theorem dX1_nights_124 : decode cX1_nights 124 = .ok (.iinc 5 1, 3) := dk_132 5 1 (dk_at dksX1_nights_5 12 rfl rfl)
theorem dX1_nights_127 : decode cX1_nights 127 = .ok (.goto (-82), 3) := dk_167 255 174 (dk_at dksX1_nights_5 15 rfl rfl)
theorem dX1_nights_130 : decode cX1_nights 130 = .ok (.iload 4, 2) := dk_21 4 (dk_at dksX1_nights_5 18 rfl rfl)
theorem dX1_nights_132 : decode cX1_nights 132 = .ok (.ireturn, 1) := dk_172 (dk_at dksX1_nights_5 20 rfl rfl)
abbrev cX1_draw : ByteArray := prog_1_method_73_code
def yX1_draw : MethodName := ⟨RX1, "draw", "(I)I"⟩
def dkwX1_draw_1 : List UInt8 := [19, 1, 88, 108, 27, 112, 172]
abbrev dktX1_draw_1 : List UInt8 := dkwX1_draw_1 ++ []
def dkwX1_draw_0 : List UInt8 := [42, 42, 180, 1, 83, 19, 1, 86, 104, 17, 48, 57, 96, 181, 1, 83, 42, 180, 1, 83, 19, 1, 87, 126]
abbrev dktX1_draw_0 : List UInt8 := dkwX1_draw_0 ++ dktX1_draw_1
theorem dksX1_draw_0 : cX1_draw.data.toList.drop 0 = dktX1_draw_0 := by decide +kernel
theorem dksX1_draw_1 : cX1_draw.data.toList.drop 24 = dktX1_draw_1 := dk_seg dksX1_draw_0 24 rfl rfl
theorem dX1_draw_0 : decode cX1_draw 0 = .ok (.aload_n 0, 1) := dk_42 (dk_at dksX1_draw_0 0 rfl rfl)
theorem dX1_draw_1 : decode cX1_draw 1 = .ok (.aload_n 0, 1) := dk_42 (dk_at dksX1_draw_0 1 rfl rfl)
theorem dX1_draw_2 : decode cX1_draw 2 = .ok (.getfield 339, 3) := dk_180 1 83 (dk_at dksX1_draw_0 2 rfl rfl)
theorem dX1_draw_5 : decode cX1_draw 5 = .ok (.ldc_w 342, 3) := dk_19 1 86 (dk_at dksX1_draw_0 5 rfl rfl)
theorem dX1_draw_8 : decode cX1_draw 8 = .ok (.imul, 1) := dk_104 (dk_at dksX1_draw_0 8 rfl rfl)
theorem dX1_draw_9 : decode cX1_draw 9 = .ok (.sipush 12345, 3) := dk_17 48 57 (dk_at dksX1_draw_0 9 rfl rfl)
theorem dX1_draw_12 : decode cX1_draw 12 = .ok (.iadd, 1) := dk_96 (dk_at dksX1_draw_0 12 rfl rfl)
theorem dX1_draw_13 : decode cX1_draw 13 = .ok (.putfield 339, 3) := dk_181 1 83 (dk_at dksX1_draw_0 13 rfl rfl)
theorem dX1_draw_16 : decode cX1_draw 16 = .ok (.aload_n 0, 1) := dk_42 (dk_at dksX1_draw_0 16 rfl rfl)
theorem dX1_draw_17 : decode cX1_draw 17 = .ok (.getfield 339, 3) := dk_180 1 83 (dk_at dksX1_draw_0 17 rfl rfl)
theorem dX1_draw_20 : decode cX1_draw 20 = .ok (.ldc_w 343, 3) := dk_19 1 87 (dk_at dksX1_draw_0 20 rfl rfl)
theorem dX1_draw_23 : decode cX1_draw 23 = .ok (.iand, 1) := dk_126 (dk_at dksX1_draw_0 23 rfl rfl)
theorem dX1_draw_24 : decode cX1_draw 24 = .ok (.ldc_w 344, 3) := dk_19 1 88 (dk_at dksX1_draw_1 0 rfl rfl)
theorem dX1_draw_27 : decode cX1_draw 27 = .ok (.idiv, 1) := dk_108 (dk_at dksX1_draw_1 3 rfl rfl)
theorem dX1_draw_28 : decode cX1_draw 28 = .ok (.iload_n 1, 1) := dk_27 (dk_at dksX1_draw_1 4 rfl rfl)
theorem dX1_draw_29 : decode cX1_draw 29 = .ok (.irem, 1) := dk_112 (dk_at dksX1_draw_1 5 rfl rfl)
theorem dX1_draw_30 : decode cX1_draw 30 = .ok (.ireturn, 1) := dk_172 (dk_at dksX1_draw_1 6 rfl rfl)
abbrev cX1_image : ByteArray := prog_1_method_75_code
def yX1_image : MethodName := ⟨RX1, "image", "()I"⟩
def dkwX1_image_0 : List UInt8 := [42, 180, 1, 92, 42, 180, 0, 140, 182, 0, 143, 42, 4, 181, 1, 95, 42, 180, 0, 140, 180, 0, 46, 172]
abbrev dktX1_image_0 : List UInt8 := dkwX1_image_0 ++ []
theorem dksX1_image_0 : cX1_image.data.toList.drop 0 = dktX1_image_0 := by decide +kernel
theorem dX1_image_0 : decode cX1_image 0 = .ok (.aload_n 0, 1) := dk_42 (dk_at dksX1_image_0 0 rfl rfl)
theorem dX1_image_1 : decode cX1_image 1 = .ok (.getfield 348, 3) := dk_180 1 92 (dk_at dksX1_image_0 1 rfl rfl)
theorem dX1_image_4 : decode cX1_image 4 = .ok (.aload_n 0, 1) := dk_42 (dk_at dksX1_image_0 4 rfl rfl)
theorem dX1_image_5 : decode cX1_image 5 = .ok (.getfield 140, 3) := dk_180 0 140 (dk_at dksX1_image_0 5 rfl rfl)
theorem dX1_image_8 : decode cX1_image 8 = .ok (.invokevirtual 143, 3) := dk_182 0 143 (dk_at dksX1_image_0 8 rfl rfl)
theorem dX1_image_11 : decode cX1_image 11 = .ok (.aload_n 0, 1) := dk_42 (dk_at dksX1_image_0 11 rfl rfl)
theorem dX1_image_12 : decode cX1_image 12 = .ok (.iconst 1, 1) := dk_4 (dk_at dksX1_image_0 12 rfl rfl)
theorem dX1_image_13 : decode cX1_image 13 = .ok (.putfield 351, 3) := dk_181 1 95 (dk_at dksX1_image_0 13 rfl rfl)
theorem dX1_image_16 : decode cX1_image 16 = .ok (.aload_n 0, 1) := dk_42 (dk_at dksX1_image_0 16 rfl rfl)
theorem dX1_image_17 : decode cX1_image 17 = .ok (.getfield 140, 3) := dk_180 0 140 (dk_at dksX1_image_0 17 rfl rfl)
theorem dX1_image_20 : decode cX1_image 20 = .ok (.getfield 46, 3) := dk_180 0 46 (dk_at dksX1_image_0 20 rfl rfl)
theorem dX1_image_23 : decode cX1_image 23 = .ok (.ireturn, 1) := dk_172 (dk_at dksX1_image_0 23 rfl rfl)
abbrev cX1_restore : ByteArray := prog_1_method_76_code
def yX1_restore : MethodName := ⟨RX1, "restore", "()I"⟩
def dkwX1_restore_1 : List UInt8 := [180, 0, 140, 180, 0, 46, 172]
abbrev dktX1_restore_1 : List UInt8 := dkwX1_restore_1 ++ []
def dkwX1_restore_0 : List UInt8 := [42, 180, 1, 95, 154, 0, 6, 16, 253, 172, 42, 180, 0, 140, 42, 180, 1, 92, 182, 0, 143, 42]
abbrev dktX1_restore_0 : List UInt8 := dkwX1_restore_0 ++ dktX1_restore_1
theorem dksX1_restore_0 : cX1_restore.data.toList.drop 0 = dktX1_restore_0 := by decide +kernel
theorem dksX1_restore_1 : cX1_restore.data.toList.drop 22 = dktX1_restore_1 := dk_seg dksX1_restore_0 22 rfl rfl
theorem dX1_restore_0 : decode cX1_restore 0 = .ok (.aload_n 0, 1) := dk_42 (dk_at dksX1_restore_0 0 rfl rfl)
theorem dX1_restore_1 : decode cX1_restore 1 = .ok (.getfield 351, 3) := dk_180 1 95 (dk_at dksX1_restore_0 1 rfl rfl)
theorem dX1_restore_4 : decode cX1_restore 4 = .ok (.ifCond .ne 6, 3) := dk_154 0 6 (dk_at dksX1_restore_0 4 rfl rfl)
theorem dX1_restore_7 : decode cX1_restore 7 = .ok (.bipush (-3), 2) := dk_16 253 (dk_at dksX1_restore_0 7 rfl rfl)
theorem dX1_restore_9 : decode cX1_restore 9 = .ok (.ireturn, 1) := dk_172 (dk_at dksX1_restore_0 9 rfl rfl)
theorem dX1_restore_10 : decode cX1_restore 10 = .ok (.aload_n 0, 1) := dk_42 (dk_at dksX1_restore_0 10 rfl rfl)
theorem dX1_restore_11 : decode cX1_restore 11 = .ok (.getfield 140, 3) := dk_180 0 140 (dk_at dksX1_restore_0 11 rfl rfl)
theorem dX1_restore_14 : decode cX1_restore 14 = .ok (.aload_n 0, 1) := dk_42 (dk_at dksX1_restore_0 14 rfl rfl)
theorem dX1_restore_15 : decode cX1_restore 15 = .ok (.getfield 348, 3) := dk_180 1 92 (dk_at dksX1_restore_0 15 rfl rfl)
theorem dX1_restore_18 : decode cX1_restore 18 = .ok (.invokevirtual 143, 3) := dk_182 0 143 (dk_at dksX1_restore_0 18 rfl rfl)
theorem dX1_restore_21 : decode cX1_restore 21 = .ok (.aload_n 0, 1) := dk_42 (dk_at dksX1_restore_0 21 rfl rfl)
theorem dX1_restore_22 : decode cX1_restore 22 = .ok (.getfield 140, 3) := dk_180 0 140 (dk_at dksX1_restore_1 0 rfl rfl)
theorem dX1_restore_25 : decode cX1_restore 25 = .ok (.getfield 46, 3) := dk_180 0 46 (dk_at dksX1_restore_1 3 rfl rfl)
theorem dX1_restore_28 : decode cX1_restore 28 = .ok (.ireturn, 1) := dk_172 (dk_at dksX1_restore_1 6 rfl rfl)
abbrev cX1_count : ByteArray := prog_1_method_77_code
def yX1_count : MethodName := ⟨RX1, "count", "(I)I"⟩
def dkwX1_count_4 : List UInt8 := [182, 1, 53, 96, 172, 42, 180, 0, 140, 180, 0, 75, 172, 2, 172]
abbrev dktX1_count_4 : List UInt8 := dkwX1_count_4 ++ []
def dkwX1_count_3 : List UInt8 := [42, 180, 0, 140, 180, 0, 117, 4, 96, 172, 42, 180, 0, 140, 3, 182, 1, 53, 42, 180, 0, 140, 4]
abbrev dktX1_count_3 : List UInt8 := dkwX1_count_3 ++ dktX1_count_4
def dkwX1_count_2 : List UInt8 := [42, 180, 0, 140, 180, 0, 100, 172, 42, 180, 0, 140, 180, 0, 46, 172, 42, 180, 0, 140, 180, 0, 203, 172]
abbrev dktX1_count_2 : List UInt8 := dkwX1_count_2 ++ dktX1_count_3
def dkwX1_count_1 : List UInt8 := [170, 0, 0, 0, 0, 0, 99, 0, 0, 0, 0, 0, 0, 0, 5, 0, 0, 0, 39, 0, 0, 0, 47, 0, 0, 0, 55, 0, 0, 0, 63, 0, 0, 0, 73, 0, 0, 0, 91]
abbrev dktX1_count_1 : List UInt8 := dkwX1_count_1 ++ dktX1_count_2
def dkwX1_count_0 : List UInt8 := [27]
abbrev dktX1_count_0 : List UInt8 := dkwX1_count_0 ++ dktX1_count_1
theorem dksX1_count_0 : cX1_count.data.toList.drop 0 = dktX1_count_0 := by decide +kernel
theorem dksX1_count_1 : cX1_count.data.toList.drop 1 = dktX1_count_1 := dk_seg dksX1_count_0 1 rfl rfl
theorem dksX1_count_2 : cX1_count.data.toList.drop 40 = dktX1_count_2 := dk_seg dksX1_count_1 39 rfl rfl
theorem dksX1_count_3 : cX1_count.data.toList.drop 64 = dktX1_count_3 := dk_seg dksX1_count_2 24 rfl rfl
theorem dksX1_count_4 : cX1_count.data.toList.drop 87 = dktX1_count_4 := dk_seg dksX1_count_3 23 rfl rfl
theorem dX1_count_0 : decode cX1_count 0 = .ok (.iload_n 1, 1) := dk_27 (dk_at dksX1_count_0 0 rfl rfl)
theorem dX1_count_1 : decode cX1_count 1 = .ok (.tableswitch 99 0 5 #[39, 47, 55, 63, 73, 91], 39) := by decide +kernel
theorem dX1_count_40 : decode cX1_count 40 = .ok (.aload_n 0, 1) := dk_42 (dk_at dksX1_count_2 0 rfl rfl)
theorem dX1_count_41 : decode cX1_count 41 = .ok (.getfield 140, 3) := dk_180 0 140 (dk_at dksX1_count_2 1 rfl rfl)
theorem dX1_count_44 : decode cX1_count 44 = .ok (.getfield 100, 3) := dk_180 0 100 (dk_at dksX1_count_2 4 rfl rfl)
theorem dX1_count_47 : decode cX1_count 47 = .ok (.ireturn, 1) := dk_172 (dk_at dksX1_count_2 7 rfl rfl)
theorem dX1_count_48 : decode cX1_count 48 = .ok (.aload_n 0, 1) := dk_42 (dk_at dksX1_count_2 8 rfl rfl)
theorem dX1_count_49 : decode cX1_count 49 = .ok (.getfield 140, 3) := dk_180 0 140 (dk_at dksX1_count_2 9 rfl rfl)
theorem dX1_count_52 : decode cX1_count 52 = .ok (.getfield 46, 3) := dk_180 0 46 (dk_at dksX1_count_2 12 rfl rfl)
theorem dX1_count_55 : decode cX1_count 55 = .ok (.ireturn, 1) := dk_172 (dk_at dksX1_count_2 15 rfl rfl)
theorem dX1_count_56 : decode cX1_count 56 = .ok (.aload_n 0, 1) := dk_42 (dk_at dksX1_count_2 16 rfl rfl)
theorem dX1_count_57 : decode cX1_count 57 = .ok (.getfield 140, 3) := dk_180 0 140 (dk_at dksX1_count_2 17 rfl rfl)
theorem dX1_count_60 : decode cX1_count 60 = .ok (.getfield 203, 3) := dk_180 0 203 (dk_at dksX1_count_2 20 rfl rfl)
theorem dX1_count_63 : decode cX1_count 63 = .ok (.ireturn, 1) := dk_172 (dk_at dksX1_count_2 23 rfl rfl)
theorem dX1_count_64 : decode cX1_count 64 = .ok (.aload_n 0, 1) := dk_42 (dk_at dksX1_count_3 0 rfl rfl)
theorem dX1_count_65 : decode cX1_count 65 = .ok (.getfield 140, 3) := dk_180 0 140 (dk_at dksX1_count_3 1 rfl rfl)
theorem dX1_count_68 : decode cX1_count 68 = .ok (.getfield 117, 3) := dk_180 0 117 (dk_at dksX1_count_3 4 rfl rfl)
theorem dX1_count_71 : decode cX1_count 71 = .ok (.iconst 1, 1) := dk_4 (dk_at dksX1_count_3 7 rfl rfl)
theorem dX1_count_72 : decode cX1_count 72 = .ok (.iadd, 1) := dk_96 (dk_at dksX1_count_3 8 rfl rfl)
theorem dX1_count_73 : decode cX1_count 73 = .ok (.ireturn, 1) := dk_172 (dk_at dksX1_count_3 9 rfl rfl)
theorem dX1_count_74 : decode cX1_count 74 = .ok (.aload_n 0, 1) := dk_42 (dk_at dksX1_count_3 10 rfl rfl)
theorem dX1_count_75 : decode cX1_count 75 = .ok (.getfield 140, 3) := dk_180 0 140 (dk_at dksX1_count_3 11 rfl rfl)
theorem dX1_count_78 : decode cX1_count 78 = .ok (.iconst 0, 1) := dk_3 (dk_at dksX1_count_3 14 rfl rfl)
theorem dX1_count_79 : decode cX1_count 79 = .ok (.invokevirtual 309, 3) := dk_182 1 53 (dk_at dksX1_count_3 15 rfl rfl)
theorem dX1_count_82 : decode cX1_count 82 = .ok (.aload_n 0, 1) := dk_42 (dk_at dksX1_count_3 18 rfl rfl)
theorem dX1_count_83 : decode cX1_count 83 = .ok (.getfield 140, 3) := dk_180 0 140 (dk_at dksX1_count_3 19 rfl rfl)
theorem dX1_count_86 : decode cX1_count 86 = .ok (.iconst 1, 1) := dk_4 (dk_at dksX1_count_3 22 rfl rfl)
theorem dX1_count_87 : decode cX1_count 87 = .ok (.invokevirtual 309, 3) := dk_182 1 53 (dk_at dksX1_count_4 0 rfl rfl)
theorem dX1_count_90 : decode cX1_count 90 = .ok (.iadd, 1) := dk_96 (dk_at dksX1_count_4 3 rfl rfl)
theorem dX1_count_91 : decode cX1_count 91 = .ok (.ireturn, 1) := dk_172 (dk_at dksX1_count_4 4 rfl rfl)
theorem dX1_count_92 : decode cX1_count 92 = .ok (.aload_n 0, 1) := dk_42 (dk_at dksX1_count_4 5 rfl rfl)
theorem dX1_count_93 : decode cX1_count 93 = .ok (.getfield 140, 3) := dk_180 0 140 (dk_at dksX1_count_4 6 rfl rfl)
theorem dX1_count_96 : decode cX1_count 96 = .ok (.getfield 75, 3) := dk_180 0 75 (dk_at dksX1_count_4 9 rfl rfl)
theorem dX1_count_99 : decode cX1_count 99 = .ok (.ireturn, 1) := dk_172 (dk_at dksX1_count_4 12 rfl rfl)
theorem dX1_count_100 : decode cX1_count 100 = .ok (.iconst (-1), 1) := dk_2 (dk_at dksX1_count_4 13 rfl rfl)
theorem dX1_count_101 : decode cX1_count 101 = .ok (.ireturn, 1) := dk_172 (dk_at dksX1_count_4 14 rfl rfl)
abbrev cX1_init : ByteArray := prog_1_method_78_code
def yX1_init : MethodName := ⟨RX1, "<init>", "()V"⟩
def dkwX1_init_4 : List UInt8 := [177]
abbrev dktX1_init_4 : List UInt8 := dkwX1_init_4 ++ []
def dkwX1_init_3 : List UInt8 := [16, 8, 162, 0, 22, 42, 180, 0, 158, 27, 187, 0, 163, 89, 183, 1, 104, 83, 132, 1, 1, 167, 255, 234]
abbrev dktX1_init_3 : List UInt8 := dkwX1_init_3 ++ dktX1_init_4
def dkwX1_init_2 : List UInt8 := [181, 0, 231, 42, 16, 100, 189, 0, 57, 181, 0, 132, 42, 16, 8, 189, 0, 163, 181, 0, 158, 3, 60, 27]
abbrev dktX1_init_2 : List UInt8 := dkwX1_init_2 ++ dktX1_init_3
def dkwX1_init_1 : List UInt8 := [181, 1, 92, 42, 187, 0, 47, 89, 183, 1, 103, 181, 0, 68, 42, 187, 0, 47, 89, 183, 1, 103]
abbrev dktX1_init_1 : List UInt8 := dkwX1_init_1 ++ dktX1_init_2
def dkwX1_init_0 : List UInt8 := [42, 183, 1, 99, 42, 187, 0, 47, 89, 183, 1, 103, 181, 0, 140, 42, 187, 0, 47, 89, 183, 1, 103]
abbrev dktX1_init_0 : List UInt8 := dkwX1_init_0 ++ dktX1_init_1
theorem dksX1_init_0 : cX1_init.data.toList.drop 0 = dktX1_init_0 := by decide +kernel
theorem dksX1_init_1 : cX1_init.data.toList.drop 23 = dktX1_init_1 := dk_seg dksX1_init_0 23 rfl rfl
theorem dksX1_init_2 : cX1_init.data.toList.drop 45 = dktX1_init_2 := dk_seg dksX1_init_1 22 rfl rfl
theorem dksX1_init_3 : cX1_init.data.toList.drop 69 = dktX1_init_3 := dk_seg dksX1_init_2 24 rfl rfl
theorem dksX1_init_4 : cX1_init.data.toList.drop 93 = dktX1_init_4 := dk_seg dksX1_init_3 24 rfl rfl
theorem dX1_init_0 : decode cX1_init 0 = .ok (.aload_n 0, 1) := dk_42 (dk_at dksX1_init_0 0 rfl rfl)
theorem dX1_init_1 : decode cX1_init 1 = .ok (.invokespecial 355, 3) := dk_183 1 99 (dk_at dksX1_init_0 1 rfl rfl)
theorem dX1_init_4 : decode cX1_init 4 = .ok (.aload_n 0, 1) := dk_42 (dk_at dksX1_init_0 4 rfl rfl)
theorem dX1_init_5 : decode cX1_init 5 = .ok (.new 47, 3) := dk_187 0 47 (dk_at dksX1_init_0 5 rfl rfl)
theorem dX1_init_8 : decode cX1_init 8 = .ok (.dup, 1) := dk_89 (dk_at dksX1_init_0 8 rfl rfl)
theorem dX1_init_9 : decode cX1_init 9 = .ok (.invokespecial 359, 3) := dk_183 1 103 (dk_at dksX1_init_0 9 rfl rfl)
theorem dX1_init_12 : decode cX1_init 12 = .ok (.putfield 140, 3) := dk_181 0 140 (dk_at dksX1_init_0 12 rfl rfl)
theorem dX1_init_15 : decode cX1_init 15 = .ok (.aload_n 0, 1) := dk_42 (dk_at dksX1_init_0 15 rfl rfl)
theorem dX1_init_16 : decode cX1_init 16 = .ok (.new 47, 3) := dk_187 0 47 (dk_at dksX1_init_0 16 rfl rfl)
theorem dX1_init_19 : decode cX1_init 19 = .ok (.dup, 1) := dk_89 (dk_at dksX1_init_0 19 rfl rfl)
theorem dX1_init_20 : decode cX1_init 20 = .ok (.invokespecial 359, 3) := dk_183 1 103 (dk_at dksX1_init_0 20 rfl rfl)
theorem dX1_init_23 : decode cX1_init 23 = .ok (.putfield 348, 3) := dk_181 1 92 (dk_at dksX1_init_1 0 rfl rfl)
theorem dX1_init_26 : decode cX1_init 26 = .ok (.aload_n 0, 1) := dk_42 (dk_at dksX1_init_1 3 rfl rfl)
theorem dX1_init_27 : decode cX1_init 27 = .ok (.new 47, 3) := dk_187 0 47 (dk_at dksX1_init_1 4 rfl rfl)
theorem dX1_init_30 : decode cX1_init 30 = .ok (.dup, 1) := dk_89 (dk_at dksX1_init_1 7 rfl rfl)
theorem dX1_init_31 : decode cX1_init 31 = .ok (.invokespecial 359, 3) := dk_183 1 103 (dk_at dksX1_init_1 8 rfl rfl)
theorem dX1_init_34 : decode cX1_init 34 = .ok (.putfield 68, 3) := dk_181 0 68 (dk_at dksX1_init_1 11 rfl rfl)
theorem dX1_init_37 : decode cX1_init 37 = .ok (.aload_n 0, 1) := dk_42 (dk_at dksX1_init_1 14 rfl rfl)
theorem dX1_init_38 : decode cX1_init 38 = .ok (.new 47, 3) := dk_187 0 47 (dk_at dksX1_init_1 15 rfl rfl)
theorem dX1_init_41 : decode cX1_init 41 = .ok (.dup, 1) := dk_89 (dk_at dksX1_init_1 18 rfl rfl)
theorem dX1_init_42 : decode cX1_init 42 = .ok (.invokespecial 359, 3) := dk_183 1 103 (dk_at dksX1_init_1 19 rfl rfl)
theorem dX1_init_45 : decode cX1_init 45 = .ok (.putfield 231, 3) := dk_181 0 231 (dk_at dksX1_init_2 0 rfl rfl)
theorem dX1_init_48 : decode cX1_init 48 = .ok (.aload_n 0, 1) := dk_42 (dk_at dksX1_init_2 3 rfl rfl)
theorem dX1_init_49 : decode cX1_init 49 = .ok (.bipush 100, 2) := dk_16 100 (dk_at dksX1_init_2 4 rfl rfl)
theorem dX1_init_51 : decode cX1_init 51 = .ok (.anewarray 57, 3) := dk_189 0 57 (dk_at dksX1_init_2 6 rfl rfl)
theorem dX1_init_54 : decode cX1_init 54 = .ok (.putfield 132, 3) := dk_181 0 132 (dk_at dksX1_init_2 9 rfl rfl)
theorem dX1_init_57 : decode cX1_init 57 = .ok (.aload_n 0, 1) := dk_42 (dk_at dksX1_init_2 12 rfl rfl)
theorem dX1_init_58 : decode cX1_init 58 = .ok (.bipush 8, 2) := dk_16 8 (dk_at dksX1_init_2 13 rfl rfl)
theorem dX1_init_60 : decode cX1_init 60 = .ok (.anewarray 163, 3) := dk_189 0 163 (dk_at dksX1_init_2 15 rfl rfl)
theorem dX1_init_63 : decode cX1_init 63 = .ok (.putfield 158, 3) := dk_181 0 158 (dk_at dksX1_init_2 18 rfl rfl)
theorem dX1_init_66 : decode cX1_init 66 = .ok (.iconst 0, 1) := dk_3 (dk_at dksX1_init_2 21 rfl rfl)
theorem dX1_init_67 : decode cX1_init 67 = .ok (.istore_n 1, 1) := dk_60 (dk_at dksX1_init_2 22 rfl rfl)
theorem dX1_init_68 : decode cX1_init 68 = .ok (.iload_n 1, 1) := dk_27 (dk_at dksX1_init_2 23 rfl rfl)
theorem dX1_init_69 : decode cX1_init 69 = .ok (.bipush 8, 2) := dk_16 8 (dk_at dksX1_init_3 0 rfl rfl)
theorem dX1_init_71 : decode cX1_init 71 = .ok (.if_icmp .ge 22, 3) := dk_162 0 22 (dk_at dksX1_init_3 2 rfl rfl)
theorem dX1_init_74 : decode cX1_init 74 = .ok (.aload_n 0, 1) := dk_42 (dk_at dksX1_init_3 5 rfl rfl)
theorem dX1_init_75 : decode cX1_init 75 = .ok (.getfield 158, 3) := dk_180 0 158 (dk_at dksX1_init_3 6 rfl rfl)
theorem dX1_init_78 : decode cX1_init 78 = .ok (.iload_n 1, 1) := dk_27 (dk_at dksX1_init_3 9 rfl rfl)
theorem dX1_init_79 : decode cX1_init 79 = .ok (.new 163, 3) := dk_187 0 163 (dk_at dksX1_init_3 10 rfl rfl)
theorem dX1_init_82 : decode cX1_init 82 = .ok (.dup, 1) := dk_89 (dk_at dksX1_init_3 13 rfl rfl)
theorem dX1_init_83 : decode cX1_init 83 = .ok (.invokespecial 360, 3) := dk_183 1 104 (dk_at dksX1_init_3 14 rfl rfl)
theorem dX1_init_86 : decode cX1_init 86 = .ok (.aastore, 1) := dk_83 (dk_at dksX1_init_3 17 rfl rfl)
theorem dX1_init_87 : decode cX1_init 87 = .ok (.iinc 1 1, 3) := dk_132 1 1 (dk_at dksX1_init_3 18 rfl rfl)
theorem dX1_init_90 : decode cX1_init 90 = .ok (.goto (-22), 3) := dk_167 255 234 (dk_at dksX1_init_3 21 rfl rfl)
theorem dX1_init_93 : decode cX1_init 93 = .ok (.return_, 1) := dk_177 (dk_at dksX1_init_4 0 rfl rfl)
abbrev cX1_keep : ByteArray := prog_1_method_79_code
def yX1_keep : MethodName := ⟨RX1, "keep", "(IIII)I"⟩
def dkwX1_keep_2 : List UInt8 := [28, 154, 0, 7, 1, 167, 0, 9, 29, 21, 4, 184, 0, 103, 181, 0, 162, 3, 172]
abbrev dktX1_keep_2 : List UInt8 := dkwX1_keep_2 ++ []
def dkwX1_keep_1 : List UInt8 := [16, 7, 184, 0, 42, 153, 0, 11, 21, 4, 184, 1, 105, 154, 0, 5, 2, 172, 42, 180, 0, 158, 27, 50]
abbrev dktX1_keep_1 : List UInt8 := dkwX1_keep_1 ++ dktX1_keep_2
def dkwX1_keep_0 : List UInt8 := [42, 27, 182, 0, 155, 153, 0, 35, 28, 3, 4, 184, 0, 42, 153, 0, 26, 28, 4, 160, 0, 23, 29, 3]
abbrev dktX1_keep_0 : List UInt8 := dkwX1_keep_0 ++ dktX1_keep_1
theorem dksX1_keep_0 : cX1_keep.data.toList.drop 0 = dktX1_keep_0 := by decide +kernel
theorem dksX1_keep_1 : cX1_keep.data.toList.drop 24 = dktX1_keep_1 := dk_seg dksX1_keep_0 24 rfl rfl
theorem dksX1_keep_2 : cX1_keep.data.toList.drop 48 = dktX1_keep_2 := dk_seg dksX1_keep_1 24 rfl rfl
theorem dX1_keep_0 : decode cX1_keep 0 = .ok (.aload_n 0, 1) := dk_42 (dk_at dksX1_keep_0 0 rfl rfl)
theorem dX1_keep_1 : decode cX1_keep 1 = .ok (.iload_n 1, 1) := dk_27 (dk_at dksX1_keep_0 1 rfl rfl)
theorem dX1_keep_2 : decode cX1_keep 2 = .ok (.invokevirtual 155, 3) := dk_182 0 155 (dk_at dksX1_keep_0 2 rfl rfl)
theorem dX1_keep_5 : decode cX1_keep 5 = .ok (.ifCond .eq 35, 3) := dk_153 0 35 (dk_at dksX1_keep_0 5 rfl rfl)
theorem dX1_keep_8 : decode cX1_keep 8 = .ok (.iload_n 2, 1) := dk_28 (dk_at dksX1_keep_0 8 rfl rfl)
theorem dX1_keep_9 : decode cX1_keep 9 = .ok (.iconst 0, 1) := dk_3 (dk_at dksX1_keep_0 9 rfl rfl)
theorem dX1_keep_10 : decode cX1_keep 10 = .ok (.iconst 1, 1) := dk_4 (dk_at dksX1_keep_0 10 rfl rfl)
theorem dX1_keep_11 : decode cX1_keep 11 = .ok (.invokestatic 42, 3) := dk_184 0 42 (dk_at dksX1_keep_0 11 rfl rfl)
theorem dX1_keep_14 : decode cX1_keep 14 = .ok (.ifCond .eq 26, 3) := dk_153 0 26 (dk_at dksX1_keep_0 14 rfl rfl)
theorem dX1_keep_17 : decode cX1_keep 17 = .ok (.iload_n 2, 1) := dk_28 (dk_at dksX1_keep_0 17 rfl rfl)
theorem dX1_keep_18 : decode cX1_keep 18 = .ok (.iconst 1, 1) := dk_4 (dk_at dksX1_keep_0 18 rfl rfl)
theorem dX1_keep_19 : decode cX1_keep 19 = .ok (.if_icmp .ne 23, 3) := dk_160 0 23 (dk_at dksX1_keep_0 19 rfl rfl)
theorem dX1_keep_22 : decode cX1_keep 22 = .ok (.iload_n 3, 1) := dk_29 (dk_at dksX1_keep_0 22 rfl rfl)
theorem dX1_keep_23 : decode cX1_keep 23 = .ok (.iconst 0, 1) := dk_3 (dk_at dksX1_keep_0 23 rfl rfl)
theorem dX1_keep_24 : decode cX1_keep 24 = .ok (.bipush 7, 2) := dk_16 7 (dk_at dksX1_keep_1 0 rfl rfl)
theorem dX1_keep_26 : decode cX1_keep 26 = .ok (.invokestatic 42, 3) := dk_184 0 42 (dk_at dksX1_keep_1 2 rfl rfl)
theorem dX1_keep_29 : decode cX1_keep 29 = .ok (.ifCond .eq 11, 3) := dk_153 0 11 (dk_at dksX1_keep_1 5 rfl rfl)
theorem dX1_keep_32 : decode cX1_keep 32 = .ok (.iload 4, 2) := dk_21 4 (dk_at dksX1_keep_1 8 rfl rfl)
theorem dX1_keep_34 : decode cX1_keep 34 = .ok (.invokestatic 361, 3) := dk_184 1 105 (dk_at dksX1_keep_1 10 rfl rfl)
theorem dX1_keep_37 : decode cX1_keep 37 = .ok (.ifCond .ne 5, 3) := dk_154 0 5 (dk_at dksX1_keep_1 13 rfl rfl)
theorem dX1_keep_40 : decode cX1_keep 40 = .ok (.iconst (-1), 1) := dk_2 (dk_at dksX1_keep_1 16 rfl rfl)
theorem dX1_keep_41 : decode cX1_keep 41 = .ok (.ireturn, 1) := dk_172 (dk_at dksX1_keep_1 17 rfl rfl)
theorem dX1_keep_42 : decode cX1_keep 42 = .ok (.aload_n 0, 1) := dk_42 (dk_at dksX1_keep_1 18 rfl rfl)
theorem dX1_keep_43 : decode cX1_keep 43 = .ok (.getfield 158, 3) := dk_180 0 158 (dk_at dksX1_keep_1 19 rfl rfl)
theorem dX1_keep_46 : decode cX1_keep 46 = .ok (.iload_n 1, 1) := dk_27 (dk_at dksX1_keep_1 22 rfl rfl)
theorem dX1_keep_47 : decode cX1_keep 47 = .ok (.aaload, 1) := dk_50 (dk_at dksX1_keep_1 23 rfl rfl)
theorem dX1_keep_48 : decode cX1_keep 48 = .ok (.iload_n 2, 1) := dk_28 (dk_at dksX1_keep_2 0 rfl rfl)
theorem dX1_keep_49 : decode cX1_keep 49 = .ok (.ifCond .ne 7, 3) := dk_154 0 7 (dk_at dksX1_keep_2 1 rfl rfl)
theorem dX1_keep_52 : decode cX1_keep 52 = .ok (.aconst_null, 1) := dk_1 (dk_at dksX1_keep_2 4 rfl rfl)
theorem dX1_keep_53 : decode cX1_keep 53 = .ok (.goto 9, 3) := dk_167 0 9 (dk_at dksX1_keep_2 5 rfl rfl)
theorem dX1_keep_56 : decode cX1_keep 56 = .ok (.iload_n 3, 1) := dk_29 (dk_at dksX1_keep_2 8 rfl rfl)
theorem dX1_keep_57 : decode cX1_keep 57 = .ok (.iload 4, 2) := dk_21 4 (dk_at dksX1_keep_2 9 rfl rfl)
theorem dX1_keep_59 : decode cX1_keep 59 = .ok (.invokestatic 103, 3) := dk_184 0 103 (dk_at dksX1_keep_2 11 rfl rfl)
theorem dX1_keep_62 : decode cX1_keep 62 = .ok (.putfield 162, 3) := dk_181 0 162 (dk_at dksX1_keep_2 14 rfl rfl)
theorem dX1_keep_65 : decode cX1_keep 65 = .ok (.iconst 0, 1) := dk_3 (dk_at dksX1_keep_2 17 rfl rfl)
theorem dX1_keep_66 : decode cX1_keep 66 = .ok (.ireturn, 1) := dk_172 (dk_at dksX1_keep_2 18 rfl rfl)
abbrev cX1_isNine : ByteArray := prog_1_method_10_code
def yX1_isNine : MethodName := ⟨RX1, "isNine", "(I)Z"⟩
def dkwX1_isNine_0 : List UInt8 := [26, 3, 16, 9, 184, 0, 42, 172]
abbrev dktX1_isNine_0 : List UInt8 := dkwX1_isNine_0 ++ []
theorem dksX1_isNine_0 : cX1_isNine.data.toList.drop 0 = dktX1_isNine_0 := by decide +kernel
theorem dX1_isNine_0 : decode cX1_isNine 0 = .ok (.iload_n 0, 1) := dk_26 (dk_at dksX1_isNine_0 0 rfl rfl)
theorem dX1_isNine_1 : decode cX1_isNine 1 = .ok (.iconst 0, 1) := dk_3 (dk_at dksX1_isNine_0 1 rfl rfl)
theorem dX1_isNine_2 : decode cX1_isNine 2 = .ok (.bipush 9, 2) := dk_16 9 (dk_at dksX1_isNine_0 2 rfl rfl)
theorem dX1_isNine_4 : decode cX1_isNine 4 = .ok (.invokestatic 42, 3) := dk_184 0 42 (dk_at dksX1_isNine_0 4 rfl rfl)
theorem dX1_isNine_7 : decode cX1_isNine 7 = .ok (.ireturn, 1) := dk_172 (dk_at dksX1_isNine_0 7 rfl rfl)
abbrev cX1_row : ByteArray := prog_1_method_80_code
def yX1_row : MethodName := ⟨RX1, "row", "(III)I"⟩
def dkwX1_row_3 : List UInt8 := [16, 242, 172]
abbrev dktX1_row_3 : List UInt8 := dkwX1_row_3 ++ []
def dkwX1_row_2 : List UInt8 := [167, 0, 8, 29, 188, 10, 58, 4, 42, 180, 0, 158, 27, 50, 25, 4, 181, 0, 162, 3, 172, 58, 4]
abbrev dktX1_row_2 : List UInt8 := dkwX1_row_2 ++ dktX1_row_3
def dkwX1_row_1 : List UInt8 := [172, 28, 154, 0, 11, 29, 188, 8, 58, 4, 167, 0, 21, 28, 4, 160, 0, 11, 29, 188, 9, 58, 4]
abbrev dktX1_row_1 : List UInt8 := dkwX1_row_1 ++ dktX1_row_2
def dkwX1_row_0 : List UInt8 := [42, 27, 182, 0, 155, 153, 0, 18, 28, 3, 5, 184, 0, 42, 153, 0, 9, 29, 16, 100, 164, 0, 5, 2]
abbrev dktX1_row_0 : List UInt8 := dkwX1_row_0 ++ dktX1_row_1
theorem dksX1_row_0 : cX1_row.data.toList.drop 0 = dktX1_row_0 := by decide +kernel
theorem dksX1_row_1 : cX1_row.data.toList.drop 24 = dktX1_row_1 := dk_seg dksX1_row_0 24 rfl rfl
theorem dksX1_row_2 : cX1_row.data.toList.drop 47 = dktX1_row_2 := dk_seg dksX1_row_1 23 rfl rfl
theorem dksX1_row_3 : cX1_row.data.toList.drop 70 = dktX1_row_3 := dk_seg dksX1_row_2 23 rfl rfl
theorem dX1_row_0 : decode cX1_row 0 = .ok (.aload_n 0, 1) := dk_42 (dk_at dksX1_row_0 0 rfl rfl)
theorem dX1_row_1 : decode cX1_row 1 = .ok (.iload_n 1, 1) := dk_27 (dk_at dksX1_row_0 1 rfl rfl)
theorem dX1_row_2 : decode cX1_row 2 = .ok (.invokevirtual 155, 3) := dk_182 0 155 (dk_at dksX1_row_0 2 rfl rfl)
theorem dX1_row_5 : decode cX1_row 5 = .ok (.ifCond .eq 18, 3) := dk_153 0 18 (dk_at dksX1_row_0 5 rfl rfl)
theorem dX1_row_8 : decode cX1_row 8 = .ok (.iload_n 2, 1) := dk_28 (dk_at dksX1_row_0 8 rfl rfl)
theorem dX1_row_9 : decode cX1_row 9 = .ok (.iconst 0, 1) := dk_3 (dk_at dksX1_row_0 9 rfl rfl)
theorem dX1_row_10 : decode cX1_row 10 = .ok (.iconst 2, 1) := dk_5 (dk_at dksX1_row_0 10 rfl rfl)
theorem dX1_row_11 : decode cX1_row 11 = .ok (.invokestatic 42, 3) := dk_184 0 42 (dk_at dksX1_row_0 11 rfl rfl)
theorem dX1_row_14 : decode cX1_row 14 = .ok (.ifCond .eq 9, 3) := dk_153 0 9 (dk_at dksX1_row_0 14 rfl rfl)
theorem dX1_row_17 : decode cX1_row 17 = .ok (.iload_n 3, 1) := dk_29 (dk_at dksX1_row_0 17 rfl rfl)
theorem dX1_row_18 : decode cX1_row 18 = .ok (.bipush 100, 2) := dk_16 100 (dk_at dksX1_row_0 18 rfl rfl)
theorem dX1_row_20 : decode cX1_row 20 = .ok (.if_icmp .le 5, 3) := dk_164 0 5 (dk_at dksX1_row_0 20 rfl rfl)
theorem dX1_row_23 : decode cX1_row 23 = .ok (.iconst (-1), 1) := dk_2 (dk_at dksX1_row_0 23 rfl rfl)
theorem dX1_row_24 : decode cX1_row 24 = .ok (.ireturn, 1) := dk_172 (dk_at dksX1_row_1 0 rfl rfl)
theorem dX1_row_25 : decode cX1_row 25 = .ok (.iload_n 2, 1) := dk_28 (dk_at dksX1_row_1 1 rfl rfl)
theorem dX1_row_26 : decode cX1_row 26 = .ok (.ifCond .ne 11, 3) := dk_154 0 11 (dk_at dksX1_row_1 2 rfl rfl)
theorem dX1_row_29 : decode cX1_row 29 = .ok (.iload_n 3, 1) := dk_29 (dk_at dksX1_row_1 5 rfl rfl)
theorem dX1_row_30 : decode cX1_row 30 = .ok (.newarray .byte, 2) := dk_188_8 (dk_at dksX1_row_1 6 rfl rfl)
theorem dX1_row_32 : decode cX1_row 32 = .ok (.astore 4, 2) := dk_58 4 (dk_at dksX1_row_1 8 rfl rfl)
theorem dX1_row_34 : decode cX1_row 34 = .ok (.goto 21, 3) := dk_167 0 21 (dk_at dksX1_row_1 10 rfl rfl)
theorem dX1_row_37 : decode cX1_row 37 = .ok (.iload_n 2, 1) := dk_28 (dk_at dksX1_row_1 13 rfl rfl)
theorem dX1_row_38 : decode cX1_row 38 = .ok (.iconst 1, 1) := dk_4 (dk_at dksX1_row_1 14 rfl rfl)
theorem dX1_row_39 : decode cX1_row 39 = .ok (.if_icmp .ne 11, 3) := dk_160 0 11 (dk_at dksX1_row_1 15 rfl rfl)
theorem dX1_row_42 : decode cX1_row 42 = .ok (.iload_n 3, 1) := dk_29 (dk_at dksX1_row_1 18 rfl rfl)
theorem dX1_row_43 : decode cX1_row 43 = .ok (.newarray .short, 2) := dk_188_9 (dk_at dksX1_row_1 19 rfl rfl)
theorem dX1_row_45 : decode cX1_row 45 = .ok (.astore 4, 2) := dk_58 4 (dk_at dksX1_row_1 21 rfl rfl)
theorem dX1_row_47 : decode cX1_row 47 = .ok (.goto 8, 3) := dk_167 0 8 (dk_at dksX1_row_2 0 rfl rfl)
theorem dX1_row_50 : decode cX1_row 50 = .ok (.iload_n 3, 1) := dk_29 (dk_at dksX1_row_2 3 rfl rfl)
theorem dX1_row_51 : decode cX1_row 51 = .ok (.newarray .int, 2) := dk_188_10 (dk_at dksX1_row_2 4 rfl rfl)
theorem dX1_row_53 : decode cX1_row 53 = .ok (.astore 4, 2) := dk_58 4 (dk_at dksX1_row_2 6 rfl rfl)
theorem dX1_row_55 : decode cX1_row 55 = .ok (.aload_n 0, 1) := dk_42 (dk_at dksX1_row_2 8 rfl rfl)
theorem dX1_row_56 : decode cX1_row 56 = .ok (.getfield 158, 3) := dk_180 0 158 (dk_at dksX1_row_2 9 rfl rfl)
theorem dX1_row_59 : decode cX1_row 59 = .ok (.iload_n 1, 1) := dk_27 (dk_at dksX1_row_2 12 rfl rfl)
theorem dX1_row_60 : decode cX1_row 60 = .ok (.aaload, 1) := dk_50 (dk_at dksX1_row_2 13 rfl rfl)
theorem dX1_row_61 : decode cX1_row 61 = .ok (.aload 4, 2) := dk_25 4 (dk_at dksX1_row_2 14 rfl rfl)
theorem dX1_row_63 : decode cX1_row 63 = .ok (.putfield 162, 3) := dk_181 0 162 (dk_at dksX1_row_2 16 rfl rfl)
theorem dX1_row_66 : decode cX1_row 66 = .ok (.iconst 0, 1) := dk_3 (dk_at dksX1_row_2 19 rfl rfl)
theorem dX1_row_67 : decode cX1_row 67 = .ok (.ireturn, 1) := dk_172 (dk_at dksX1_row_2 20 rfl rfl)
theorem dX1_row_68 : decode cX1_row 68 = .ok (.astore 4, 2) := dk_58 4 (dk_at dksX1_row_2 21 rfl rfl)
theorem dX1_row_70 : decode cX1_row 70 = .ok (.bipush (-14), 2) := dk_16 242 (dk_at dksX1_row_3 0 rfl rfl)
theorem dX1_row_72 : decode cX1_row 72 = .ok (.ireturn, 1) := dk_172 (dk_at dksX1_row_3 2 rfl rfl)
abbrev cX1_put : ByteArray := prog_1_method_81_code
def yX1_put : MethodName := ⟨RX1, "put", "(III)I"⟩
def dkwX1_put_3 : List UInt8 := [25, 4, 192, 1, 0, 28, 29, 79, 3, 172, 58, 5, 16, 244, 172, 58, 5, 16, 243, 172]
abbrev dktX1_put_3 : List UInt8 := dkwX1_put_3 ++ []
def dkwX1_put_2 : List UInt8 := [167, 0, 31, 25, 4, 193, 0, 254, 153, 0, 15, 25, 4, 192, 0, 254, 28, 29, 147, 86, 167, 0, 11]
abbrev dktX1_put_2 : List UInt8 := dkwX1_put_2 ++ dktX1_put_3
def dkwX1_put_1 : List UInt8 := [199, 0, 6, 16, 245, 172, 25, 4, 193, 0, 168, 153, 0, 15, 25, 4, 192, 0, 168, 28, 29, 145, 84]
abbrev dktX1_put_1 : List UInt8 := dkwX1_put_1 ++ dktX1_put_2
def dkwX1_put_0 : List UInt8 := [42, 27, 182, 0, 155, 154, 0, 5, 2, 172, 42, 180, 0, 158, 27, 50, 180, 0, 162, 58, 4, 25, 4]
abbrev dktX1_put_0 : List UInt8 := dkwX1_put_0 ++ dktX1_put_1
theorem dksX1_put_0 : cX1_put.data.toList.drop 0 = dktX1_put_0 := by decide +kernel
theorem dksX1_put_1 : cX1_put.data.toList.drop 23 = dktX1_put_1 := dk_seg dksX1_put_0 23 rfl rfl
theorem dksX1_put_2 : cX1_put.data.toList.drop 46 = dktX1_put_2 := dk_seg dksX1_put_1 23 rfl rfl
theorem dksX1_put_3 : cX1_put.data.toList.drop 69 = dktX1_put_3 := dk_seg dksX1_put_2 23 rfl rfl
theorem dX1_put_0 : decode cX1_put 0 = .ok (.aload_n 0, 1) := dk_42 (dk_at dksX1_put_0 0 rfl rfl)
theorem dX1_put_1 : decode cX1_put 1 = .ok (.iload_n 1, 1) := dk_27 (dk_at dksX1_put_0 1 rfl rfl)
theorem dX1_put_2 : decode cX1_put 2 = .ok (.invokevirtual 155, 3) := dk_182 0 155 (dk_at dksX1_put_0 2 rfl rfl)
theorem dX1_put_5 : decode cX1_put 5 = .ok (.ifCond .ne 5, 3) := dk_154 0 5 (dk_at dksX1_put_0 5 rfl rfl)
theorem dX1_put_8 : decode cX1_put 8 = .ok (.iconst (-1), 1) := dk_2 (dk_at dksX1_put_0 8 rfl rfl)
theorem dX1_put_9 : decode cX1_put 9 = .ok (.ireturn, 1) := dk_172 (dk_at dksX1_put_0 9 rfl rfl)
theorem dX1_put_10 : decode cX1_put 10 = .ok (.aload_n 0, 1) := dk_42 (dk_at dksX1_put_0 10 rfl rfl)
theorem dX1_put_11 : decode cX1_put 11 = .ok (.getfield 158, 3) := dk_180 0 158 (dk_at dksX1_put_0 11 rfl rfl)
theorem dX1_put_14 : decode cX1_put 14 = .ok (.iload_n 1, 1) := dk_27 (dk_at dksX1_put_0 14 rfl rfl)
theorem dX1_put_15 : decode cX1_put 15 = .ok (.aaload, 1) := dk_50 (dk_at dksX1_put_0 15 rfl rfl)
theorem dX1_put_16 : decode cX1_put 16 = .ok (.getfield 162, 3) := dk_180 0 162 (dk_at dksX1_put_0 16 rfl rfl)
theorem dX1_put_19 : decode cX1_put 19 = .ok (.astore 4, 2) := dk_58 4 (dk_at dksX1_put_0 19 rfl rfl)
theorem dX1_put_21 : decode cX1_put 21 = .ok (.aload 4, 2) := dk_25 4 (dk_at dksX1_put_0 21 rfl rfl)
theorem dX1_put_23 : decode cX1_put 23 = .ok (.ifnonnull 6, 3) := dk_199 0 6 (dk_at dksX1_put_1 0 rfl rfl)
theorem dX1_put_26 : decode cX1_put 26 = .ok (.bipush (-11), 2) := dk_16 245 (dk_at dksX1_put_1 3 rfl rfl)
theorem dX1_put_28 : decode cX1_put 28 = .ok (.ireturn, 1) := dk_172 (dk_at dksX1_put_1 5 rfl rfl)
theorem dX1_put_29 : decode cX1_put 29 = .ok (.aload 4, 2) := dk_25 4 (dk_at dksX1_put_1 6 rfl rfl)
theorem dX1_put_31 : decode cX1_put 31 = .ok (.instanceof 168, 3) := dk_193 0 168 (dk_at dksX1_put_1 8 rfl rfl)
theorem dX1_put_34 : decode cX1_put 34 = .ok (.ifCond .eq 15, 3) := dk_153 0 15 (dk_at dksX1_put_1 11 rfl rfl)
theorem dX1_put_37 : decode cX1_put 37 = .ok (.aload 4, 2) := dk_25 4 (dk_at dksX1_put_1 14 rfl rfl)
theorem dX1_put_39 : decode cX1_put 39 = .ok (.checkcast 168, 3) := dk_192 0 168 (dk_at dksX1_put_1 16 rfl rfl)
theorem dX1_put_42 : decode cX1_put 42 = .ok (.iload_n 2, 1) := dk_28 (dk_at dksX1_put_1 19 rfl rfl)
theorem dX1_put_43 : decode cX1_put 43 = .ok (.iload_n 3, 1) := dk_29 (dk_at dksX1_put_1 20 rfl rfl)
theorem dX1_put_44 : decode cX1_put 44 = .ok (.i2b, 1) := dk_145 (dk_at dksX1_put_1 21 rfl rfl)
theorem dX1_put_45 : decode cX1_put 45 = .ok (.bastore, 1) := dk_84 (dk_at dksX1_put_1 22 rfl rfl)
theorem dX1_put_46 : decode cX1_put 46 = .ok (.goto 31, 3) := dk_167 0 31 (dk_at dksX1_put_2 0 rfl rfl)
theorem dX1_put_49 : decode cX1_put 49 = .ok (.aload 4, 2) := dk_25 4 (dk_at dksX1_put_2 3 rfl rfl)
theorem dX1_put_51 : decode cX1_put 51 = .ok (.instanceof 254, 3) := dk_193 0 254 (dk_at dksX1_put_2 5 rfl rfl)
theorem dX1_put_54 : decode cX1_put 54 = .ok (.ifCond .eq 15, 3) := dk_153 0 15 (dk_at dksX1_put_2 8 rfl rfl)
theorem dX1_put_57 : decode cX1_put 57 = .ok (.aload 4, 2) := dk_25 4 (dk_at dksX1_put_2 11 rfl rfl)
theorem dX1_put_59 : decode cX1_put 59 = .ok (.checkcast 254, 3) := dk_192 0 254 (dk_at dksX1_put_2 13 rfl rfl)
theorem dX1_put_62 : decode cX1_put 62 = .ok (.iload_n 2, 1) := dk_28 (dk_at dksX1_put_2 16 rfl rfl)
theorem dX1_put_63 : decode cX1_put 63 = .ok (.iload_n 3, 1) := dk_29 (dk_at dksX1_put_2 17 rfl rfl)
theorem dX1_put_64 : decode cX1_put 64 = .ok (.i2s, 1) := dk_147 (dk_at dksX1_put_2 18 rfl rfl)
theorem dX1_put_65 : decode cX1_put 65 = .ok (.sastore, 1) := dk_86 (dk_at dksX1_put_2 19 rfl rfl)
theorem dX1_put_66 : decode cX1_put 66 = .ok (.goto 11, 3) := dk_167 0 11 (dk_at dksX1_put_2 20 rfl rfl)
theorem dX1_put_69 : decode cX1_put 69 = .ok (.aload 4, 2) := dk_25 4 (dk_at dksX1_put_3 0 rfl rfl)
theorem dX1_put_71 : decode cX1_put 71 = .ok (.checkcast 256, 3) := dk_192 1 0 (dk_at dksX1_put_3 2 rfl rfl)
theorem dX1_put_74 : decode cX1_put 74 = .ok (.iload_n 2, 1) := dk_28 (dk_at dksX1_put_3 5 rfl rfl)
theorem dX1_put_75 : decode cX1_put 75 = .ok (.iload_n 3, 1) := dk_29 (dk_at dksX1_put_3 6 rfl rfl)
theorem dX1_put_76 : decode cX1_put 76 = .ok (.iastore, 1) := dk_79 (dk_at dksX1_put_3 7 rfl rfl)
theorem dX1_put_77 : decode cX1_put 77 = .ok (.iconst 0, 1) := dk_3 (dk_at dksX1_put_3 8 rfl rfl)
theorem dX1_put_78 : decode cX1_put 78 = .ok (.ireturn, 1) := dk_172 (dk_at dksX1_put_3 9 rfl rfl)
theorem dX1_put_79 : decode cX1_put 79 = .ok (.astore 5, 2) := dk_58 5 (dk_at dksX1_put_3 10 rfl rfl)
theorem dX1_put_81 : decode cX1_put 81 = .ok (.bipush (-12), 2) := dk_16 244 (dk_at dksX1_put_3 12 rfl rfl)
theorem dX1_put_83 : decode cX1_put 83 = .ok (.ireturn, 1) := dk_172 (dk_at dksX1_put_3 14 rfl rfl)
theorem dX1_put_84 : decode cX1_put 84 = .ok (.astore 5, 2) := dk_58 5 (dk_at dksX1_put_3 15 rfl rfl)
theorem dX1_put_86 : decode cX1_put 86 = .ok (.bipush (-13), 2) := dk_16 243 (dk_at dksX1_put_3 17 rfl rfl)
theorem dX1_put_88 : decode cX1_put 88 = .ok (.ireturn, 1) := dk_172 (dk_at dksX1_put_3 19 rfl rfl)
abbrev cX1_copy : ByteArray := prog_1_method_83_code
def yX1_copy : MethodName := ⟨RX1, "copy", "(IIIII)I"⟩
def dkwX1_copy_4 : List UInt8 := [58, 8, 16, 243, 172]
abbrev dktX1_copy_4 : List UInt8 := dkwX1_copy_4 ++ []
def dkwX1_copy_3 : List UInt8 := [184, 1, 16, 159, 0, 6, 16, 244, 172, 25, 6, 28, 25, 7, 21, 4, 21, 5, 184, 1, 120, 21, 5, 172]
abbrev dktX1_copy_3 : List UInt8 := dkwX1_copy_3 ++ dktX1_copy_4
def dkwX1_copy_2 : List UInt8 := [199, 0, 6, 16, 245, 172, 25, 6, 184, 1, 16, 2, 159, 0, 16, 25, 6, 184, 1, 16, 25, 7]
abbrev dktX1_copy_2 : List UInt8 := dkwX1_copy_2 ++ dktX1_copy_3
def dkwX1_copy_1 : List UInt8 := [180, 0, 162, 58, 6, 42, 180, 0, 158, 29, 50, 180, 0, 162, 58, 7, 25, 6, 198, 0, 8, 25, 7]
abbrev dktX1_copy_1 : List UInt8 := dkwX1_copy_1 ++ dktX1_copy_2
def dkwX1_copy_0 : List UInt8 := [42, 27, 182, 0, 155, 153, 0, 11, 42, 29, 182, 0, 155, 154, 0, 5, 2, 172, 42, 180, 0, 158, 27, 50]
abbrev dktX1_copy_0 : List UInt8 := dkwX1_copy_0 ++ dktX1_copy_1
theorem dksX1_copy_0 : cX1_copy.data.toList.drop 0 = dktX1_copy_0 := by decide +kernel
theorem dksX1_copy_1 : cX1_copy.data.toList.drop 24 = dktX1_copy_1 := dk_seg dksX1_copy_0 24 rfl rfl
theorem dksX1_copy_2 : cX1_copy.data.toList.drop 47 = dktX1_copy_2 := dk_seg dksX1_copy_1 23 rfl rfl
theorem dksX1_copy_3 : cX1_copy.data.toList.drop 69 = dktX1_copy_3 := dk_seg dksX1_copy_2 22 rfl rfl
theorem dksX1_copy_4 : cX1_copy.data.toList.drop 93 = dktX1_copy_4 := dk_seg dksX1_copy_3 24 rfl rfl
theorem dX1_copy_0 : decode cX1_copy 0 = .ok (.aload_n 0, 1) := dk_42 (dk_at dksX1_copy_0 0 rfl rfl)
theorem dX1_copy_1 : decode cX1_copy 1 = .ok (.iload_n 1, 1) := dk_27 (dk_at dksX1_copy_0 1 rfl rfl)
theorem dX1_copy_2 : decode cX1_copy 2 = .ok (.invokevirtual 155, 3) := dk_182 0 155 (dk_at dksX1_copy_0 2 rfl rfl)
theorem dX1_copy_5 : decode cX1_copy 5 = .ok (.ifCond .eq 11, 3) := dk_153 0 11 (dk_at dksX1_copy_0 5 rfl rfl)
theorem dX1_copy_8 : decode cX1_copy 8 = .ok (.aload_n 0, 1) := dk_42 (dk_at dksX1_copy_0 8 rfl rfl)
theorem dX1_copy_9 : decode cX1_copy 9 = .ok (.iload_n 3, 1) := dk_29 (dk_at dksX1_copy_0 9 rfl rfl)
theorem dX1_copy_10 : decode cX1_copy 10 = .ok (.invokevirtual 155, 3) := dk_182 0 155 (dk_at dksX1_copy_0 10 rfl rfl)
theorem dX1_copy_13 : decode cX1_copy 13 = .ok (.ifCond .ne 5, 3) := dk_154 0 5 (dk_at dksX1_copy_0 13 rfl rfl)
theorem dX1_copy_16 : decode cX1_copy 16 = .ok (.iconst (-1), 1) := dk_2 (dk_at dksX1_copy_0 16 rfl rfl)
theorem dX1_copy_17 : decode cX1_copy 17 = .ok (.ireturn, 1) := dk_172 (dk_at dksX1_copy_0 17 rfl rfl)
theorem dX1_copy_18 : decode cX1_copy 18 = .ok (.aload_n 0, 1) := dk_42 (dk_at dksX1_copy_0 18 rfl rfl)
theorem dX1_copy_19 : decode cX1_copy 19 = .ok (.getfield 158, 3) := dk_180 0 158 (dk_at dksX1_copy_0 19 rfl rfl)
theorem dX1_copy_22 : decode cX1_copy 22 = .ok (.iload_n 1, 1) := dk_27 (dk_at dksX1_copy_0 22 rfl rfl)
theorem dX1_copy_23 : decode cX1_copy 23 = .ok (.aaload, 1) := dk_50 (dk_at dksX1_copy_0 23 rfl rfl)
theorem dX1_copy_24 : decode cX1_copy 24 = .ok (.getfield 162, 3) := dk_180 0 162 (dk_at dksX1_copy_1 0 rfl rfl)
theorem dX1_copy_27 : decode cX1_copy 27 = .ok (.astore 6, 2) := dk_58 6 (dk_at dksX1_copy_1 3 rfl rfl)
theorem dX1_copy_29 : decode cX1_copy 29 = .ok (.aload_n 0, 1) := dk_42 (dk_at dksX1_copy_1 5 rfl rfl)
theorem dX1_copy_30 : decode cX1_copy 30 = .ok (.getfield 158, 3) := dk_180 0 158 (dk_at dksX1_copy_1 6 rfl rfl)
theorem dX1_copy_33 : decode cX1_copy 33 = .ok (.iload_n 3, 1) := dk_29 (dk_at dksX1_copy_1 9 rfl rfl)
theorem dX1_copy_34 : decode cX1_copy 34 = .ok (.aaload, 1) := dk_50 (dk_at dksX1_copy_1 10 rfl rfl)
theorem dX1_copy_35 : decode cX1_copy 35 = .ok (.getfield 162, 3) := dk_180 0 162 (dk_at dksX1_copy_1 11 rfl rfl)
theorem dX1_copy_38 : decode cX1_copy 38 = .ok (.astore 7, 2) := dk_58 7 (dk_at dksX1_copy_1 14 rfl rfl)
theorem dX1_copy_40 : decode cX1_copy 40 = .ok (.aload 6, 2) := dk_25 6 (dk_at dksX1_copy_1 16 rfl rfl)
theorem dX1_copy_42 : decode cX1_copy 42 = .ok (.ifnull 8, 3) := dk_198 0 8 (dk_at dksX1_copy_1 18 rfl rfl)
theorem dX1_copy_45 : decode cX1_copy 45 = .ok (.aload 7, 2) := dk_25 7 (dk_at dksX1_copy_1 21 rfl rfl)
theorem dX1_copy_47 : decode cX1_copy 47 = .ok (.ifnonnull 6, 3) := dk_199 0 6 (dk_at dksX1_copy_2 0 rfl rfl)
theorem dX1_copy_50 : decode cX1_copy 50 = .ok (.bipush (-11), 2) := dk_16 245 (dk_at dksX1_copy_2 3 rfl rfl)
theorem dX1_copy_52 : decode cX1_copy 52 = .ok (.ireturn, 1) := dk_172 (dk_at dksX1_copy_2 5 rfl rfl)
theorem dX1_copy_53 : decode cX1_copy 53 = .ok (.aload 6, 2) := dk_25 6 (dk_at dksX1_copy_2 6 rfl rfl)
theorem dX1_copy_55 : decode cX1_copy 55 = .ok (.invokestatic 272, 3) := dk_184 1 16 (dk_at dksX1_copy_2 8 rfl rfl)
theorem dX1_copy_58 : decode cX1_copy 58 = .ok (.iconst (-1), 1) := dk_2 (dk_at dksX1_copy_2 11 rfl rfl)
theorem dX1_copy_59 : decode cX1_copy 59 = .ok (.if_icmp .eq 16, 3) := dk_159 0 16 (dk_at dksX1_copy_2 12 rfl rfl)
theorem dX1_copy_62 : decode cX1_copy 62 = .ok (.aload 6, 2) := dk_25 6 (dk_at dksX1_copy_2 15 rfl rfl)
theorem dX1_copy_64 : decode cX1_copy 64 = .ok (.invokestatic 272, 3) := dk_184 1 16 (dk_at dksX1_copy_2 17 rfl rfl)
theorem dX1_copy_67 : decode cX1_copy 67 = .ok (.aload 7, 2) := dk_25 7 (dk_at dksX1_copy_2 20 rfl rfl)
theorem dX1_copy_69 : decode cX1_copy 69 = .ok (.invokestatic 272, 3) := dk_184 1 16 (dk_at dksX1_copy_3 0 rfl rfl)
theorem dX1_copy_72 : decode cX1_copy 72 = .ok (.if_icmp .eq 6, 3) := dk_159 0 6 (dk_at dksX1_copy_3 3 rfl rfl)
theorem dX1_copy_75 : decode cX1_copy 75 = .ok (.bipush (-12), 2) := dk_16 244 (dk_at dksX1_copy_3 6 rfl rfl)
theorem dX1_copy_77 : decode cX1_copy 77 = .ok (.ireturn, 1) := dk_172 (dk_at dksX1_copy_3 8 rfl rfl)
theorem dX1_copy_78 : decode cX1_copy 78 = .ok (.aload 6, 2) := dk_25 6 (dk_at dksX1_copy_3 9 rfl rfl)
theorem dX1_copy_80 : decode cX1_copy 80 = .ok (.iload_n 2, 1) := dk_28 (dk_at dksX1_copy_3 11 rfl rfl)
theorem dX1_copy_81 : decode cX1_copy 81 = .ok (.aload 7, 2) := dk_25 7 (dk_at dksX1_copy_3 12 rfl rfl)
theorem dX1_copy_83 : decode cX1_copy 83 = .ok (.iload 4, 2) := dk_21 4 (dk_at dksX1_copy_3 14 rfl rfl)
theorem dX1_copy_85 : decode cX1_copy 85 = .ok (.iload 5, 2) := dk_21 5 (dk_at dksX1_copy_3 16 rfl rfl)
theorem dX1_copy_87 : decode cX1_copy 87 = .ok (.invokestatic 376, 3) := dk_184 1 120 (dk_at dksX1_copy_3 18 rfl rfl)
theorem dX1_copy_90 : decode cX1_copy 90 = .ok (.iload 5, 2) := dk_21 5 (dk_at dksX1_copy_3 21 rfl rfl)
theorem dX1_copy_92 : decode cX1_copy 92 = .ok (.ireturn, 1) := dk_172 (dk_at dksX1_copy_3 23 rfl rfl)
theorem dX1_copy_93 : decode cX1_copy 93 = .ok (.astore 8, 2) := dk_58 8 (dk_at dksX1_copy_4 0 rfl rfl)
theorem dX1_copy_95 : decode cX1_copy 95 = .ok (.bipush (-13), 2) := dk_16 243 (dk_at dksX1_copy_4 2 rfl rfl)
theorem dX1_copy_97 : decode cX1_copy 97 = .ok (.ireturn, 1) := dk_172 (dk_at dksX1_copy_4 4 rfl rfl)
abbrev cX1_cost : ByteArray := prog_1_method_84_code
def yX1_cost : MethodName := ⟨RX1, "cost", "(I)I"⟩
def dkwX1_cost_1 : List UInt8 := [182, 1, 128, 172, 77, 16, 245, 172, 77, 16, 244, 172]
abbrev dktX1_cost_1 : List UInt8 := dkwX1_cost_1 ++ []
def dkwX1_cost_0 : List UInt8 := [42, 27, 182, 0, 155, 154, 0, 5, 2, 172, 42, 180, 0, 158, 27, 50, 180, 0, 162, 192, 0, 15]
abbrev dktX1_cost_0 : List UInt8 := dkwX1_cost_0 ++ dktX1_cost_1
theorem dksX1_cost_0 : cX1_cost.data.toList.drop 0 = dktX1_cost_0 := by decide +kernel
theorem dksX1_cost_1 : cX1_cost.data.toList.drop 22 = dktX1_cost_1 := dk_seg dksX1_cost_0 22 rfl rfl
theorem dX1_cost_0 : decode cX1_cost 0 = .ok (.aload_n 0, 1) := dk_42 (dk_at dksX1_cost_0 0 rfl rfl)
theorem dX1_cost_1 : decode cX1_cost 1 = .ok (.iload_n 1, 1) := dk_27 (dk_at dksX1_cost_0 1 rfl rfl)
theorem dX1_cost_2 : decode cX1_cost 2 = .ok (.invokevirtual 155, 3) := dk_182 0 155 (dk_at dksX1_cost_0 2 rfl rfl)
theorem dX1_cost_5 : decode cX1_cost 5 = .ok (.ifCond .ne 5, 3) := dk_154 0 5 (dk_at dksX1_cost_0 5 rfl rfl)
theorem dX1_cost_8 : decode cX1_cost 8 = .ok (.iconst (-1), 1) := dk_2 (dk_at dksX1_cost_0 8 rfl rfl)
theorem dX1_cost_9 : decode cX1_cost 9 = .ok (.ireturn, 1) := dk_172 (dk_at dksX1_cost_0 9 rfl rfl)
theorem dX1_cost_10 : decode cX1_cost 10 = .ok (.aload_n 0, 1) := dk_42 (dk_at dksX1_cost_0 10 rfl rfl)
theorem dX1_cost_11 : decode cX1_cost 11 = .ok (.getfield 158, 3) := dk_180 0 158 (dk_at dksX1_cost_0 11 rfl rfl)
theorem dX1_cost_14 : decode cX1_cost 14 = .ok (.iload_n 1, 1) := dk_27 (dk_at dksX1_cost_0 14 rfl rfl)
theorem dX1_cost_15 : decode cX1_cost 15 = .ok (.aaload, 1) := dk_50 (dk_at dksX1_cost_0 15 rfl rfl)
theorem dX1_cost_16 : decode cX1_cost 16 = .ok (.getfield 162, 3) := dk_180 0 162 (dk_at dksX1_cost_0 16 rfl rfl)
theorem dX1_cost_19 : decode cX1_cost 19 = .ok (.checkcast 15, 3) := dk_192 0 15 (dk_at dksX1_cost_0 19 rfl rfl)
theorem dX1_cost_22 : decode cX1_cost 22 = .ok (.invokevirtual 384, 3) := dk_182 1 128 (dk_at dksX1_cost_1 0 rfl rfl)
theorem dX1_cost_25 : decode cX1_cost 25 = .ok (.ireturn, 1) := dk_172 (dk_at dksX1_cost_1 3 rfl rfl)
theorem dX1_cost_26 : decode cX1_cost 26 = .ok (.astore_n 2, 1) := dk_77 (dk_at dksX1_cost_1 4 rfl rfl)
theorem dX1_cost_27 : decode cX1_cost 27 = .ok (.bipush (-11), 2) := dk_16 245 (dk_at dksX1_cost_1 5 rfl rfl)
theorem dX1_cost_29 : decode cX1_cost 29 = .ok (.ireturn, 1) := dk_172 (dk_at dksX1_cost_1 7 rfl rfl)
theorem dX1_cost_30 : decode cX1_cost 30 = .ok (.astore_n 2, 1) := dk_77 (dk_at dksX1_cost_1 8 rfl rfl)
theorem dX1_cost_31 : decode cX1_cost 31 = .ok (.bipush (-12), 2) := dk_16 244 (dk_at dksX1_cost_1 9 rfl rfl)
theorem dX1_cost_33 : decode cX1_cost 33 = .ok (.ireturn, 1) := dk_172 (dk_at dksX1_cost_1 11 rfl rfl)
abbrev cX1_toss : ByteArray := prog_1_method_85_code
def yX1_toss : MethodName := ⟨RX1, "toss", "(I)I"⟩
def dkwX1_toss_2 : List UInt8 := [16, 241, 172, 77, 16, 244, 172]
abbrev dktX1_toss_2 : List UInt8 := dkwX1_toss_2 ++ []
def dkwX1_toss_1 : List UInt8 := [172, 42, 180, 0, 158, 27, 50, 180, 0, 162, 192, 0, 15, 182, 1, 131, 191, 77, 44, 180, 1, 137, 172, 77]
abbrev dktX1_toss_1 : List UInt8 := dkwX1_toss_1 ++ dktX1_toss_2
def dkwX1_toss_0 : List UInt8 := [42, 27, 182, 0, 155, 154, 0, 5, 2, 172, 42, 180, 0, 158, 27, 50, 180, 0, 162, 199, 0, 6, 16, 245]
abbrev dktX1_toss_0 : List UInt8 := dkwX1_toss_0 ++ dktX1_toss_1
theorem dksX1_toss_0 : cX1_toss.data.toList.drop 0 = dktX1_toss_0 := by decide +kernel
theorem dksX1_toss_1 : cX1_toss.data.toList.drop 24 = dktX1_toss_1 := dk_seg dksX1_toss_0 24 rfl rfl
theorem dksX1_toss_2 : cX1_toss.data.toList.drop 48 = dktX1_toss_2 := dk_seg dksX1_toss_1 24 rfl rfl
theorem dX1_toss_0 : decode cX1_toss 0 = .ok (.aload_n 0, 1) := dk_42 (dk_at dksX1_toss_0 0 rfl rfl)
theorem dX1_toss_1 : decode cX1_toss 1 = .ok (.iload_n 1, 1) := dk_27 (dk_at dksX1_toss_0 1 rfl rfl)
theorem dX1_toss_2 : decode cX1_toss 2 = .ok (.invokevirtual 155, 3) := dk_182 0 155 (dk_at dksX1_toss_0 2 rfl rfl)
theorem dX1_toss_5 : decode cX1_toss 5 = .ok (.ifCond .ne 5, 3) := dk_154 0 5 (dk_at dksX1_toss_0 5 rfl rfl)
theorem dX1_toss_8 : decode cX1_toss 8 = .ok (.iconst (-1), 1) := dk_2 (dk_at dksX1_toss_0 8 rfl rfl)
theorem dX1_toss_9 : decode cX1_toss 9 = .ok (.ireturn, 1) := dk_172 (dk_at dksX1_toss_0 9 rfl rfl)
theorem dX1_toss_10 : decode cX1_toss 10 = .ok (.aload_n 0, 1) := dk_42 (dk_at dksX1_toss_0 10 rfl rfl)
theorem dX1_toss_11 : decode cX1_toss 11 = .ok (.getfield 158, 3) := dk_180 0 158 (dk_at dksX1_toss_0 11 rfl rfl)
theorem dX1_toss_14 : decode cX1_toss 14 = .ok (.iload_n 1, 1) := dk_27 (dk_at dksX1_toss_0 14 rfl rfl)
theorem dX1_toss_15 : decode cX1_toss 15 = .ok (.aaload, 1) := dk_50 (dk_at dksX1_toss_0 15 rfl rfl)
theorem dX1_toss_16 : decode cX1_toss 16 = .ok (.getfield 162, 3) := dk_180 0 162 (dk_at dksX1_toss_0 16 rfl rfl)
theorem dX1_toss_19 : decode cX1_toss 19 = .ok (.ifnonnull 6, 3) := dk_199 0 6 (dk_at dksX1_toss_0 19 rfl rfl)
theorem dX1_toss_22 : decode cX1_toss 22 = .ok (.bipush (-11), 2) := dk_16 245 (dk_at dksX1_toss_0 22 rfl rfl)
theorem dX1_toss_24 : decode cX1_toss 24 = .ok (.ireturn, 1) := dk_172 (dk_at dksX1_toss_1 0 rfl rfl)
theorem dX1_toss_25 : decode cX1_toss 25 = .ok (.aload_n 0, 1) := dk_42 (dk_at dksX1_toss_1 1 rfl rfl)
theorem dX1_toss_26 : decode cX1_toss 26 = .ok (.getfield 158, 3) := dk_180 0 158 (dk_at dksX1_toss_1 2 rfl rfl)
theorem dX1_toss_29 : decode cX1_toss 29 = .ok (.iload_n 1, 1) := dk_27 (dk_at dksX1_toss_1 5 rfl rfl)
theorem dX1_toss_30 : decode cX1_toss 30 = .ok (.aaload, 1) := dk_50 (dk_at dksX1_toss_1 6 rfl rfl)
theorem dX1_toss_31 : decode cX1_toss 31 = .ok (.getfield 162, 3) := dk_180 0 162 (dk_at dksX1_toss_1 7 rfl rfl)
theorem dX1_toss_34 : decode cX1_toss 34 = .ok (.checkcast 15, 3) := dk_192 0 15 (dk_at dksX1_toss_1 10 rfl rfl)
theorem dX1_toss_37 : decode cX1_toss 37 = .ok (.invokevirtual 387, 3) := dk_182 1 131 (dk_at dksX1_toss_1 13 rfl rfl)
theorem dX1_toss_40 : decode cX1_toss 40 = .ok (.athrow, 1) := dk_191 (dk_at dksX1_toss_1 16 rfl rfl)
theorem dX1_toss_41 : decode cX1_toss 41 = .ok (.astore_n 2, 1) := dk_77 (dk_at dksX1_toss_1 17 rfl rfl)
theorem dX1_toss_42 : decode cX1_toss 42 = .ok (.aload_n 2, 1) := dk_44 (dk_at dksX1_toss_1 18 rfl rfl)
theorem dX1_toss_43 : decode cX1_toss 43 = .ok (.getfield 393, 3) := dk_180 1 137 (dk_at dksX1_toss_1 19 rfl rfl)
theorem dX1_toss_46 : decode cX1_toss 46 = .ok (.ireturn, 1) := dk_172 (dk_at dksX1_toss_1 22 rfl rfl)
theorem dX1_toss_47 : decode cX1_toss 47 = .ok (.astore_n 2, 1) := dk_77 (dk_at dksX1_toss_1 23 rfl rfl)
theorem dX1_toss_48 : decode cX1_toss 48 = .ok (.bipush (-15), 2) := dk_16 241 (dk_at dksX1_toss_2 0 rfl rfl)
theorem dX1_toss_50 : decode cX1_toss 50 = .ok (.ireturn, 1) := dk_172 (dk_at dksX1_toss_2 2 rfl rfl)
theorem dX1_toss_51 : decode cX1_toss 51 = .ok (.astore_n 2, 1) := dk_77 (dk_at dksX1_toss_2 3 rfl rfl)
theorem dX1_toss_52 : decode cX1_toss 52 = .ok (.bipush (-12), 2) := dk_16 244 (dk_at dksX1_toss_2 4 rfl rfl)
theorem dX1_toss_54 : decode cX1_toss 54 = .ok (.ireturn, 1) := dk_172 (dk_at dksX1_toss_2 6 rfl rfl)
abbrev cX1_element : ByteArray := prog_1_method_82_code
def yX1_element : MethodName := ⟨RX1, "element", "(II)J"⟩
def dkwX1_element_4 : List UInt8 := [191]
abbrev dktX1_element_4 : List UInt8 := dkwX1_element_4 ++ []
def dkwX1_element_3 : List UInt8 := [89, 183, 1, 119, 191, 58, 4, 187, 1, 117, 89, 183, 1, 119, 191, 58, 4, 187, 1, 117, 89, 183, 1, 119]
abbrev dktX1_element_3 : List UInt8 := dkwX1_element_3 ++ dktX1_element_4
def dkwX1_element_2 : List UInt8 := [153, 0, 11, 45, 192, 0, 254, 28, 53, 133, 173, 45, 192, 1, 0, 28, 46, 133, 173, 58, 4, 187, 1, 117]
abbrev dktX1_element_2 : List UInt8 := dkwX1_element_2 ++ dktX1_element_3
def dkwX1_element_1 : List UInt8 := [180, 0, 162, 78, 45, 193, 0, 168, 153, 0, 11, 45, 192, 0, 168, 28, 51, 133, 173, 45, 193, 0, 254]
abbrev dktX1_element_1 : List UInt8 := dkwX1_element_1 ++ dktX1_element_2
def dkwX1_element_0 : List UInt8 := [42, 27, 182, 0, 155, 154, 0, 11, 187, 1, 112, 89, 183, 1, 114, 191, 42, 180, 0, 158, 27, 50]
abbrev dktX1_element_0 : List UInt8 := dkwX1_element_0 ++ dktX1_element_1
theorem dksX1_element_0 : cX1_element.data.toList.drop 0 = dktX1_element_0 := by decide +kernel
theorem dksX1_element_1 : cX1_element.data.toList.drop 22 = dktX1_element_1 := dk_seg dksX1_element_0 22 rfl rfl
theorem dksX1_element_2 : cX1_element.data.toList.drop 45 = dktX1_element_2 := dk_seg dksX1_element_1 23 rfl rfl
theorem dksX1_element_3 : cX1_element.data.toList.drop 69 = dktX1_element_3 := dk_seg dksX1_element_2 24 rfl rfl
theorem dksX1_element_4 : cX1_element.data.toList.drop 93 = dktX1_element_4 := dk_seg dksX1_element_3 24 rfl rfl
theorem dX1_element_0 : decode cX1_element 0 = .ok (.aload_n 0, 1) := dk_42 (dk_at dksX1_element_0 0 rfl rfl)
theorem dX1_element_1 : decode cX1_element 1 = .ok (.iload_n 1, 1) := dk_27 (dk_at dksX1_element_0 1 rfl rfl)
theorem dX1_element_2 : decode cX1_element 2 = .ok (.invokevirtual 155, 3) := dk_182 0 155 (dk_at dksX1_element_0 2 rfl rfl)
theorem dX1_element_5 : decode cX1_element 5 = .ok (.ifCond .ne 11, 3) := dk_154 0 11 (dk_at dksX1_element_0 5 rfl rfl)
theorem dX1_element_8 : decode cX1_element 8 = .ok (.new 368, 3) := dk_187 1 112 (dk_at dksX1_element_0 8 rfl rfl)
theorem dX1_element_11 : decode cX1_element 11 = .ok (.dup, 1) := dk_89 (dk_at dksX1_element_0 11 rfl rfl)
theorem dX1_element_12 : decode cX1_element 12 = .ok (.invokespecial 370, 3) := dk_183 1 114 (dk_at dksX1_element_0 12 rfl rfl)
theorem dX1_element_15 : decode cX1_element 15 = .ok (.athrow, 1) := dk_191 (dk_at dksX1_element_0 15 rfl rfl)
theorem dX1_element_16 : decode cX1_element 16 = .ok (.aload_n 0, 1) := dk_42 (dk_at dksX1_element_0 16 rfl rfl)
theorem dX1_element_17 : decode cX1_element 17 = .ok (.getfield 158, 3) := dk_180 0 158 (dk_at dksX1_element_0 17 rfl rfl)
theorem dX1_element_20 : decode cX1_element 20 = .ok (.iload_n 1, 1) := dk_27 (dk_at dksX1_element_0 20 rfl rfl)
theorem dX1_element_21 : decode cX1_element 21 = .ok (.aaload, 1) := dk_50 (dk_at dksX1_element_0 21 rfl rfl)
theorem dX1_element_22 : decode cX1_element 22 = .ok (.getfield 162, 3) := dk_180 0 162 (dk_at dksX1_element_1 0 rfl rfl)
theorem dX1_element_25 : decode cX1_element 25 = .ok (.astore_n 3, 1) := dk_78 (dk_at dksX1_element_1 3 rfl rfl)
theorem dX1_element_26 : decode cX1_element 26 = .ok (.aload_n 3, 1) := dk_45 (dk_at dksX1_element_1 4 rfl rfl)
theorem dX1_element_27 : decode cX1_element 27 = .ok (.instanceof 168, 3) := dk_193 0 168 (dk_at dksX1_element_1 5 rfl rfl)
theorem dX1_element_30 : decode cX1_element 30 = .ok (.ifCond .eq 11, 3) := dk_153 0 11 (dk_at dksX1_element_1 8 rfl rfl)
theorem dX1_element_33 : decode cX1_element 33 = .ok (.aload_n 3, 1) := dk_45 (dk_at dksX1_element_1 11 rfl rfl)
theorem dX1_element_34 : decode cX1_element 34 = .ok (.checkcast 168, 3) := dk_192 0 168 (dk_at dksX1_element_1 12 rfl rfl)
theorem dX1_element_37 : decode cX1_element 37 = .ok (.iload_n 2, 1) := dk_28 (dk_at dksX1_element_1 15 rfl rfl)
theorem dX1_element_38 : decode cX1_element 38 = .ok (.baload, 1) := dk_51 (dk_at dksX1_element_1 16 rfl rfl)
theorem dX1_element_39 : decode cX1_element 39 = .ok (.i2l, 1) := dk_133 (dk_at dksX1_element_1 17 rfl rfl)
theorem dX1_element_40 : decode cX1_element 40 = .ok (.lreturn, 1) := dk_173 (dk_at dksX1_element_1 18 rfl rfl)
theorem dX1_element_41 : decode cX1_element 41 = .ok (.aload_n 3, 1) := dk_45 (dk_at dksX1_element_1 19 rfl rfl)
theorem dX1_element_42 : decode cX1_element 42 = .ok (.instanceof 254, 3) := dk_193 0 254 (dk_at dksX1_element_1 20 rfl rfl)
theorem dX1_element_45 : decode cX1_element 45 = .ok (.ifCond .eq 11, 3) := dk_153 0 11 (dk_at dksX1_element_2 0 rfl rfl)
theorem dX1_element_48 : decode cX1_element 48 = .ok (.aload_n 3, 1) := dk_45 (dk_at dksX1_element_2 3 rfl rfl)
theorem dX1_element_49 : decode cX1_element 49 = .ok (.checkcast 254, 3) := dk_192 0 254 (dk_at dksX1_element_2 4 rfl rfl)
theorem dX1_element_52 : decode cX1_element 52 = .ok (.iload_n 2, 1) := dk_28 (dk_at dksX1_element_2 7 rfl rfl)
theorem dX1_element_53 : decode cX1_element 53 = .ok (.saload, 1) := dk_53 (dk_at dksX1_element_2 8 rfl rfl)
theorem dX1_element_54 : decode cX1_element 54 = .ok (.i2l, 1) := dk_133 (dk_at dksX1_element_2 9 rfl rfl)
theorem dX1_element_55 : decode cX1_element 55 = .ok (.lreturn, 1) := dk_173 (dk_at dksX1_element_2 10 rfl rfl)
theorem dX1_element_56 : decode cX1_element 56 = .ok (.aload_n 3, 1) := dk_45 (dk_at dksX1_element_2 11 rfl rfl)
theorem dX1_element_57 : decode cX1_element 57 = .ok (.checkcast 256, 3) := dk_192 1 0 (dk_at dksX1_element_2 12 rfl rfl)
theorem dX1_element_60 : decode cX1_element 60 = .ok (.iload_n 2, 1) := dk_28 (dk_at dksX1_element_2 15 rfl rfl)
theorem dX1_element_61 : decode cX1_element 61 = .ok (.iaload, 1) := dk_46 (dk_at dksX1_element_2 16 rfl rfl)
theorem dX1_element_62 : decode cX1_element 62 = .ok (.i2l, 1) := dk_133 (dk_at dksX1_element_2 17 rfl rfl)
theorem dX1_element_63 : decode cX1_element 63 = .ok (.lreturn, 1) := dk_173 (dk_at dksX1_element_2 18 rfl rfl)
theorem dX1_element_64 : decode cX1_element 64 = .ok (.astore 4, 2) := dk_58 4 (dk_at dksX1_element_2 19 rfl rfl)
theorem dX1_element_66 : decode cX1_element 66 = .ok (.new 373, 3) := dk_187 1 117 (dk_at dksX1_element_2 21 rfl rfl)
theorem dX1_element_69 : decode cX1_element 69 = .ok (.dup, 1) := dk_89 (dk_at dksX1_element_3 0 rfl rfl)
theorem dX1_element_70 : decode cX1_element 70 = .ok (.invokespecial 375, 3) := dk_183 1 119 (dk_at dksX1_element_3 1 rfl rfl)
theorem dX1_element_73 : decode cX1_element 73 = .ok (.athrow, 1) := dk_191 (dk_at dksX1_element_3 4 rfl rfl)
theorem dX1_element_74 : decode cX1_element 74 = .ok (.astore 4, 2) := dk_58 4 (dk_at dksX1_element_3 5 rfl rfl)
theorem dX1_element_76 : decode cX1_element 76 = .ok (.new 373, 3) := dk_187 1 117 (dk_at dksX1_element_3 7 rfl rfl)
theorem dX1_element_79 : decode cX1_element 79 = .ok (.dup, 1) := dk_89 (dk_at dksX1_element_3 10 rfl rfl)
theorem dX1_element_80 : decode cX1_element 80 = .ok (.invokespecial 375, 3) := dk_183 1 119 (dk_at dksX1_element_3 11 rfl rfl)
theorem dX1_element_83 : decode cX1_element 83 = .ok (.athrow, 1) := dk_191 (dk_at dksX1_element_3 14 rfl rfl)
theorem dX1_element_84 : decode cX1_element 84 = .ok (.astore 4, 2) := dk_58 4 (dk_at dksX1_element_3 15 rfl rfl)
theorem dX1_element_86 : decode cX1_element 86 = .ok (.new 373, 3) := dk_187 1 117 (dk_at dksX1_element_3 17 rfl rfl)
theorem dX1_element_89 : decode cX1_element 89 = .ok (.dup, 1) := dk_89 (dk_at dksX1_element_3 20 rfl rfl)
theorem dX1_element_90 : decode cX1_element 90 = .ok (.invokespecial 375, 3) := dk_183 1 119 (dk_at dksX1_element_3 21 rfl rfl)
theorem dX1_element_93 : decode cX1_element 93 = .ok (.athrow, 1) := dk_191 (dk_at dksX1_element_4 0 rfl rfl)
theorem q67 : (Jvm.Cond.initialized "SideBySide") ∈ lw_all := lw_g (lw_at lw_m1 1 rfl) rfl
theorem q99 : (Jvm.Cond.instanceMethod ({ cls := "SideBySide", name := "court", desc := "(I)I" } : Jvm.MethodName)) ∈ lw_all := lw_g (lw_at lw_m1 33 rfl) rfl
theorem q100 : (Jvm.Cond.selects "SideBySide" ({ cls := "SideBySide", name := "court", desc := "(I)I" } : Jvm.MethodName) ({ cls := "SideBySide", name := "court", desc := "(I)I" } : Jvm.MethodName)) ∈ lw_all := lw_g (lw_at lw_m1 34 rfl) rfl
theorem q101 : (Jvm.Cond.codeWith ({ cls := "SideBySide", name := "court", desc := "(I)I" } : Jvm.MethodName) prog_1_method_17_code (3 : Nat) (Option.some Jvm.ClassFile.FieldType.int) [((10 : Nat), (37 : Nat), (38 : Nat), (174 : Nat)), ((10 : Nat), (37 : Nat), (42 : Nat), (150 : Nat))]) ∈ lw_all := lw_g (lw_at lw_m1 35 rfl) rfl
theorem q102 : (Jvm.Cond.classLink "SideBySide" (174 : Nat) "java/lang/ClassCastException") ∈ lw_all := lw_g (lw_at lw_m1 36 rfl) rfl
theorem q193 : (Jvm.Cond.classLink "SideBySide" (150 : Nat) "SideBySide$Broken") ∈ lw_all := lw_g (lw_at lw_m1 127 rfl) rfl
theorem q194 : (Jvm.Cond.methodLink "SideBySide" (155 : Nat) ({ cls := "SideBySide", name := "isShelf", desc := "(I)Z" } : Jvm.MethodName)) ∈ lw_all := lw_g (lw_at lw_m1 128 rfl) rfl
theorem q195 : (Jvm.Cond.privateMethod ({ cls := "SideBySide", name := "isShelf", desc := "(I)Z" } : Jvm.MethodName)) ∈ lw_tbl := lw_at lw_m1 129 rfl
theorem q196 : (Jvm.Cond.instanceMethod ({ cls := "SideBySide", name := "isShelf", desc := "(I)Z" } : Jvm.MethodName)) ∈ lw_all := lw_g (lw_at lw_m1 130 rfl) rfl
theorem q197 : (Jvm.Cond.instantiable "SideBySide" (9 : Nat)) ∈ lw_all := lw_g (lw_at lw_m1 131 rfl) rfl
theorem q198 : (Jvm.Cond.code ({ cls := "SideBySide", name := "isShelf", desc := "(I)Z" } : Jvm.MethodName) prog_1_method_7_code (2 : Nat) (Option.some Jvm.ClassFile.FieldType.boolean)) ∈ lw_all := lw_g (lw_at lw_m1 132 rfl) rfl
theorem q199 : (Jvm.Cond.methodLink "SideBySide" (42 : Nat) ({ cls := "SideBySide", name := "isIn", desc := "(III)Z" } : Jvm.MethodName)) ∈ lw_all := lw_g (lw_at lw_m1 133 rfl) rfl
theorem q200 : (Jvm.Cond.static ({ cls := "SideBySide", name := "isIn", desc := "(III)Z" } : Jvm.MethodName)) ∈ lw_all := lw_g (lw_at lw_m1 134 rfl) rfl
theorem q201 : (Jvm.Cond.code ({ cls := "SideBySide", name := "isIn", desc := "(III)Z" } : Jvm.MethodName) prog_1_method_1_code (3 : Nat) (Option.some Jvm.ClassFile.FieldType.boolean)) ∈ lw_all := lw_g (lw_at lw_m1 135 rfl) rfl
theorem q202 : (Jvm.Cond.classLink "SideBySide" (168 : Nat) "[B") ∈ lw_all := lw_g (lw_at lw_m1 136 rfl) rfl
theorem q203 : (Jvm.Cond.methodLink "SideBySide" (170 : Nat) ({ cls := "SideBySide", name := "reads", desc := "([B)I" } : Jvm.MethodName)) ∈ lw_all := lw_g (lw_at lw_m1 137 rfl) rfl
theorem q204 : (Jvm.Cond.privateMethod ({ cls := "SideBySide", name := "reads", desc := "([B)I" } : Jvm.MethodName)) ∈ lw_tbl := lw_at lw_m1 138 rfl
theorem q205 : (Jvm.Cond.instanceMethod ({ cls := "SideBySide", name := "reads", desc := "([B)I" } : Jvm.MethodName)) ∈ lw_all := lw_g (lw_at lw_m1 139 rfl) rfl
theorem q206 : (Jvm.Cond.code ({ cls := "SideBySide", name := "reads", desc := "([B)I" } : Jvm.MethodName) prog_1_method_16_code (4 : Nat) (Option.some Jvm.ClassFile.FieldType.int)) ∈ lw_all := lw_g (lw_at lw_m1 140 rfl) rfl
theorem q207 : (Jvm.Cond.classLink "SideBySide" (127 : Nat) "SideBySide$CourtReader") ∈ lw_all := lw_g (lw_at lw_m1 141 rfl) rfl
theorem q209 : (Jvm.Cond.methodLink "SideBySide" (129 : Nat) ({ cls := "SideBySide$CourtReader", name := "<init>", desc := "([B)V" } : Jvm.MethodName)) ∈ lw_all := lw_g (lw_at lw_m1 143 rfl) rfl
theorem q220 : (Jvm.Cond.methodLink "SideBySide" (136 : Nat) ({ cls := "SideBySide$CourtReader", name := "whole", desc := "([LSideBySide$Told;)I" } : Jvm.MethodName)) ∈ lw_all := lw_g (lw_at lw_m1 154 rfl) rfl
theorem q240 : (Jvm.Cond.fieldLink "SideBySide" (65 : Nat) "SideBySide$Told" "letter" "I") ∈ lw_all := lw_g (lw_at lw_m1 174 rfl) rfl
theorem q242 : (Jvm.Cond.fieldLink "SideBySide" (152 : Nat) "SideBySide$Told" "at" "I") ∈ lw_all := lw_g (lw_at lw_m1 176 rfl) rfl
theorem q244 : (Jvm.Cond.fieldLink "SideBySide" (56 : Nat) "SideBySide$Told" "numbers" "[I") ∈ lw_all := lw_g (lw_at lw_m1 178 rfl) rfl
theorem q290 : (Jvm.Cond.fieldLink "SideBySide" (176 : Nat) "SideBySide$Broken" "code" "I") ∈ lw_all := lw_g (lw_at lw_m1 224 rfl) rfl
theorem q299 : (Jvm.Cond.methodLink "SideBySide" (143 : Nat) ({ cls := "SideBySide$Court", name := "takes", desc := "(LSideBySide$Court;)V" } : Jvm.MethodName)) ∈ lw_all := lw_g (lw_at lw_m1 233 rfl) rfl
theorem q312 : (Jvm.Cond.methodLink "SideBySide" (147 : Nat) ({ cls := "SideBySide", name := "comes", desc := "(LSideBySide$Told;)Z" } : Jvm.MethodName)) ∈ lw_all := lw_g (lw_at lw_m2 6 rfl) rfl
theorem q313 : (Jvm.Cond.privateMethod ({ cls := "SideBySide", name := "comes", desc := "(LSideBySide$Told;)Z" } : Jvm.MethodName)) ∈ lw_tbl := lw_at lw_m2 7 rfl
theorem q314 : (Jvm.Cond.instanceMethod ({ cls := "SideBySide", name := "comes", desc := "(LSideBySide$Told;)Z" } : Jvm.MethodName)) ∈ lw_all := lw_g (lw_at lw_m2 8 rfl) rfl
theorem q315 : (Jvm.Cond.code ({ cls := "SideBySide", name := "comes", desc := "(LSideBySide$Told;)Z" } : Jvm.MethodName) prog_1_method_15_code (3 : Nat) (Option.some Jvm.ClassFile.FieldType.boolean)) ∈ lw_all := lw_g (lw_at lw_m2 9 rfl) rfl
theorem q316 : (Jvm.Cond.methodLink "SideBySide" (103 : Nat) ({ cls := "SideBySide", name := "strokeOf", desc := "(II)LSideBySide$Stroke;" } : Jvm.MethodName)) ∈ lw_all := lw_g (lw_at lw_m2 10 rfl) rfl
theorem q317 : (Jvm.Cond.static ({ cls := "SideBySide", name := "strokeOf", desc := "(II)LSideBySide$Stroke;" } : Jvm.MethodName)) ∈ lw_all := lw_g (lw_at lw_m2 11 rfl) rfl
theorem q318 : (Jvm.Cond.code ({ cls := "SideBySide", name := "strokeOf", desc := "(II)LSideBySide$Stroke;" } : Jvm.MethodName) prog_1_method_6_code (2 : Nat) (Option.some (Jvm.ClassFile.FieldType.object "SideBySide$Stroke"))) ∈ lw_all := lw_g (lw_at lw_m2 12 rfl) rfl
theorem q319 : (Jvm.Cond.classLink "SideBySide" (15 : Nat) "SideBySide$Stroke") ∈ lw_all := lw_g (lw_at lw_m2 13 rfl) rfl
theorem q321 : (Jvm.Cond.methodLink "SideBySide" (17 : Nat) ({ cls := "SideBySide$Stroke", name := "<init>", desc := "(I)V" } : Jvm.MethodName)) ∈ lw_all := lw_g (lw_at lw_m2 15 rfl) rfl
theorem q332 : (Jvm.Cond.fieldLink "SideBySide" (187 : Nat) "SideBySide$Stroke" "figure" "I") ∈ lw_all := lw_g (lw_at lw_m2 26 rfl) rfl
theorem q336 : (Jvm.Cond.classLink "SideBySide" (21 : Nat) "SideBySide$Smash") ∈ lw_all := lw_g (lw_at lw_m2 30 rfl) rfl
theorem q338 : (Jvm.Cond.methodLink "SideBySide" (23 : Nat) ({ cls := "SideBySide$Smash", name := "<init>", desc := "(I)V" } : Jvm.MethodName)) ∈ lw_all := lw_g (lw_at lw_m2 32 rfl) rfl
theorem q344 : (Jvm.Cond.classLink "SideBySide" (24 : Nat) "SideBySide$Drop") ∈ lw_all := lw_g (lw_at lw_m2 38 rfl) rfl
theorem q346 : (Jvm.Cond.methodLink "SideBySide" (26 : Nat) ({ cls := "SideBySide$Drop", name := "<init>", desc := "(I)V" } : Jvm.MethodName)) ∈ lw_all := lw_g (lw_at lw_m2 40 rfl) rfl
theorem q352 : (Jvm.Cond.classLink "SideBySide" (27 : Nat) "SideBySide$Lift") ∈ lw_all := lw_g (lw_at lw_m2 46 rfl) rfl
theorem q354 : (Jvm.Cond.methodLink "SideBySide" (29 : Nat) ({ cls := "SideBySide$Lift", name := "<init>", desc := "(I)V" } : Jvm.MethodName)) ∈ lw_all := lw_g (lw_at lw_m2 48 rfl) rfl
theorem q360 : (Jvm.Cond.classLink "SideBySide" (30 : Nat) "SideBySide$Push") ∈ lw_all := lw_g (lw_at lw_m2 54 rfl) rfl
theorem q362 : (Jvm.Cond.methodLink "SideBySide" (32 : Nat) ({ cls := "SideBySide$Push", name := "<init>", desc := "(I)V" } : Jvm.MethodName)) ∈ lw_all := lw_g (lw_at lw_m2 56 rfl) rfl
theorem q368 : (Jvm.Cond.classLink "SideBySide" (33 : Nat) "SideBySide$Flick") ∈ lw_all := lw_g (lw_at lw_m2 62 rfl) rfl
theorem q370 : (Jvm.Cond.methodLink "SideBySide" (35 : Nat) ({ cls := "SideBySide$Flick", name := "<init>", desc := "(I)V" } : Jvm.MethodName)) ∈ lw_all := lw_g (lw_at lw_m2 64 rfl) rfl
theorem q376 : (Jvm.Cond.classLink "SideBySide" (36 : Nat) "SideBySide$Between") ∈ lw_all := lw_g (lw_at lw_m2 70 rfl) rfl
theorem q378 : (Jvm.Cond.methodLink "SideBySide" (38 : Nat) ({ cls := "SideBySide$Between", name := "<init>", desc := "(I)V" } : Jvm.MethodName)) ∈ lw_all := lw_g (lw_at lw_m2 72 rfl) rfl
theorem q384 : (Jvm.Cond.classLink "SideBySide" (39 : Nat) "SideBySide$Wander") ∈ lw_all := lw_g (lw_at lw_m2 78 rfl) rfl
theorem q386 : (Jvm.Cond.methodLink "SideBySide" (41 : Nat) ({ cls := "SideBySide$Wander", name := "<init>", desc := "(I)V" } : Jvm.MethodName)) ∈ lw_all := lw_g (lw_at lw_m2 80 rfl) rfl
theorem q392 : (Jvm.Cond.methodLink "SideBySide" (107 : Nat) ({ cls := "SideBySide$Court", name := "learns", desc := "(LSideBySide$Stroke;)I" } : Jvm.MethodName)) ∈ lw_all := lw_g (lw_at lw_m2 86 rfl) rfl
theorem q396 : (Jvm.Cond.methodLink "SideBySide" (120 : Nat) ({ cls := "SideBySide", name := "comesHit", desc := "(II)Z" } : Jvm.MethodName)) ∈ lw_all := lw_g (lw_at lw_m2 90 rfl) rfl
theorem q397 : (Jvm.Cond.privateMethod ({ cls := "SideBySide", name := "comesHit", desc := "(II)Z" } : Jvm.MethodName)) ∈ lw_tbl := lw_at lw_m2 91 rfl
theorem q398 : (Jvm.Cond.instanceMethod ({ cls := "SideBySide", name := "comesHit", desc := "(II)Z" } : Jvm.MethodName)) ∈ lw_all := lw_g (lw_at lw_m2 92 rfl) rfl
theorem q399 : (Jvm.Cond.code ({ cls := "SideBySide", name := "comesHit", desc := "(II)Z" } : Jvm.MethodName) prog_1_method_14_code (3 : Nat) (Option.some Jvm.ClassFile.FieldType.boolean)) ∈ lw_all := lw_g (lw_at lw_m2 93 rfl) rfl
theorem q400 : (Jvm.Cond.methodLink "SideBySide" (90 : Nat) ({ cls := "SideBySide$Court", name := "isStroke", desc := "(I)Z" } : Jvm.MethodName)) ∈ lw_all := lw_g (lw_at lw_m2 94 rfl) rfl
theorem q405 : (Jvm.Cond.methodLink "SideBySide" (81 : Nat) ({ cls := "SideBySide", name := "isCell", desc := "(I)Z" } : Jvm.MethodName)) ∈ lw_all := lw_g (lw_at lw_m2 99 rfl) rfl
theorem q406 : (Jvm.Cond.static ({ cls := "SideBySide", name := "isCell", desc := "(I)Z" } : Jvm.MethodName)) ∈ lw_all := lw_g (lw_at lw_m2 100 rfl) rfl
theorem q407 : (Jvm.Cond.code ({ cls := "SideBySide", name := "isCell", desc := "(I)Z" } : Jvm.MethodName) prog_1_method_8_code (1 : Nat) (Option.some Jvm.ClassFile.FieldType.boolean)) ∈ lw_all := lw_g (lw_at lw_m2 101 rfl) rfl
theorem q408 : (Jvm.Cond.methodLink "SideBySide" (93 : Nat) ({ cls := "SideBySide", name := "canHit", desc := "(LSideBySide$Court;)Z" } : Jvm.MethodName)) ∈ lw_all := lw_g (lw_at lw_m2 102 rfl) rfl
theorem q409 : (Jvm.Cond.static ({ cls := "SideBySide", name := "canHit", desc := "(LSideBySide$Court;)Z" } : Jvm.MethodName)) ∈ lw_all := lw_g (lw_at lw_m2 103 rfl) rfl
theorem q410 : (Jvm.Cond.code ({ cls := "SideBySide", name := "canHit", desc := "(LSideBySide$Court;)Z" } : Jvm.MethodName) prog_1_method_11_code (1 : Nat) (Option.some Jvm.ClassFile.FieldType.boolean)) ∈ lw_all := lw_g (lw_at lw_m2 104 rfl) rfl
theorem q411 : (Jvm.Cond.methodLink "SideBySide" (97 : Nat) ({ cls := "SideBySide$Court", name := "hits", desc := "(II)Z" } : Jvm.MethodName)) ∈ lw_all := lw_g (lw_at lw_m2 105 rfl) rfl
theorem q428 : (Jvm.Cond.static ({ cls := "SideBySide", name := "rowOf", desc := "(I)I" } : Jvm.MethodName)) ∈ lw_all := lw_g (lw_at lw_m2 122 rfl) rfl
theorem q429 : (Jvm.Cond.code ({ cls := "SideBySide", name := "rowOf", desc := "(I)I" } : Jvm.MethodName) prog_1_method_3_code (1 : Nat) (Option.some Jvm.ClassFile.FieldType.int)) ∈ lw_all := lw_g (lw_at lw_m2 123 rfl) rfl
theorem q441 : (Jvm.Cond.static ({ cls := "SideBySide", name := "columnOf", desc := "(I)I" } : Jvm.MethodName)) ∈ lw_all := lw_g (lw_at lw_m2 135 rfl) rfl
theorem q442 : (Jvm.Cond.code ({ cls := "SideBySide", name := "columnOf", desc := "(I)I" } : Jvm.MethodName) prog_1_method_4_code (1 : Nat) (Option.some Jvm.ClassFile.FieldType.int)) ∈ lw_all := lw_g (lw_at lw_m2 136 rfl) rfl
theorem q513 : (Jvm.Cond.static ({ cls := "SideBySide", name := "wayTo", desc := "(II)I" } : Jvm.MethodName)) ∈ lw_all := lw_g (lw_at lw_m2 207 rfl) rfl
theorem q514 : (Jvm.Cond.code ({ cls := "SideBySide", name := "wayTo", desc := "(II)I" } : Jvm.MethodName) prog_1_method_5_code (2 : Nat) (Option.some Jvm.ClassFile.FieldType.int)) ∈ lw_all := lw_g (lw_at lw_m2 208 rfl) rfl
theorem q515 : (Jvm.Cond.methodLink "SideBySide" (1 : Nat) ({ cls := "SideBySide", name := "rowOf", desc := "(I)I" } : Jvm.MethodName)) ∈ lw_all := lw_g (lw_at lw_m2 209 rfl) rfl
theorem q516 : (Jvm.Cond.methodLink "SideBySide" (7 : Nat) ({ cls := "java/lang/Math", name := "abs", desc := "(I)I" } : Jvm.MethodName)) ∈ lw_all := lw_g (lw_at lw_m2 210 rfl) rfl
theorem q519 : (Jvm.Cond.methodLink "SideBySide" (12 : Nat) ({ cls := "SideBySide", name := "columnOf", desc := "(I)I" } : Jvm.MethodName)) ∈ lw_all := lw_g (lw_at lw_m2 213 rfl) rfl
theorem q526 : (Jvm.Cond.static ({ cls := "SideBySide", name := "has", desc := "(II)Z" } : Jvm.MethodName)) ∈ lw_all := lw_g (lw_at lw_m2 220 rfl) rfl
theorem q527 : (Jvm.Cond.code ({ cls := "SideBySide", name := "has", desc := "(II)Z" } : Jvm.MethodName) prog_1_method_2_code (2 : Nat) (Option.some Jvm.ClassFile.FieldType.boolean)) ∈ lw_all := lw_g (lw_at lw_m2 221 rfl) rfl
theorem q559 : (Jvm.Cond.methodLink "SideBySide" (123 : Nat) ({ cls := "SideBySide", name := "comesPlayer", desc := "(LSideBySide$Told;)Z" } : Jvm.MethodName)) ∈ lw_all := lw_g (lw_at lw_m3 13 rfl) rfl
theorem q560 : (Jvm.Cond.privateMethod ({ cls := "SideBySide", name := "comesPlayer", desc := "(LSideBySide$Told;)Z" } : Jvm.MethodName)) ∈ lw_tbl := lw_at lw_m3 14 rfl
theorem q561 : (Jvm.Cond.instanceMethod ({ cls := "SideBySide", name := "comesPlayer", desc := "(LSideBySide$Told;)Z" } : Jvm.MethodName)) ∈ lw_all := lw_g (lw_at lw_m3 15 rfl) rfl
theorem q562 : (Jvm.Cond.code ({ cls := "SideBySide", name := "comesPlayer", desc := "(LSideBySide$Told;)Z" } : Jvm.MethodName) prog_1_method_12_code (3 : Nat) (Option.some Jvm.ClassFile.FieldType.boolean)) ∈ lw_all := lw_g (lw_at lw_m3 16 rfl) rfl
theorem q563 : (Jvm.Cond.methodLink "SideBySide" (61 : Nat) ({ cls := "SideBySide", name := "isPlayer", desc := "(I)Z" } : Jvm.MethodName)) ∈ lw_all := lw_g (lw_at lw_m3 17 rfl) rfl
theorem q564 : (Jvm.Cond.static ({ cls := "SideBySide", name := "isPlayer", desc := "(I)Z" } : Jvm.MethodName)) ∈ lw_all := lw_g (lw_at lw_m3 18 rfl) rfl
theorem q565 : (Jvm.Cond.code ({ cls := "SideBySide", name := "isPlayer", desc := "(I)Z" } : Jvm.MethodName) prog_1_method_9_code (1 : Nat) (Option.some Jvm.ClassFile.FieldType.boolean)) ∈ lw_all := lw_g (lw_at lw_m3 19 rfl) rfl
theorem q566 : (Jvm.Cond.methodLink "SideBySide" (78 : Nat) ({ cls := "SideBySide", name := "comesPlace", desc := "(III)Z" } : Jvm.MethodName)) ∈ lw_all := lw_g (lw_at lw_m3 20 rfl) rfl
theorem q567 : (Jvm.Cond.privateMethod ({ cls := "SideBySide", name := "comesPlace", desc := "(III)Z" } : Jvm.MethodName)) ∈ lw_tbl := lw_at lw_m3 21 rfl
theorem q568 : (Jvm.Cond.instanceMethod ({ cls := "SideBySide", name := "comesPlace", desc := "(III)Z" } : Jvm.MethodName)) ∈ lw_all := lw_g (lw_at lw_m3 22 rfl) rfl
theorem q569 : (Jvm.Cond.code ({ cls := "SideBySide", name := "comesPlace", desc := "(III)Z" } : Jvm.MethodName) prog_1_method_13_code (4 : Nat) (Option.some Jvm.ClassFile.FieldType.boolean)) ∈ lw_all := lw_g (lw_at lw_m3 23 rfl) rfl
theorem q570 : (Jvm.Cond.methodLink "SideBySide" (154 : Nat) ({ cls := "SideBySide$Broken", name := "<init>", desc := "(I)V" } : Jvm.MethodName)) ∈ lw_all := lw_g (lw_at lw_m3 24 rfl) rfl
theorem q572 : (Jvm.Cond.instanceMethod ({ cls := "SideBySide", name := "stroke", desc := "(II)I" } : Jvm.MethodName)) ∈ lw_all := lw_g (lw_at lw_m3 26 rfl) rfl
theorem q573 : (Jvm.Cond.selects "SideBySide" ({ cls := "SideBySide", name := "stroke", desc := "(II)I" } : Jvm.MethodName) ({ cls := "SideBySide", name := "stroke", desc := "(II)I" } : Jvm.MethodName)) ∈ lw_all := lw_g (lw_at lw_m3 27 rfl) rfl
theorem q574 : (Jvm.Cond.code ({ cls := "SideBySide", name := "stroke", desc := "(II)I" } : Jvm.MethodName) prog_1_method_18_code (4 : Nat) (Option.some Jvm.ClassFile.FieldType.int)) ∈ lw_all := lw_g (lw_at lw_m3 28 rfl) rfl
theorem q575 : (Jvm.Cond.methodLink "SideBySide" (183 : Nat) ({ cls := "SideBySide$Stroke", name := "kind", desc := "()I" } : Jvm.MethodName)) ∈ lw_all := lw_g (lw_at lw_m3 29 rfl) rfl
theorem q601 : (Jvm.Cond.methodLink "SideBySide" (193 : Nat) ({ cls := "SideBySide$Stroke", name := "time", desc := "(I)I" } : Jvm.MethodName)) ∈ lw_all := lw_g (lw_at lw_m3 55 rfl) rfl
theorem q603 : (Jvm.Cond.instanceMethod ({ cls := "SideBySide", name := "player", desc := "(II)I" } : Jvm.MethodName)) ∈ lw_all := lw_g (lw_at lw_m3 57 rfl) rfl
theorem q604 : (Jvm.Cond.selects "SideBySide" ({ cls := "SideBySide", name := "player", desc := "(II)I" } : Jvm.MethodName) ({ cls := "SideBySide", name := "player", desc := "(II)I" } : Jvm.MethodName)) ∈ lw_all := lw_g (lw_at lw_m3 58 rfl) rfl
theorem q605 : (Jvm.Cond.code ({ cls := "SideBySide", name := "player", desc := "(II)I" } : Jvm.MethodName) prog_1_method_19_code (3 : Nat) (Option.some Jvm.ClassFile.FieldType.int)) ∈ lw_all := lw_g (lw_at lw_m3 59 rfl) rfl
theorem q606 : (Jvm.Cond.methodLink "SideBySide" (196 : Nat) ({ cls := "SideBySide$Court", name := "steps", desc := "(II)I" } : Jvm.MethodName)) ∈ lw_all := lw_g (lw_at lw_m3 60 rfl) rfl
theorem q608 : (Jvm.Cond.instanceMethod ({ cls := "SideBySide", name := "side", desc := "(II)I" } : Jvm.MethodName)) ∈ lw_all := lw_g (lw_at lw_m3 62 rfl) rfl
theorem q609 : (Jvm.Cond.selects "SideBySide" ({ cls := "SideBySide", name := "side", desc := "(II)I" } : Jvm.MethodName) ({ cls := "SideBySide", name := "side", desc := "(II)I" } : Jvm.MethodName)) ∈ lw_all := lw_g (lw_at lw_m3 63 rfl) rfl
theorem q610 : (Jvm.Cond.code ({ cls := "SideBySide", name := "side", desc := "(II)I" } : Jvm.MethodName) prog_1_method_20_code (3 : Nat) (Option.some Jvm.ClassFile.FieldType.int)) ∈ lw_all := lw_g (lw_at lw_m3 64 rfl) rfl
theorem q611 : (Jvm.Cond.methodLink "SideBySide" (200 : Nat) ({ cls := "SideBySide$Court", name := "turn", desc := "()I" } : Jvm.MethodName)) ∈ lw_all := lw_g (lw_at lw_m3 65 rfl) rfl
theorem q612 : (Jvm.Cond.methodLink "SideBySide" (206 : Nat) ({ cls := "SideBySide$Court", name := "outOfPlace", desc := "(I)I" } : Jvm.MethodName)) ∈ lw_all := lw_g (lw_at lw_m3 66 rfl) rfl
theorem q617 : (Jvm.Cond.instanceMethod ({ cls := "SideBySide", name := "learns", desc := "(I)I" } : Jvm.MethodName)) ∈ lw_all := lw_g (lw_at lw_m3 71 rfl) rfl
theorem q618 : (Jvm.Cond.selects "SideBySide" ({ cls := "SideBySide", name := "learns", desc := "(I)I" } : Jvm.MethodName) ({ cls := "SideBySide", name := "learns", desc := "(I)I" } : Jvm.MethodName)) ∈ lw_all := lw_g (lw_at lw_m3 72 rfl) rfl
theorem q619 : (Jvm.Cond.codeWith ({ cls := "SideBySide", name := "learns", desc := "(I)I" } : Jvm.MethodName) prog_1_method_21_code (3 : Nat) (Option.some Jvm.ClassFile.FieldType.int) [((10 : Nat), (29 : Nat), (56 : Nat), (174 : Nat)), ((30 : Nat), (55 : Nat), (56 : Nat), (174 : Nat))]) ∈ lw_all := lw_g (lw_at lw_m3 73 rfl) rfl
theorem q621 : (Jvm.Cond.instanceMethod ({ cls := "SideBySide", name := "stands", desc := "(III)I" } : Jvm.MethodName)) ∈ lw_all := lw_g (lw_at lw_m3 75 rfl) rfl
theorem q622 : (Jvm.Cond.selects "SideBySide" ({ cls := "SideBySide", name := "stands", desc := "(III)I" } : Jvm.MethodName) ({ cls := "SideBySide", name := "stands", desc := "(III)I" } : Jvm.MethodName)) ∈ lw_all := lw_g (lw_at lw_m3 76 rfl) rfl
theorem q623 : (Jvm.Cond.code ({ cls := "SideBySide", name := "stands", desc := "(III)I" } : Jvm.MethodName) prog_1_method_22_code (5 : Nat) (Option.some Jvm.ClassFile.FieldType.int)) ∈ lw_all := lw_g (lw_at lw_m3 77 rfl) rfl
theorem q625 : (Jvm.Cond.instanceMethod ({ cls := "SideBySide", name := "tires", desc := "(II)I" } : Jvm.MethodName)) ∈ lw_all := lw_g (lw_at lw_m3 79 rfl) rfl
theorem q626 : (Jvm.Cond.selects "SideBySide" ({ cls := "SideBySide", name := "tires", desc := "(II)I" } : Jvm.MethodName) ({ cls := "SideBySide", name := "tires", desc := "(II)I" } : Jvm.MethodName)) ∈ lw_all := lw_g (lw_at lw_m3 80 rfl) rfl
theorem q627 : (Jvm.Cond.code ({ cls := "SideBySide", name := "tires", desc := "(II)I" } : Jvm.MethodName) prog_1_method_23_code (4 : Nat) (Option.some Jvm.ClassFile.FieldType.int)) ∈ lw_all := lw_g (lw_at lw_m3 81 rfl) rfl
theorem q629 : (Jvm.Cond.instanceMethod ({ cls := "SideBySide", name := "hands", desc := "(I)I" } : Jvm.MethodName)) ∈ lw_all := lw_g (lw_at lw_m3 83 rfl) rfl
theorem q630 : (Jvm.Cond.selects "SideBySide" ({ cls := "SideBySide", name := "hands", desc := "(I)I" } : Jvm.MethodName) ({ cls := "SideBySide", name := "hands", desc := "(I)I" } : Jvm.MethodName)) ∈ lw_all := lw_g (lw_at lw_m3 84 rfl) rfl
theorem q631 : (Jvm.Cond.code ({ cls := "SideBySide", name := "hands", desc := "(I)I" } : Jvm.MethodName) prog_1_method_24_code (2 : Nat) (Option.some Jvm.ClassFile.FieldType.int)) ∈ lw_all := lw_g (lw_at lw_m3 85 rfl) rfl
theorem q633 : (Jvm.Cond.instanceMethod ({ cls := "SideBySide", name := "forms", desc := "(III)I" } : Jvm.MethodName)) ∈ lw_all := lw_g (lw_at lw_m3 87 rfl) rfl
theorem q634 : (Jvm.Cond.selects "SideBySide" ({ cls := "SideBySide", name := "forms", desc := "(III)I" } : Jvm.MethodName) ({ cls := "SideBySide", name := "forms", desc := "(III)I" } : Jvm.MethodName)) ∈ lw_all := lw_g (lw_at lw_m3 88 rfl) rfl
theorem q635 : (Jvm.Cond.code ({ cls := "SideBySide", name := "forms", desc := "(III)I" } : Jvm.MethodName) prog_1_method_25_code (6 : Nat) (Option.some Jvm.ClassFile.FieldType.int)) ∈ lw_all := lw_g (lw_at lw_m3 89 rfl) rfl
theorem q637 : (Jvm.Cond.instanceMethod ({ cls := "SideBySide", name := "blows", desc := "(I)I" } : Jvm.MethodName)) ∈ lw_all := lw_g (lw_at lw_m3 91 rfl) rfl
theorem q638 : (Jvm.Cond.selects "SideBySide" ({ cls := "SideBySide", name := "blows", desc := "(I)I" } : Jvm.MethodName) ({ cls := "SideBySide", name := "blows", desc := "(I)I" } : Jvm.MethodName)) ∈ lw_all := lw_g (lw_at lw_m3 92 rfl) rfl
theorem q639 : (Jvm.Cond.code ({ cls := "SideBySide", name := "blows", desc := "(I)I" } : Jvm.MethodName) prog_1_method_26_code (3 : Nat) (Option.some Jvm.ClassFile.FieldType.int)) ∈ lw_all := lw_g (lw_at lw_m3 93 rfl) rfl
theorem q641 : (Jvm.Cond.instanceMethod ({ cls := "SideBySide", name := "hit", desc := "(II)I" } : Jvm.MethodName)) ∈ lw_all := lw_g (lw_at lw_m3 95 rfl) rfl
theorem q642 : (Jvm.Cond.selects "SideBySide" ({ cls := "SideBySide", name := "hit", desc := "(II)I" } : Jvm.MethodName) ({ cls := "SideBySide", name := "hit", desc := "(II)I" } : Jvm.MethodName)) ∈ lw_all := lw_g (lw_at lw_m3 96 rfl) rfl
theorem q643 : (Jvm.Cond.code ({ cls := "SideBySide", name := "hit", desc := "(II)I" } : Jvm.MethodName) prog_1_method_28_code (3 : Nat) (Option.some Jvm.ClassFile.FieldType.int)) ∈ lw_all := lw_g (lw_at lw_m3 97 rfl) rfl
theorem q644 : (Jvm.Cond.methodLink "SideBySide" (209 : Nat) ({ cls := "SideBySide", name := "isHit", desc := "(II)Z" } : Jvm.MethodName)) ∈ lw_all := lw_g (lw_at lw_m3 98 rfl) rfl
theorem q645 : (Jvm.Cond.privateMethod ({ cls := "SideBySide", name := "isHit", desc := "(II)Z" } : Jvm.MethodName)) ∈ lw_tbl := lw_at lw_m3 99 rfl
theorem q646 : (Jvm.Cond.instanceMethod ({ cls := "SideBySide", name := "isHit", desc := "(II)Z" } : Jvm.MethodName)) ∈ lw_all := lw_g (lw_at lw_m3 100 rfl) rfl
theorem q647 : (Jvm.Cond.code ({ cls := "SideBySide", name := "isHit", desc := "(II)Z" } : Jvm.MethodName) prog_1_method_27_code (3 : Nat) (Option.some Jvm.ClassFile.FieldType.boolean)) ∈ lw_all := lw_g (lw_at lw_m3 101 rfl) rfl
theorem q649 : (Jvm.Cond.instanceMethod ({ cls := "SideBySide", name := "whose", desc := "(II)I" } : Jvm.MethodName)) ∈ lw_all := lw_g (lw_at lw_m3 103 rfl) rfl
theorem q650 : (Jvm.Cond.selects "SideBySide" ({ cls := "SideBySide", name := "whose", desc := "(II)I" } : Jvm.MethodName) ({ cls := "SideBySide", name := "whose", desc := "(II)I" } : Jvm.MethodName)) ∈ lw_all := lw_g (lw_at lw_m3 104 rfl) rfl
theorem q651 : (Jvm.Cond.code ({ cls := "SideBySide", name := "whose", desc := "(II)I" } : Jvm.MethodName) prog_1_method_31_code (3 : Nat) (Option.some Jvm.ClassFile.FieldType.int)) ∈ lw_all := lw_g (lw_at lw_m3 105 rfl) rfl
theorem q652 : (Jvm.Cond.methodLink "SideBySide" (216 : Nat) ({ cls := "SideBySide$Court", name := "falls", desc := "(II)I" } : Jvm.MethodName)) ∈ lw_all := lw_g (lw_at lw_m3 106 rfl) rfl
theorem q653 : (Jvm.Cond.methodLink "SideBySide" (219 : Nat) ({ cls := "SideBySide$Court", name := "whose", desc := "(I)I" } : Jvm.MethodName)) ∈ lw_all := lw_g (lw_at lw_m3 107 rfl) rfl
theorem q655 : (Jvm.Cond.instanceMethod ({ cls := "SideBySide", name := "wins", desc := "(II)I" } : Jvm.MethodName)) ∈ lw_all := lw_g (lw_at lw_m3 109 rfl) rfl
theorem q656 : (Jvm.Cond.selects "SideBySide" ({ cls := "SideBySide", name := "wins", desc := "(II)I" } : Jvm.MethodName) ({ cls := "SideBySide", name := "wins", desc := "(II)I" } : Jvm.MethodName)) ∈ lw_all := lw_g (lw_at lw_m3 110 rfl) rfl
theorem q657 : (Jvm.Cond.code ({ cls := "SideBySide", name := "wins", desc := "(II)I" } : Jvm.MethodName) prog_1_method_32_code (3 : Nat) (Option.some Jvm.ClassFile.FieldType.int)) ∈ lw_all := lw_g (lw_at lw_m3 111 rfl) rfl
theorem q658 : (Jvm.Cond.methodLink "SideBySide" (222 : Nat) ({ cls := "SideBySide", name := "winsWith", desc := "(II)Z" } : Jvm.MethodName)) ∈ lw_all := lw_g (lw_at lw_m3 112 rfl) rfl
theorem q659 : (Jvm.Cond.privateMethod ({ cls := "SideBySide", name := "winsWith", desc := "(II)Z" } : Jvm.MethodName)) ∈ lw_tbl := lw_at lw_m3 113 rfl
theorem q660 : (Jvm.Cond.instanceMethod ({ cls := "SideBySide", name := "winsWith", desc := "(II)Z" } : Jvm.MethodName)) ∈ lw_all := lw_g (lw_at lw_m3 114 rfl) rfl
theorem q661 : (Jvm.Cond.code ({ cls := "SideBySide", name := "winsWith", desc := "(II)Z" } : Jvm.MethodName) prog_1_method_30_code (3 : Nat) (Option.some Jvm.ClassFile.FieldType.boolean)) ∈ lw_all := lw_g (lw_at lw_m3 115 rfl) rfl
theorem q662 : (Jvm.Cond.methodLink "SideBySide" (212 : Nat) ({ cls := "SideBySide", name := "minds", desc := "()V" } : Jvm.MethodName)) ∈ lw_all := lw_g (lw_at lw_m3 116 rfl) rfl
theorem q663 : (Jvm.Cond.privateMethod ({ cls := "SideBySide", name := "minds", desc := "()V" } : Jvm.MethodName)) ∈ lw_tbl := lw_at lw_m3 117 rfl
theorem q664 : (Jvm.Cond.instanceMethod ({ cls := "SideBySide", name := "minds", desc := "()V" } : Jvm.MethodName)) ∈ lw_all := lw_g (lw_at lw_m3 118 rfl) rfl
theorem q665 : (Jvm.Cond.code ({ cls := "SideBySide", name := "minds", desc := "()V" } : Jvm.MethodName) prog_1_method_29_code (1 : Nat) (Option.none : Option Jvm.ClassFile.FieldType)) ∈ lw_all := lw_g (lw_at lw_m3 119 rfl) rfl
theorem q667 : (Jvm.Cond.instanceMethod ({ cls := "SideBySide", name := "falls", desc := "(II)I" } : Jvm.MethodName)) ∈ lw_all := lw_g (lw_at lw_m3 121 rfl) rfl
theorem q668 : (Jvm.Cond.selects "SideBySide" ({ cls := "SideBySide", name := "falls", desc := "(II)I" } : Jvm.MethodName) ({ cls := "SideBySide", name := "falls", desc := "(II)I" } : Jvm.MethodName)) ∈ lw_all := lw_g (lw_at lw_m3 122 rfl) rfl
theorem q669 : (Jvm.Cond.code ({ cls := "SideBySide", name := "falls", desc := "(II)I" } : Jvm.MethodName) prog_1_method_33_code (3 : Nat) (Option.some Jvm.ClassFile.FieldType.int)) ∈ lw_all := lw_g (lw_at lw_m3 123 rfl) rfl
theorem q671 : (Jvm.Cond.instanceMethod ({ cls := "SideBySide", name := "open", desc := "(I)I" } : Jvm.MethodName)) ∈ lw_all := lw_g (lw_at lw_m3 125 rfl) rfl
theorem q672 : (Jvm.Cond.selects "SideBySide" ({ cls := "SideBySide", name := "open", desc := "(I)I" } : Jvm.MethodName) ({ cls := "SideBySide", name := "open", desc := "(I)I" } : Jvm.MethodName)) ∈ lw_all := lw_g (lw_at lw_m3 126 rfl) rfl
theorem q673 : (Jvm.Cond.code ({ cls := "SideBySide", name := "open", desc := "(I)I" } : Jvm.MethodName) prog_1_method_34_code (4 : Nat) (Option.some Jvm.ClassFile.FieldType.int)) ∈ lw_all := lw_g (lw_at lw_m3 127 rfl) rfl
theorem q675 : (Jvm.Cond.instanceMethod ({ cls := "SideBySide", name := "forced", desc := "()I" } : Jvm.MethodName)) ∈ lw_all := lw_g (lw_at lw_m3 129 rfl) rfl
theorem q676 : (Jvm.Cond.selects "SideBySide" ({ cls := "SideBySide", name := "forced", desc := "()I" } : Jvm.MethodName) ({ cls := "SideBySide", name := "forced", desc := "()I" } : Jvm.MethodName)) ∈ lw_all := lw_g (lw_at lw_m3 130 rfl) rfl
theorem q677 : (Jvm.Cond.code ({ cls := "SideBySide", name := "forced", desc := "()I" } : Jvm.MethodName) prog_1_method_35_code (3 : Nat) (Option.some Jvm.ClassFile.FieldType.int)) ∈ lw_all := lw_g (lw_at lw_m3 131 rfl) rfl
theorem q679 : (Jvm.Cond.instanceMethod ({ cls := "SideBySide", name := "farthest", desc := "(II)I" } : Jvm.MethodName)) ∈ lw_all := lw_g (lw_at lw_m3 133 rfl) rfl
theorem q680 : (Jvm.Cond.selects "SideBySide" ({ cls := "SideBySide", name := "farthest", desc := "(II)I" } : Jvm.MethodName) ({ cls := "SideBySide", name := "farthest", desc := "(II)I" } : Jvm.MethodName)) ∈ lw_all := lw_g (lw_at lw_m3 134 rfl) rfl
theorem q681 : (Jvm.Cond.code ({ cls := "SideBySide", name := "farthest", desc := "(II)I" } : Jvm.MethodName) prog_1_method_37_code (5 : Nat) (Option.some Jvm.ClassFile.FieldType.int)) ∈ lw_all := lw_g (lw_at lw_m3 135 rfl) rfl
theorem q682 : (Jvm.Cond.methodLink "SideBySide" (228 : Nat) ({ cls := "SideBySide", name := "farFor", desc := "(II)I" } : Jvm.MethodName)) ∈ lw_all := lw_g (lw_at lw_m3 136 rfl) rfl
theorem q683 : (Jvm.Cond.privateMethod ({ cls := "SideBySide", name := "farFor", desc := "(II)I" } : Jvm.MethodName)) ∈ lw_tbl := lw_at lw_m3 137 rfl
theorem q684 : (Jvm.Cond.instanceMethod ({ cls := "SideBySide", name := "farFor", desc := "(II)I" } : Jvm.MethodName)) ∈ lw_all := lw_g (lw_at lw_m3 138 rfl) rfl
theorem q685 : (Jvm.Cond.code ({ cls := "SideBySide", name := "farFor", desc := "(II)I" } : Jvm.MethodName) prog_1_method_36_code (5 : Nat) (Option.some Jvm.ClassFile.FieldType.int)) ∈ lw_all := lw_g (lw_at lw_m3 139 rfl) rfl
theorem q686 : (Jvm.Cond.methodLink "SideBySide" (225 : Nat) ({ cls := "SideBySide", name := "wayTo", desc := "(II)I" } : Jvm.MethodName)) ∈ lw_all := lw_g (lw_at lw_m3 140 rfl) rfl
theorem q688 : (Jvm.Cond.instanceMethod ({ cls := "SideBySide", name := "atWhom", desc := "(I)I" } : Jvm.MethodName)) ∈ lw_all := lw_g (lw_at lw_m3 142 rfl) rfl
theorem q689 : (Jvm.Cond.selects "SideBySide" ({ cls := "SideBySide", name := "atWhom", desc := "(I)I" } : Jvm.MethodName) ({ cls := "SideBySide", name := "atWhom", desc := "(I)I" } : Jvm.MethodName)) ∈ lw_all := lw_g (lw_at lw_m3 143 rfl) rfl
theorem q690 : (Jvm.Cond.code ({ cls := "SideBySide", name := "atWhom", desc := "(I)I" } : Jvm.MethodName) prog_1_method_38_code (5 : Nat) (Option.some Jvm.ClassFile.FieldType.int)) ∈ lw_all := lw_g (lw_at lw_m3 144 rfl) rfl
theorem q692 : (Jvm.Cond.instanceMethod ({ cls := "SideBySide", name := "fewest", desc := "(I)I" } : Jvm.MethodName)) ∈ lw_all := lw_g (lw_at lw_m3 146 rfl) rfl
theorem q693 : (Jvm.Cond.selects "SideBySide" ({ cls := "SideBySide", name := "fewest", desc := "(I)I" } : Jvm.MethodName) ({ cls := "SideBySide", name := "fewest", desc := "(I)I" } : Jvm.MethodName)) ∈ lw_all := lw_g (lw_at lw_m3 147 rfl) rfl
theorem q694 : (Jvm.Cond.code ({ cls := "SideBySide", name := "fewest", desc := "(I)I" } : Jvm.MethodName) prog_1_method_41_code (4 : Nat) (Option.some Jvm.ClassFile.FieldType.int)) ∈ lw_all := lw_g (lw_at lw_m3 148 rfl) rfl
theorem q695 : (Jvm.Cond.methodLink "SideBySide" (237 : Nat) ({ cls := "SideBySide", name := "forced", desc := "()I" } : Jvm.MethodName)) ∈ lw_all := lw_g (lw_at lw_m3 149 rfl) rfl
theorem q696 : (Jvm.Cond.methodLink "SideBySide" (240 : Nat) ({ cls := "SideBySide", name := "laterHit", desc := "()I" } : Jvm.MethodName)) ∈ lw_all := lw_g (lw_at lw_m3 150 rfl) rfl
theorem q697 : (Jvm.Cond.privateMethod ({ cls := "SideBySide", name := "laterHit", desc := "()I" } : Jvm.MethodName)) ∈ lw_tbl := lw_at lw_m3 151 rfl
theorem q698 : (Jvm.Cond.instanceMethod ({ cls := "SideBySide", name := "laterHit", desc := "()I" } : Jvm.MethodName)) ∈ lw_all := lw_g (lw_at lw_m3 152 rfl) rfl
theorem q699 : (Jvm.Cond.code ({ cls := "SideBySide", name := "laterHit", desc := "()I" } : Jvm.MethodName) prog_1_method_40_code (3 : Nat) (Option.some Jvm.ClassFile.FieldType.int)) ∈ lw_all := lw_g (lw_at lw_m3 153 rfl) rfl
theorem q700 : (Jvm.Cond.methodLink "SideBySide" (234 : Nat) ({ cls := "SideBySide", name := "winsLater", desc := "(II)Z" } : Jvm.MethodName)) ∈ lw_all := lw_g (lw_at lw_m3 154 rfl) rfl
theorem q701 : (Jvm.Cond.privateMethod ({ cls := "SideBySide", name := "winsLater", desc := "(II)Z" } : Jvm.MethodName)) ∈ lw_tbl := lw_at lw_m3 155 rfl
theorem q702 : (Jvm.Cond.instanceMethod ({ cls := "SideBySide", name := "winsLater", desc := "(II)Z" } : Jvm.MethodName)) ∈ lw_all := lw_g (lw_at lw_m3 156 rfl) rfl
theorem q703 : (Jvm.Cond.code ({ cls := "SideBySide", name := "winsLater", desc := "(II)Z" } : Jvm.MethodName) prog_1_method_39_code (5 : Nat) (Option.some Jvm.ClassFile.FieldType.boolean)) ∈ lw_all := lw_g (lw_at lw_m3 157 rfl) rfl
theorem q705 : (Jvm.Cond.instanceMethod ({ cls := "SideBySide", name := "bestForm", desc := "(II)I" } : Jvm.MethodName)) ∈ lw_all := lw_g (lw_at lw_m3 159 rfl) rfl
theorem q706 : (Jvm.Cond.selects "SideBySide" ({ cls := "SideBySide", name := "bestForm", desc := "(II)I" } : Jvm.MethodName) ({ cls := "SideBySide", name := "bestForm", desc := "(II)I" } : Jvm.MethodName)) ∈ lw_all := lw_g (lw_at lw_m3 160 rfl) rfl
theorem q707 : (Jvm.Cond.code ({ cls := "SideBySide", name := "bestForm", desc := "(II)I" } : Jvm.MethodName) prog_1_method_45_code (3 : Nat) (Option.some Jvm.ClassFile.FieldType.int)) ∈ lw_all := lw_g (lw_at lw_m3 161 rfl) rfl
theorem q708 : (Jvm.Cond.methodLink "SideBySide" (250 : Nat) ({ cls := "SideBySide", name := "bestOf", desc := "(IIIZ)I" } : Jvm.MethodName)) ∈ lw_all := lw_g (lw_at lw_m3 162 rfl) rfl
theorem q709 : (Jvm.Cond.privateMethod ({ cls := "SideBySide", name := "bestOf", desc := "(IIIZ)I" } : Jvm.MethodName)) ∈ lw_tbl := lw_at lw_m3 163 rfl
theorem q710 : (Jvm.Cond.instanceMethod ({ cls := "SideBySide", name := "bestOf", desc := "(IIIZ)I" } : Jvm.MethodName)) ∈ lw_all := lw_g (lw_at lw_m3 164 rfl) rfl
theorem q711 : (Jvm.Cond.code ({ cls := "SideBySide", name := "bestOf", desc := "(IIIZ)I" } : Jvm.MethodName) prog_1_method_44_code (7 : Nat) (Option.some Jvm.ClassFile.FieldType.int)) ∈ lw_all := lw_g (lw_at lw_m3 165 rfl) rfl
theorem q712 : (Jvm.Cond.methodLink "SideBySide" (246 : Nat) ({ cls := "SideBySide", name := "standsBy", desc := "(III)I" } : Jvm.MethodName)) ∈ lw_all := lw_g (lw_at lw_m3 166 rfl) rfl
theorem q713 : (Jvm.Cond.privateMethod ({ cls := "SideBySide", name := "standsBy", desc := "(III)I" } : Jvm.MethodName)) ∈ lw_tbl := lw_at lw_m3 167 rfl
theorem q714 : (Jvm.Cond.instanceMethod ({ cls := "SideBySide", name := "standsBy", desc := "(III)I" } : Jvm.MethodName)) ∈ lw_all := lw_g (lw_at lw_m3 168 rfl) rfl
theorem q715 : (Jvm.Cond.code ({ cls := "SideBySide", name := "standsBy", desc := "(III)I" } : Jvm.MethodName) prog_1_method_43_code (6 : Nat) (Option.some Jvm.ClassFile.FieldType.int)) ∈ lw_all := lw_g (lw_at lw_m3 169 rfl) rfl
theorem q716 : (Jvm.Cond.methodLink "SideBySide" (243 : Nat) ({ cls := "SideBySide", name := "stands", desc := "(II)Z" } : Jvm.MethodName)) ∈ lw_all := lw_g (lw_at lw_m3 170 rfl) rfl
theorem q717 : (Jvm.Cond.privateMethod ({ cls := "SideBySide", name := "stands", desc := "(II)Z" } : Jvm.MethodName)) ∈ lw_tbl := lw_at lw_m3 171 rfl
theorem q718 : (Jvm.Cond.instanceMethod ({ cls := "SideBySide", name := "stands", desc := "(II)Z" } : Jvm.MethodName)) ∈ lw_all := lw_g (lw_at lw_m3 172 rfl) rfl
theorem q719 : (Jvm.Cond.code ({ cls := "SideBySide", name := "stands", desc := "(II)Z" } : Jvm.MethodName) prog_1_method_42_code (3 : Nat) (Option.some Jvm.ClassFile.FieldType.boolean)) ∈ lw_all := lw_g (lw_at lw_m3 173 rfl) rfl
theorem q721 : (Jvm.Cond.instanceMethod ({ cls := "SideBySide", name := "bestHabit", desc := "(II)I" } : Jvm.MethodName)) ∈ lw_all := lw_g (lw_at lw_m3 175 rfl) rfl
theorem q722 : (Jvm.Cond.selects "SideBySide" ({ cls := "SideBySide", name := "bestHabit", desc := "(II)I" } : Jvm.MethodName) ({ cls := "SideBySide", name := "bestHabit", desc := "(II)I" } : Jvm.MethodName)) ∈ lw_all := lw_g (lw_at lw_m3 176 rfl) rfl
theorem q723 : (Jvm.Cond.code ({ cls := "SideBySide", name := "bestHabit", desc := "(II)I" } : Jvm.MethodName) prog_1_method_46_code (3 : Nat) (Option.some Jvm.ClassFile.FieldType.int)) ∈ lw_all := lw_g (lw_at lw_m3 177 rfl) rfl
theorem q725 : (Jvm.Cond.instanceMethod ({ cls := "SideBySide", name := "change", desc := "(IIII)I" } : Jvm.MethodName)) ∈ lw_all := lw_g (lw_at lw_m3 179 rfl) rfl
theorem q726 : (Jvm.Cond.selects "SideBySide" ({ cls := "SideBySide", name := "change", desc := "(IIII)I" } : Jvm.MethodName) ({ cls := "SideBySide", name := "change", desc := "(IIII)I" } : Jvm.MethodName)) ∈ lw_all := lw_g (lw_at lw_m3 180 rfl) rfl
theorem q727 : (Jvm.Cond.code ({ cls := "SideBySide", name := "change", desc := "(IIII)I" } : Jvm.MethodName) prog_1_method_47_code (5 : Nat) (Option.some Jvm.ClassFile.FieldType.int)) ∈ lw_all := lw_g (lw_at lw_m3 181 rfl) rfl
theorem q729 : (Jvm.Cond.instanceMethod ({ cls := "SideBySide", name := "rally", desc := "(II)I" } : Jvm.MethodName)) ∈ lw_all := lw_g (lw_at lw_m3 183 rfl) rfl
theorem q730 : (Jvm.Cond.selects "SideBySide" ({ cls := "SideBySide", name := "rally", desc := "(II)I" } : Jvm.MethodName) ({ cls := "SideBySide", name := "rally", desc := "(II)I" } : Jvm.MethodName)) ∈ lw_all := lw_g (lw_at lw_m3 184 rfl) rfl
theorem q731 : (Jvm.Cond.code ({ cls := "SideBySide", name := "rally", desc := "(II)I" } : Jvm.MethodName) prog_1_method_56_code (5 : Nat) (Option.some Jvm.ClassFile.FieldType.int)) ∈ lw_all := lw_g (lw_at lw_m3 185 rfl) rfl
theorem q732 : (Jvm.Cond.methodLink "SideBySide" (284 : Nat) ({ cls := "SideBySide", name := "notHits", desc := "(I)I" } : Jvm.MethodName)) ∈ lw_all := lw_g (lw_at lw_m3 186 rfl) rfl
theorem q733 : (Jvm.Cond.privateMethod ({ cls := "SideBySide", name := "notHits", desc := "(I)I" } : Jvm.MethodName)) ∈ lw_tbl := lw_at lw_m3 187 rfl
theorem q734 : (Jvm.Cond.instanceMethod ({ cls := "SideBySide", name := "notHits", desc := "(I)I" } : Jvm.MethodName)) ∈ lw_all := lw_g (lw_at lw_m3 188 rfl) rfl
theorem q735 : (Jvm.Cond.code ({ cls := "SideBySide", name := "notHits", desc := "(I)I" } : Jvm.MethodName) prog_1_method_54_code (5 : Nat) (Option.some Jvm.ClassFile.FieldType.int)) ∈ lw_all := lw_g (lw_at lw_m3 189 rfl) rfl
theorem q736 : (Jvm.Cond.methodLink "SideBySide" (275 : Nat) ({ cls := "SideBySide", name := "notRow", desc := "(I)I" } : Jvm.MethodName)) ∈ lw_all := lw_g (lw_at lw_m3 190 rfl) rfl
theorem q737 : (Jvm.Cond.privateMethod ({ cls := "SideBySide", name := "notRow", desc := "(I)I" } : Jvm.MethodName)) ∈ lw_tbl := lw_at lw_m3 191 rfl
theorem q738 : (Jvm.Cond.instanceMethod ({ cls := "SideBySide", name := "notRow", desc := "(I)I" } : Jvm.MethodName)) ∈ lw_all := lw_g (lw_at lw_m3 192 rfl) rfl
theorem q739 : (Jvm.Cond.code ({ cls := "SideBySide", name := "notRow", desc := "(I)I" } : Jvm.MethodName) prog_1_method_53_code (3 : Nat) (Option.some Jvm.ClassFile.FieldType.int)) ∈ lw_all := lw_g (lw_at lw_m3 193 rfl) rfl
theorem q740 : (Jvm.Cond.methodLink "SideBySide" (272 : Nat) ({ cls := "SideBySide", name := "sortOf", desc := "(Ljava/lang/Object;)I" } : Jvm.MethodName)) ∈ lw_all := lw_g (lw_at lw_m3 194 rfl) rfl
theorem q741 : (Jvm.Cond.static ({ cls := "SideBySide", name := "sortOf", desc := "(Ljava/lang/Object;)I" } : Jvm.MethodName)) ∈ lw_all := lw_g (lw_at lw_m3 195 rfl) rfl
theorem q742 : (Jvm.Cond.code ({ cls := "SideBySide", name := "sortOf", desc := "(Ljava/lang/Object;)I" } : Jvm.MethodName) prog_1_method_51_code (1 : Nat) (Option.some Jvm.ClassFile.FieldType.int)) ∈ lw_all := lw_g (lw_at lw_m3 196 rfl) rfl
theorem q743 : (Jvm.Cond.classLink "SideBySide" (254 : Nat) "[S") ∈ lw_all := lw_g (lw_at lw_m3 197 rfl) rfl
theorem q744 : (Jvm.Cond.classLink "SideBySide" (256 : Nat) "[I") ∈ lw_all := lw_g (lw_at lw_m3 198 rfl) rfl
theorem q745 : (Jvm.Cond.methodLink "SideBySide" (278 : Nat) ({ cls := "SideBySide", name := "sizeOf", desc := "(Ljava/lang/Object;)I" } : Jvm.MethodName)) ∈ lw_all := lw_g (lw_at lw_m3 199 rfl) rfl
theorem q746 : (Jvm.Cond.static ({ cls := "SideBySide", name := "sizeOf", desc := "(Ljava/lang/Object;)I" } : Jvm.MethodName)) ∈ lw_all := lw_g (lw_at lw_m3 200 rfl) rfl
theorem q747 : (Jvm.Cond.code ({ cls := "SideBySide", name := "sizeOf", desc := "(Ljava/lang/Object;)I" } : Jvm.MethodName) prog_1_method_48_code (1 : Nat) (Option.some Jvm.ClassFile.FieldType.int)) ∈ lw_all := lw_g (lw_at lw_m3 201 rfl) rfl
theorem q748 : (Jvm.Cond.methodLink "SideBySide" (264 : Nat) ({ cls := "SideBySide", name := "elementOf", desc := "(Ljava/lang/Object;I)I" } : Jvm.MethodName)) ∈ lw_all := lw_g (lw_at lw_m3 202 rfl) rfl
theorem q749 : (Jvm.Cond.static ({ cls := "SideBySide", name := "elementOf", desc := "(Ljava/lang/Object;I)I" } : Jvm.MethodName)) ∈ lw_all := lw_g (lw_at lw_m3 203 rfl) rfl
theorem q750 : (Jvm.Cond.code ({ cls := "SideBySide", name := "elementOf", desc := "(Ljava/lang/Object;I)I" } : Jvm.MethodName) prog_1_method_49_code (2 : Nat) (Option.some Jvm.ClassFile.FieldType.int)) ∈ lw_all := lw_g (lw_at lw_m3 204 rfl) rfl
theorem q751 : (Jvm.Cond.methodLink "SideBySide" (287 : Nat) ({ cls := "SideBySide", name := "rallies", desc := "(Ljava/lang/Object;)I" } : Jvm.MethodName)) ∈ lw_all := lw_g (lw_at lw_m3 205 rfl) rfl
theorem q752 : (Jvm.Cond.privateMethod ({ cls := "SideBySide", name := "rallies", desc := "(Ljava/lang/Object;)I" } : Jvm.MethodName)) ∈ lw_tbl := lw_at lw_m3 206 rfl
theorem q753 : (Jvm.Cond.instanceMethod ({ cls := "SideBySide", name := "rallies", desc := "(Ljava/lang/Object;)I" } : Jvm.MethodName)) ∈ lw_all := lw_g (lw_at lw_m3 207 rfl) rfl
theorem q754 : (Jvm.Cond.code ({ cls := "SideBySide", name := "rallies", desc := "(Ljava/lang/Object;)I" } : Jvm.MethodName) prog_1_method_55_code (4 : Nat) (Option.some Jvm.ClassFile.FieldType.int)) ∈ lw_all := lw_g (lw_at lw_m3 208 rfl) rfl
theorem q756 : (Jvm.Cond.instanceMethod ({ cls := "SideBySide", name := "ways", desc := "(II)I" } : Jvm.MethodName)) ∈ lw_all := lw_g (lw_at lw_m3 210 rfl) rfl
theorem q757 : (Jvm.Cond.selects "SideBySide" ({ cls := "SideBySide", name := "ways", desc := "(II)I" } : Jvm.MethodName) ({ cls := "SideBySide", name := "ways", desc := "(II)I" } : Jvm.MethodName)) ∈ lw_all := lw_g (lw_at lw_m3 211 rfl) rfl
theorem q758 : (Jvm.Cond.code ({ cls := "SideBySide", name := "ways", desc := "(II)I" } : Jvm.MethodName) prog_1_method_57_code (4 : Nat) (Option.some Jvm.ClassFile.FieldType.int)) ∈ lw_all := lw_g (lw_at lw_m3 212 rfl) rfl
theorem q760 : (Jvm.Cond.instanceMethod ({ cls := "SideBySide", name := "spent", desc := "(I)I" } : Jvm.MethodName)) ∈ lw_all := lw_g (lw_at lw_m3 214 rfl) rfl
theorem q761 : (Jvm.Cond.selects "SideBySide" ({ cls := "SideBySide", name := "spent", desc := "(I)I" } : Jvm.MethodName) ({ cls := "SideBySide", name := "spent", desc := "(I)I" } : Jvm.MethodName)) ∈ lw_all := lw_g (lw_at lw_m3 215 rfl) rfl
theorem q762 : (Jvm.Cond.code ({ cls := "SideBySide", name := "spent", desc := "(I)I" } : Jvm.MethodName) prog_1_method_58_code (5 : Nat) (Option.some Jvm.ClassFile.FieldType.int)) ∈ lw_all := lw_g (lw_at lw_m3 216 rfl) rfl
theorem q764 : (Jvm.Cond.instanceMethod ({ cls := "SideBySide", name := "whatIs", desc := "(III)I" } : Jvm.MethodName)) ∈ lw_all := lw_g (lw_at lw_m3 218 rfl) rfl
theorem q765 : (Jvm.Cond.selects "SideBySide" ({ cls := "SideBySide", name := "whatIs", desc := "(III)I" } : Jvm.MethodName) ({ cls := "SideBySide", name := "whatIs", desc := "(III)I" } : Jvm.MethodName)) ∈ lw_all := lw_g (lw_at lw_m3 219 rfl) rfl
theorem q766 : (Jvm.Cond.code ({ cls := "SideBySide", name := "whatIs", desc := "(III)I" } : Jvm.MethodName) prog_1_method_61_code (9 : Nat) (Option.some Jvm.ClassFile.FieldType.int)) ∈ lw_all := lw_g (lw_at lw_m3 220 rfl) rfl
theorem q767 : (Jvm.Cond.methodLink "SideBySide" (298 : Nat) ({ cls := "SideBySide", name := "notNine", desc := "(I)I" } : Jvm.MethodName)) ∈ lw_all := lw_g (lw_at lw_m3 221 rfl) rfl
theorem q768 : (Jvm.Cond.privateMethod ({ cls := "SideBySide", name := "notNine", desc := "(I)I" } : Jvm.MethodName)) ∈ lw_tbl := lw_at lw_m3 222 rfl
theorem q769 : (Jvm.Cond.instanceMethod ({ cls := "SideBySide", name := "notNine", desc := "(I)I" } : Jvm.MethodName)) ∈ lw_all := lw_g (lw_at lw_m3 223 rfl) rfl
theorem q770 : (Jvm.Cond.code ({ cls := "SideBySide", name := "notNine", desc := "(I)I" } : Jvm.MethodName) prog_1_method_60_code (3 : Nat) (Option.some Jvm.ClassFile.FieldType.int)) ∈ lw_all := lw_g (lw_at lw_m3 224 rfl) rfl
theorem q771 : (Jvm.Cond.methodLink "SideBySide" (301 : Nat) ({ cls := "SideBySide", name := "fellSo", desc := "(Ljava/lang/Object;LSideBySide$Stroke;I)Z" } : Jvm.MethodName)) ∈ lw_all := lw_g (lw_at lw_m3 225 rfl) rfl
theorem q772 : (Jvm.Cond.privateMethod ({ cls := "SideBySide", name := "fellSo", desc := "(Ljava/lang/Object;LSideBySide$Stroke;I)Z" } : Jvm.MethodName)) ∈ lw_tbl := lw_at lw_m3 226 rfl
theorem q773 : (Jvm.Cond.instanceMethod ({ cls := "SideBySide", name := "fellSo", desc := "(Ljava/lang/Object;LSideBySide$Stroke;I)Z" } : Jvm.MethodName)) ∈ lw_all := lw_g (lw_at lw_m3 227 rfl) rfl
theorem q774 : (Jvm.Cond.code ({ cls := "SideBySide", name := "fellSo", desc := "(Ljava/lang/Object;LSideBySide$Stroke;I)Z" } : Jvm.MethodName) prog_1_method_59_code (5 : Nat) (Option.some Jvm.ClassFile.FieldType.boolean)) ∈ lw_all := lw_g (lw_at lw_m3 228 rfl) rfl
theorem q775 : (Jvm.Cond.methodLink "SideBySide" (293 : Nat) ({ cls := "SideBySide", name := "isSkipped", desc := "(Ljava/lang/Object;I)Z" } : Jvm.MethodName)) ∈ lw_all := lw_g (lw_at lw_m3 229 rfl) rfl
theorem q776 : (Jvm.Cond.static ({ cls := "SideBySide", name := "isSkipped", desc := "(Ljava/lang/Object;I)Z" } : Jvm.MethodName)) ∈ lw_all := lw_g (lw_at lw_m3 230 rfl) rfl
theorem q777 : (Jvm.Cond.code ({ cls := "SideBySide", name := "isSkipped", desc := "(Ljava/lang/Object;I)Z" } : Jvm.MethodName) prog_1_method_52_code (2 : Nat) (Option.some Jvm.ClassFile.FieldType.boolean)) ∈ lw_all := lw_g (lw_at lw_m3 231 rfl) rfl
theorem q778 : (Jvm.Cond.methodLink "SideBySide" (268 : Nat) ({ cls := "SideBySide", name := "leastElement", desc := "(Ljava/lang/Object;)I" } : Jvm.MethodName)) ∈ lw_all := lw_g (lw_at lw_m3 232 rfl) rfl
theorem q779 : (Jvm.Cond.static ({ cls := "SideBySide", name := "leastElement", desc := "(Ljava/lang/Object;)I" } : Jvm.MethodName)) ∈ lw_all := lw_g (lw_at lw_m3 233 rfl) rfl
theorem q780 : (Jvm.Cond.code ({ cls := "SideBySide", name := "leastElement", desc := "(Ljava/lang/Object;)I" } : Jvm.MethodName) prog_1_method_50_code (1 : Nat) (Option.some Jvm.ClassFile.FieldType.int)) ∈ lw_all := lw_g (lw_at lw_m3 234 rfl) rfl
theorem q781 : (Jvm.Cond.constant "SideBySide" (263 : Nat) (-2147483648 : Int32)) ∈ lw_all := lw_g (lw_at lw_m3 235 rfl) rfl
theorem q783 : (Jvm.Cond.instanceMethod ({ cls := "SideBySide", name := "habits", desc := "(I)I" } : Jvm.MethodName)) ∈ lw_all := lw_g (lw_at lw_m3 237 rfl) rfl
theorem q784 : (Jvm.Cond.selects "SideBySide" ({ cls := "SideBySide", name := "habits", desc := "(I)I" } : Jvm.MethodName) ({ cls := "SideBySide", name := "habits", desc := "(I)I" } : Jvm.MethodName)) ∈ lw_all := lw_g (lw_at lw_m3 238 rfl) rfl
theorem q785 : (Jvm.Cond.code ({ cls := "SideBySide", name := "habits", desc := "(I)I" } : Jvm.MethodName) prog_1_method_63_code (5 : Nat) (Option.some Jvm.ClassFile.FieldType.int)) ∈ lw_all := lw_g (lw_at lw_m3 239 rfl) rfl
theorem q786 : (Jvm.Cond.methodLink "SideBySide" (305 : Nat) ({ cls := "SideBySide", name := "wereSo", desc := "(Ljava/lang/Object;)Z" } : Jvm.MethodName)) ∈ lw_all := lw_g (lw_at lw_m4 0 rfl) rfl
theorem q787 : (Jvm.Cond.privateMethod ({ cls := "SideBySide", name := "wereSo", desc := "(Ljava/lang/Object;)Z" } : Jvm.MethodName)) ∈ lw_tbl := lw_at lw_m4 1 rfl
theorem q788 : (Jvm.Cond.instanceMethod ({ cls := "SideBySide", name := "wereSo", desc := "(Ljava/lang/Object;)Z" } : Jvm.MethodName)) ∈ lw_all := lw_g (lw_at lw_m4 2 rfl) rfl
theorem q789 : (Jvm.Cond.code ({ cls := "SideBySide", name := "wereSo", desc := "(Ljava/lang/Object;)Z" } : Jvm.MethodName) prog_1_method_62_code (3 : Nat) (Option.some Jvm.ClassFile.FieldType.boolean)) ∈ lw_all := lw_g (lw_at lw_m4 3 rfl) rfl
theorem q791 : (Jvm.Cond.instanceMethod ({ cls := "SideBySide", name := "two", desc := "()I" } : Jvm.MethodName)) ∈ lw_all := lw_g (lw_at lw_m4 5 rfl) rfl
theorem q792 : (Jvm.Cond.selects "SideBySide" ({ cls := "SideBySide", name := "two", desc := "()I" } : Jvm.MethodName) ({ cls := "SideBySide", name := "two", desc := "()I" } : Jvm.MethodName)) ∈ lw_all := lw_g (lw_at lw_m4 6 rfl) rfl
theorem q793 : (Jvm.Cond.code ({ cls := "SideBySide", name := "two", desc := "()I" } : Jvm.MethodName) prog_1_method_65_code (4 : Nat) (Option.some Jvm.ClassFile.FieldType.int)) ∈ lw_all := lw_g (lw_at lw_m4 7 rfl) rfl
theorem q794 : (Jvm.Cond.methodLink "SideBySide" (312 : Nat) ({ cls := "SideBySide", name := "costs", desc := "(III)I" } : Jvm.MethodName)) ∈ lw_all := lw_g (lw_at lw_m4 8 rfl) rfl
theorem q795 : (Jvm.Cond.privateMethod ({ cls := "SideBySide", name := "costs", desc := "(III)I" } : Jvm.MethodName)) ∈ lw_tbl := lw_at lw_m4 9 rfl
theorem q796 : (Jvm.Cond.instanceMethod ({ cls := "SideBySide", name := "costs", desc := "(III)I" } : Jvm.MethodName)) ∈ lw_all := lw_g (lw_at lw_m4 10 rfl) rfl
theorem q797 : (Jvm.Cond.code ({ cls := "SideBySide", name := "costs", desc := "(III)I" } : Jvm.MethodName) prog_1_method_64_code (7 : Nat) (Option.some Jvm.ClassFile.FieldType.int)) ∈ lw_all := lw_g (lw_at lw_m4 11 rfl) rfl
theorem q798 : (Jvm.Cond.methodLink "SideBySide" (309 : Nat) ({ cls := "SideBySide$Court", name := "tiredOf", desc := "(I)I" } : Jvm.MethodName)) ∈ lw_all := lw_g (lw_at lw_m4 12 rfl) rfl
theorem q803 : (Jvm.Cond.instanceMethod ({ cls := "SideBySide", name := "draughts", desc := "(III)J" } : Jvm.MethodName)) ∈ lw_all := lw_g (lw_at lw_m4 17 rfl) rfl
theorem q804 : (Jvm.Cond.selects "SideBySide" ({ cls := "SideBySide", name := "draughts", desc := "(III)J" } : Jvm.MethodName) ({ cls := "SideBySide", name := "draughts", desc := "(III)J" } : Jvm.MethodName)) ∈ lw_all := lw_g (lw_at lw_m4 18 rfl) rfl
theorem q805 : (Jvm.Cond.code ({ cls := "SideBySide", name := "draughts", desc := "(III)J" } : Jvm.MethodName) prog_1_method_69_code (12 : Nat) (Option.some Jvm.ClassFile.FieldType.long)) ∈ lw_all := lw_g (lw_at lw_m4 19 rfl) rfl
theorem q806 : (Jvm.Cond.methodLink "SideBySide" (322 : Nat) ({ cls := "java/lang/Math", name := "min", desc := "(II)I" } : Jvm.MethodName)) ∈ lw_all := lw_g (lw_at lw_m4 20 rfl) rfl
theorem q807 : (Jvm.Cond.constantLong "SideBySide" (325 : Nat) (1000000001 : Int64)) ∈ lw_all := lw_g (lw_at lw_m4 21 rfl) rfl
theorem q808 : (Jvm.Cond.methodLink "SideBySide" (319 : Nat) ({ cls := "SideBySide", name := "has", desc := "(II)Z" } : Jvm.MethodName)) ∈ lw_all := lw_g (lw_at lw_m4 22 rfl) rfl
theorem q809 : (Jvm.Cond.methodLink "SideBySide" (327 : Nat) ({ cls := "SideBySide", name := "goesOn", desc := "(II)Z" } : Jvm.MethodName)) ∈ lw_all := lw_g (lw_at lw_m4 23 rfl) rfl
theorem q810 : (Jvm.Cond.privateMethod ({ cls := "SideBySide", name := "goesOn", desc := "(II)Z" } : Jvm.MethodName)) ∈ lw_tbl := lw_at lw_m4 24 rfl
theorem q811 : (Jvm.Cond.instanceMethod ({ cls := "SideBySide", name := "goesOn", desc := "(II)Z" } : Jvm.MethodName)) ∈ lw_all := lw_g (lw_at lw_m4 25 rfl) rfl
theorem q812 : (Jvm.Cond.code ({ cls := "SideBySide", name := "goesOn", desc := "(II)Z" } : Jvm.MethodName) prog_1_method_68_code (5 : Nat) (Option.some Jvm.ClassFile.FieldType.boolean)) ∈ lw_all := lw_g (lw_at lw_m4 26 rfl) rfl
theorem q813 : (Jvm.Cond.methodLink "SideBySide" (330 : Nat) ({ cls := "SideBySide", name := "partOf", desc := "(JJI)J" } : Jvm.MethodName)) ∈ lw_all := lw_g (lw_at lw_m4 27 rfl) rfl
theorem q814 : (Jvm.Cond.static ({ cls := "SideBySide", name := "partOf", desc := "(JJI)J" } : Jvm.MethodName)) ∈ lw_all := lw_g (lw_at lw_m4 28 rfl) rfl
theorem q815 : (Jvm.Cond.code ({ cls := "SideBySide", name := "partOf", desc := "(JJI)J" } : Jvm.MethodName) prog_1_method_67_code (5 : Nat) (Option.some Jvm.ClassFile.FieldType.long)) ∈ lw_all := lw_g (lw_at lw_m4 29 rfl) rfl
theorem q816 : (Jvm.Cond.methodLink "SideBySide" (315 : Nat) ({ cls := "SideBySide", name := "divisor", desc := "(JJ)J" } : Jvm.MethodName)) ∈ lw_all := lw_g (lw_at lw_m4 30 rfl) rfl
theorem q817 : (Jvm.Cond.static ({ cls := "SideBySide", name := "divisor", desc := "(JJ)J" } : Jvm.MethodName)) ∈ lw_all := lw_g (lw_at lw_m4 31 rfl) rfl
theorem q818 : (Jvm.Cond.code ({ cls := "SideBySide", name := "divisor", desc := "(JJ)J" } : Jvm.MethodName) prog_1_method_66_code (4 : Nat) (Option.some Jvm.ClassFile.FieldType.long)) ∈ lw_all := lw_g (lw_at lw_m4 32 rfl) rfl
theorem q820 : (Jvm.Cond.instanceMethod ({ cls := "SideBySide", name := "mean", desc := "(I)J" } : Jvm.MethodName)) ∈ lw_all := lw_g (lw_at lw_m4 34 rfl) rfl
theorem q821 : (Jvm.Cond.selects "SideBySide" ({ cls := "SideBySide", name := "mean", desc := "(I)J" } : Jvm.MethodName) ({ cls := "SideBySide", name := "mean", desc := "(I)J" } : Jvm.MethodName)) ∈ lw_all := lw_g (lw_at lw_m4 35 rfl) rfl
theorem q822 : (Jvm.Cond.code ({ cls := "SideBySide", name := "mean", desc := "(I)J" } : Jvm.MethodName) prog_1_method_70_code (2 : Nat) (Option.some Jvm.ClassFile.FieldType.long)) ∈ lw_all := lw_g (lw_at lw_m4 36 rfl) rfl
theorem q823 : (Jvm.Cond.constantLong "SideBySide" (334 : Nat) (4 : Int64)) ∈ lw_all := lw_g (lw_at lw_m4 37 rfl) rfl
theorem q825 : (Jvm.Cond.instanceMethod ({ cls := "SideBySide", name := "forged", desc := "(I)I" } : Jvm.MethodName)) ∈ lw_all := lw_g (lw_at lw_m4 39 rfl) rfl
theorem q826 : (Jvm.Cond.selects "SideBySide" ({ cls := "SideBySide", name := "forged", desc := "(I)I" } : Jvm.MethodName) ({ cls := "SideBySide", name := "forged", desc := "(I)I" } : Jvm.MethodName)) ∈ lw_all := lw_g (lw_at lw_m4 40 rfl) rfl
theorem q827 : (Jvm.Cond.code ({ cls := "SideBySide", name := "forged", desc := "(I)I" } : Jvm.MethodName) prog_1_method_71_code (8 : Nat) (Option.some Jvm.ClassFile.FieldType.int)) ∈ lw_all := lw_g (lw_at lw_m4 41 rfl) rfl
theorem q829 : (Jvm.Cond.instanceMethod ({ cls := "SideBySide", name := "judge", desc := "(I)I" } : Jvm.MethodName)) ∈ lw_all := lw_g (lw_at lw_m4 43 rfl) rfl
theorem q830 : (Jvm.Cond.selects "SideBySide" ({ cls := "SideBySide", name := "judge", desc := "(I)I" } : Jvm.MethodName) ({ cls := "SideBySide", name := "judge", desc := "(I)I" } : Jvm.MethodName)) ∈ lw_all := lw_g (lw_at lw_m4 44 rfl) rfl
theorem q831 : (Jvm.Cond.code ({ cls := "SideBySide", name := "judge", desc := "(I)I" } : Jvm.MethodName) prog_1_method_72_code (5 : Nat) (Option.some Jvm.ClassFile.FieldType.int)) ∈ lw_all := lw_g (lw_at lw_m4 45 rfl) rfl
theorem q832 : (Jvm.Cond.methodLink "SideBySide" (336 : Nat) ({ cls := "SideBySide$Court", name := "allPoints", desc := "()I" } : Jvm.MethodName)) ∈ lw_all := lw_g (lw_at lw_m4 46 rfl) rfl
theorem q837 : (Jvm.Cond.instanceMethod ({ cls := "SideBySide", name := "nights", desc := "(III)I" } : Jvm.MethodName)) ∈ lw_all := lw_g (lw_at lw_m4 51 rfl) rfl
theorem q838 : (Jvm.Cond.selects "SideBySide" ({ cls := "SideBySide", name := "nights", desc := "(III)I" } : Jvm.MethodName) ({ cls := "SideBySide", name := "nights", desc := "(III)I" } : Jvm.MethodName)) ∈ lw_all := lw_g (lw_at lw_m4 52 rfl) rfl
theorem q839 : (Jvm.Cond.code ({ cls := "SideBySide", name := "nights", desc := "(III)I" } : Jvm.MethodName) prog_1_method_74_code (8 : Nat) (Option.some Jvm.ClassFile.FieldType.int)) ∈ lw_all := lw_g (lw_at lw_m4 53 rfl) rfl
theorem q840 : (Jvm.Cond.methodLink "SideBySide" (345 : Nat) ({ cls := "SideBySide", name := "draw", desc := "(I)I" } : Jvm.MethodName)) ∈ lw_all := lw_g (lw_at lw_m4 54 rfl) rfl
theorem q841 : (Jvm.Cond.privateMethod ({ cls := "SideBySide", name := "draw", desc := "(I)I" } : Jvm.MethodName)) ∈ lw_tbl := lw_at lw_m4 55 rfl
theorem q842 : (Jvm.Cond.instanceMethod ({ cls := "SideBySide", name := "draw", desc := "(I)I" } : Jvm.MethodName)) ∈ lw_all := lw_g (lw_at lw_m4 56 rfl) rfl
theorem q843 : (Jvm.Cond.code ({ cls := "SideBySide", name := "draw", desc := "(I)I" } : Jvm.MethodName) prog_1_method_73_code (2 : Nat) (Option.some Jvm.ClassFile.FieldType.int)) ∈ lw_all := lw_g (lw_at lw_m4 57 rfl) rfl
theorem q844 : (Jvm.Cond.constant "SideBySide" (342 : Nat) (1103515245 : Int32)) ∈ lw_all := lw_g (lw_at lw_m4 58 rfl) rfl
theorem q845 : (Jvm.Cond.constant "SideBySide" (343 : Nat) (2147483647 : Int32)) ∈ lw_all := lw_g (lw_at lw_m4 59 rfl) rfl
theorem q846 : (Jvm.Cond.constant "SideBySide" (344 : Nat) (65536 : Int32)) ∈ lw_all := lw_g (lw_at lw_m4 60 rfl) rfl
theorem q848 : (Jvm.Cond.instanceMethod ({ cls := "SideBySide", name := "image", desc := "()I" } : Jvm.MethodName)) ∈ lw_all := lw_g (lw_at lw_m4 62 rfl) rfl
theorem q849 : (Jvm.Cond.selects "SideBySide" ({ cls := "SideBySide", name := "image", desc := "()I" } : Jvm.MethodName) ({ cls := "SideBySide", name := "image", desc := "()I" } : Jvm.MethodName)) ∈ lw_all := lw_g (lw_at lw_m4 63 rfl) rfl
theorem q850 : (Jvm.Cond.code ({ cls := "SideBySide", name := "image", desc := "()I" } : Jvm.MethodName) prog_1_method_75_code (1 : Nat) (Option.some Jvm.ClassFile.FieldType.int)) ∈ lw_all := lw_g (lw_at lw_m4 64 rfl) rfl
theorem q852 : (Jvm.Cond.instanceMethod ({ cls := "SideBySide", name := "restore", desc := "()I" } : Jvm.MethodName)) ∈ lw_all := lw_g (lw_at lw_m4 66 rfl) rfl
theorem q853 : (Jvm.Cond.selects "SideBySide" ({ cls := "SideBySide", name := "restore", desc := "()I" } : Jvm.MethodName) ({ cls := "SideBySide", name := "restore", desc := "()I" } : Jvm.MethodName)) ∈ lw_all := lw_g (lw_at lw_m4 67 rfl) rfl
theorem q854 : (Jvm.Cond.code ({ cls := "SideBySide", name := "restore", desc := "()I" } : Jvm.MethodName) prog_1_method_76_code (1 : Nat) (Option.some Jvm.ClassFile.FieldType.int)) ∈ lw_all := lw_g (lw_at lw_m4 68 rfl) rfl
theorem q856 : (Jvm.Cond.instanceMethod ({ cls := "SideBySide", name := "count", desc := "(I)I" } : Jvm.MethodName)) ∈ lw_all := lw_g (lw_at lw_m4 70 rfl) rfl
theorem q857 : (Jvm.Cond.selects "SideBySide" ({ cls := "SideBySide", name := "count", desc := "(I)I" } : Jvm.MethodName) ({ cls := "SideBySide", name := "count", desc := "(I)I" } : Jvm.MethodName)) ∈ lw_all := lw_g (lw_at lw_m4 71 rfl) rfl
theorem q858 : (Jvm.Cond.code ({ cls := "SideBySide", name := "count", desc := "(I)I" } : Jvm.MethodName) prog_1_method_77_code (2 : Nat) (Option.some Jvm.ClassFile.FieldType.int)) ∈ lw_all := lw_g (lw_at lw_m4 72 rfl) rfl
theorem q861 : (Jvm.Cond.instanceMethod ({ cls := "SideBySide", name := "<init>", desc := "()V" } : Jvm.MethodName)) ∈ lw_all := lw_g (lw_at lw_m4 75 rfl) rfl
theorem q862 : (Jvm.Cond.code ({ cls := "SideBySide", name := "<init>", desc := "()V" } : Jvm.MethodName) prog_1_method_78_code (2 : Nat) (Option.none : Option Jvm.ClassFile.FieldType)) ∈ lw_all := lw_g (lw_at lw_m4 76 rfl) rfl
theorem q863 : (Jvm.Cond.methodLink "SideBySide" (355 : Nat) ({ cls := "java/lang/Object", name := "<init>", desc := "()V" } : Jvm.MethodName)) ∈ lw_all := lw_g (lw_at lw_m4 77 rfl) rfl
theorem q864 : (Jvm.Cond.classLink "SideBySide" (47 : Nat) "SideBySide$Court") ∈ lw_all := lw_g (lw_at lw_m4 78 rfl) rfl
theorem q865 : (Jvm.Cond.methodLinkNest "SideBySide" (359 : Nat) ({ cls := "SideBySide$Court", name := "<init>", desc := "()V" } : Jvm.MethodName) "SideBySide") ∈ lw_tbl := lw_at lw_m4 79 rfl
theorem q872 : (Jvm.Cond.fieldLink "SideBySide" (179 : Nat) "SideBySide$Court" "stroke" "[LSideBySide$Stroke;") ∈ lw_all := lw_g (lw_at lw_m4 86 rfl) rfl
theorem q874 : (Jvm.Cond.fieldLink "SideBySide" (84 : Nat) "SideBySide$Court" "at" "[I") ∈ lw_all := lw_g (lw_at lw_m4 88 rfl) rfl
theorem q876 : (Jvm.Cond.fieldLink "SideBySide" (87 : Nat) "SideBySide$Court" "pace" "[I") ∈ lw_all := lw_g (lw_at lw_m4 90 rfl) rfl
theorem q878 : (Jvm.Cond.fieldLink "SideBySide" (72 : Nat) "SideBySide$Court" "tired" "[I") ∈ lw_all := lw_g (lw_at lw_m4 92 rfl) rfl
theorem q880 : (Jvm.Cond.fieldLink "SideBySide" (111 : Nat) "SideBySide$Court" "form" "[I") ∈ lw_all := lw_g (lw_at lw_m4 94 rfl) rfl
theorem q882 : (Jvm.Cond.fieldLink "SideBySide" (114 : Nat) "SideBySide$Court" "habit" "[I") ∈ lw_all := lw_g (lw_at lw_m4 96 rfl) rfl
theorem q884 : (Jvm.Cond.fieldLink "SideBySide" (52 : Nat) "SideBySide$Court" "points" "[I") ∈ lw_all := lw_g (lw_at lw_m4 98 rfl) rfl
theorem q886 : (Jvm.Cond.fieldLink "SideBySide" (290 : Nat) "SideBySide$Court" "went" "[I") ∈ lw_all := lw_g (lw_at lw_m4 100 rfl) rfl
theorem q888 : (Jvm.Cond.fieldLink "SideBySide" (75 : Nat) "SideBySide$Court" "left" "I") ∈ lw_all := lw_g (lw_at lw_m4 102 rfl) rfl
theorem q890 : (Jvm.Cond.fieldLink "SideBySide" (100 : Nat) "SideBySide$Court" "strokes" "I") ∈ lw_all := lw_g (lw_at lw_m4 104 rfl) rfl
theorem q892 : (Jvm.Cond.fieldLink "SideBySide" (203 : Nat) "SideBySide$Court" "holder" "I") ∈ lw_all := lw_g (lw_at lw_m4 106 rfl) rfl
theorem q894 : (Jvm.Cond.fieldLink "SideBySide" (117 : Nat) "SideBySide$Court" "draught" "I") ∈ lw_all := lw_g (lw_at lw_m4 108 rfl) rfl
theorem q896 : (Jvm.Cond.fieldLink "SideBySide" (46 : Nat) "SideBySide$Court" "hits" "I") ∈ lw_all := lw_g (lw_at lw_m4 110 rfl) rfl
theorem q924 : (Jvm.Cond.classLink "SideBySide" (57 : Nat) "SideBySide$Told") ∈ lw_all := lw_g (lw_at lw_m4 138 rfl) rfl
theorem q926 : (Jvm.Cond.classLink "SideBySide" (163 : Nat) "SideBySide$Shelf") ∈ lw_all := lw_g (lw_at lw_m4 140 rfl) rfl
theorem q929 : (Jvm.Cond.methodLinkNest "SideBySide" (360 : Nat) ({ cls := "SideBySide$Shelf", name := "<init>", desc := "()V" } : Jvm.MethodName) "SideBySide") ∈ lw_tbl := lw_at lw_m4 143 rfl
theorem q933 : (Jvm.Cond.fieldLink "SideBySide" (162 : Nat) "SideBySide$Shelf" "held" "Ljava/lang/Object;") ∈ lw_all := lw_g (lw_at lw_m4 147 rfl) rfl
theorem q937 : (Jvm.Cond.fieldLink "SideBySide" (140 : Nat) "SideBySide" "now" "LSideBySide$Court;") ∈ lw_all := lw_g (lw_at lw_m4 151 rfl) rfl
theorem q938 : (Jvm.Cond.fieldLink "SideBySide" (348 : Nat) "SideBySide" "kept" "LSideBySide$Court;") ∈ lw_all := lw_g (lw_at lw_m4 152 rfl) rfl
theorem q939 : (Jvm.Cond.fieldLink "SideBySide" (68 : Nat) "SideBySide" "mind" "LSideBySide$Court;") ∈ lw_all := lw_g (lw_at lw_m4 153 rfl) rfl
theorem q940 : (Jvm.Cond.fieldLink "SideBySide" (231 : Nat) "SideBySide" "ahead" "LSideBySide$Court;") ∈ lw_all := lw_g (lw_at lw_m4 154 rfl) rfl
theorem q941 : (Jvm.Cond.fieldLink "SideBySide" (351 : Nat) "SideBySide" "hasImage" "Z") ∈ lw_all := lw_g (lw_at lw_m4 155 rfl) rfl
theorem q942 : (Jvm.Cond.fieldLink "SideBySide" (132 : Nat) "SideBySide" "told" "[LSideBySide$Told;") ∈ lw_all := lw_g (lw_at lw_m4 156 rfl) rfl
theorem q943 : (Jvm.Cond.fieldLink "SideBySide" (281 : Nat) "SideBySide" "winner" "I") ∈ lw_all := lw_g (lw_at lw_m4 157 rfl) rfl
theorem q944 : (Jvm.Cond.fieldLink "SideBySide" (339 : Nat) "SideBySide" "lots" "I") ∈ lw_all := lw_g (lw_at lw_m4 158 rfl) rfl
theorem q945 : (Jvm.Cond.fieldLink "SideBySide" (158 : Nat) "SideBySide" "shelves" "[LSideBySide$Shelf;") ∈ lw_all := lw_g (lw_at lw_m4 159 rfl) rfl
theorem q946 : (Jvm.Cond.laysFinal "SideBySide" "SideBySide" "now" "LSideBySide$Court;") ∈ lw_all := lw_g (lw_at lw_m4 160 rfl) rfl
theorem q947 : (Jvm.Cond.soleField "SideBySide" "now") ∈ lw_all := lw_g (lw_at lw_m4 161 rfl) rfl
theorem q948 : (Jvm.Cond.laysFinal "SideBySide" "SideBySide" "kept" "LSideBySide$Court;") ∈ lw_all := lw_g (lw_at lw_m4 162 rfl) rfl
theorem q949 : (Jvm.Cond.soleField "SideBySide" "kept") ∈ lw_all := lw_g (lw_at lw_m4 163 rfl) rfl
theorem q950 : (Jvm.Cond.laysFinal "SideBySide" "SideBySide" "mind" "LSideBySide$Court;") ∈ lw_all := lw_g (lw_at lw_m4 164 rfl) rfl
theorem q951 : (Jvm.Cond.soleField "SideBySide" "mind") ∈ lw_all := lw_g (lw_at lw_m4 165 rfl) rfl
theorem q952 : (Jvm.Cond.laysFinal "SideBySide" "SideBySide" "ahead" "LSideBySide$Court;") ∈ lw_all := lw_g (lw_at lw_m4 166 rfl) rfl
theorem q953 : (Jvm.Cond.soleField "SideBySide" "ahead") ∈ lw_all := lw_g (lw_at lw_m4 167 rfl) rfl
theorem q954 : (Jvm.Cond.lays "SideBySide" "SideBySide" "hasImage" "Z") ∈ lw_all := lw_g (lw_at lw_m4 168 rfl) rfl
theorem q955 : (Jvm.Cond.soleField "SideBySide" "hasImage") ∈ lw_all := lw_g (lw_at lw_m4 169 rfl) rfl
theorem q956 : (Jvm.Cond.laysFinal "SideBySide" "SideBySide" "told" "[LSideBySide$Told;") ∈ lw_all := lw_g (lw_at lw_m4 170 rfl) rfl
theorem q957 : (Jvm.Cond.soleField "SideBySide" "told") ∈ lw_all := lw_g (lw_at lw_m4 171 rfl) rfl
theorem q958 : (Jvm.Cond.lays "SideBySide" "SideBySide" "winner" "I") ∈ lw_all := lw_g (lw_at lw_m4 172 rfl) rfl
theorem q959 : (Jvm.Cond.soleField "SideBySide" "winner") ∈ lw_all := lw_g (lw_at lw_m4 173 rfl) rfl
theorem q960 : (Jvm.Cond.lays "SideBySide" "SideBySide" "lots" "I") ∈ lw_all := lw_g (lw_at lw_m4 174 rfl) rfl
theorem q961 : (Jvm.Cond.soleField "SideBySide" "lots") ∈ lw_all := lw_g (lw_at lw_m4 175 rfl) rfl
theorem q962 : (Jvm.Cond.laysFinal "SideBySide" "SideBySide" "shelves" "[LSideBySide$Shelf;") ∈ lw_all := lw_g (lw_at lw_m4 176 rfl) rfl
theorem q963 : (Jvm.Cond.soleField "SideBySide" "shelves") ∈ lw_all := lw_g (lw_at lw_m4 177 rfl) rfl
theorem q964 : (Jvm.Cond.superclass "SideBySide" "java/lang/Object") ∈ lw_all := lw_g (lw_at lw_m4 178 rfl) rfl
theorem q966 : (Jvm.Cond.instanceMethod ({ cls := "SideBySide", name := "keep", desc := "(IIII)I" } : Jvm.MethodName)) ∈ lw_all := lw_g (lw_at lw_m4 180 rfl) rfl
theorem q967 : (Jvm.Cond.selects "SideBySide" ({ cls := "SideBySide", name := "keep", desc := "(IIII)I" } : Jvm.MethodName) ({ cls := "SideBySide", name := "keep", desc := "(IIII)I" } : Jvm.MethodName)) ∈ lw_all := lw_g (lw_at lw_m4 181 rfl) rfl
theorem q968 : (Jvm.Cond.code ({ cls := "SideBySide", name := "keep", desc := "(IIII)I" } : Jvm.MethodName) prog_1_method_79_code (5 : Nat) (Option.some Jvm.ClassFile.FieldType.int)) ∈ lw_all := lw_g (lw_at lw_m4 182 rfl) rfl
theorem q969 : (Jvm.Cond.methodLink "SideBySide" (361 : Nat) ({ cls := "SideBySide", name := "isNine", desc := "(I)Z" } : Jvm.MethodName)) ∈ lw_all := lw_g (lw_at lw_m4 183 rfl) rfl
theorem q970 : (Jvm.Cond.static ({ cls := "SideBySide", name := "isNine", desc := "(I)Z" } : Jvm.MethodName)) ∈ lw_all := lw_g (lw_at lw_m4 184 rfl) rfl
theorem q971 : (Jvm.Cond.code ({ cls := "SideBySide", name := "isNine", desc := "(I)Z" } : Jvm.MethodName) prog_1_method_10_code (1 : Nat) (Option.some Jvm.ClassFile.FieldType.boolean)) ∈ lw_all := lw_g (lw_at lw_m4 185 rfl) rfl
theorem q973 : (Jvm.Cond.instanceMethod ({ cls := "SideBySide", name := "row", desc := "(III)I" } : Jvm.MethodName)) ∈ lw_all := lw_g (lw_at lw_m4 187 rfl) rfl
theorem q974 : (Jvm.Cond.selects "SideBySide" ({ cls := "SideBySide", name := "row", desc := "(III)I" } : Jvm.MethodName) ({ cls := "SideBySide", name := "row", desc := "(III)I" } : Jvm.MethodName)) ∈ lw_all := lw_g (lw_at lw_m4 188 rfl) rfl
theorem q975 : (Jvm.Cond.codeWith ({ cls := "SideBySide", name := "row", desc := "(III)I" } : Jvm.MethodName) prog_1_method_80_code (5 : Nat) (Option.some Jvm.ClassFile.FieldType.int) [((25 : Nat), (67 : Nat), (68 : Nat), (364 : Nat))]) ∈ lw_all := lw_g (lw_at lw_m4 189 rfl) rfl
theorem q976 : (Jvm.Cond.classLink "SideBySide" (364 : Nat) "java/lang/NegativeArraySizeException") ∈ lw_all := lw_g (lw_at lw_m4 190 rfl) rfl
theorem q992 : (Jvm.Cond.instanceMethod ({ cls := "SideBySide", name := "put", desc := "(III)I" } : Jvm.MethodName)) ∈ lw_all := lw_g (lw_at lw_m4 206 rfl) rfl
theorem q993 : (Jvm.Cond.selects "SideBySide" ({ cls := "SideBySide", name := "put", desc := "(III)I" } : Jvm.MethodName) ({ cls := "SideBySide", name := "put", desc := "(III)I" } : Jvm.MethodName)) ∈ lw_all := lw_g (lw_at lw_m4 207 rfl) rfl
theorem q994 : (Jvm.Cond.codeWith ({ cls := "SideBySide", name := "put", desc := "(III)I" } : Jvm.MethodName) prog_1_method_81_code (6 : Nat) (Option.some Jvm.ClassFile.FieldType.int) [((29 : Nat), (78 : Nat), (79 : Nat), (174 : Nat)), ((29 : Nat), (78 : Nat), (84 : Nat), (366 : Nat))]) ∈ lw_all := lw_g (lw_at lw_m4 208 rfl) rfl
theorem q995 : (Jvm.Cond.classLink "SideBySide" (366 : Nat) "java/lang/ArrayIndexOutOfBoundsException") ∈ lw_all := lw_g (lw_at lw_m4 209 rfl) rfl
theorem q1015 : (Jvm.Cond.instanceMethod ({ cls := "SideBySide", name := "copy", desc := "(IIIII)I" } : Jvm.MethodName)) ∈ lw_all := lw_g (lw_at lw_m4 229 rfl) rfl
theorem q1016 : (Jvm.Cond.selects "SideBySide" ({ cls := "SideBySide", name := "copy", desc := "(IIIII)I" } : Jvm.MethodName) ({ cls := "SideBySide", name := "copy", desc := "(IIIII)I" } : Jvm.MethodName)) ∈ lw_all := lw_g (lw_at lw_m4 230 rfl) rfl
theorem q1017 : (Jvm.Cond.codeWith ({ cls := "SideBySide", name := "copy", desc := "(IIIII)I" } : Jvm.MethodName) prog_1_method_83_code (9 : Nat) (Option.some Jvm.ClassFile.FieldType.int) [((78 : Nat), (92 : Nat), (93 : Nat), (382 : Nat))]) ∈ lw_all := lw_g (lw_at lw_m4 231 rfl) rfl
theorem q1018 : (Jvm.Cond.classLink "SideBySide" (382 : Nat) "java/lang/IndexOutOfBoundsException") ∈ lw_all := lw_g (lw_at lw_m4 232 rfl) rfl
theorem q1019 : (Jvm.Cond.methodLink "SideBySide" (376 : Nat) ({ cls := "java/lang/System", name := "arraycopy", desc := "(Ljava/lang/Object;ILjava/lang/Object;II)V" } : Jvm.MethodName)) ∈ lw_all := lw_g (lw_at lw_m4 233 rfl) rfl
theorem q1021 : (Jvm.Cond.instanceMethod ({ cls := "SideBySide", name := "cost", desc := "(I)I" } : Jvm.MethodName)) ∈ lw_all := lw_g (lw_at lw_m4 235 rfl) rfl
theorem q1022 : (Jvm.Cond.selects "SideBySide" ({ cls := "SideBySide", name := "cost", desc := "(I)I" } : Jvm.MethodName) ({ cls := "SideBySide", name := "cost", desc := "(I)I" } : Jvm.MethodName)) ∈ lw_all := lw_g (lw_at lw_m4 236 rfl) rfl
theorem q1023 : (Jvm.Cond.codeWith ({ cls := "SideBySide", name := "cost", desc := "(I)I" } : Jvm.MethodName) prog_1_method_84_code (3 : Nat) (Option.some Jvm.ClassFile.FieldType.int) [((10 : Nat), (25 : Nat), (26 : Nat), (371 : Nat)), ((10 : Nat), (25 : Nat), (30 : Nat), (174 : Nat))]) ∈ lw_all := lw_g (lw_at lw_m4 237 rfl) rfl
theorem q1024 : (Jvm.Cond.classLink "SideBySide" (371 : Nat) "java/lang/NullPointerException") ∈ lw_all := lw_g (lw_at lw_m4 238 rfl) rfl
theorem q1046 : (Jvm.Cond.methodLink "SideBySide" (384 : Nat) ({ cls := "SideBySide$Stroke", name := "cost", desc := "()I" } : Jvm.MethodName)) ∈ lw_all := lw_g (lw_at lw_m5 20 rfl) rfl
theorem q1076 : (Jvm.Cond.instanceMethod ({ cls := "SideBySide", name := "toss", desc := "(I)I" } : Jvm.MethodName)) ∈ lw_all := lw_g (lw_at lw_m5 50 rfl) rfl
theorem q1077 : (Jvm.Cond.selects "SideBySide" ({ cls := "SideBySide", name := "toss", desc := "(I)I" } : Jvm.MethodName) ({ cls := "SideBySide", name := "toss", desc := "(I)I" } : Jvm.MethodName)) ∈ lw_all := lw_g (lw_at lw_m5 51 rfl) rfl
theorem q1078 : (Jvm.Cond.codeWith ({ cls := "SideBySide", name := "toss", desc := "(I)I" } : Jvm.MethodName) prog_1_method_85_code (3 : Nat) (Option.some Jvm.ClassFile.FieldType.int) [((25 : Nat), (41 : Nat), (41 : Nat), (391 : Nat)), ((25 : Nat), (41 : Nat), (47 : Nat), (371 : Nat)), ((25 : Nat), (41 : Nat), (51 : Nat), (174 : Nat))]) ∈ lw_all := lw_g (lw_at lw_m5 52 rfl) rfl
theorem q1079 : (Jvm.Cond.classLink "SideBySide" (391 : Nat) "SideBySide$Tossed") ∈ lw_all := lw_g (lw_at lw_m5 53 rfl) rfl
theorem q1080 : (Jvm.Cond.methodLink "SideBySide" (387 : Nat) ({ cls := "SideBySide$Stroke", name := "failure", desc := "()LSideBySide$Tossed;" } : Jvm.MethodName)) ∈ lw_all := lw_g (lw_at lw_m5 54 rfl) rfl
theorem q1104 : (Jvm.Cond.fieldLink "SideBySide" (393 : Nat) "SideBySide$Tossed" "n" "I") ∈ lw_all := lw_g (lw_at lw_m5 78 rfl) rfl
theorem q1131 : (Jvm.Cond.instanceMethod ({ cls := "SideBySide", name := "element", desc := "(II)J" } : Jvm.MethodName)) ∈ lw_all := lw_g (lw_at lw_m5 105 rfl) rfl
theorem q1132 : (Jvm.Cond.selects "SideBySide" ({ cls := "SideBySide", name := "element", desc := "(II)J" } : Jvm.MethodName) ({ cls := "SideBySide", name := "element", desc := "(II)J" } : Jvm.MethodName)) ∈ lw_all := lw_g (lw_at lw_m5 106 rfl) rfl
theorem q1133 : (Jvm.Cond.codeWith ({ cls := "SideBySide", name := "element", desc := "(II)J" } : Jvm.MethodName) prog_1_method_82_code (5 : Nat) (Option.some Jvm.ClassFile.FieldType.long) [((26 : Nat), (40 : Nat), (64 : Nat), (371 : Nat)), ((41 : Nat), (55 : Nat), (64 : Nat), (371 : Nat)), ((56 : Nat), (63 : Nat), (64 : Nat), (371 : Nat)), ((26 : Nat), (40 : Nat), (74 : Nat), (174 : Nat)), ((41 : Nat), (55 : Nat), (74 : Nat), (174 : Nat)), ((56 : Nat), (63 : Nat), (74 : Nat), (174 : Nat)), ((26 : Nat), (40 : Nat), (84 : Nat), (366 : Nat)), ((41 : Nat), (55 : Nat), (84 : Nat), (366 : Nat)), ((56 : Nat), (63 : Nat), (84 : Nat), (366 : Nat))]) ∈ lw_all := lw_g (lw_at lw_m5 107 rfl) rfl
theorem q1134 : (Jvm.Cond.classLink "SideBySide" (368 : Nat) "java/lang/IllegalArgumentException") ∈ lw_all := lw_g (lw_at lw_m5 108 rfl) rfl
theorem q1143 : (Jvm.Cond.methodLink "SideBySide" (370 : Nat) ({ cls := "java/lang/IllegalArgumentException", name := "<init>", desc := "()V" } : Jvm.MethodName)) ∈ lw_all := lw_g (lw_at lw_m5 117 rfl) rfl
theorem q1149 : (Jvm.Cond.classLink "SideBySide" (373 : Nat) "java/lang/IllegalStateException") ∈ lw_all := lw_g (lw_at lw_m5 123 rfl) rfl
theorem q1158 : (Jvm.Cond.methodLink "SideBySide" (375 : Nat) ({ cls := "java/lang/IllegalStateException", name := "<init>", desc := "()V" } : Jvm.MethodName)) ∈ lw_all := lw_g (lw_at lw_m5 132 rfl) rfl
theorem in_X1 : ∀ w ∈ wsX10, w ∈ lw_all := lw_in wsX10 [946, 948, 950, 952, 954, 956, 958, 960, 962] (by decide +kernel) (by decide +kernel)
