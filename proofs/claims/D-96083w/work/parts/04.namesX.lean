/-! ThreeStrangers -/
set_option maxRecDepth 100000
def RX0 : String := "ThreeStrangers"
def TX0 : u_T := fun k => match k with
  | 0 => ("ThreeStrangers", "now", "LThreeStrangers$Town;", false)
  | 1 => ("ThreeStrangers", "image", "LThreeStrangers$Town;", false)
  | 2 => ("ThreeStrangers", "tried", "LThreeStrangers$Town;", true)
  | 3 => ("ThreeStrangers", "groups", "LThreeStrangers$Groups;", true)
  | 4 => ("ThreeStrangers", "day", "LThreeStrangers$Day;", true)
  | 5 => ("ThreeStrangers", "cheap", "[I", true)
  | 6 => ("ThreeStrangers", "rode", "[I", true)
  | 7 => ("ThreeStrangers", "shelves", "[LThreeStrangers$Sheet;", true)
  | 8 => ("ThreeStrangers", "tape", "[I", true)
  | 9 => ("ThreeStrangers", "size", "I", false)
  | _ => ("ThreeStrangers", "refused", "[I", true)
def tyX0 : Nat → FieldType := fun k => match k with
  | 0 => .object "ThreeStrangers$Town"
  | 1 => .object "ThreeStrangers$Town"
  | 2 => .object "ThreeStrangers$Town"
  | 3 => .object "ThreeStrangers$Groups"
  | 4 => .object "ThreeStrangers$Day"
  | 5 => .array .int
  | 6 => .array .int
  | 7 => .array (.object "ThreeStrangers$Sheet")
  | 8 => .array .int
  | 9 => .int
  | _ => .array .int
abbrev wsX00 : List Cond := u_ws RX0 TX0 11
theorem nmX0 : ∀ a, a < 11 → ∀ b, b < 11 → a ≠ b → (TX0 a).2.1 ≠ (TX0 b).2.1 := by decide +kernel
theorem tyX0_ok : ∀ k, k < 11 → parseFieldDescriptor (TX0 k).2.2.1 = some (tyX0 k) := by decide +kernel
abbrev cX0_init : ByteArray := prog_1_method_4_code
def yX0_init : MethodName := ⟨RX0, "<init>", "()V"⟩
def dkwX0_init_5 : List UInt8 := [167, 255, 234, 177]
abbrev dktX0_init_5 : List UInt8 := dkwX0_init_5 ++ []
def dkwX0_init_4 : List UInt8 := [60, 27, 16, 8, 162, 0, 22, 42, 180, 0, 59, 27, 187, 0, 57, 89, 183, 0, 69, 83, 132, 1, 1]
abbrev dktX0_init_4 : List UInt8 := dkwX0_init_4 ++ dktX0_init_5
def dkwX0_init_3 : List UInt8 := [189, 0, 57, 181, 0, 59, 42, 17, 0, 250, 188, 10, 181, 0, 63, 42, 16, 7, 188, 10, 181, 0, 66, 3]
abbrev dktX0_init_3 : List UInt8 := dkwX0_init_3 ++ dktX0_init_4
def dkwX0_init_2 : List UInt8 := [181, 0, 46, 42, 17, 4, 0, 188, 10, 181, 0, 50, 42, 17, 4, 0, 188, 10, 181, 0, 54, 42, 16, 8]
abbrev dktX0_init_2 : List UInt8 := dkwX0_init_2 ++ dktX0_init_3
def dkwX0_init_1 : List UInt8 := [181, 0, 33, 42, 187, 0, 36, 89, 183, 0, 38, 181, 0, 39, 42, 187, 0, 43, 89, 183, 0, 45]
abbrev dktX0_init_1 : List UInt8 := dkwX0_init_1 ++ dktX0_init_2
def dkwX0_init_0 : List UInt8 := [42, 183, 0, 21, 42, 187, 0, 26, 89, 183, 0, 28, 181, 0, 29, 42, 187, 0, 26, 89, 183, 0, 28]
abbrev dktX0_init_0 : List UInt8 := dkwX0_init_0 ++ dktX0_init_1
theorem dksX0_init_0 : cX0_init.data.toList.drop 0 = dktX0_init_0 := by decide +kernel
theorem dksX0_init_1 : cX0_init.data.toList.drop 23 = dktX0_init_1 := dk_seg dksX0_init_0 23 rfl rfl
theorem dksX0_init_2 : cX0_init.data.toList.drop 45 = dktX0_init_2 := dk_seg dksX0_init_1 22 rfl rfl
theorem dksX0_init_3 : cX0_init.data.toList.drop 69 = dktX0_init_3 := dk_seg dksX0_init_2 24 rfl rfl
theorem dksX0_init_4 : cX0_init.data.toList.drop 93 = dktX0_init_4 := dk_seg dksX0_init_3 24 rfl rfl
theorem dksX0_init_5 : cX0_init.data.toList.drop 116 = dktX0_init_5 := dk_seg dksX0_init_4 23 rfl rfl
theorem dX0_init_0 : decode cX0_init 0 = .ok (.aload_n 0, 1) := dk_42 (dk_at dksX0_init_0 0 rfl rfl)
theorem dX0_init_1 : decode cX0_init 1 = .ok (.invokespecial 21, 3) := dk_183 0 21 (dk_at dksX0_init_0 1 rfl rfl)
theorem dX0_init_4 : decode cX0_init 4 = .ok (.aload_n 0, 1) := dk_42 (dk_at dksX0_init_0 4 rfl rfl)
theorem dX0_init_5 : decode cX0_init 5 = .ok (.new 26, 3) := dk_187 0 26 (dk_at dksX0_init_0 5 rfl rfl)
theorem dX0_init_8 : decode cX0_init 8 = .ok (.dup, 1) := dk_89 (dk_at dksX0_init_0 8 rfl rfl)
theorem dX0_init_9 : decode cX0_init 9 = .ok (.invokespecial 28, 3) := dk_183 0 28 (dk_at dksX0_init_0 9 rfl rfl)
theorem dX0_init_12 : decode cX0_init 12 = .ok (.putfield 29, 3) := dk_181 0 29 (dk_at dksX0_init_0 12 rfl rfl)
theorem dX0_init_15 : decode cX0_init 15 = .ok (.aload_n 0, 1) := dk_42 (dk_at dksX0_init_0 15 rfl rfl)
theorem dX0_init_16 : decode cX0_init 16 = .ok (.new 26, 3) := dk_187 0 26 (dk_at dksX0_init_0 16 rfl rfl)
theorem dX0_init_19 : decode cX0_init 19 = .ok (.dup, 1) := dk_89 (dk_at dksX0_init_0 19 rfl rfl)
theorem dX0_init_20 : decode cX0_init 20 = .ok (.invokespecial 28, 3) := dk_183 0 28 (dk_at dksX0_init_0 20 rfl rfl)
theorem dX0_init_23 : decode cX0_init 23 = .ok (.putfield 33, 3) := dk_181 0 33 (dk_at dksX0_init_1 0 rfl rfl)
theorem dX0_init_26 : decode cX0_init 26 = .ok (.aload_n 0, 1) := dk_42 (dk_at dksX0_init_1 3 rfl rfl)
theorem dX0_init_27 : decode cX0_init 27 = .ok (.new 36, 3) := dk_187 0 36 (dk_at dksX0_init_1 4 rfl rfl)
theorem dX0_init_30 : decode cX0_init 30 = .ok (.dup, 1) := dk_89 (dk_at dksX0_init_1 7 rfl rfl)
theorem dX0_init_31 : decode cX0_init 31 = .ok (.invokespecial 38, 3) := dk_183 0 38 (dk_at dksX0_init_1 8 rfl rfl)
theorem dX0_init_34 : decode cX0_init 34 = .ok (.putfield 39, 3) := dk_181 0 39 (dk_at dksX0_init_1 11 rfl rfl)
theorem dX0_init_37 : decode cX0_init 37 = .ok (.aload_n 0, 1) := dk_42 (dk_at dksX0_init_1 14 rfl rfl)
theorem dX0_init_38 : decode cX0_init 38 = .ok (.new 43, 3) := dk_187 0 43 (dk_at dksX0_init_1 15 rfl rfl)
theorem dX0_init_41 : decode cX0_init 41 = .ok (.dup, 1) := dk_89 (dk_at dksX0_init_1 18 rfl rfl)
theorem dX0_init_42 : decode cX0_init 42 = .ok (.invokespecial 45, 3) := dk_183 0 45 (dk_at dksX0_init_1 19 rfl rfl)
theorem dX0_init_45 : decode cX0_init 45 = .ok (.putfield 46, 3) := dk_181 0 46 (dk_at dksX0_init_2 0 rfl rfl)
theorem dX0_init_48 : decode cX0_init 48 = .ok (.aload_n 0, 1) := dk_42 (dk_at dksX0_init_2 3 rfl rfl)
theorem dX0_init_49 : decode cX0_init 49 = .ok (.sipush 1024, 3) := dk_17 4 0 (dk_at dksX0_init_2 4 rfl rfl)
theorem dX0_init_52 : decode cX0_init 52 = .ok (.newarray .int, 2) := dk_188_10 (dk_at dksX0_init_2 7 rfl rfl)
theorem dX0_init_54 : decode cX0_init 54 = .ok (.putfield 50, 3) := dk_181 0 50 (dk_at dksX0_init_2 9 rfl rfl)
theorem dX0_init_57 : decode cX0_init 57 = .ok (.aload_n 0, 1) := dk_42 (dk_at dksX0_init_2 12 rfl rfl)
theorem dX0_init_58 : decode cX0_init 58 = .ok (.sipush 1024, 3) := dk_17 4 0 (dk_at dksX0_init_2 13 rfl rfl)
theorem dX0_init_61 : decode cX0_init 61 = .ok (.newarray .int, 2) := dk_188_10 (dk_at dksX0_init_2 16 rfl rfl)
theorem dX0_init_63 : decode cX0_init 63 = .ok (.putfield 54, 3) := dk_181 0 54 (dk_at dksX0_init_2 18 rfl rfl)
theorem dX0_init_66 : decode cX0_init 66 = .ok (.aload_n 0, 1) := dk_42 (dk_at dksX0_init_2 21 rfl rfl)
theorem dX0_init_67 : decode cX0_init 67 = .ok (.bipush 8, 2) := dk_16 8 (dk_at dksX0_init_2 22 rfl rfl)
theorem dX0_init_69 : decode cX0_init 69 = .ok (.anewarray 57, 3) := dk_189 0 57 (dk_at dksX0_init_3 0 rfl rfl)
theorem dX0_init_72 : decode cX0_init 72 = .ok (.putfield 59, 3) := dk_181 0 59 (dk_at dksX0_init_3 3 rfl rfl)
theorem dX0_init_75 : decode cX0_init 75 = .ok (.aload_n 0, 1) := dk_42 (dk_at dksX0_init_3 6 rfl rfl)
theorem dX0_init_76 : decode cX0_init 76 = .ok (.sipush 250, 3) := dk_17 0 250 (dk_at dksX0_init_3 7 rfl rfl)
theorem dX0_init_79 : decode cX0_init 79 = .ok (.newarray .int, 2) := dk_188_10 (dk_at dksX0_init_3 10 rfl rfl)
theorem dX0_init_81 : decode cX0_init 81 = .ok (.putfield 63, 3) := dk_181 0 63 (dk_at dksX0_init_3 12 rfl rfl)
theorem dX0_init_84 : decode cX0_init 84 = .ok (.aload_n 0, 1) := dk_42 (dk_at dksX0_init_3 15 rfl rfl)
theorem dX0_init_85 : decode cX0_init 85 = .ok (.bipush 7, 2) := dk_16 7 (dk_at dksX0_init_3 16 rfl rfl)
theorem dX0_init_87 : decode cX0_init 87 = .ok (.newarray .int, 2) := dk_188_10 (dk_at dksX0_init_3 18 rfl rfl)
theorem dX0_init_89 : decode cX0_init 89 = .ok (.putfield 66, 3) := dk_181 0 66 (dk_at dksX0_init_3 20 rfl rfl)
theorem dX0_init_92 : decode cX0_init 92 = .ok (.iconst 0, 1) := dk_3 (dk_at dksX0_init_3 23 rfl rfl)
theorem dX0_init_93 : decode cX0_init 93 = .ok (.istore_n 1, 1) := dk_60 (dk_at dksX0_init_4 0 rfl rfl)
theorem dX0_init_94 : decode cX0_init 94 = .ok (.iload_n 1, 1) := dk_27 (dk_at dksX0_init_4 1 rfl rfl)
theorem dX0_init_95 : decode cX0_init 95 = .ok (.bipush 8, 2) := dk_16 8 (dk_at dksX0_init_4 2 rfl rfl)
theorem dX0_init_97 : decode cX0_init 97 = .ok (.if_icmp .ge 22, 3) := dk_162 0 22 (dk_at dksX0_init_4 4 rfl rfl)
theorem dX0_init_100 : decode cX0_init 100 = .ok (.aload_n 0, 1) := dk_42 (dk_at dksX0_init_4 7 rfl rfl)
theorem dX0_init_101 : decode cX0_init 101 = .ok (.getfield 59, 3) := dk_180 0 59 (dk_at dksX0_init_4 8 rfl rfl)
theorem dX0_init_104 : decode cX0_init 104 = .ok (.iload_n 1, 1) := dk_27 (dk_at dksX0_init_4 11 rfl rfl)
theorem dX0_init_105 : decode cX0_init 105 = .ok (.new 57, 3) := dk_187 0 57 (dk_at dksX0_init_4 12 rfl rfl)
theorem dX0_init_108 : decode cX0_init 108 = .ok (.dup, 1) := dk_89 (dk_at dksX0_init_4 15 rfl rfl)
theorem dX0_init_109 : decode cX0_init 109 = .ok (.invokespecial 69, 3) := dk_183 0 69 (dk_at dksX0_init_4 16 rfl rfl)
theorem dX0_init_112 : decode cX0_init 112 = .ok (.aastore, 1) := dk_83 (dk_at dksX0_init_4 19 rfl rfl)
theorem dX0_init_113 : decode cX0_init 113 = .ok (.iinc 1 1, 3) := dk_132 1 1 (dk_at dksX0_init_4 20 rfl rfl)
theorem dX0_init_116 : decode cX0_init 116 = .ok (.goto (-22), 3) := dk_167 255 234 (dk_at dksX0_init_5 0 rfl rfl)
theorem dX0_init_119 : decode cX0_init 119 = .ok (.return_, 1) := dk_177 (dk_at dksX0_init_5 3 rfl rfl)
abbrev cX0_row : ByteArray := prog_1_method_12_code
def yX0_row : MethodName := ⟨RX0, "row", "(III)I"⟩
def dkwX0_row_2 : List UInt8 := [58, 4, 42, 16, 254, 182, 0, 95, 172, 4, 172]
abbrev dktX0_row_2 : List UInt8 := dkwX0_row_2 ++ []
def dkwX0_row_1 : List UInt8 := [16, 254, 182, 0, 95, 172, 42, 180, 0, 59, 27, 50, 28, 29, 184, 0, 99, 181, 0, 103, 167, 0, 12]
abbrev dktX0_row_1 : List UInt8 := dkwX0_row_1 ++ dktX0_row_2
def dkwX0_row_0 : List UInt8 := [27, 184, 0, 91, 153, 0, 18, 28, 155, 0, 14, 28, 7, 163, 0, 9, 29, 16, 40, 164, 0, 10, 42]
abbrev dktX0_row_0 : List UInt8 := dkwX0_row_0 ++ dktX0_row_1
theorem dksX0_row_0 : cX0_row.data.toList.drop 0 = dktX0_row_0 := by decide +kernel
theorem dksX0_row_1 : cX0_row.data.toList.drop 23 = dktX0_row_1 := dk_seg dksX0_row_0 23 rfl rfl
theorem dksX0_row_2 : cX0_row.data.toList.drop 46 = dktX0_row_2 := dk_seg dksX0_row_1 23 rfl rfl
theorem dX0_row_0 : decode cX0_row 0 = .ok (.iload_n 1, 1) := dk_27 (dk_at dksX0_row_0 0 rfl rfl)
theorem dX0_row_1 : decode cX0_row 1 = .ok (.invokestatic 91, 3) := dk_184 0 91 (dk_at dksX0_row_0 1 rfl rfl)
theorem dX0_row_4 : decode cX0_row 4 = .ok (.ifCond .eq 18, 3) := dk_153 0 18 (dk_at dksX0_row_0 4 rfl rfl)
theorem dX0_row_7 : decode cX0_row 7 = .ok (.iload_n 2, 1) := dk_28 (dk_at dksX0_row_0 7 rfl rfl)
theorem dX0_row_8 : decode cX0_row 8 = .ok (.ifCond .lt 14, 3) := dk_155 0 14 (dk_at dksX0_row_0 8 rfl rfl)
theorem dX0_row_11 : decode cX0_row 11 = .ok (.iload_n 2, 1) := dk_28 (dk_at dksX0_row_0 11 rfl rfl)
theorem dX0_row_12 : decode cX0_row 12 = .ok (.iconst 4, 1) := dk_7 (dk_at dksX0_row_0 12 rfl rfl)
theorem dX0_row_13 : decode cX0_row 13 = .ok (.if_icmp .gt 9, 3) := dk_163 0 9 (dk_at dksX0_row_0 13 rfl rfl)
theorem dX0_row_16 : decode cX0_row 16 = .ok (.iload_n 3, 1) := dk_29 (dk_at dksX0_row_0 16 rfl rfl)
theorem dX0_row_17 : decode cX0_row 17 = .ok (.bipush 40, 2) := dk_16 40 (dk_at dksX0_row_0 17 rfl rfl)
theorem dX0_row_19 : decode cX0_row 19 = .ok (.if_icmp .le 10, 3) := dk_164 0 10 (dk_at dksX0_row_0 19 rfl rfl)
theorem dX0_row_22 : decode cX0_row 22 = .ok (.aload_n 0, 1) := dk_42 (dk_at dksX0_row_0 22 rfl rfl)
theorem dX0_row_23 : decode cX0_row 23 = .ok (.bipush (-2), 2) := dk_16 254 (dk_at dksX0_row_1 0 rfl rfl)
theorem dX0_row_25 : decode cX0_row 25 = .ok (.invokevirtual 95, 3) := dk_182 0 95 (dk_at dksX0_row_1 2 rfl rfl)
theorem dX0_row_28 : decode cX0_row 28 = .ok (.ireturn, 1) := dk_172 (dk_at dksX0_row_1 5 rfl rfl)
theorem dX0_row_29 : decode cX0_row 29 = .ok (.aload_n 0, 1) := dk_42 (dk_at dksX0_row_1 6 rfl rfl)
theorem dX0_row_30 : decode cX0_row 30 = .ok (.getfield 59, 3) := dk_180 0 59 (dk_at dksX0_row_1 7 rfl rfl)
theorem dX0_row_33 : decode cX0_row 33 = .ok (.iload_n 1, 1) := dk_27 (dk_at dksX0_row_1 10 rfl rfl)
theorem dX0_row_34 : decode cX0_row 34 = .ok (.aaload, 1) := dk_50 (dk_at dksX0_row_1 11 rfl rfl)
theorem dX0_row_35 : decode cX0_row 35 = .ok (.iload_n 2, 1) := dk_28 (dk_at dksX0_row_1 12 rfl rfl)
theorem dX0_row_36 : decode cX0_row 36 = .ok (.iload_n 3, 1) := dk_29 (dk_at dksX0_row_1 13 rfl rfl)
theorem dX0_row_37 : decode cX0_row 37 = .ok (.invokestatic 99, 3) := dk_184 0 99 (dk_at dksX0_row_1 14 rfl rfl)
theorem dX0_row_40 : decode cX0_row 40 = .ok (.putfield 103, 3) := dk_181 0 103 (dk_at dksX0_row_1 17 rfl rfl)
theorem dX0_row_43 : decode cX0_row 43 = .ok (.goto 12, 3) := dk_167 0 12 (dk_at dksX0_row_1 20 rfl rfl)
theorem dX0_row_46 : decode cX0_row 46 = .ok (.astore 4, 2) := dk_58 4 (dk_at dksX0_row_2 0 rfl rfl)
theorem dX0_row_48 : decode cX0_row 48 = .ok (.aload_n 0, 1) := dk_42 (dk_at dksX0_row_2 2 rfl rfl)
theorem dX0_row_49 : decode cX0_row 49 = .ok (.bipush (-2), 2) := dk_16 254 (dk_at dksX0_row_2 3 rfl rfl)
theorem dX0_row_51 : decode cX0_row 51 = .ok (.invokevirtual 95, 3) := dk_182 0 95 (dk_at dksX0_row_2 5 rfl rfl)
theorem dX0_row_54 : decode cX0_row 54 = .ok (.ireturn, 1) := dk_172 (dk_at dksX0_row_2 8 rfl rfl)
theorem dX0_row_55 : decode cX0_row 55 = .ok (.iconst 1, 1) := dk_4 (dk_at dksX0_row_2 9 rfl rfl)
theorem dX0_row_56 : decode cX0_row 56 = .ok (.ireturn, 1) := dk_172 (dk_at dksX0_row_2 10 rfl rfl)
abbrev cX0_isShelf : ByteArray := prog_1_method_6_code
def yX0_isShelf : MethodName := ⟨RX0, "isShelf", "(I)Z"⟩
def dkwX0_isShelf_0 : List UInt8 := [26, 3, 16, 7, 184, 0, 70, 172]
abbrev dktX0_isShelf_0 : List UInt8 := dkwX0_isShelf_0 ++ []
theorem dksX0_isShelf_0 : cX0_isShelf.data.toList.drop 0 = dktX0_isShelf_0 := by decide +kernel
theorem dX0_isShelf_0 : decode cX0_isShelf 0 = .ok (.iload_n 0, 1) := dk_26 (dk_at dksX0_isShelf_0 0 rfl rfl)
theorem dX0_isShelf_1 : decode cX0_isShelf 1 = .ok (.iconst 0, 1) := dk_3 (dk_at dksX0_isShelf_0 1 rfl rfl)
theorem dX0_isShelf_2 : decode cX0_isShelf 2 = .ok (.bipush 7, 2) := dk_16 7 (dk_at dksX0_isShelf_0 2 rfl rfl)
theorem dX0_isShelf_4 : decode cX0_isShelf 4 = .ok (.invokestatic 70, 3) := dk_184 0 70 (dk_at dksX0_isShelf_0 4 rfl rfl)
theorem dX0_isShelf_7 : decode cX0_isShelf 7 = .ok (.ireturn, 1) := dk_172 (dk_at dksX0_isShelf_0 7 rfl rfl)
abbrev cX0_isIn : ByteArray := prog_1_method_1_code
def yX0_isIn : MethodName := ⟨RX0, "isIn", "(III)Z"⟩
def dkwX0_isIn_0 : List UInt8 := [26, 27, 161, 0, 12, 26, 28, 163, 0, 7, 4, 167, 0, 4, 3, 172]
abbrev dktX0_isIn_0 : List UInt8 := dkwX0_isIn_0 ++ []
theorem dksX0_isIn_0 : cX0_isIn.data.toList.drop 0 = dktX0_isIn_0 := by decide +kernel
theorem dX0_isIn_0 : decode cX0_isIn 0 = .ok (.iload_n 0, 1) := dk_26 (dk_at dksX0_isIn_0 0 rfl rfl)
theorem dX0_isIn_1 : decode cX0_isIn 1 = .ok (.iload_n 1, 1) := dk_27 (dk_at dksX0_isIn_0 1 rfl rfl)
theorem dX0_isIn_2 : decode cX0_isIn 2 = .ok (.if_icmp .lt 12, 3) := dk_161 0 12 (dk_at dksX0_isIn_0 2 rfl rfl)
theorem dX0_isIn_5 : decode cX0_isIn 5 = .ok (.iload_n 0, 1) := dk_26 (dk_at dksX0_isIn_0 5 rfl rfl)
theorem dX0_isIn_6 : decode cX0_isIn 6 = .ok (.iload_n 2, 1) := dk_28 (dk_at dksX0_isIn_0 6 rfl rfl)
theorem dX0_isIn_7 : decode cX0_isIn 7 = .ok (.if_icmp .gt 7, 3) := dk_163 0 7 (dk_at dksX0_isIn_0 7 rfl rfl)
theorem dX0_isIn_10 : decode cX0_isIn 10 = .ok (.iconst 1, 1) := dk_4 (dk_at dksX0_isIn_0 10 rfl rfl)
theorem dX0_isIn_11 : decode cX0_isIn 11 = .ok (.goto 4, 3) := dk_167 0 4 (dk_at dksX0_isIn_0 11 rfl rfl)
theorem dX0_isIn_14 : decode cX0_isIn 14 = .ok (.iconst 0, 1) := dk_3 (dk_at dksX0_isIn_0 14 rfl rfl)
theorem dX0_isIn_15 : decode cX0_isIn 15 = .ok (.ireturn, 1) := dk_172 (dk_at dksX0_isIn_0 15 rfl rfl)
abbrev cX0_no : ByteArray := prog_1_method_5_code
def yX0_no : MethodName := ⟨RX0, "no", "(I)I"⟩
def dkwX0_no_0 : List UInt8 := [42, 180, 0, 66, 27, 116, 92, 46, 4, 96, 79, 27, 172]
abbrev dktX0_no_0 : List UInt8 := dkwX0_no_0 ++ []
theorem dksX0_no_0 : cX0_no.data.toList.drop 0 = dktX0_no_0 := by decide +kernel
theorem dX0_no_0 : decode cX0_no 0 = .ok (.aload_n 0, 1) := dk_42 (dk_at dksX0_no_0 0 rfl rfl)
theorem dX0_no_1 : decode cX0_no 1 = .ok (.getfield 66, 3) := dk_180 0 66 (dk_at dksX0_no_0 1 rfl rfl)
theorem dX0_no_4 : decode cX0_no 4 = .ok (.iload_n 1, 1) := dk_27 (dk_at dksX0_no_0 4 rfl rfl)
theorem dX0_no_5 : decode cX0_no 5 = .ok (.ineg, 1) := dk_116 (dk_at dksX0_no_0 5 rfl rfl)
theorem dX0_no_6 : decode cX0_no 6 = .ok (.dup2, 1) := dk_92 (dk_at dksX0_no_0 6 rfl rfl)
theorem dX0_no_7 : decode cX0_no 7 = .ok (.iaload, 1) := dk_46 (dk_at dksX0_no_0 7 rfl rfl)
theorem dX0_no_8 : decode cX0_no 8 = .ok (.iconst 1, 1) := dk_4 (dk_at dksX0_no_0 8 rfl rfl)
theorem dX0_no_9 : decode cX0_no 9 = .ok (.iadd, 1) := dk_96 (dk_at dksX0_no_0 9 rfl rfl)
theorem dX0_no_10 : decode cX0_no 10 = .ok (.iastore, 1) := dk_79 (dk_at dksX0_no_0 10 rfl rfl)
theorem dX0_no_11 : decode cX0_no 11 = .ok (.iload_n 1, 1) := dk_27 (dk_at dksX0_no_0 11 rfl rfl)
theorem dX0_no_12 : decode cX0_no 12 = .ok (.ireturn, 1) := dk_172 (dk_at dksX0_no_0 12 rfl rfl)
abbrev cX0_rowOf : ByteArray := prog_1_method_8_code
def yX0_rowOf : MethodName := ⟨RX0, "rowOf", "(II)Ljava/lang/Object;"⟩
def dkwX0_rowOf_2 : List UInt8 := [27, 188, 8, 176, 27, 188, 9, 176, 27, 188, 10, 176, 27, 188, 11, 176, 27, 188, 4, 176]
abbrev dktX0_rowOf_2 : List UInt8 := dkwX0_rowOf_2 ++ []
def dkwX0_rowOf_1 : List UInt8 := [170, 0, 0, 0, 0, 0, 47, 0, 0, 0, 0, 0, 0, 0, 3, 0, 0, 0, 31, 0, 0, 0, 35, 0, 0, 0, 39, 0, 0, 0, 43]
abbrev dktX0_rowOf_1 : List UInt8 := dkwX0_rowOf_1 ++ dktX0_rowOf_2
def dkwX0_rowOf_0 : List UInt8 := [26]
abbrev dktX0_rowOf_0 : List UInt8 := dkwX0_rowOf_0 ++ dktX0_rowOf_1
theorem dksX0_rowOf_0 : cX0_rowOf.data.toList.drop 0 = dktX0_rowOf_0 := by decide +kernel
theorem dksX0_rowOf_1 : cX0_rowOf.data.toList.drop 1 = dktX0_rowOf_1 := dk_seg dksX0_rowOf_0 1 rfl rfl
theorem dksX0_rowOf_2 : cX0_rowOf.data.toList.drop 32 = dktX0_rowOf_2 := dk_seg dksX0_rowOf_1 31 rfl rfl
theorem dX0_rowOf_0 : decode cX0_rowOf 0 = .ok (.iload_n 0, 1) := dk_26 (dk_at dksX0_rowOf_0 0 rfl rfl)
theorem dX0_rowOf_1 : decode cX0_rowOf 1 = .ok (.tableswitch 47 0 3 #[31, 35, 39, 43], 31) := by decide +kernel
theorem dX0_rowOf_32 : decode cX0_rowOf 32 = .ok (.iload_n 1, 1) := dk_27 (dk_at dksX0_rowOf_2 0 rfl rfl)
theorem dX0_rowOf_33 : decode cX0_rowOf 33 = .ok (.newarray .byte, 2) := dk_188_8 (dk_at dksX0_rowOf_2 1 rfl rfl)
theorem dX0_rowOf_35 : decode cX0_rowOf 35 = .ok (.areturn, 1) := dk_176 (dk_at dksX0_rowOf_2 3 rfl rfl)
theorem dX0_rowOf_36 : decode cX0_rowOf 36 = .ok (.iload_n 1, 1) := dk_27 (dk_at dksX0_rowOf_2 4 rfl rfl)
theorem dX0_rowOf_37 : decode cX0_rowOf 37 = .ok (.newarray .short, 2) := dk_188_9 (dk_at dksX0_rowOf_2 5 rfl rfl)
theorem dX0_rowOf_39 : decode cX0_rowOf 39 = .ok (.areturn, 1) := dk_176 (dk_at dksX0_rowOf_2 7 rfl rfl)
theorem dX0_rowOf_40 : decode cX0_rowOf 40 = .ok (.iload_n 1, 1) := dk_27 (dk_at dksX0_rowOf_2 8 rfl rfl)
theorem dX0_rowOf_41 : decode cX0_rowOf 41 = .ok (.newarray .int, 2) := dk_188_10 (dk_at dksX0_rowOf_2 9 rfl rfl)
theorem dX0_rowOf_43 : decode cX0_rowOf 43 = .ok (.areturn, 1) := dk_176 (dk_at dksX0_rowOf_2 11 rfl rfl)
theorem dX0_rowOf_44 : decode cX0_rowOf 44 = .ok (.iload_n 1, 1) := dk_27 (dk_at dksX0_rowOf_2 12 rfl rfl)
theorem dX0_rowOf_45 : decode cX0_rowOf 45 = .ok (.newarray .long, 2) := dk_188_11 (dk_at dksX0_rowOf_2 13 rfl rfl)
theorem dX0_rowOf_47 : decode cX0_rowOf 47 = .ok (.areturn, 1) := dk_176 (dk_at dksX0_rowOf_2 15 rfl rfl)
theorem dX0_rowOf_48 : decode cX0_rowOf 48 = .ok (.iload_n 1, 1) := dk_27 (dk_at dksX0_rowOf_2 16 rfl rfl)
theorem dX0_rowOf_49 : decode cX0_rowOf 49 = .ok (.newarray .boolean, 2) := dk_188_4 (dk_at dksX0_rowOf_2 17 rfl rfl)
theorem dX0_rowOf_51 : decode cX0_rowOf 51 = .ok (.areturn, 1) := dk_176 (dk_at dksX0_rowOf_2 19 rfl rfl)
abbrev cX0_set : ByteArray := prog_1_method_14_code
def yX0_set : MethodName := ⟨RX0, "set", "(IIJ)I"⟩
def dkwX0_set_1 : List UInt8 := [4, 172, 58, 5, 42, 25, 5, 180, 0, 122, 182, 0, 95, 172, 58, 5, 42, 16, 254, 182, 0, 95, 172]
abbrev dktX0_set_1 : List UInt8 := dkwX0_set_1 ++ []
def dkwX0_set_0 : List UInt8 := [27, 184, 0, 91, 154, 0, 10, 42, 16, 254, 182, 0, 95, 172, 42, 27, 182, 0, 114, 28, 33, 184, 0, 118]
abbrev dktX0_set_0 : List UInt8 := dkwX0_set_0 ++ dktX0_set_1
theorem dksX0_set_0 : cX0_set.data.toList.drop 0 = dktX0_set_0 := by decide +kernel
theorem dksX0_set_1 : cX0_set.data.toList.drop 24 = dktX0_set_1 := dk_seg dksX0_set_0 24 rfl rfl
theorem dX0_set_0 : decode cX0_set 0 = .ok (.iload_n 1, 1) := dk_27 (dk_at dksX0_set_0 0 rfl rfl)
theorem dX0_set_1 : decode cX0_set 1 = .ok (.invokestatic 91, 3) := dk_184 0 91 (dk_at dksX0_set_0 1 rfl rfl)
theorem dX0_set_4 : decode cX0_set 4 = .ok (.ifCond .ne 10, 3) := dk_154 0 10 (dk_at dksX0_set_0 4 rfl rfl)
theorem dX0_set_7 : decode cX0_set 7 = .ok (.aload_n 0, 1) := dk_42 (dk_at dksX0_set_0 7 rfl rfl)
theorem dX0_set_8 : decode cX0_set 8 = .ok (.bipush (-2), 2) := dk_16 254 (dk_at dksX0_set_0 8 rfl rfl)
theorem dX0_set_10 : decode cX0_set 10 = .ok (.invokevirtual 95, 3) := dk_182 0 95 (dk_at dksX0_set_0 10 rfl rfl)
theorem dX0_set_13 : decode cX0_set 13 = .ok (.ireturn, 1) := dk_172 (dk_at dksX0_set_0 13 rfl rfl)
theorem dX0_set_14 : decode cX0_set 14 = .ok (.aload_n 0, 1) := dk_42 (dk_at dksX0_set_0 14 rfl rfl)
theorem dX0_set_15 : decode cX0_set 15 = .ok (.iload_n 1, 1) := dk_27 (dk_at dksX0_set_0 15 rfl rfl)
theorem dX0_set_16 : decode cX0_set 16 = .ok (.invokevirtual 114, 3) := dk_182 0 114 (dk_at dksX0_set_0 16 rfl rfl)
theorem dX0_set_19 : decode cX0_set 19 = .ok (.iload_n 2, 1) := dk_28 (dk_at dksX0_set_0 19 rfl rfl)
theorem dX0_set_20 : decode cX0_set 20 = .ok (.lload_n 3, 1) := dk_33 (dk_at dksX0_set_0 20 rfl rfl)
theorem dX0_set_21 : decode cX0_set 21 = .ok (.invokestatic 118, 3) := dk_184 0 118 (dk_at dksX0_set_0 21 rfl rfl)
theorem dX0_set_24 : decode cX0_set 24 = .ok (.iconst 1, 1) := dk_4 (dk_at dksX0_set_1 0 rfl rfl)
theorem dX0_set_25 : decode cX0_set 25 = .ok (.ireturn, 1) := dk_172 (dk_at dksX0_set_1 1 rfl rfl)
theorem dX0_set_26 : decode cX0_set 26 = .ok (.astore 5, 2) := dk_58 5 (dk_at dksX0_set_1 2 rfl rfl)
theorem dX0_set_28 : decode cX0_set 28 = .ok (.aload_n 0, 1) := dk_42 (dk_at dksX0_set_1 4 rfl rfl)
theorem dX0_set_29 : decode cX0_set 29 = .ok (.aload 5, 2) := dk_25 5 (dk_at dksX0_set_1 5 rfl rfl)
theorem dX0_set_31 : decode cX0_set 31 = .ok (.getfield 122, 3) := dk_180 0 122 (dk_at dksX0_set_1 7 rfl rfl)
theorem dX0_set_34 : decode cX0_set 34 = .ok (.invokevirtual 95, 3) := dk_182 0 95 (dk_at dksX0_set_1 10 rfl rfl)
theorem dX0_set_37 : decode cX0_set 37 = .ok (.ireturn, 1) := dk_172 (dk_at dksX0_set_1 13 rfl rfl)
theorem dX0_set_38 : decode cX0_set 38 = .ok (.astore 5, 2) := dk_58 5 (dk_at dksX0_set_1 14 rfl rfl)
theorem dX0_set_40 : decode cX0_set 40 = .ok (.aload_n 0, 1) := dk_42 (dk_at dksX0_set_1 16 rfl rfl)
theorem dX0_set_41 : decode cX0_set 41 = .ok (.bipush (-2), 2) := dk_16 254 (dk_at dksX0_set_1 17 rfl rfl)
theorem dX0_set_43 : decode cX0_set 43 = .ok (.invokevirtual 95, 3) := dk_182 0 95 (dk_at dksX0_set_1 19 rfl rfl)
theorem dX0_set_46 : decode cX0_set 46 = .ok (.ireturn, 1) := dk_172 (dk_at dksX0_set_1 22 rfl rfl)
abbrev cX0_rowIn : ByteArray := prog_1_method_13_code
def yX0_rowIn : MethodName := ⟨RX0, "rowIn", "(I)Ljava/lang/Object;"⟩
def dkwX0_rowIn_1 : List UInt8 := [183, 0, 113, 191, 44, 199, 0, 13, 187, 0, 111, 89, 16, 252, 183, 0, 113, 191, 44, 176]
abbrev dktX0_rowIn_1 : List UInt8 := dkwX0_rowIn_1 ++ []
def dkwX0_rowIn_0 : List UInt8 := [42, 180, 0, 59, 27, 50, 180, 0, 103, 77, 44, 193, 0, 109, 153, 0, 13, 187, 0, 111, 89, 16, 253]
abbrev dktX0_rowIn_0 : List UInt8 := dkwX0_rowIn_0 ++ dktX0_rowIn_1
theorem dksX0_rowIn_0 : cX0_rowIn.data.toList.drop 0 = dktX0_rowIn_0 := by decide +kernel
theorem dksX0_rowIn_1 : cX0_rowIn.data.toList.drop 23 = dktX0_rowIn_1 := dk_seg dksX0_rowIn_0 23 rfl rfl
theorem dX0_rowIn_0 : decode cX0_rowIn 0 = .ok (.aload_n 0, 1) := dk_42 (dk_at dksX0_rowIn_0 0 rfl rfl)
theorem dX0_rowIn_1 : decode cX0_rowIn 1 = .ok (.getfield 59, 3) := dk_180 0 59 (dk_at dksX0_rowIn_0 1 rfl rfl)
theorem dX0_rowIn_4 : decode cX0_rowIn 4 = .ok (.iload_n 1, 1) := dk_27 (dk_at dksX0_rowIn_0 4 rfl rfl)
theorem dX0_rowIn_5 : decode cX0_rowIn 5 = .ok (.aaload, 1) := dk_50 (dk_at dksX0_rowIn_0 5 rfl rfl)
theorem dX0_rowIn_6 : decode cX0_rowIn 6 = .ok (.getfield 103, 3) := dk_180 0 103 (dk_at dksX0_rowIn_0 6 rfl rfl)
theorem dX0_rowIn_9 : decode cX0_rowIn 9 = .ok (.astore_n 2, 1) := dk_77 (dk_at dksX0_rowIn_0 9 rfl rfl)
theorem dX0_rowIn_10 : decode cX0_rowIn 10 = .ok (.aload_n 2, 1) := dk_44 (dk_at dksX0_rowIn_0 10 rfl rfl)
theorem dX0_rowIn_11 : decode cX0_rowIn 11 = .ok (.instanceof 109, 3) := dk_193 0 109 (dk_at dksX0_rowIn_0 11 rfl rfl)
theorem dX0_rowIn_14 : decode cX0_rowIn 14 = .ok (.ifCond .eq 13, 3) := dk_153 0 13 (dk_at dksX0_rowIn_0 14 rfl rfl)
theorem dX0_rowIn_17 : decode cX0_rowIn 17 = .ok (.new 111, 3) := dk_187 0 111 (dk_at dksX0_rowIn_0 17 rfl rfl)
theorem dX0_rowIn_20 : decode cX0_rowIn 20 = .ok (.dup, 1) := dk_89 (dk_at dksX0_rowIn_0 20 rfl rfl)
theorem dX0_rowIn_21 : decode cX0_rowIn 21 = .ok (.bipush (-3), 2) := dk_16 253 (dk_at dksX0_rowIn_0 21 rfl rfl)
theorem dX0_rowIn_23 : decode cX0_rowIn 23 = .ok (.invokespecial 113, 3) := dk_183 0 113 (dk_at dksX0_rowIn_1 0 rfl rfl)
theorem dX0_rowIn_26 : decode cX0_rowIn 26 = .ok (.athrow, 1) := dk_191 (dk_at dksX0_rowIn_1 3 rfl rfl)
theorem dX0_rowIn_27 : decode cX0_rowIn 27 = .ok (.aload_n 2, 1) := dk_44 (dk_at dksX0_rowIn_1 4 rfl rfl)
theorem dX0_rowIn_28 : decode cX0_rowIn 28 = .ok (.ifnonnull 13, 3) := dk_199 0 13 (dk_at dksX0_rowIn_1 5 rfl rfl)
theorem dX0_rowIn_31 : decode cX0_rowIn 31 = .ok (.new 111, 3) := dk_187 0 111 (dk_at dksX0_rowIn_1 8 rfl rfl)
theorem dX0_rowIn_34 : decode cX0_rowIn 34 = .ok (.dup, 1) := dk_89 (dk_at dksX0_rowIn_1 11 rfl rfl)
theorem dX0_rowIn_35 : decode cX0_rowIn 35 = .ok (.bipush (-4), 2) := dk_16 252 (dk_at dksX0_rowIn_1 12 rfl rfl)
theorem dX0_rowIn_37 : decode cX0_rowIn 37 = .ok (.invokespecial 113, 3) := dk_183 0 113 (dk_at dksX0_rowIn_1 14 rfl rfl)
theorem dX0_rowIn_40 : decode cX0_rowIn 40 = .ok (.athrow, 1) := dk_191 (dk_at dksX0_rowIn_1 17 rfl rfl)
theorem dX0_rowIn_41 : decode cX0_rowIn 41 = .ok (.aload_n 2, 1) := dk_44 (dk_at dksX0_rowIn_1 18 rfl rfl)
theorem dX0_rowIn_42 : decode cX0_rowIn 42 = .ok (.areturn, 1) := dk_176 (dk_at dksX0_rowIn_1 19 rfl rfl)
abbrev cX0_puts : ByteArray := prog_1_method_11_code
def yX0_puts : MethodName := ⟨RX0, "puts", "(Ljava/lang/Object;IJ)V"⟩
def dkwX0_puts_4 : List UInt8 := [192, 0, 89, 27, 32, 9, 148, 153, 0, 7, 4, 167, 0, 4, 3, 84, 177]
abbrev dktX0_puts_4 : List UInt8 := dkwX0_puts_4 ++ []
def dkwX0_puts_3 : List UInt8 := [42, 192, 0, 82, 27, 32, 136, 79, 167, 0, 30, 42, 192, 0, 83, 27, 32, 80, 167, 0, 20, 42]
abbrev dktX0_puts_3 : List UInt8 := dkwX0_puts_3 ++ dktX0_puts_4
def dkwX0_puts_2 : List UInt8 := [42, 192, 0, 78, 27, 32, 136, 145, 84, 167, 0, 53, 42, 192, 0, 80, 27, 32, 136, 147, 86, 167, 0, 41]
abbrev dktX0_puts_2 : List UInt8 := dkwX0_puts_2 ++ dktX0_puts_3
def dkwX0_puts_1 : List UInt8 := [170, 0, 0, 0, 0, 0, 0, 77, 0, 0, 0, 0, 0, 0, 0, 3, 0, 0, 0, 32, 0, 0, 0, 44, 0, 0, 0, 56, 0, 0, 0, 67]
abbrev dktX0_puts_1 : List UInt8 := dkwX0_puts_1 ++ dktX0_puts_2
def dkwX0_puts_0 : List UInt8 := [42, 184, 0, 85]
abbrev dktX0_puts_0 : List UInt8 := dkwX0_puts_0 ++ dktX0_puts_1
theorem dksX0_puts_0 : cX0_puts.data.toList.drop 0 = dktX0_puts_0 := by decide +kernel
theorem dksX0_puts_1 : cX0_puts.data.toList.drop 4 = dktX0_puts_1 := dk_seg dksX0_puts_0 4 rfl rfl
theorem dksX0_puts_2 : cX0_puts.data.toList.drop 36 = dktX0_puts_2 := dk_seg dksX0_puts_1 32 rfl rfl
theorem dksX0_puts_3 : cX0_puts.data.toList.drop 60 = dktX0_puts_3 := dk_seg dksX0_puts_2 24 rfl rfl
theorem dksX0_puts_4 : cX0_puts.data.toList.drop 82 = dktX0_puts_4 := dk_seg dksX0_puts_3 22 rfl rfl
theorem dX0_puts_0 : decode cX0_puts 0 = .ok (.aload_n 0, 1) := dk_42 (dk_at dksX0_puts_0 0 rfl rfl)
theorem dX0_puts_1 : decode cX0_puts 1 = .ok (.invokestatic 85, 3) := dk_184 0 85 (dk_at dksX0_puts_0 1 rfl rfl)
theorem dX0_puts_4 : decode cX0_puts 4 = .ok (.tableswitch 77 0 3 #[32, 44, 56, 67], 32) := by decide +kernel
theorem dX0_puts_36 : decode cX0_puts 36 = .ok (.aload_n 0, 1) := dk_42 (dk_at dksX0_puts_2 0 rfl rfl)
theorem dX0_puts_37 : decode cX0_puts 37 = .ok (.checkcast 78, 3) := dk_192 0 78 (dk_at dksX0_puts_2 1 rfl rfl)
theorem dX0_puts_40 : decode cX0_puts 40 = .ok (.iload_n 1, 1) := dk_27 (dk_at dksX0_puts_2 4 rfl rfl)
theorem dX0_puts_41 : decode cX0_puts 41 = .ok (.lload_n 2, 1) := dk_32 (dk_at dksX0_puts_2 5 rfl rfl)
theorem dX0_puts_42 : decode cX0_puts 42 = .ok (.l2i, 1) := dk_136 (dk_at dksX0_puts_2 6 rfl rfl)
theorem dX0_puts_43 : decode cX0_puts 43 = .ok (.i2b, 1) := dk_145 (dk_at dksX0_puts_2 7 rfl rfl)
theorem dX0_puts_44 : decode cX0_puts 44 = .ok (.bastore, 1) := dk_84 (dk_at dksX0_puts_2 8 rfl rfl)
theorem dX0_puts_45 : decode cX0_puts 45 = .ok (.goto 53, 3) := dk_167 0 53 (dk_at dksX0_puts_2 9 rfl rfl)
theorem dX0_puts_48 : decode cX0_puts 48 = .ok (.aload_n 0, 1) := dk_42 (dk_at dksX0_puts_2 12 rfl rfl)
theorem dX0_puts_49 : decode cX0_puts 49 = .ok (.checkcast 80, 3) := dk_192 0 80 (dk_at dksX0_puts_2 13 rfl rfl)
theorem dX0_puts_52 : decode cX0_puts 52 = .ok (.iload_n 1, 1) := dk_27 (dk_at dksX0_puts_2 16 rfl rfl)
theorem dX0_puts_53 : decode cX0_puts 53 = .ok (.lload_n 2, 1) := dk_32 (dk_at dksX0_puts_2 17 rfl rfl)
theorem dX0_puts_54 : decode cX0_puts 54 = .ok (.l2i, 1) := dk_136 (dk_at dksX0_puts_2 18 rfl rfl)
theorem dX0_puts_55 : decode cX0_puts 55 = .ok (.i2s, 1) := dk_147 (dk_at dksX0_puts_2 19 rfl rfl)
theorem dX0_puts_56 : decode cX0_puts 56 = .ok (.sastore, 1) := dk_86 (dk_at dksX0_puts_2 20 rfl rfl)
theorem dX0_puts_57 : decode cX0_puts 57 = .ok (.goto 41, 3) := dk_167 0 41 (dk_at dksX0_puts_2 21 rfl rfl)
theorem dX0_puts_60 : decode cX0_puts 60 = .ok (.aload_n 0, 1) := dk_42 (dk_at dksX0_puts_3 0 rfl rfl)
theorem dX0_puts_61 : decode cX0_puts 61 = .ok (.checkcast 82, 3) := dk_192 0 82 (dk_at dksX0_puts_3 1 rfl rfl)
theorem dX0_puts_64 : decode cX0_puts 64 = .ok (.iload_n 1, 1) := dk_27 (dk_at dksX0_puts_3 4 rfl rfl)
theorem dX0_puts_65 : decode cX0_puts 65 = .ok (.lload_n 2, 1) := dk_32 (dk_at dksX0_puts_3 5 rfl rfl)
theorem dX0_puts_66 : decode cX0_puts 66 = .ok (.l2i, 1) := dk_136 (dk_at dksX0_puts_3 6 rfl rfl)
theorem dX0_puts_67 : decode cX0_puts 67 = .ok (.iastore, 1) := dk_79 (dk_at dksX0_puts_3 7 rfl rfl)
theorem dX0_puts_68 : decode cX0_puts 68 = .ok (.goto 30, 3) := dk_167 0 30 (dk_at dksX0_puts_3 8 rfl rfl)
theorem dX0_puts_71 : decode cX0_puts 71 = .ok (.aload_n 0, 1) := dk_42 (dk_at dksX0_puts_3 11 rfl rfl)
theorem dX0_puts_72 : decode cX0_puts 72 = .ok (.checkcast 83, 3) := dk_192 0 83 (dk_at dksX0_puts_3 12 rfl rfl)
theorem dX0_puts_75 : decode cX0_puts 75 = .ok (.iload_n 1, 1) := dk_27 (dk_at dksX0_puts_3 15 rfl rfl)
theorem dX0_puts_76 : decode cX0_puts 76 = .ok (.lload_n 2, 1) := dk_32 (dk_at dksX0_puts_3 16 rfl rfl)
theorem dX0_puts_77 : decode cX0_puts 77 = .ok (.lastore, 1) := dk_80 (dk_at dksX0_puts_3 17 rfl rfl)
theorem dX0_puts_78 : decode cX0_puts 78 = .ok (.goto 20, 3) := dk_167 0 20 (dk_at dksX0_puts_3 18 rfl rfl)
theorem dX0_puts_81 : decode cX0_puts 81 = .ok (.aload_n 0, 1) := dk_42 (dk_at dksX0_puts_3 21 rfl rfl)
theorem dX0_puts_82 : decode cX0_puts 82 = .ok (.checkcast 89, 3) := dk_192 0 89 (dk_at dksX0_puts_4 0 rfl rfl)
theorem dX0_puts_85 : decode cX0_puts 85 = .ok (.iload_n 1, 1) := dk_27 (dk_at dksX0_puts_4 3 rfl rfl)
theorem dX0_puts_86 : decode cX0_puts 86 = .ok (.lload_n 2, 1) := dk_32 (dk_at dksX0_puts_4 4 rfl rfl)
theorem dX0_puts_87 : decode cX0_puts 87 = .ok (.lconst 0, 1) := dk_9 (dk_at dksX0_puts_4 5 rfl rfl)
theorem dX0_puts_88 : decode cX0_puts 88 = .ok (.lcmp, 1) := dk_148 (dk_at dksX0_puts_4 6 rfl rfl)
theorem dX0_puts_89 : decode cX0_puts 89 = .ok (.ifCond .eq 7, 3) := dk_153 0 7 (dk_at dksX0_puts_4 7 rfl rfl)
theorem dX0_puts_92 : decode cX0_puts 92 = .ok (.iconst 1, 1) := dk_4 (dk_at dksX0_puts_4 10 rfl rfl)
theorem dX0_puts_93 : decode cX0_puts 93 = .ok (.goto 4, 3) := dk_167 0 4 (dk_at dksX0_puts_4 11 rfl rfl)
theorem dX0_puts_96 : decode cX0_puts 96 = .ok (.iconst 0, 1) := dk_3 (dk_at dksX0_puts_4 14 rfl rfl)
theorem dX0_puts_97 : decode cX0_puts 97 = .ok (.bastore, 1) := dk_84 (dk_at dksX0_puts_4 15 rfl rfl)
theorem dX0_puts_98 : decode cX0_puts 98 = .ok (.return_, 1) := dk_177 (dk_at dksX0_puts_4 16 rfl rfl)
abbrev cX0_sortOf : ByteArray := prog_1_method_9_code
def yX0_sortOf : MethodName := ⟨RX0, "sortOf", "(Ljava/lang/Object;)I"⟩
def dkwX0_sortOf_1 : List UInt8 := [153, 0, 5, 5, 172, 42, 193, 0, 83, 153, 0, 7, 6, 167, 0, 4, 7, 172]
abbrev dktX0_sortOf_1 : List UInt8 := dkwX0_sortOf_1 ++ []
def dkwX0_sortOf_0 : List UInt8 := [42, 193, 0, 78, 153, 0, 5, 3, 172, 42, 193, 0, 80, 153, 0, 5, 4, 172, 42, 193, 0, 82]
abbrev dktX0_sortOf_0 : List UInt8 := dkwX0_sortOf_0 ++ dktX0_sortOf_1
theorem dksX0_sortOf_0 : cX0_sortOf.data.toList.drop 0 = dktX0_sortOf_0 := by decide +kernel
theorem dksX0_sortOf_1 : cX0_sortOf.data.toList.drop 22 = dktX0_sortOf_1 := dk_seg dksX0_sortOf_0 22 rfl rfl
theorem dX0_sortOf_0 : decode cX0_sortOf 0 = .ok (.aload_n 0, 1) := dk_42 (dk_at dksX0_sortOf_0 0 rfl rfl)
theorem dX0_sortOf_1 : decode cX0_sortOf 1 = .ok (.instanceof 78, 3) := dk_193 0 78 (dk_at dksX0_sortOf_0 1 rfl rfl)
theorem dX0_sortOf_4 : decode cX0_sortOf 4 = .ok (.ifCond .eq 5, 3) := dk_153 0 5 (dk_at dksX0_sortOf_0 4 rfl rfl)
theorem dX0_sortOf_7 : decode cX0_sortOf 7 = .ok (.iconst 0, 1) := dk_3 (dk_at dksX0_sortOf_0 7 rfl rfl)
theorem dX0_sortOf_8 : decode cX0_sortOf 8 = .ok (.ireturn, 1) := dk_172 (dk_at dksX0_sortOf_0 8 rfl rfl)
theorem dX0_sortOf_9 : decode cX0_sortOf 9 = .ok (.aload_n 0, 1) := dk_42 (dk_at dksX0_sortOf_0 9 rfl rfl)
theorem dX0_sortOf_10 : decode cX0_sortOf 10 = .ok (.instanceof 80, 3) := dk_193 0 80 (dk_at dksX0_sortOf_0 10 rfl rfl)
theorem dX0_sortOf_13 : decode cX0_sortOf 13 = .ok (.ifCond .eq 5, 3) := dk_153 0 5 (dk_at dksX0_sortOf_0 13 rfl rfl)
theorem dX0_sortOf_16 : decode cX0_sortOf 16 = .ok (.iconst 1, 1) := dk_4 (dk_at dksX0_sortOf_0 16 rfl rfl)
theorem dX0_sortOf_17 : decode cX0_sortOf 17 = .ok (.ireturn, 1) := dk_172 (dk_at dksX0_sortOf_0 17 rfl rfl)
theorem dX0_sortOf_18 : decode cX0_sortOf 18 = .ok (.aload_n 0, 1) := dk_42 (dk_at dksX0_sortOf_0 18 rfl rfl)
theorem dX0_sortOf_19 : decode cX0_sortOf 19 = .ok (.instanceof 82, 3) := dk_193 0 82 (dk_at dksX0_sortOf_0 19 rfl rfl)
theorem dX0_sortOf_22 : decode cX0_sortOf 22 = .ok (.ifCond .eq 5, 3) := dk_153 0 5 (dk_at dksX0_sortOf_1 0 rfl rfl)
theorem dX0_sortOf_25 : decode cX0_sortOf 25 = .ok (.iconst 2, 1) := dk_5 (dk_at dksX0_sortOf_1 3 rfl rfl)
theorem dX0_sortOf_26 : decode cX0_sortOf 26 = .ok (.ireturn, 1) := dk_172 (dk_at dksX0_sortOf_1 4 rfl rfl)
theorem dX0_sortOf_27 : decode cX0_sortOf 27 = .ok (.aload_n 0, 1) := dk_42 (dk_at dksX0_sortOf_1 5 rfl rfl)
theorem dX0_sortOf_28 : decode cX0_sortOf 28 = .ok (.instanceof 83, 3) := dk_193 0 83 (dk_at dksX0_sortOf_1 6 rfl rfl)
theorem dX0_sortOf_31 : decode cX0_sortOf 31 = .ok (.ifCond .eq 7, 3) := dk_153 0 7 (dk_at dksX0_sortOf_1 9 rfl rfl)
theorem dX0_sortOf_34 : decode cX0_sortOf 34 = .ok (.iconst 3, 1) := dk_6 (dk_at dksX0_sortOf_1 12 rfl rfl)
theorem dX0_sortOf_35 : decode cX0_sortOf 35 = .ok (.goto 4, 3) := dk_167 0 4 (dk_at dksX0_sortOf_1 13 rfl rfl)
theorem dX0_sortOf_38 : decode cX0_sortOf 38 = .ok (.iconst 4, 1) := dk_7 (dk_at dksX0_sortOf_1 16 rfl rfl)
theorem dX0_sortOf_39 : decode cX0_sortOf 39 = .ok (.ireturn, 1) := dk_172 (dk_at dksX0_sortOf_1 17 rfl rfl)
abbrev cX0_copy : ByteArray := prog_1_method_15_code
def yX0_copy : MethodName := ⟨RX0, "copy", "(IIIII)I"⟩
def dkwX0_copy_4 : List UInt8 := [16, 253, 182, 0, 95, 172, 58, 8, 42, 16, 254, 182, 0, 95, 172]
abbrev dktX0_copy_4 : List UInt8 := dkwX0_copy_4 ++ []
def dkwX0_copy_3 : List UInt8 := [25, 7, 21, 4, 21, 5, 184, 0, 128, 21, 5, 172, 58, 8, 42, 16, 252, 182, 0, 95, 172, 58, 8, 42]
abbrev dktX0_copy_3 : List UInt8 := dkwX0_copy_3 ++ dktX0_copy_4
def dkwX0_copy_2 : List UInt8 := [193, 0, 109, 154, 0, 11, 25, 7, 193, 0, 109, 153, 0, 10, 42, 16, 253, 182, 0, 95, 172, 25, 6, 29]
abbrev dktX0_copy_2 : List UInt8 := dkwX0_copy_2 ++ dktX0_copy_3
def dkwX0_copy_1 : List UInt8 := [180, 0, 59, 27, 50, 180, 0, 103, 58, 6, 42, 180, 0, 59, 28, 50, 180, 0, 103, 58, 7, 25, 6]
abbrev dktX0_copy_1 : List UInt8 := dkwX0_copy_1 ++ dktX0_copy_2
def dkwX0_copy_0 : List UInt8 := [27, 184, 0, 91, 153, 0, 10, 28, 184, 0, 91, 154, 0, 10, 42, 16, 254, 182, 0, 95, 172, 42]
abbrev dktX0_copy_0 : List UInt8 := dkwX0_copy_0 ++ dktX0_copy_1
theorem dksX0_copy_0 : cX0_copy.data.toList.drop 0 = dktX0_copy_0 := by decide +kernel
theorem dksX0_copy_1 : cX0_copy.data.toList.drop 22 = dktX0_copy_1 := dk_seg dksX0_copy_0 22 rfl rfl
theorem dksX0_copy_2 : cX0_copy.data.toList.drop 45 = dktX0_copy_2 := dk_seg dksX0_copy_1 23 rfl rfl
theorem dksX0_copy_3 : cX0_copy.data.toList.drop 69 = dktX0_copy_3 := dk_seg dksX0_copy_2 24 rfl rfl
theorem dksX0_copy_4 : cX0_copy.data.toList.drop 93 = dktX0_copy_4 := dk_seg dksX0_copy_3 24 rfl rfl
theorem dX0_copy_0 : decode cX0_copy 0 = .ok (.iload_n 1, 1) := dk_27 (dk_at dksX0_copy_0 0 rfl rfl)
theorem dX0_copy_1 : decode cX0_copy 1 = .ok (.invokestatic 91, 3) := dk_184 0 91 (dk_at dksX0_copy_0 1 rfl rfl)
theorem dX0_copy_4 : decode cX0_copy 4 = .ok (.ifCond .eq 10, 3) := dk_153 0 10 (dk_at dksX0_copy_0 4 rfl rfl)
theorem dX0_copy_7 : decode cX0_copy 7 = .ok (.iload_n 2, 1) := dk_28 (dk_at dksX0_copy_0 7 rfl rfl)
theorem dX0_copy_8 : decode cX0_copy 8 = .ok (.invokestatic 91, 3) := dk_184 0 91 (dk_at dksX0_copy_0 8 rfl rfl)
theorem dX0_copy_11 : decode cX0_copy 11 = .ok (.ifCond .ne 10, 3) := dk_154 0 10 (dk_at dksX0_copy_0 11 rfl rfl)
theorem dX0_copy_14 : decode cX0_copy 14 = .ok (.aload_n 0, 1) := dk_42 (dk_at dksX0_copy_0 14 rfl rfl)
theorem dX0_copy_15 : decode cX0_copy 15 = .ok (.bipush (-2), 2) := dk_16 254 (dk_at dksX0_copy_0 15 rfl rfl)
theorem dX0_copy_17 : decode cX0_copy 17 = .ok (.invokevirtual 95, 3) := dk_182 0 95 (dk_at dksX0_copy_0 17 rfl rfl)
theorem dX0_copy_20 : decode cX0_copy 20 = .ok (.ireturn, 1) := dk_172 (dk_at dksX0_copy_0 20 rfl rfl)
theorem dX0_copy_21 : decode cX0_copy 21 = .ok (.aload_n 0, 1) := dk_42 (dk_at dksX0_copy_0 21 rfl rfl)
theorem dX0_copy_22 : decode cX0_copy 22 = .ok (.getfield 59, 3) := dk_180 0 59 (dk_at dksX0_copy_1 0 rfl rfl)
theorem dX0_copy_25 : decode cX0_copy 25 = .ok (.iload_n 1, 1) := dk_27 (dk_at dksX0_copy_1 3 rfl rfl)
theorem dX0_copy_26 : decode cX0_copy 26 = .ok (.aaload, 1) := dk_50 (dk_at dksX0_copy_1 4 rfl rfl)
theorem dX0_copy_27 : decode cX0_copy 27 = .ok (.getfield 103, 3) := dk_180 0 103 (dk_at dksX0_copy_1 5 rfl rfl)
theorem dX0_copy_30 : decode cX0_copy 30 = .ok (.astore 6, 2) := dk_58 6 (dk_at dksX0_copy_1 8 rfl rfl)
theorem dX0_copy_32 : decode cX0_copy 32 = .ok (.aload_n 0, 1) := dk_42 (dk_at dksX0_copy_1 10 rfl rfl)
theorem dX0_copy_33 : decode cX0_copy 33 = .ok (.getfield 59, 3) := dk_180 0 59 (dk_at dksX0_copy_1 11 rfl rfl)
theorem dX0_copy_36 : decode cX0_copy 36 = .ok (.iload_n 2, 1) := dk_28 (dk_at dksX0_copy_1 14 rfl rfl)
theorem dX0_copy_37 : decode cX0_copy 37 = .ok (.aaload, 1) := dk_50 (dk_at dksX0_copy_1 15 rfl rfl)
theorem dX0_copy_38 : decode cX0_copy 38 = .ok (.getfield 103, 3) := dk_180 0 103 (dk_at dksX0_copy_1 16 rfl rfl)
theorem dX0_copy_41 : decode cX0_copy 41 = .ok (.astore 7, 2) := dk_58 7 (dk_at dksX0_copy_1 19 rfl rfl)
theorem dX0_copy_43 : decode cX0_copy 43 = .ok (.aload 6, 2) := dk_25 6 (dk_at dksX0_copy_1 21 rfl rfl)
theorem dX0_copy_45 : decode cX0_copy 45 = .ok (.instanceof 109, 3) := dk_193 0 109 (dk_at dksX0_copy_2 0 rfl rfl)
theorem dX0_copy_48 : decode cX0_copy 48 = .ok (.ifCond .ne 11, 3) := dk_154 0 11 (dk_at dksX0_copy_2 3 rfl rfl)
theorem dX0_copy_51 : decode cX0_copy 51 = .ok (.aload 7, 2) := dk_25 7 (dk_at dksX0_copy_2 6 rfl rfl)
theorem dX0_copy_53 : decode cX0_copy 53 = .ok (.instanceof 109, 3) := dk_193 0 109 (dk_at dksX0_copy_2 8 rfl rfl)
theorem dX0_copy_56 : decode cX0_copy 56 = .ok (.ifCond .eq 10, 3) := dk_153 0 10 (dk_at dksX0_copy_2 11 rfl rfl)
theorem dX0_copy_59 : decode cX0_copy 59 = .ok (.aload_n 0, 1) := dk_42 (dk_at dksX0_copy_2 14 rfl rfl)
theorem dX0_copy_60 : decode cX0_copy 60 = .ok (.bipush (-3), 2) := dk_16 253 (dk_at dksX0_copy_2 15 rfl rfl)
theorem dX0_copy_62 : decode cX0_copy 62 = .ok (.invokevirtual 95, 3) := dk_182 0 95 (dk_at dksX0_copy_2 17 rfl rfl)
theorem dX0_copy_65 : decode cX0_copy 65 = .ok (.ireturn, 1) := dk_172 (dk_at dksX0_copy_2 20 rfl rfl)
theorem dX0_copy_66 : decode cX0_copy 66 = .ok (.aload 6, 2) := dk_25 6 (dk_at dksX0_copy_2 21 rfl rfl)
theorem dX0_copy_68 : decode cX0_copy 68 = .ok (.iload_n 3, 1) := dk_29 (dk_at dksX0_copy_2 23 rfl rfl)
theorem dX0_copy_69 : decode cX0_copy 69 = .ok (.aload 7, 2) := dk_25 7 (dk_at dksX0_copy_3 0 rfl rfl)
theorem dX0_copy_71 : decode cX0_copy 71 = .ok (.iload 4, 2) := dk_21 4 (dk_at dksX0_copy_3 2 rfl rfl)
theorem dX0_copy_73 : decode cX0_copy 73 = .ok (.iload 5, 2) := dk_21 5 (dk_at dksX0_copy_3 4 rfl rfl)
theorem dX0_copy_75 : decode cX0_copy 75 = .ok (.invokestatic 128, 3) := dk_184 0 128 (dk_at dksX0_copy_3 6 rfl rfl)
theorem dX0_copy_78 : decode cX0_copy 78 = .ok (.iload 5, 2) := dk_21 5 (dk_at dksX0_copy_3 9 rfl rfl)
theorem dX0_copy_80 : decode cX0_copy 80 = .ok (.ireturn, 1) := dk_172 (dk_at dksX0_copy_3 11 rfl rfl)
theorem dX0_copy_81 : decode cX0_copy 81 = .ok (.astore 8, 2) := dk_58 8 (dk_at dksX0_copy_3 12 rfl rfl)
theorem dX0_copy_83 : decode cX0_copy 83 = .ok (.aload_n 0, 1) := dk_42 (dk_at dksX0_copy_3 14 rfl rfl)
theorem dX0_copy_84 : decode cX0_copy 84 = .ok (.bipush (-4), 2) := dk_16 252 (dk_at dksX0_copy_3 15 rfl rfl)
theorem dX0_copy_86 : decode cX0_copy 86 = .ok (.invokevirtual 95, 3) := dk_182 0 95 (dk_at dksX0_copy_3 17 rfl rfl)
theorem dX0_copy_89 : decode cX0_copy 89 = .ok (.ireturn, 1) := dk_172 (dk_at dksX0_copy_3 20 rfl rfl)
theorem dX0_copy_90 : decode cX0_copy 90 = .ok (.astore 8, 2) := dk_58 8 (dk_at dksX0_copy_3 21 rfl rfl)
theorem dX0_copy_92 : decode cX0_copy 92 = .ok (.aload_n 0, 1) := dk_42 (dk_at dksX0_copy_3 23 rfl rfl)
theorem dX0_copy_93 : decode cX0_copy 93 = .ok (.bipush (-3), 2) := dk_16 253 (dk_at dksX0_copy_4 0 rfl rfl)
theorem dX0_copy_95 : decode cX0_copy 95 = .ok (.invokevirtual 95, 3) := dk_182 0 95 (dk_at dksX0_copy_4 2 rfl rfl)
theorem dX0_copy_98 : decode cX0_copy 98 = .ok (.ireturn, 1) := dk_172 (dk_at dksX0_copy_4 5 rfl rfl)
theorem dX0_copy_99 : decode cX0_copy 99 = .ok (.astore 8, 2) := dk_58 8 (dk_at dksX0_copy_4 6 rfl rfl)
theorem dX0_copy_101 : decode cX0_copy 101 = .ok (.aload_n 0, 1) := dk_42 (dk_at dksX0_copy_4 8 rfl rfl)
theorem dX0_copy_102 : decode cX0_copy 102 = .ok (.bipush (-2), 2) := dk_16 254 (dk_at dksX0_copy_4 9 rfl rfl)
theorem dX0_copy_104 : decode cX0_copy 104 = .ok (.invokevirtual 95, 3) := dk_182 0 95 (dk_at dksX0_copy_4 11 rfl rfl)
theorem dX0_copy_107 : decode cX0_copy 107 = .ok (.ireturn, 1) := dk_172 (dk_at dksX0_copy_4 14 rfl rfl)
abbrev cX0_element : ByteArray := prog_1_method_16_code
def yX0_element : MethodName := ⟨RX0, "element", "(II)J"⟩
def dkwX0_element_1 : List UInt8 := [173]
abbrev dktX0_element_1 : List UInt8 := dkwX0_element_1 ++ []
def dkwX0_element_0 : List UInt8 := [27, 184, 0, 91, 154, 0, 5, 9, 173, 42, 27, 182, 0, 114, 28, 184, 0, 140, 173, 78, 9, 173, 78, 9]
abbrev dktX0_element_0 : List UInt8 := dkwX0_element_0 ++ dktX0_element_1
theorem dksX0_element_0 : cX0_element.data.toList.drop 0 = dktX0_element_0 := by decide +kernel
theorem dksX0_element_1 : cX0_element.data.toList.drop 24 = dktX0_element_1 := dk_seg dksX0_element_0 24 rfl rfl
theorem dX0_element_0 : decode cX0_element 0 = .ok (.iload_n 1, 1) := dk_27 (dk_at dksX0_element_0 0 rfl rfl)
theorem dX0_element_1 : decode cX0_element 1 = .ok (.invokestatic 91, 3) := dk_184 0 91 (dk_at dksX0_element_0 1 rfl rfl)
theorem dX0_element_4 : decode cX0_element 4 = .ok (.ifCond .ne 5, 3) := dk_154 0 5 (dk_at dksX0_element_0 4 rfl rfl)
theorem dX0_element_7 : decode cX0_element 7 = .ok (.lconst 0, 1) := dk_9 (dk_at dksX0_element_0 7 rfl rfl)
theorem dX0_element_8 : decode cX0_element 8 = .ok (.lreturn, 1) := dk_173 (dk_at dksX0_element_0 8 rfl rfl)
theorem dX0_element_9 : decode cX0_element 9 = .ok (.aload_n 0, 1) := dk_42 (dk_at dksX0_element_0 9 rfl rfl)
theorem dX0_element_10 : decode cX0_element 10 = .ok (.iload_n 1, 1) := dk_27 (dk_at dksX0_element_0 10 rfl rfl)
theorem dX0_element_11 : decode cX0_element 11 = .ok (.invokevirtual 114, 3) := dk_182 0 114 (dk_at dksX0_element_0 11 rfl rfl)
theorem dX0_element_14 : decode cX0_element 14 = .ok (.iload_n 2, 1) := dk_28 (dk_at dksX0_element_0 14 rfl rfl)
theorem dX0_element_15 : decode cX0_element 15 = .ok (.invokestatic 140, 3) := dk_184 0 140 (dk_at dksX0_element_0 15 rfl rfl)
theorem dX0_element_18 : decode cX0_element 18 = .ok (.lreturn, 1) := dk_173 (dk_at dksX0_element_0 18 rfl rfl)
theorem dX0_element_19 : decode cX0_element 19 = .ok (.astore_n 3, 1) := dk_78 (dk_at dksX0_element_0 19 rfl rfl)
theorem dX0_element_20 : decode cX0_element 20 = .ok (.lconst 0, 1) := dk_9 (dk_at dksX0_element_0 20 rfl rfl)
theorem dX0_element_21 : decode cX0_element 21 = .ok (.lreturn, 1) := dk_173 (dk_at dksX0_element_0 21 rfl rfl)
theorem dX0_element_22 : decode cX0_element 22 = .ok (.astore_n 3, 1) := dk_78 (dk_at dksX0_element_0 22 rfl rfl)
theorem dX0_element_23 : decode cX0_element 23 = .ok (.lconst 0, 1) := dk_9 (dk_at dksX0_element_0 23 rfl rfl)
theorem dX0_element_24 : decode cX0_element 24 = .ok (.lreturn, 1) := dk_173 (dk_at dksX0_element_1 0 rfl rfl)
abbrev cX0_elementOf : ByteArray := prog_1_method_10_code
def yX0_elementOf : MethodName := ⟨RX0, "elementOf", "(Ljava/lang/Object;I)J"⟩
def dkwX0_elementOf_3 : List UInt8 := [42, 192, 0, 83, 27, 47, 173, 42, 192, 0, 89, 27, 51, 153, 0, 7, 10, 167, 0, 4, 9, 173]
abbrev dktX0_elementOf_3 : List UInt8 := dkwX0_elementOf_3 ++ []
def dkwX0_elementOf_2 : List UInt8 := [42, 192, 0, 78, 27, 51, 133, 173, 42, 192, 0, 80, 27, 53, 133, 173, 42, 192, 0, 82, 27, 46, 133, 173]
abbrev dktX0_elementOf_2 : List UInt8 := dkwX0_elementOf_2 ++ dktX0_elementOf_3
def dkwX0_elementOf_1 : List UInt8 := [170, 0, 0, 0, 0, 0, 0, 63, 0, 0, 0, 0, 0, 0, 0, 3, 0, 0, 0, 32, 0, 0, 0, 40, 0, 0, 0, 48, 0, 0, 0, 56]
abbrev dktX0_elementOf_1 : List UInt8 := dkwX0_elementOf_1 ++ dktX0_elementOf_2
def dkwX0_elementOf_0 : List UInt8 := [42, 184, 0, 85]
abbrev dktX0_elementOf_0 : List UInt8 := dkwX0_elementOf_0 ++ dktX0_elementOf_1
theorem dksX0_elementOf_0 : cX0_elementOf.data.toList.drop 0 = dktX0_elementOf_0 := by decide +kernel
theorem dksX0_elementOf_1 : cX0_elementOf.data.toList.drop 4 = dktX0_elementOf_1 := dk_seg dksX0_elementOf_0 4 rfl rfl
theorem dksX0_elementOf_2 : cX0_elementOf.data.toList.drop 36 = dktX0_elementOf_2 := dk_seg dksX0_elementOf_1 32 rfl rfl
theorem dksX0_elementOf_3 : cX0_elementOf.data.toList.drop 60 = dktX0_elementOf_3 := dk_seg dksX0_elementOf_2 24 rfl rfl
theorem dX0_elementOf_0 : decode cX0_elementOf 0 = .ok (.aload_n 0, 1) := dk_42 (dk_at dksX0_elementOf_0 0 rfl rfl)
theorem dX0_elementOf_1 : decode cX0_elementOf 1 = .ok (.invokestatic 85, 3) := dk_184 0 85 (dk_at dksX0_elementOf_0 1 rfl rfl)
theorem dX0_elementOf_4 : decode cX0_elementOf 4 = .ok (.tableswitch 63 0 3 #[32, 40, 48, 56], 32) := by decide +kernel
theorem dX0_elementOf_36 : decode cX0_elementOf 36 = .ok (.aload_n 0, 1) := dk_42 (dk_at dksX0_elementOf_2 0 rfl rfl)
theorem dX0_elementOf_37 : decode cX0_elementOf 37 = .ok (.checkcast 78, 3) := dk_192 0 78 (dk_at dksX0_elementOf_2 1 rfl rfl)
theorem dX0_elementOf_40 : decode cX0_elementOf 40 = .ok (.iload_n 1, 1) := dk_27 (dk_at dksX0_elementOf_2 4 rfl rfl)
theorem dX0_elementOf_41 : decode cX0_elementOf 41 = .ok (.baload, 1) := dk_51 (dk_at dksX0_elementOf_2 5 rfl rfl)
theorem dX0_elementOf_42 : decode cX0_elementOf 42 = .ok (.i2l, 1) := dk_133 (dk_at dksX0_elementOf_2 6 rfl rfl)
theorem dX0_elementOf_43 : decode cX0_elementOf 43 = .ok (.lreturn, 1) := dk_173 (dk_at dksX0_elementOf_2 7 rfl rfl)
theorem dX0_elementOf_44 : decode cX0_elementOf 44 = .ok (.aload_n 0, 1) := dk_42 (dk_at dksX0_elementOf_2 8 rfl rfl)
theorem dX0_elementOf_45 : decode cX0_elementOf 45 = .ok (.checkcast 80, 3) := dk_192 0 80 (dk_at dksX0_elementOf_2 9 rfl rfl)
theorem dX0_elementOf_48 : decode cX0_elementOf 48 = .ok (.iload_n 1, 1) := dk_27 (dk_at dksX0_elementOf_2 12 rfl rfl)
theorem dX0_elementOf_49 : decode cX0_elementOf 49 = .ok (.saload, 1) := dk_53 (dk_at dksX0_elementOf_2 13 rfl rfl)
theorem dX0_elementOf_50 : decode cX0_elementOf 50 = .ok (.i2l, 1) := dk_133 (dk_at dksX0_elementOf_2 14 rfl rfl)
theorem dX0_elementOf_51 : decode cX0_elementOf 51 = .ok (.lreturn, 1) := dk_173 (dk_at dksX0_elementOf_2 15 rfl rfl)
theorem dX0_elementOf_52 : decode cX0_elementOf 52 = .ok (.aload_n 0, 1) := dk_42 (dk_at dksX0_elementOf_2 16 rfl rfl)
theorem dX0_elementOf_53 : decode cX0_elementOf 53 = .ok (.checkcast 82, 3) := dk_192 0 82 (dk_at dksX0_elementOf_2 17 rfl rfl)
theorem dX0_elementOf_56 : decode cX0_elementOf 56 = .ok (.iload_n 1, 1) := dk_27 (dk_at dksX0_elementOf_2 20 rfl rfl)
theorem dX0_elementOf_57 : decode cX0_elementOf 57 = .ok (.iaload, 1) := dk_46 (dk_at dksX0_elementOf_2 21 rfl rfl)
theorem dX0_elementOf_58 : decode cX0_elementOf 58 = .ok (.i2l, 1) := dk_133 (dk_at dksX0_elementOf_2 22 rfl rfl)
theorem dX0_elementOf_59 : decode cX0_elementOf 59 = .ok (.lreturn, 1) := dk_173 (dk_at dksX0_elementOf_2 23 rfl rfl)
theorem dX0_elementOf_60 : decode cX0_elementOf 60 = .ok (.aload_n 0, 1) := dk_42 (dk_at dksX0_elementOf_3 0 rfl rfl)
theorem dX0_elementOf_61 : decode cX0_elementOf 61 = .ok (.checkcast 83, 3) := dk_192 0 83 (dk_at dksX0_elementOf_3 1 rfl rfl)
theorem dX0_elementOf_64 : decode cX0_elementOf 64 = .ok (.iload_n 1, 1) := dk_27 (dk_at dksX0_elementOf_3 4 rfl rfl)
theorem dX0_elementOf_65 : decode cX0_elementOf 65 = .ok (.laload, 1) := dk_47 (dk_at dksX0_elementOf_3 5 rfl rfl)
theorem dX0_elementOf_66 : decode cX0_elementOf 66 = .ok (.lreturn, 1) := dk_173 (dk_at dksX0_elementOf_3 6 rfl rfl)
theorem dX0_elementOf_67 : decode cX0_elementOf 67 = .ok (.aload_n 0, 1) := dk_42 (dk_at dksX0_elementOf_3 7 rfl rfl)
theorem dX0_elementOf_68 : decode cX0_elementOf 68 = .ok (.checkcast 89, 3) := dk_192 0 89 (dk_at dksX0_elementOf_3 8 rfl rfl)
theorem dX0_elementOf_71 : decode cX0_elementOf 71 = .ok (.iload_n 1, 1) := dk_27 (dk_at dksX0_elementOf_3 11 rfl rfl)
theorem dX0_elementOf_72 : decode cX0_elementOf 72 = .ok (.baload, 1) := dk_51 (dk_at dksX0_elementOf_3 12 rfl rfl)
theorem dX0_elementOf_73 : decode cX0_elementOf 73 = .ok (.ifCond .eq 7, 3) := dk_153 0 7 (dk_at dksX0_elementOf_3 13 rfl rfl)
theorem dX0_elementOf_76 : decode cX0_elementOf 76 = .ok (.lconst 1, 1) := dk_10 (dk_at dksX0_elementOf_3 16 rfl rfl)
theorem dX0_elementOf_77 : decode cX0_elementOf 77 = .ok (.goto 4, 3) := dk_167 0 4 (dk_at dksX0_elementOf_3 17 rfl rfl)
theorem dX0_elementOf_80 : decode cX0_elementOf 80 = .ok (.lconst 0, 1) := dk_9 (dk_at dksX0_elementOf_3 20 rfl rfl)
theorem dX0_elementOf_81 : decode cX0_elementOf 81 = .ok (.lreturn, 1) := dk_173 (dk_at dksX0_elementOf_3 21 rfl rfl)
abbrev cX0_holds : ByteArray := prog_1_method_17_code
def yX0_holds : MethodName := ⟨RX0, "holds", "(I)I"⟩
def dkwX0_holds_2 : List UInt8 := [182, 0, 144, 96, 167, 0, 7, 44, 184, 0, 85, 172]
abbrev dktX0_holds_2 : List UInt8 := dkwX0_holds_2 ++ []
def dkwX0_holds_1 : List UInt8 := [180, 0, 59, 27, 50, 180, 0, 103, 77, 44, 193, 0, 109, 153, 0, 16, 16, 10, 44, 192, 0, 109]
abbrev dktX0_holds_1 : List UInt8 := dkwX0_holds_1 ++ dktX0_holds_2
def dkwX0_holds_0 : List UInt8 := [27, 184, 0, 91, 153, 0, 15, 42, 180, 0, 59, 27, 50, 180, 0, 103, 199, 0, 5, 2, 172, 42]
abbrev dktX0_holds_0 : List UInt8 := dkwX0_holds_0 ++ dktX0_holds_1
theorem dksX0_holds_0 : cX0_holds.data.toList.drop 0 = dktX0_holds_0 := by decide +kernel
theorem dksX0_holds_1 : cX0_holds.data.toList.drop 22 = dktX0_holds_1 := dk_seg dksX0_holds_0 22 rfl rfl
theorem dksX0_holds_2 : cX0_holds.data.toList.drop 44 = dktX0_holds_2 := dk_seg dksX0_holds_1 22 rfl rfl
theorem dX0_holds_0 : decode cX0_holds 0 = .ok (.iload_n 1, 1) := dk_27 (dk_at dksX0_holds_0 0 rfl rfl)
theorem dX0_holds_1 : decode cX0_holds 1 = .ok (.invokestatic 91, 3) := dk_184 0 91 (dk_at dksX0_holds_0 1 rfl rfl)
theorem dX0_holds_4 : decode cX0_holds 4 = .ok (.ifCond .eq 15, 3) := dk_153 0 15 (dk_at dksX0_holds_0 4 rfl rfl)
theorem dX0_holds_7 : decode cX0_holds 7 = .ok (.aload_n 0, 1) := dk_42 (dk_at dksX0_holds_0 7 rfl rfl)
theorem dX0_holds_8 : decode cX0_holds 8 = .ok (.getfield 59, 3) := dk_180 0 59 (dk_at dksX0_holds_0 8 rfl rfl)
theorem dX0_holds_11 : decode cX0_holds 11 = .ok (.iload_n 1, 1) := dk_27 (dk_at dksX0_holds_0 11 rfl rfl)
theorem dX0_holds_12 : decode cX0_holds 12 = .ok (.aaload, 1) := dk_50 (dk_at dksX0_holds_0 12 rfl rfl)
theorem dX0_holds_13 : decode cX0_holds 13 = .ok (.getfield 103, 3) := dk_180 0 103 (dk_at dksX0_holds_0 13 rfl rfl)
theorem dX0_holds_16 : decode cX0_holds 16 = .ok (.ifnonnull 5, 3) := dk_199 0 5 (dk_at dksX0_holds_0 16 rfl rfl)
theorem dX0_holds_19 : decode cX0_holds 19 = .ok (.iconst (-1), 1) := dk_2 (dk_at dksX0_holds_0 19 rfl rfl)
theorem dX0_holds_20 : decode cX0_holds 20 = .ok (.ireturn, 1) := dk_172 (dk_at dksX0_holds_0 20 rfl rfl)
theorem dX0_holds_21 : decode cX0_holds 21 = .ok (.aload_n 0, 1) := dk_42 (dk_at dksX0_holds_0 21 rfl rfl)
theorem dX0_holds_22 : decode cX0_holds 22 = .ok (.getfield 59, 3) := dk_180 0 59 (dk_at dksX0_holds_1 0 rfl rfl)
theorem dX0_holds_25 : decode cX0_holds 25 = .ok (.iload_n 1, 1) := dk_27 (dk_at dksX0_holds_1 3 rfl rfl)
theorem dX0_holds_26 : decode cX0_holds 26 = .ok (.aaload, 1) := dk_50 (dk_at dksX0_holds_1 4 rfl rfl)
theorem dX0_holds_27 : decode cX0_holds 27 = .ok (.getfield 103, 3) := dk_180 0 103 (dk_at dksX0_holds_1 5 rfl rfl)
theorem dX0_holds_30 : decode cX0_holds 30 = .ok (.astore_n 2, 1) := dk_77 (dk_at dksX0_holds_1 8 rfl rfl)
theorem dX0_holds_31 : decode cX0_holds 31 = .ok (.aload_n 2, 1) := dk_44 (dk_at dksX0_holds_1 9 rfl rfl)
theorem dX0_holds_32 : decode cX0_holds 32 = .ok (.instanceof 109, 3) := dk_193 0 109 (dk_at dksX0_holds_1 10 rfl rfl)
theorem dX0_holds_35 : decode cX0_holds 35 = .ok (.ifCond .eq 16, 3) := dk_153 0 16 (dk_at dksX0_holds_1 13 rfl rfl)
theorem dX0_holds_38 : decode cX0_holds 38 = .ok (.bipush 10, 2) := dk_16 10 (dk_at dksX0_holds_1 16 rfl rfl)
theorem dX0_holds_40 : decode cX0_holds 40 = .ok (.aload_n 2, 1) := dk_44 (dk_at dksX0_holds_1 18 rfl rfl)
theorem dX0_holds_41 : decode cX0_holds 41 = .ok (.checkcast 109, 3) := dk_192 0 109 (dk_at dksX0_holds_1 19 rfl rfl)
theorem dX0_holds_44 : decode cX0_holds 44 = .ok (.invokevirtual 144, 3) := dk_182 0 144 (dk_at dksX0_holds_2 0 rfl rfl)
theorem dX0_holds_47 : decode cX0_holds 47 = .ok (.iadd, 1) := dk_96 (dk_at dksX0_holds_2 3 rfl rfl)
theorem dX0_holds_48 : decode cX0_holds 48 = .ok (.goto 7, 3) := dk_167 0 7 (dk_at dksX0_holds_2 4 rfl rfl)
theorem dX0_holds_51 : decode cX0_holds 51 = .ok (.aload_n 2, 1) := dk_44 (dk_at dksX0_holds_2 7 rfl rfl)
theorem dX0_holds_52 : decode cX0_holds 52 = .ok (.invokestatic 85, 3) := dk_184 0 85 (dk_at dksX0_holds_2 8 rfl rfl)
theorem dX0_holds_55 : decode cX0_holds 55 = .ok (.ireturn, 1) := dk_172 (dk_at dksX0_holds_2 11 rfl rfl)
abbrev cX0_coachman : ByteArray := prog_1_method_18_code
def yX0_coachman : MethodName := ⟨RX0, "coachman", "(III)I"⟩
def dkwX0_coachman_2 : List UInt8 := [4, 172]
abbrev dktX0_coachman_2 : List UInt8 := dkwX0_coachman_2 ++ []
def dkwX0_coachman_1 : List UInt8 := [154, 0, 10, 42, 16, 254, 182, 0, 95, 172, 42, 180, 0, 59, 27, 50, 28, 29, 184, 0, 148, 181, 0, 103]
abbrev dktX0_coachman_1 : List UInt8 := dkwX0_coachman_1 ++ dktX0_coachman_2
def dkwX0_coachman_0 : List UInt8 := [27, 184, 0, 91, 153, 0, 22, 28, 4, 8, 184, 0, 70, 153, 0, 13, 29, 3, 16, 9, 184, 0, 70]
abbrev dktX0_coachman_0 : List UInt8 := dkwX0_coachman_0 ++ dktX0_coachman_1
theorem dksX0_coachman_0 : cX0_coachman.data.toList.drop 0 = dktX0_coachman_0 := by decide +kernel
theorem dksX0_coachman_1 : cX0_coachman.data.toList.drop 23 = dktX0_coachman_1 := dk_seg dksX0_coachman_0 23 rfl rfl
theorem dksX0_coachman_2 : cX0_coachman.data.toList.drop 47 = dktX0_coachman_2 := dk_seg dksX0_coachman_1 24 rfl rfl
theorem dX0_coachman_0 : decode cX0_coachman 0 = .ok (.iload_n 1, 1) := dk_27 (dk_at dksX0_coachman_0 0 rfl rfl)
theorem dX0_coachman_1 : decode cX0_coachman 1 = .ok (.invokestatic 91, 3) := dk_184 0 91 (dk_at dksX0_coachman_0 1 rfl rfl)
theorem dX0_coachman_4 : decode cX0_coachman 4 = .ok (.ifCond .eq 22, 3) := dk_153 0 22 (dk_at dksX0_coachman_0 4 rfl rfl)
theorem dX0_coachman_7 : decode cX0_coachman 7 = .ok (.iload_n 2, 1) := dk_28 (dk_at dksX0_coachman_0 7 rfl rfl)
theorem dX0_coachman_8 : decode cX0_coachman 8 = .ok (.iconst 1, 1) := dk_4 (dk_at dksX0_coachman_0 8 rfl rfl)
theorem dX0_coachman_9 : decode cX0_coachman 9 = .ok (.iconst 5, 1) := dk_8 (dk_at dksX0_coachman_0 9 rfl rfl)
theorem dX0_coachman_10 : decode cX0_coachman 10 = .ok (.invokestatic 70, 3) := dk_184 0 70 (dk_at dksX0_coachman_0 10 rfl rfl)
theorem dX0_coachman_13 : decode cX0_coachman 13 = .ok (.ifCond .eq 13, 3) := dk_153 0 13 (dk_at dksX0_coachman_0 13 rfl rfl)
theorem dX0_coachman_16 : decode cX0_coachman 16 = .ok (.iload_n 3, 1) := dk_29 (dk_at dksX0_coachman_0 16 rfl rfl)
theorem dX0_coachman_17 : decode cX0_coachman 17 = .ok (.iconst 0, 1) := dk_3 (dk_at dksX0_coachman_0 17 rfl rfl)
theorem dX0_coachman_18 : decode cX0_coachman 18 = .ok (.bipush 9, 2) := dk_16 9 (dk_at dksX0_coachman_0 18 rfl rfl)
theorem dX0_coachman_20 : decode cX0_coachman 20 = .ok (.invokestatic 70, 3) := dk_184 0 70 (dk_at dksX0_coachman_0 20 rfl rfl)
theorem dX0_coachman_23 : decode cX0_coachman 23 = .ok (.ifCond .ne 10, 3) := dk_154 0 10 (dk_at dksX0_coachman_1 0 rfl rfl)
theorem dX0_coachman_26 : decode cX0_coachman 26 = .ok (.aload_n 0, 1) := dk_42 (dk_at dksX0_coachman_1 3 rfl rfl)
theorem dX0_coachman_27 : decode cX0_coachman 27 = .ok (.bipush (-2), 2) := dk_16 254 (dk_at dksX0_coachman_1 4 rfl rfl)
theorem dX0_coachman_29 : decode cX0_coachman 29 = .ok (.invokevirtual 95, 3) := dk_182 0 95 (dk_at dksX0_coachman_1 6 rfl rfl)
theorem dX0_coachman_32 : decode cX0_coachman 32 = .ok (.ireturn, 1) := dk_172 (dk_at dksX0_coachman_1 9 rfl rfl)
theorem dX0_coachman_33 : decode cX0_coachman 33 = .ok (.aload_n 0, 1) := dk_42 (dk_at dksX0_coachman_1 10 rfl rfl)
theorem dX0_coachman_34 : decode cX0_coachman 34 = .ok (.getfield 59, 3) := dk_180 0 59 (dk_at dksX0_coachman_1 11 rfl rfl)
theorem dX0_coachman_37 : decode cX0_coachman 37 = .ok (.iload_n 1, 1) := dk_27 (dk_at dksX0_coachman_1 14 rfl rfl)
theorem dX0_coachman_38 : decode cX0_coachman 38 = .ok (.aaload, 1) := dk_50 (dk_at dksX0_coachman_1 15 rfl rfl)
theorem dX0_coachman_39 : decode cX0_coachman 39 = .ok (.iload_n 2, 1) := dk_28 (dk_at dksX0_coachman_1 16 rfl rfl)
theorem dX0_coachman_40 : decode cX0_coachman 40 = .ok (.iload_n 3, 1) := dk_29 (dk_at dksX0_coachman_1 17 rfl rfl)
theorem dX0_coachman_41 : decode cX0_coachman 41 = .ok (.invokestatic 148, 3) := dk_184 0 148 (dk_at dksX0_coachman_1 18 rfl rfl)
theorem dX0_coachman_44 : decode cX0_coachman 44 = .ok (.putfield 103, 3) := dk_181 0 103 (dk_at dksX0_coachman_1 21 rfl rfl)
theorem dX0_coachman_47 : decode cX0_coachman 47 = .ok (.iconst 1, 1) := dk_4 (dk_at dksX0_coachman_2 0 rfl rfl)
theorem dX0_coachman_48 : decode cX0_coachman 48 = .ok (.ireturn, 1) := dk_172 (dk_at dksX0_coachman_2 1 rfl rfl)
abbrev cX0_made : ByteArray := prog_1_method_3_code
def yX0_made : MethodName := ⟨RX0, "made", "(II)LThreeStrangers$Coachman;"⟩
def dkwX0_made_3 : List UInt8 := [183, 0, 14, 176, 187, 0, 15, 89, 27, 183, 0, 17, 176, 187, 0, 18, 89, 27, 183, 0, 20, 176]
abbrev dktX0_made_3 : List UInt8 := dkwX0_made_3 ++ []
def dkwX0_made_2 : List UInt8 := [187, 0, 3, 89, 27, 183, 0, 5, 176, 187, 0, 9, 89, 27, 183, 0, 11, 176, 187, 0, 12, 89, 27]
abbrev dktX0_made_2 : List UInt8 := dkwX0_made_2 ++ dktX0_made_3
def dkwX0_made_1 : List UInt8 := [170, 0, 0, 0, 0, 0, 67, 0, 0, 0, 1, 0, 0, 0, 4, 0, 0, 0, 31, 0, 0, 0, 40, 0, 0, 0, 49, 0, 0, 0, 58]
abbrev dktX0_made_1 : List UInt8 := dkwX0_made_1 ++ dktX0_made_2
def dkwX0_made_0 : List UInt8 := [26]
abbrev dktX0_made_0 : List UInt8 := dkwX0_made_0 ++ dktX0_made_1
theorem dksX0_made_0 : cX0_made.data.toList.drop 0 = dktX0_made_0 := by decide +kernel
theorem dksX0_made_1 : cX0_made.data.toList.drop 1 = dktX0_made_1 := dk_seg dksX0_made_0 1 rfl rfl
theorem dksX0_made_2 : cX0_made.data.toList.drop 32 = dktX0_made_2 := dk_seg dksX0_made_1 31 rfl rfl
theorem dksX0_made_3 : cX0_made.data.toList.drop 55 = dktX0_made_3 := dk_seg dksX0_made_2 23 rfl rfl
theorem dX0_made_0 : decode cX0_made 0 = .ok (.iload_n 0, 1) := dk_26 (dk_at dksX0_made_0 0 rfl rfl)
theorem dX0_made_1 : decode cX0_made 1 = .ok (.tableswitch 67 1 4 #[31, 40, 49, 58], 31) := by decide +kernel
theorem dX0_made_32 : decode cX0_made 32 = .ok (.new 3, 3) := dk_187 0 3 (dk_at dksX0_made_2 0 rfl rfl)
theorem dX0_made_35 : decode cX0_made 35 = .ok (.dup, 1) := dk_89 (dk_at dksX0_made_2 3 rfl rfl)
theorem dX0_made_36 : decode cX0_made 36 = .ok (.iload_n 1, 1) := dk_27 (dk_at dksX0_made_2 4 rfl rfl)
theorem dX0_made_37 : decode cX0_made 37 = .ok (.invokespecial 5, 3) := dk_183 0 5 (dk_at dksX0_made_2 5 rfl rfl)
theorem dX0_made_40 : decode cX0_made 40 = .ok (.areturn, 1) := dk_176 (dk_at dksX0_made_2 8 rfl rfl)
theorem dX0_made_41 : decode cX0_made 41 = .ok (.new 9, 3) := dk_187 0 9 (dk_at dksX0_made_2 9 rfl rfl)
theorem dX0_made_44 : decode cX0_made 44 = .ok (.dup, 1) := dk_89 (dk_at dksX0_made_2 12 rfl rfl)
theorem dX0_made_45 : decode cX0_made 45 = .ok (.iload_n 1, 1) := dk_27 (dk_at dksX0_made_2 13 rfl rfl)
theorem dX0_made_46 : decode cX0_made 46 = .ok (.invokespecial 11, 3) := dk_183 0 11 (dk_at dksX0_made_2 14 rfl rfl)
theorem dX0_made_49 : decode cX0_made 49 = .ok (.areturn, 1) := dk_176 (dk_at dksX0_made_2 17 rfl rfl)
theorem dX0_made_50 : decode cX0_made 50 = .ok (.new 12, 3) := dk_187 0 12 (dk_at dksX0_made_2 18 rfl rfl)
theorem dX0_made_53 : decode cX0_made 53 = .ok (.dup, 1) := dk_89 (dk_at dksX0_made_2 21 rfl rfl)
theorem dX0_made_54 : decode cX0_made 54 = .ok (.iload_n 1, 1) := dk_27 (dk_at dksX0_made_2 22 rfl rfl)
theorem dX0_made_55 : decode cX0_made 55 = .ok (.invokespecial 14, 3) := dk_183 0 14 (dk_at dksX0_made_3 0 rfl rfl)
theorem dX0_made_58 : decode cX0_made 58 = .ok (.areturn, 1) := dk_176 (dk_at dksX0_made_3 3 rfl rfl)
theorem dX0_made_59 : decode cX0_made 59 = .ok (.new 15, 3) := dk_187 0 15 (dk_at dksX0_made_3 4 rfl rfl)
theorem dX0_made_62 : decode cX0_made 62 = .ok (.dup, 1) := dk_89 (dk_at dksX0_made_3 7 rfl rfl)
theorem dX0_made_63 : decode cX0_made 63 = .ok (.iload_n 1, 1) := dk_27 (dk_at dksX0_made_3 8 rfl rfl)
theorem dX0_made_64 : decode cX0_made 64 = .ok (.invokespecial 17, 3) := dk_183 0 17 (dk_at dksX0_made_3 9 rfl rfl)
theorem dX0_made_67 : decode cX0_made 67 = .ok (.areturn, 1) := dk_176 (dk_at dksX0_made_3 12 rfl rfl)
theorem dX0_made_68 : decode cX0_made 68 = .ok (.new 18, 3) := dk_187 0 18 (dk_at dksX0_made_3 13 rfl rfl)
theorem dX0_made_71 : decode cX0_made 71 = .ok (.dup, 1) := dk_89 (dk_at dksX0_made_3 16 rfl rfl)
theorem dX0_made_72 : decode cX0_made 72 = .ok (.iload_n 1, 1) := dk_27 (dk_at dksX0_made_3 17 rfl rfl)
theorem dX0_made_73 : decode cX0_made 73 = .ok (.invokespecial 20, 3) := dk_183 0 20 (dk_at dksX0_made_3 18 rfl rfl)
theorem dX0_made_76 : decode cX0_made 76 = .ok (.areturn, 1) := dk_176 (dk_at dksX0_made_3 21 rfl rfl)
abbrev cX0_says : ByteArray := prog_1_method_20_code
def yX0_says : MethodName := ⟨RX0, "says", "(II)I"⟩
def dkwX0_says_5 : List UInt8 := [192, 0, 18, 182, 0, 165, 172, 58, 4, 42, 16, 253, 182, 0, 95, 172]
abbrev dktX0_says_5 : List UInt8 := dkwX0_says_5 ++ []
def dkwX0_says_4 : List UInt8 := [182, 0, 165, 172, 42, 45, 192, 0, 12, 182, 0, 165, 172, 42, 45, 192, 0, 15, 182, 0, 165, 172, 42, 45]
abbrev dktX0_says_4 : List UInt8 := dkwX0_says_4 ++ dktX0_says_5
def dkwX0_says_3 : List UInt8 := [45, 192, 0, 109, 180, 0, 162, 172, 42, 45, 192, 0, 3, 182, 0, 165, 172, 42, 45, 192, 0, 9]
abbrev dktX0_says_3 : List UInt8 := dkwX0_says_3 ++ dktX0_says_4
def dkwX0_says_2 : List UInt8 := [170, 0, 0, 0, 0, 0, 79, 0, 0, 0, 0, 0, 0, 0, 4, 0, 0, 0, 35, 0, 0, 0, 43, 0, 0, 0, 52, 0, 0, 0, 61, 0, 0, 0, 70]
abbrev dktX0_says_2 : List UInt8 := dkwX0_says_2 ++ dktX0_says_3
def dkwX0_says_1 : List UInt8 := [180, 0, 59, 27, 50, 180, 0, 103, 78, 45, 199, 0, 10, 42, 16, 252, 182, 0, 95, 172, 28]
abbrev dktX0_says_1 : List UInt8 := dkwX0_says_1 ++ dktX0_says_2
def dkwX0_says_0 : List UInt8 := [27, 184, 0, 91, 153, 0, 12, 28, 3, 8, 184, 0, 70, 154, 0, 10, 42, 16, 254, 182, 0, 95, 172, 42]
abbrev dktX0_says_0 : List UInt8 := dkwX0_says_0 ++ dktX0_says_1
theorem dksX0_says_0 : cX0_says.data.toList.drop 0 = dktX0_says_0 := by decide +kernel
theorem dksX0_says_1 : cX0_says.data.toList.drop 24 = dktX0_says_1 := dk_seg dksX0_says_0 24 rfl rfl
theorem dksX0_says_2 : cX0_says.data.toList.drop 45 = dktX0_says_2 := dk_seg dksX0_says_1 21 rfl rfl
theorem dksX0_says_3 : cX0_says.data.toList.drop 80 = dktX0_says_3 := dk_seg dksX0_says_2 35 rfl rfl
theorem dksX0_says_4 : cX0_says.data.toList.drop 102 = dktX0_says_4 := dk_seg dksX0_says_3 22 rfl rfl
theorem dksX0_says_5 : cX0_says.data.toList.drop 126 = dktX0_says_5 := dk_seg dksX0_says_4 24 rfl rfl
theorem dX0_says_0 : decode cX0_says 0 = .ok (.iload_n 1, 1) := dk_27 (dk_at dksX0_says_0 0 rfl rfl)
theorem dX0_says_1 : decode cX0_says 1 = .ok (.invokestatic 91, 3) := dk_184 0 91 (dk_at dksX0_says_0 1 rfl rfl)
theorem dX0_says_4 : decode cX0_says 4 = .ok (.ifCond .eq 12, 3) := dk_153 0 12 (dk_at dksX0_says_0 4 rfl rfl)
theorem dX0_says_7 : decode cX0_says 7 = .ok (.iload_n 2, 1) := dk_28 (dk_at dksX0_says_0 7 rfl rfl)
theorem dX0_says_8 : decode cX0_says 8 = .ok (.iconst 0, 1) := dk_3 (dk_at dksX0_says_0 8 rfl rfl)
theorem dX0_says_9 : decode cX0_says 9 = .ok (.iconst 5, 1) := dk_8 (dk_at dksX0_says_0 9 rfl rfl)
theorem dX0_says_10 : decode cX0_says 10 = .ok (.invokestatic 70, 3) := dk_184 0 70 (dk_at dksX0_says_0 10 rfl rfl)
theorem dX0_says_13 : decode cX0_says 13 = .ok (.ifCond .ne 10, 3) := dk_154 0 10 (dk_at dksX0_says_0 13 rfl rfl)
theorem dX0_says_16 : decode cX0_says 16 = .ok (.aload_n 0, 1) := dk_42 (dk_at dksX0_says_0 16 rfl rfl)
theorem dX0_says_17 : decode cX0_says 17 = .ok (.bipush (-2), 2) := dk_16 254 (dk_at dksX0_says_0 17 rfl rfl)
theorem dX0_says_19 : decode cX0_says 19 = .ok (.invokevirtual 95, 3) := dk_182 0 95 (dk_at dksX0_says_0 19 rfl rfl)
theorem dX0_says_22 : decode cX0_says 22 = .ok (.ireturn, 1) := dk_172 (dk_at dksX0_says_0 22 rfl rfl)
theorem dX0_says_23 : decode cX0_says 23 = .ok (.aload_n 0, 1) := dk_42 (dk_at dksX0_says_0 23 rfl rfl)
theorem dX0_says_24 : decode cX0_says 24 = .ok (.getfield 59, 3) := dk_180 0 59 (dk_at dksX0_says_1 0 rfl rfl)
theorem dX0_says_27 : decode cX0_says 27 = .ok (.iload_n 1, 1) := dk_27 (dk_at dksX0_says_1 3 rfl rfl)
theorem dX0_says_28 : decode cX0_says 28 = .ok (.aaload, 1) := dk_50 (dk_at dksX0_says_1 4 rfl rfl)
theorem dX0_says_29 : decode cX0_says 29 = .ok (.getfield 103, 3) := dk_180 0 103 (dk_at dksX0_says_1 5 rfl rfl)
theorem dX0_says_32 : decode cX0_says 32 = .ok (.astore_n 3, 1) := dk_78 (dk_at dksX0_says_1 8 rfl rfl)
theorem dX0_says_33 : decode cX0_says 33 = .ok (.aload_n 3, 1) := dk_45 (dk_at dksX0_says_1 9 rfl rfl)
theorem dX0_says_34 : decode cX0_says 34 = .ok (.ifnonnull 10, 3) := dk_199 0 10 (dk_at dksX0_says_1 10 rfl rfl)
theorem dX0_says_37 : decode cX0_says 37 = .ok (.aload_n 0, 1) := dk_42 (dk_at dksX0_says_1 13 rfl rfl)
theorem dX0_says_38 : decode cX0_says 38 = .ok (.bipush (-4), 2) := dk_16 252 (dk_at dksX0_says_1 14 rfl rfl)
theorem dX0_says_40 : decode cX0_says 40 = .ok (.invokevirtual 95, 3) := dk_182 0 95 (dk_at dksX0_says_1 16 rfl rfl)
theorem dX0_says_43 : decode cX0_says 43 = .ok (.ireturn, 1) := dk_172 (dk_at dksX0_says_1 19 rfl rfl)
theorem dX0_says_44 : decode cX0_says 44 = .ok (.iload_n 2, 1) := dk_28 (dk_at dksX0_says_1 20 rfl rfl)
theorem dX0_says_45 : decode cX0_says 45 = .ok (.tableswitch 79 0 4 #[35, 43, 52, 61, 70], 35) := by decide +kernel
theorem dX0_says_80 : decode cX0_says 80 = .ok (.aload_n 3, 1) := dk_45 (dk_at dksX0_says_3 0 rfl rfl)
theorem dX0_says_81 : decode cX0_says 81 = .ok (.checkcast 109, 3) := dk_192 0 109 (dk_at dksX0_says_3 1 rfl rfl)
theorem dX0_says_84 : decode cX0_says 84 = .ok (.getfield 162, 3) := dk_180 0 162 (dk_at dksX0_says_3 4 rfl rfl)
theorem dX0_says_87 : decode cX0_says 87 = .ok (.ireturn, 1) := dk_172 (dk_at dksX0_says_3 7 rfl rfl)
theorem dX0_says_88 : decode cX0_says 88 = .ok (.aload_n 0, 1) := dk_42 (dk_at dksX0_says_3 8 rfl rfl)
theorem dX0_says_89 : decode cX0_says 89 = .ok (.aload_n 3, 1) := dk_45 (dk_at dksX0_says_3 9 rfl rfl)
theorem dX0_says_90 : decode cX0_says 90 = .ok (.checkcast 3, 3) := dk_192 0 3 (dk_at dksX0_says_3 10 rfl rfl)
theorem dX0_says_93 : decode cX0_says 93 = .ok (.invokevirtual 165, 3) := dk_182 0 165 (dk_at dksX0_says_3 13 rfl rfl)
theorem dX0_says_96 : decode cX0_says 96 = .ok (.ireturn, 1) := dk_172 (dk_at dksX0_says_3 16 rfl rfl)
theorem dX0_says_97 : decode cX0_says 97 = .ok (.aload_n 0, 1) := dk_42 (dk_at dksX0_says_3 17 rfl rfl)
theorem dX0_says_98 : decode cX0_says 98 = .ok (.aload_n 3, 1) := dk_45 (dk_at dksX0_says_3 18 rfl rfl)
theorem dX0_says_99 : decode cX0_says 99 = .ok (.checkcast 9, 3) := dk_192 0 9 (dk_at dksX0_says_3 19 rfl rfl)
theorem dX0_says_102 : decode cX0_says 102 = .ok (.invokevirtual 165, 3) := dk_182 0 165 (dk_at dksX0_says_4 0 rfl rfl)
theorem dX0_says_105 : decode cX0_says 105 = .ok (.ireturn, 1) := dk_172 (dk_at dksX0_says_4 3 rfl rfl)
theorem dX0_says_106 : decode cX0_says 106 = .ok (.aload_n 0, 1) := dk_42 (dk_at dksX0_says_4 4 rfl rfl)
theorem dX0_says_107 : decode cX0_says 107 = .ok (.aload_n 3, 1) := dk_45 (dk_at dksX0_says_4 5 rfl rfl)
theorem dX0_says_108 : decode cX0_says 108 = .ok (.checkcast 12, 3) := dk_192 0 12 (dk_at dksX0_says_4 6 rfl rfl)
theorem dX0_says_111 : decode cX0_says 111 = .ok (.invokevirtual 165, 3) := dk_182 0 165 (dk_at dksX0_says_4 9 rfl rfl)
theorem dX0_says_114 : decode cX0_says 114 = .ok (.ireturn, 1) := dk_172 (dk_at dksX0_says_4 12 rfl rfl)
theorem dX0_says_115 : decode cX0_says 115 = .ok (.aload_n 0, 1) := dk_42 (dk_at dksX0_says_4 13 rfl rfl)
theorem dX0_says_116 : decode cX0_says 116 = .ok (.aload_n 3, 1) := dk_45 (dk_at dksX0_says_4 14 rfl rfl)
theorem dX0_says_117 : decode cX0_says 117 = .ok (.checkcast 15, 3) := dk_192 0 15 (dk_at dksX0_says_4 15 rfl rfl)
theorem dX0_says_120 : decode cX0_says 120 = .ok (.invokevirtual 165, 3) := dk_182 0 165 (dk_at dksX0_says_4 18 rfl rfl)
theorem dX0_says_123 : decode cX0_says 123 = .ok (.ireturn, 1) := dk_172 (dk_at dksX0_says_4 21 rfl rfl)
theorem dX0_says_124 : decode cX0_says 124 = .ok (.aload_n 0, 1) := dk_42 (dk_at dksX0_says_4 22 rfl rfl)
theorem dX0_says_125 : decode cX0_says 125 = .ok (.aload_n 3, 1) := dk_45 (dk_at dksX0_says_4 23 rfl rfl)
theorem dX0_says_126 : decode cX0_says 126 = .ok (.checkcast 18, 3) := dk_192 0 18 (dk_at dksX0_says_5 0 rfl rfl)
theorem dX0_says_129 : decode cX0_says 129 = .ok (.invokevirtual 165, 3) := dk_182 0 165 (dk_at dksX0_says_5 3 rfl rfl)
theorem dX0_says_132 : decode cX0_says 132 = .ok (.ireturn, 1) := dk_172 (dk_at dksX0_says_5 6 rfl rfl)
theorem dX0_says_133 : decode cX0_says 133 = .ok (.astore 4, 2) := dk_58 4 (dk_at dksX0_says_5 7 rfl rfl)
theorem dX0_says_135 : decode cX0_says 135 = .ok (.aload_n 0, 1) := dk_42 (dk_at dksX0_says_5 9 rfl rfl)
theorem dX0_says_136 : decode cX0_says 136 = .ok (.bipush (-3), 2) := dk_16 253 (dk_at dksX0_says_5 10 rfl rfl)
theorem dX0_says_138 : decode cX0_says 138 = .ok (.invokevirtual 95, 3) := dk_182 0 95 (dk_at dksX0_says_5 12 rfl rfl)
theorem dX0_says_141 : decode cX0_says 141 = .ok (.ireturn, 1) := dk_172 (dk_at dksX0_says_5 15 rfl rfl)
abbrev cX0_says_2 : ByteArray := prog_1_method_19_code
def yX0_says_2 : MethodName := ⟨RX0, "says", "(LThreeStrangers$Coachman;)I"⟩
def dkwX0_says_2_0 : List UInt8 := [43, 42, 182, 0, 152, 42, 180, 0, 29, 182, 0, 155, 182, 0, 158, 172]
abbrev dktX0_says_2_0 : List UInt8 := dkwX0_says_2_0 ++ []
theorem dksX0_says_2_0 : cX0_says_2.data.toList.drop 0 = dktX0_says_2_0 := by decide +kernel
theorem dX0_says_2_0 : decode cX0_says_2 0 = .ok (.aload_n 1, 1) := dk_43 (dk_at dksX0_says_2_0 0 rfl rfl)
theorem dX0_says_2_1 : decode cX0_says_2 1 = .ok (.aload_n 0, 1) := dk_42 (dk_at dksX0_says_2_0 1 rfl rfl)
theorem dX0_says_2_2 : decode cX0_says_2 2 = .ok (.invokevirtual 152, 3) := dk_182 0 152 (dk_at dksX0_says_2_0 2 rfl rfl)
theorem dX0_says_2_5 : decode cX0_says_2 5 = .ok (.aload_n 0, 1) := dk_42 (dk_at dksX0_says_2_0 5 rfl rfl)
theorem dX0_says_2_6 : decode cX0_says_2 6 = .ok (.getfield 29, 3) := dk_180 0 29 (dk_at dksX0_says_2_0 6 rfl rfl)
theorem dX0_says_2_9 : decode cX0_says_2 9 = .ok (.invokevirtual 155, 3) := dk_182 0 155 (dk_at dksX0_says_2_0 9 rfl rfl)
theorem dX0_says_2_12 : decode cX0_says_2 12 = .ok (.invokevirtual 158, 3) := dk_182 0 158 (dk_at dksX0_says_2_0 12 rfl rfl)
theorem dX0_says_2_15 : decode cX0_says_2 15 = .ok (.ireturn, 1) := dk_172 (dk_at dksX0_says_2_0 15 rfl rfl)
abbrev cX0_groups : ByteArray := prog_1_method_7_code
def yX0_groups : MethodName := ⟨RX0, "groups", "()LThreeStrangers$Groups;"⟩
def dkwX0_groups_0 : List UInt8 := [42, 180, 0, 39, 42, 180, 0, 29, 182, 0, 74, 176]
abbrev dktX0_groups_0 : List UInt8 := dkwX0_groups_0 ++ []
theorem dksX0_groups_0 : cX0_groups.data.toList.drop 0 = dktX0_groups_0 := by decide +kernel
theorem dX0_groups_0 : decode cX0_groups 0 = .ok (.aload_n 0, 1) := dk_42 (dk_at dksX0_groups_0 0 rfl rfl)
theorem dX0_groups_1 : decode cX0_groups 1 = .ok (.getfield 39, 3) := dk_180 0 39 (dk_at dksX0_groups_0 1 rfl rfl)
theorem dX0_groups_4 : decode cX0_groups 4 = .ok (.aload_n 0, 1) := dk_42 (dk_at dksX0_groups_0 4 rfl rfl)
theorem dX0_groups_5 : decode cX0_groups 5 = .ok (.getfield 29, 3) := dk_180 0 29 (dk_at dksX0_groups_0 5 rfl rfl)
theorem dX0_groups_8 : decode cX0_groups 8 = .ok (.invokevirtual 74, 3) := dk_182 0 74 (dk_at dksX0_groups_0 8 rfl rfl)
theorem dX0_groups_11 : decode cX0_groups 11 = .ok (.areturn, 1) := dk_176 (dk_at dksX0_groups_0 11 rfl rfl)
abbrev cX0_has : ByteArray := prog_1_method_2_code
def yX0_has : MethodName := ⟨RX0, "has", "(II)Z"⟩
def dkwX0_has_0 : List UInt8 := [26, 27, 122, 4, 126, 4, 160, 0, 7, 4, 167, 0, 4, 3, 172]
abbrev dktX0_has_0 : List UInt8 := dkwX0_has_0 ++ []
theorem dksX0_has_0 : cX0_has.data.toList.drop 0 = dktX0_has_0 := by decide +kernel
theorem dX0_has_0 : decode cX0_has 0 = .ok (.iload_n 0, 1) := dk_26 (dk_at dksX0_has_0 0 rfl rfl)
theorem dX0_has_1 : decode cX0_has 1 = .ok (.iload_n 1, 1) := dk_27 (dk_at dksX0_has_0 1 rfl rfl)
theorem dX0_has_2 : decode cX0_has 2 = .ok (.ishr, 1) := dk_122 (dk_at dksX0_has_0 2 rfl rfl)
theorem dX0_has_3 : decode cX0_has 3 = .ok (.iconst 1, 1) := dk_4 (dk_at dksX0_has_0 3 rfl rfl)
theorem dX0_has_4 : decode cX0_has 4 = .ok (.iand, 1) := dk_126 (dk_at dksX0_has_0 4 rfl rfl)
theorem dX0_has_5 : decode cX0_has 5 = .ok (.iconst 1, 1) := dk_4 (dk_at dksX0_has_0 5 rfl rfl)
theorem dX0_has_6 : decode cX0_has 6 = .ok (.if_icmp .ne 7, 3) := dk_160 0 7 (dk_at dksX0_has_0 6 rfl rfl)
theorem dX0_has_9 : decode cX0_has 9 = .ok (.iconst 1, 1) := dk_4 (dk_at dksX0_has_0 9 rfl rfl)
theorem dX0_has_10 : decode cX0_has 10 = .ok (.goto 4, 3) := dk_167 0 4 (dk_at dksX0_has_0 10 rfl rfl)
theorem dX0_has_13 : decode cX0_has 13 = .ok (.iconst 0, 1) := dk_3 (dk_at dksX0_has_0 13 rfl rfl)
theorem dX0_has_14 : decode cX0_has 14 = .ok (.ireturn, 1) := dk_172 (dk_at dksX0_has_0 14 rfl rfl)
abbrev cX0_person : ByteArray := prog_1_method_22_code
def yX0_person : MethodName := ⟨RX0, "person", "(II)I"⟩
def dkwX0_person_2 : List UInt8 := [167, 0, 12, 42, 180, 0, 29, 27, 28, 182, 0, 174, 172]
abbrev dktX0_person_2 : List UInt8 := dkwX0_person_2 ++ []
def dkwX0_person_1 : List UInt8 := [182, 0, 95, 172, 42, 180, 0, 29, 180, 0, 171, 16, 7, 160, 0, 12, 42, 16, 250, 182, 0, 95]
abbrev dktX0_person_1 : List UInt8 := dkwX0_person_1 ++ dktX0_person_2
def dkwX0_person_0 : List UInt8 := [27, 3, 16, 23, 184, 0, 70, 153, 0, 13, 28, 3, 16, 9, 184, 0, 70, 154, 0, 10, 42, 16, 254]
abbrev dktX0_person_0 : List UInt8 := dkwX0_person_0 ++ dktX0_person_1
theorem dksX0_person_0 : cX0_person.data.toList.drop 0 = dktX0_person_0 := by decide +kernel
theorem dksX0_person_1 : cX0_person.data.toList.drop 23 = dktX0_person_1 := dk_seg dksX0_person_0 23 rfl rfl
theorem dksX0_person_2 : cX0_person.data.toList.drop 45 = dktX0_person_2 := dk_seg dksX0_person_1 22 rfl rfl
theorem dX0_person_0 : decode cX0_person 0 = .ok (.iload_n 1, 1) := dk_27 (dk_at dksX0_person_0 0 rfl rfl)
theorem dX0_person_1 : decode cX0_person 1 = .ok (.iconst 0, 1) := dk_3 (dk_at dksX0_person_0 1 rfl rfl)
theorem dX0_person_2 : decode cX0_person 2 = .ok (.bipush 23, 2) := dk_16 23 (dk_at dksX0_person_0 2 rfl rfl)
theorem dX0_person_4 : decode cX0_person 4 = .ok (.invokestatic 70, 3) := dk_184 0 70 (dk_at dksX0_person_0 4 rfl rfl)
theorem dX0_person_7 : decode cX0_person 7 = .ok (.ifCond .eq 13, 3) := dk_153 0 13 (dk_at dksX0_person_0 7 rfl rfl)
theorem dX0_person_10 : decode cX0_person 10 = .ok (.iload_n 2, 1) := dk_28 (dk_at dksX0_person_0 10 rfl rfl)
theorem dX0_person_11 : decode cX0_person 11 = .ok (.iconst 0, 1) := dk_3 (dk_at dksX0_person_0 11 rfl rfl)
theorem dX0_person_12 : decode cX0_person 12 = .ok (.bipush 9, 2) := dk_16 9 (dk_at dksX0_person_0 12 rfl rfl)
theorem dX0_person_14 : decode cX0_person 14 = .ok (.invokestatic 70, 3) := dk_184 0 70 (dk_at dksX0_person_0 14 rfl rfl)
theorem dX0_person_17 : decode cX0_person 17 = .ok (.ifCond .ne 10, 3) := dk_154 0 10 (dk_at dksX0_person_0 17 rfl rfl)
theorem dX0_person_20 : decode cX0_person 20 = .ok (.aload_n 0, 1) := dk_42 (dk_at dksX0_person_0 20 rfl rfl)
theorem dX0_person_21 : decode cX0_person 21 = .ok (.bipush (-2), 2) := dk_16 254 (dk_at dksX0_person_0 21 rfl rfl)
theorem dX0_person_23 : decode cX0_person 23 = .ok (.invokevirtual 95, 3) := dk_182 0 95 (dk_at dksX0_person_1 0 rfl rfl)
theorem dX0_person_26 : decode cX0_person 26 = .ok (.ireturn, 1) := dk_172 (dk_at dksX0_person_1 3 rfl rfl)
theorem dX0_person_27 : decode cX0_person 27 = .ok (.aload_n 0, 1) := dk_42 (dk_at dksX0_person_1 4 rfl rfl)
theorem dX0_person_28 : decode cX0_person 28 = .ok (.getfield 29, 3) := dk_180 0 29 (dk_at dksX0_person_1 5 rfl rfl)
theorem dX0_person_31 : decode cX0_person 31 = .ok (.getfield 171, 3) := dk_180 0 171 (dk_at dksX0_person_1 8 rfl rfl)
theorem dX0_person_34 : decode cX0_person 34 = .ok (.bipush 7, 2) := dk_16 7 (dk_at dksX0_person_1 11 rfl rfl)
theorem dX0_person_36 : decode cX0_person 36 = .ok (.if_icmp .ne 12, 3) := dk_160 0 12 (dk_at dksX0_person_1 13 rfl rfl)
theorem dX0_person_39 : decode cX0_person 39 = .ok (.aload_n 0, 1) := dk_42 (dk_at dksX0_person_1 16 rfl rfl)
theorem dX0_person_40 : decode cX0_person 40 = .ok (.bipush (-6), 2) := dk_16 250 (dk_at dksX0_person_1 17 rfl rfl)
theorem dX0_person_42 : decode cX0_person 42 = .ok (.invokevirtual 95, 3) := dk_182 0 95 (dk_at dksX0_person_1 19 rfl rfl)
theorem dX0_person_45 : decode cX0_person 45 = .ok (.goto 12, 3) := dk_167 0 12 (dk_at dksX0_person_2 0 rfl rfl)
theorem dX0_person_48 : decode cX0_person 48 = .ok (.aload_n 0, 1) := dk_42 (dk_at dksX0_person_2 3 rfl rfl)
theorem dX0_person_49 : decode cX0_person 49 = .ok (.getfield 29, 3) := dk_180 0 29 (dk_at dksX0_person_2 4 rfl rfl)
theorem dX0_person_52 : decode cX0_person 52 = .ok (.iload_n 1, 1) := dk_27 (dk_at dksX0_person_2 7 rfl rfl)
theorem dX0_person_53 : decode cX0_person 53 = .ok (.iload_n 2, 1) := dk_28 (dk_at dksX0_person_2 8 rfl rfl)
theorem dX0_person_54 : decode cX0_person 54 = .ok (.invokevirtual 174, 3) := dk_182 0 174 (dk_at dksX0_person_2 9 rfl rfl)
theorem dX0_person_57 : decode cX0_person 57 = .ok (.ireturn, 1) := dk_172 (dk_at dksX0_person_2 12 rfl rfl)
abbrev cX0_change : ByteArray := prog_1_method_23_code
def yX0_change : MethodName := ⟨RX0, "change", "(III)I"⟩
def dkwX0_change_3 : List UInt8 := [27, 46, 54, 5, 25, 4, 27, 29, 79, 21, 5, 172]
abbrev dktX0_change_3 : List UInt8 := dkwX0_change_3 ++ []
def dkwX0_change_2 : List UInt8 := [154, 0, 13, 42, 180, 0, 29, 180, 0, 181, 167, 0, 10, 42, 180, 0, 29, 180, 0, 184, 58, 4, 25, 4]
abbrev dktX0_change_2 : List UInt8 := dkwX0_change_2 ++ dktX0_change_3
def dkwX0_change_1 : List UInt8 := [154, 0, 8, 16, 23, 167, 0, 5, 16, 9, 184, 0, 70, 154, 0, 10, 42, 16, 254, 182, 0, 95, 172, 28]
abbrev dktX0_change_1 : List UInt8 := dkwX0_change_1 ++ dktX0_change_2
def dkwX0_change_0 : List UInt8 := [42, 180, 0, 29, 27, 182, 0, 178, 153, 0, 31, 28, 3, 4, 184, 0, 70, 153, 0, 22, 29, 3, 28]
abbrev dktX0_change_0 : List UInt8 := dkwX0_change_0 ++ dktX0_change_1
theorem dksX0_change_0 : cX0_change.data.toList.drop 0 = dktX0_change_0 := by decide +kernel
theorem dksX0_change_1 : cX0_change.data.toList.drop 23 = dktX0_change_1 := dk_seg dksX0_change_0 23 rfl rfl
theorem dksX0_change_2 : cX0_change.data.toList.drop 47 = dktX0_change_2 := dk_seg dksX0_change_1 24 rfl rfl
theorem dksX0_change_3 : cX0_change.data.toList.drop 71 = dktX0_change_3 := dk_seg dksX0_change_2 24 rfl rfl
theorem dX0_change_0 : decode cX0_change 0 = .ok (.aload_n 0, 1) := dk_42 (dk_at dksX0_change_0 0 rfl rfl)
theorem dX0_change_1 : decode cX0_change 1 = .ok (.getfield 29, 3) := dk_180 0 29 (dk_at dksX0_change_0 1 rfl rfl)
theorem dX0_change_4 : decode cX0_change 4 = .ok (.iload_n 1, 1) := dk_27 (dk_at dksX0_change_0 4 rfl rfl)
theorem dX0_change_5 : decode cX0_change 5 = .ok (.invokevirtual 178, 3) := dk_182 0 178 (dk_at dksX0_change_0 5 rfl rfl)
theorem dX0_change_8 : decode cX0_change 8 = .ok (.ifCond .eq 31, 3) := dk_153 0 31 (dk_at dksX0_change_0 8 rfl rfl)
theorem dX0_change_11 : decode cX0_change 11 = .ok (.iload_n 2, 1) := dk_28 (dk_at dksX0_change_0 11 rfl rfl)
theorem dX0_change_12 : decode cX0_change 12 = .ok (.iconst 0, 1) := dk_3 (dk_at dksX0_change_0 12 rfl rfl)
theorem dX0_change_13 : decode cX0_change 13 = .ok (.iconst 1, 1) := dk_4 (dk_at dksX0_change_0 13 rfl rfl)
theorem dX0_change_14 : decode cX0_change 14 = .ok (.invokestatic 70, 3) := dk_184 0 70 (dk_at dksX0_change_0 14 rfl rfl)
theorem dX0_change_17 : decode cX0_change 17 = .ok (.ifCond .eq 22, 3) := dk_153 0 22 (dk_at dksX0_change_0 17 rfl rfl)
theorem dX0_change_20 : decode cX0_change 20 = .ok (.iload_n 3, 1) := dk_29 (dk_at dksX0_change_0 20 rfl rfl)
theorem dX0_change_21 : decode cX0_change 21 = .ok (.iconst 0, 1) := dk_3 (dk_at dksX0_change_0 21 rfl rfl)
theorem dX0_change_22 : decode cX0_change 22 = .ok (.iload_n 2, 1) := dk_28 (dk_at dksX0_change_0 22 rfl rfl)
theorem dX0_change_23 : decode cX0_change 23 = .ok (.ifCond .ne 8, 3) := dk_154 0 8 (dk_at dksX0_change_1 0 rfl rfl)
theorem dX0_change_26 : decode cX0_change 26 = .ok (.bipush 23, 2) := dk_16 23 (dk_at dksX0_change_1 3 rfl rfl)
theorem dX0_change_28 : decode cX0_change 28 = .ok (.goto 5, 3) := dk_167 0 5 (dk_at dksX0_change_1 5 rfl rfl)
theorem dX0_change_31 : decode cX0_change 31 = .ok (.bipush 9, 2) := dk_16 9 (dk_at dksX0_change_1 8 rfl rfl)
theorem dX0_change_33 : decode cX0_change 33 = .ok (.invokestatic 70, 3) := dk_184 0 70 (dk_at dksX0_change_1 10 rfl rfl)
theorem dX0_change_36 : decode cX0_change 36 = .ok (.ifCond .ne 10, 3) := dk_154 0 10 (dk_at dksX0_change_1 13 rfl rfl)
theorem dX0_change_39 : decode cX0_change 39 = .ok (.aload_n 0, 1) := dk_42 (dk_at dksX0_change_1 16 rfl rfl)
theorem dX0_change_40 : decode cX0_change 40 = .ok (.bipush (-2), 2) := dk_16 254 (dk_at dksX0_change_1 17 rfl rfl)
theorem dX0_change_42 : decode cX0_change 42 = .ok (.invokevirtual 95, 3) := dk_182 0 95 (dk_at dksX0_change_1 19 rfl rfl)
theorem dX0_change_45 : decode cX0_change 45 = .ok (.ireturn, 1) := dk_172 (dk_at dksX0_change_1 22 rfl rfl)
theorem dX0_change_46 : decode cX0_change 46 = .ok (.iload_n 2, 1) := dk_28 (dk_at dksX0_change_1 23 rfl rfl)
theorem dX0_change_47 : decode cX0_change 47 = .ok (.ifCond .ne 13, 3) := dk_154 0 13 (dk_at dksX0_change_2 0 rfl rfl)
theorem dX0_change_50 : decode cX0_change 50 = .ok (.aload_n 0, 1) := dk_42 (dk_at dksX0_change_2 3 rfl rfl)
theorem dX0_change_51 : decode cX0_change 51 = .ok (.getfield 29, 3) := dk_180 0 29 (dk_at dksX0_change_2 4 rfl rfl)
theorem dX0_change_54 : decode cX0_change 54 = .ok (.getfield 181, 3) := dk_180 0 181 (dk_at dksX0_change_2 7 rfl rfl)
theorem dX0_change_57 : decode cX0_change 57 = .ok (.goto 10, 3) := dk_167 0 10 (dk_at dksX0_change_2 10 rfl rfl)
theorem dX0_change_60 : decode cX0_change 60 = .ok (.aload_n 0, 1) := dk_42 (dk_at dksX0_change_2 13 rfl rfl)
theorem dX0_change_61 : decode cX0_change 61 = .ok (.getfield 29, 3) := dk_180 0 29 (dk_at dksX0_change_2 14 rfl rfl)
theorem dX0_change_64 : decode cX0_change 64 = .ok (.getfield 184, 3) := dk_180 0 184 (dk_at dksX0_change_2 17 rfl rfl)
theorem dX0_change_67 : decode cX0_change 67 = .ok (.astore 4, 2) := dk_58 4 (dk_at dksX0_change_2 20 rfl rfl)
theorem dX0_change_69 : decode cX0_change 69 = .ok (.aload 4, 2) := dk_25 4 (dk_at dksX0_change_2 22 rfl rfl)
theorem dX0_change_71 : decode cX0_change 71 = .ok (.iload_n 1, 1) := dk_27 (dk_at dksX0_change_3 0 rfl rfl)
theorem dX0_change_72 : decode cX0_change 72 = .ok (.iaload, 1) := dk_46 (dk_at dksX0_change_3 1 rfl rfl)
theorem dX0_change_73 : decode cX0_change 73 = .ok (.istore 5, 2) := dk_54 5 (dk_at dksX0_change_3 2 rfl rfl)
theorem dX0_change_75 : decode cX0_change 75 = .ok (.aload 4, 2) := dk_25 4 (dk_at dksX0_change_3 4 rfl rfl)
theorem dX0_change_77 : decode cX0_change 77 = .ok (.iload_n 1, 1) := dk_27 (dk_at dksX0_change_3 6 rfl rfl)
theorem dX0_change_78 : decode cX0_change 78 = .ok (.iload_n 3, 1) := dk_29 (dk_at dksX0_change_3 7 rfl rfl)
theorem dX0_change_79 : decode cX0_change 79 = .ok (.iastore, 1) := dk_79 (dk_at dksX0_change_3 8 rfl rfl)
theorem dX0_change_80 : decode cX0_change 80 = .ok (.iload 5, 2) := dk_21 5 (dk_at dksX0_change_3 9 rfl rfl)
theorem dX0_change_82 : decode cX0_change 82 = .ok (.ireturn, 1) := dk_172 (dk_at dksX0_change_3 11 rfl rfl)
abbrev cX0_know : ByteArray := prog_1_method_25_code
def yX0_know : MethodName := ⟨RX0, "know", "(III)I"⟩
def dkwX0_know_2 : List UInt8 := [182, 0, 194, 21, 4, 172]
abbrev dktX0_know_2 : List UInt8 := dkwX0_know_2 ++ []
def dkwX0_know_1 : List UInt8 := [182, 0, 95, 172, 42, 180, 0, 29, 27, 28, 182, 0, 191, 54, 4, 42, 180, 0, 29, 27, 28, 29]
abbrev dktX0_know_1 : List UInt8 := dkwX0_know_1 ++ dktX0_know_2
def dkwX0_know_0 : List UInt8 := [42, 27, 28, 182, 0, 187, 153, 0, 13, 29, 2, 16, 99, 184, 0, 70, 154, 0, 10, 42, 16, 254]
abbrev dktX0_know_0 : List UInt8 := dkwX0_know_0 ++ dktX0_know_1
theorem dksX0_know_0 : cX0_know.data.toList.drop 0 = dktX0_know_0 := by decide +kernel
theorem dksX0_know_1 : cX0_know.data.toList.drop 22 = dktX0_know_1 := dk_seg dksX0_know_0 22 rfl rfl
theorem dksX0_know_2 : cX0_know.data.toList.drop 44 = dktX0_know_2 := dk_seg dksX0_know_1 22 rfl rfl
theorem dX0_know_0 : decode cX0_know 0 = .ok (.aload_n 0, 1) := dk_42 (dk_at dksX0_know_0 0 rfl rfl)
theorem dX0_know_1 : decode cX0_know 1 = .ok (.iload_n 1, 1) := dk_27 (dk_at dksX0_know_0 1 rfl rfl)
theorem dX0_know_2 : decode cX0_know 2 = .ok (.iload_n 2, 1) := dk_28 (dk_at dksX0_know_0 2 rfl rfl)
theorem dX0_know_3 : decode cX0_know 3 = .ok (.invokevirtual 187, 3) := dk_182 0 187 (dk_at dksX0_know_0 3 rfl rfl)
theorem dX0_know_6 : decode cX0_know 6 = .ok (.ifCond .eq 13, 3) := dk_153 0 13 (dk_at dksX0_know_0 6 rfl rfl)
theorem dX0_know_9 : decode cX0_know 9 = .ok (.iload_n 3, 1) := dk_29 (dk_at dksX0_know_0 9 rfl rfl)
theorem dX0_know_10 : decode cX0_know 10 = .ok (.iconst (-1), 1) := dk_2 (dk_at dksX0_know_0 10 rfl rfl)
theorem dX0_know_11 : decode cX0_know 11 = .ok (.bipush 99, 2) := dk_16 99 (dk_at dksX0_know_0 11 rfl rfl)
theorem dX0_know_13 : decode cX0_know 13 = .ok (.invokestatic 70, 3) := dk_184 0 70 (dk_at dksX0_know_0 13 rfl rfl)
theorem dX0_know_16 : decode cX0_know 16 = .ok (.ifCond .ne 10, 3) := dk_154 0 10 (dk_at dksX0_know_0 16 rfl rfl)
theorem dX0_know_19 : decode cX0_know 19 = .ok (.aload_n 0, 1) := dk_42 (dk_at dksX0_know_0 19 rfl rfl)
theorem dX0_know_20 : decode cX0_know 20 = .ok (.bipush (-2), 2) := dk_16 254 (dk_at dksX0_know_0 20 rfl rfl)
theorem dX0_know_22 : decode cX0_know 22 = .ok (.invokevirtual 95, 3) := dk_182 0 95 (dk_at dksX0_know_1 0 rfl rfl)
theorem dX0_know_25 : decode cX0_know 25 = .ok (.ireturn, 1) := dk_172 (dk_at dksX0_know_1 3 rfl rfl)
theorem dX0_know_26 : decode cX0_know 26 = .ok (.aload_n 0, 1) := dk_42 (dk_at dksX0_know_1 4 rfl rfl)
theorem dX0_know_27 : decode cX0_know 27 = .ok (.getfield 29, 3) := dk_180 0 29 (dk_at dksX0_know_1 5 rfl rfl)
theorem dX0_know_30 : decode cX0_know 30 = .ok (.iload_n 1, 1) := dk_27 (dk_at dksX0_know_1 8 rfl rfl)
theorem dX0_know_31 : decode cX0_know 31 = .ok (.iload_n 2, 1) := dk_28 (dk_at dksX0_know_1 9 rfl rfl)
theorem dX0_know_32 : decode cX0_know 32 = .ok (.invokevirtual 191, 3) := dk_182 0 191 (dk_at dksX0_know_1 10 rfl rfl)
theorem dX0_know_35 : decode cX0_know 35 = .ok (.istore 4, 2) := dk_54 4 (dk_at dksX0_know_1 13 rfl rfl)
theorem dX0_know_37 : decode cX0_know 37 = .ok (.aload_n 0, 1) := dk_42 (dk_at dksX0_know_1 15 rfl rfl)
theorem dX0_know_38 : decode cX0_know 38 = .ok (.getfield 29, 3) := dk_180 0 29 (dk_at dksX0_know_1 16 rfl rfl)
theorem dX0_know_41 : decode cX0_know 41 = .ok (.iload_n 1, 1) := dk_27 (dk_at dksX0_know_1 19 rfl rfl)
theorem dX0_know_42 : decode cX0_know 42 = .ok (.iload_n 2, 1) := dk_28 (dk_at dksX0_know_1 20 rfl rfl)
theorem dX0_know_43 : decode cX0_know 43 = .ok (.iload_n 3, 1) := dk_29 (dk_at dksX0_know_1 21 rfl rfl)
theorem dX0_know_44 : decode cX0_know 44 = .ok (.invokevirtual 194, 3) := dk_182 0 194 (dk_at dksX0_know_2 0 rfl rfl)
theorem dX0_know_47 : decode cX0_know 47 = .ok (.iload 4, 2) := dk_21 4 (dk_at dksX0_know_2 3 rfl rfl)
theorem dX0_know_49 : decode cX0_know 49 = .ok (.ireturn, 1) := dk_172 (dk_at dksX0_know_2 5 rfl rfl)
abbrev cX0_areTwo : ByteArray := prog_1_method_24_code
def yX0_areTwo : MethodName := ⟨RX0, "areTwo", "(II)Z"⟩
def dkwX0_areTwo_1 : List UInt8 := [159, 0, 7, 4, 167, 0, 4, 3, 172]
abbrev dktX0_areTwo_1 : List UInt8 := dkwX0_areTwo_1 ++ []
def dkwX0_areTwo_0 : List UInt8 := [42, 180, 0, 29, 27, 182, 0, 178, 153, 0, 23, 42, 180, 0, 29, 28, 182, 0, 178, 153, 0, 12, 27, 28]
abbrev dktX0_areTwo_0 : List UInt8 := dkwX0_areTwo_0 ++ dktX0_areTwo_1
theorem dksX0_areTwo_0 : cX0_areTwo.data.toList.drop 0 = dktX0_areTwo_0 := by decide +kernel
theorem dksX0_areTwo_1 : cX0_areTwo.data.toList.drop 24 = dktX0_areTwo_1 := dk_seg dksX0_areTwo_0 24 rfl rfl
theorem dX0_areTwo_0 : decode cX0_areTwo 0 = .ok (.aload_n 0, 1) := dk_42 (dk_at dksX0_areTwo_0 0 rfl rfl)
theorem dX0_areTwo_1 : decode cX0_areTwo 1 = .ok (.getfield 29, 3) := dk_180 0 29 (dk_at dksX0_areTwo_0 1 rfl rfl)
theorem dX0_areTwo_4 : decode cX0_areTwo 4 = .ok (.iload_n 1, 1) := dk_27 (dk_at dksX0_areTwo_0 4 rfl rfl)
theorem dX0_areTwo_5 : decode cX0_areTwo 5 = .ok (.invokevirtual 178, 3) := dk_182 0 178 (dk_at dksX0_areTwo_0 5 rfl rfl)
theorem dX0_areTwo_8 : decode cX0_areTwo 8 = .ok (.ifCond .eq 23, 3) := dk_153 0 23 (dk_at dksX0_areTwo_0 8 rfl rfl)
theorem dX0_areTwo_11 : decode cX0_areTwo 11 = .ok (.aload_n 0, 1) := dk_42 (dk_at dksX0_areTwo_0 11 rfl rfl)
theorem dX0_areTwo_12 : decode cX0_areTwo 12 = .ok (.getfield 29, 3) := dk_180 0 29 (dk_at dksX0_areTwo_0 12 rfl rfl)
theorem dX0_areTwo_15 : decode cX0_areTwo 15 = .ok (.iload_n 2, 1) := dk_28 (dk_at dksX0_areTwo_0 15 rfl rfl)
theorem dX0_areTwo_16 : decode cX0_areTwo 16 = .ok (.invokevirtual 178, 3) := dk_182 0 178 (dk_at dksX0_areTwo_0 16 rfl rfl)
theorem dX0_areTwo_19 : decode cX0_areTwo 19 = .ok (.ifCond .eq 12, 3) := dk_153 0 12 (dk_at dksX0_areTwo_0 19 rfl rfl)
theorem dX0_areTwo_22 : decode cX0_areTwo 22 = .ok (.iload_n 1, 1) := dk_27 (dk_at dksX0_areTwo_0 22 rfl rfl)
theorem dX0_areTwo_23 : decode cX0_areTwo 23 = .ok (.iload_n 2, 1) := dk_28 (dk_at dksX0_areTwo_0 23 rfl rfl)
theorem dX0_areTwo_24 : decode cX0_areTwo 24 = .ok (.if_icmp .eq 7, 3) := dk_159 0 7 (dk_at dksX0_areTwo_1 0 rfl rfl)
theorem dX0_areTwo_27 : decode cX0_areTwo 27 = .ok (.iconst 1, 1) := dk_4 (dk_at dksX0_areTwo_1 3 rfl rfl)
theorem dX0_areTwo_28 : decode cX0_areTwo 28 = .ok (.goto 4, 3) := dk_167 0 4 (dk_at dksX0_areTwo_1 4 rfl rfl)
theorem dX0_areTwo_31 : decode cX0_areTwo 31 = .ok (.iconst 0, 1) := dk_3 (dk_at dksX0_areTwo_1 7 rfl rfl)
theorem dX0_areTwo_32 : decode cX0_areTwo 32 = .ok (.ireturn, 1) := dk_172 (dk_at dksX0_areTwo_1 8 rfl rfl)
abbrev cX0_ask : ByteArray := prog_1_method_26_code
def yX0_ask : MethodName := ⟨RX0, "ask", "(II)I"⟩
def dkwX0_ask_4 : List UInt8 := [160, 0, 7, 28, 167, 0, 10, 42, 180, 0, 29, 180, 0, 201, 181, 0, 201, 29, 172]
abbrev dktX0_ask_4 : List UInt8 := dkwX0_ask_4 ++ []
def dkwX0_ask_3 : List UInt8 := [154, 0, 7, 28, 167, 0, 10, 42, 180, 0, 29, 180, 0, 198, 181, 0, 198, 42, 180, 0, 29, 27, 4]
abbrev dktX0_ask_3 : List UInt8 := dkwX0_ask_3 ++ dktX0_ask_4
def dkwX0_ask_2 : List UInt8 := [180, 0, 29, 180, 0, 198, 167, 0, 10, 42, 180, 0, 29, 180, 0, 201, 62, 42, 180, 0, 29, 27]
abbrev dktX0_ask_2 : List UInt8 := dkwX0_ask_2 ++ dktX0_ask_3
def dkwX0_ask_1 : List UInt8 := [167, 0, 5, 16, 99, 184, 0, 70, 154, 0, 10, 42, 16, 254, 182, 0, 95, 172, 27, 154, 0, 13, 42]
abbrev dktX0_ask_1 : List UInt8 := dkwX0_ask_1 ++ dktX0_ask_2
def dkwX0_ask_0 : List UInt8 := [27, 3, 4, 184, 0, 70, 153, 0, 29, 28, 27, 154, 0, 7, 5, 167, 0, 4, 3, 27, 154, 0, 7, 7]
abbrev dktX0_ask_0 : List UInt8 := dkwX0_ask_0 ++ dktX0_ask_1
theorem dksX0_ask_0 : cX0_ask.data.toList.drop 0 = dktX0_ask_0 := by decide +kernel
theorem dksX0_ask_1 : cX0_ask.data.toList.drop 24 = dktX0_ask_1 := dk_seg dksX0_ask_0 24 rfl rfl
theorem dksX0_ask_2 : cX0_ask.data.toList.drop 47 = dktX0_ask_2 := dk_seg dksX0_ask_1 23 rfl rfl
theorem dksX0_ask_3 : cX0_ask.data.toList.drop 69 = dktX0_ask_3 := dk_seg dksX0_ask_2 22 rfl rfl
theorem dksX0_ask_4 : cX0_ask.data.toList.drop 92 = dktX0_ask_4 := dk_seg dksX0_ask_3 23 rfl rfl
theorem dX0_ask_0 : decode cX0_ask 0 = .ok (.iload_n 1, 1) := dk_27 (dk_at dksX0_ask_0 0 rfl rfl)
theorem dX0_ask_1 : decode cX0_ask 1 = .ok (.iconst 0, 1) := dk_3 (dk_at dksX0_ask_0 1 rfl rfl)
theorem dX0_ask_2 : decode cX0_ask 2 = .ok (.iconst 1, 1) := dk_4 (dk_at dksX0_ask_0 2 rfl rfl)
theorem dX0_ask_3 : decode cX0_ask 3 = .ok (.invokestatic 70, 3) := dk_184 0 70 (dk_at dksX0_ask_0 3 rfl rfl)
theorem dX0_ask_6 : decode cX0_ask 6 = .ok (.ifCond .eq 29, 3) := dk_153 0 29 (dk_at dksX0_ask_0 6 rfl rfl)
theorem dX0_ask_9 : decode cX0_ask 9 = .ok (.iload_n 2, 1) := dk_28 (dk_at dksX0_ask_0 9 rfl rfl)
theorem dX0_ask_10 : decode cX0_ask 10 = .ok (.iload_n 1, 1) := dk_27 (dk_at dksX0_ask_0 10 rfl rfl)
theorem dX0_ask_11 : decode cX0_ask 11 = .ok (.ifCond .ne 7, 3) := dk_154 0 7 (dk_at dksX0_ask_0 11 rfl rfl)
theorem dX0_ask_14 : decode cX0_ask 14 = .ok (.iconst 2, 1) := dk_5 (dk_at dksX0_ask_0 14 rfl rfl)
theorem dX0_ask_15 : decode cX0_ask 15 = .ok (.goto 4, 3) := dk_167 0 4 (dk_at dksX0_ask_0 15 rfl rfl)
theorem dX0_ask_18 : decode cX0_ask 18 = .ok (.iconst 0, 1) := dk_3 (dk_at dksX0_ask_0 18 rfl rfl)
theorem dX0_ask_19 : decode cX0_ask 19 = .ok (.iload_n 1, 1) := dk_27 (dk_at dksX0_ask_0 19 rfl rfl)
theorem dX0_ask_20 : decode cX0_ask 20 = .ok (.ifCond .ne 7, 3) := dk_154 0 7 (dk_at dksX0_ask_0 20 rfl rfl)
theorem dX0_ask_23 : decode cX0_ask 23 = .ok (.iconst 4, 1) := dk_7 (dk_at dksX0_ask_0 23 rfl rfl)
theorem dX0_ask_24 : decode cX0_ask 24 = .ok (.goto 5, 3) := dk_167 0 5 (dk_at dksX0_ask_1 0 rfl rfl)
theorem dX0_ask_27 : decode cX0_ask 27 = .ok (.bipush 99, 2) := dk_16 99 (dk_at dksX0_ask_1 3 rfl rfl)
theorem dX0_ask_29 : decode cX0_ask 29 = .ok (.invokestatic 70, 3) := dk_184 0 70 (dk_at dksX0_ask_1 5 rfl rfl)
theorem dX0_ask_32 : decode cX0_ask 32 = .ok (.ifCond .ne 10, 3) := dk_154 0 10 (dk_at dksX0_ask_1 8 rfl rfl)
theorem dX0_ask_35 : decode cX0_ask 35 = .ok (.aload_n 0, 1) := dk_42 (dk_at dksX0_ask_1 11 rfl rfl)
theorem dX0_ask_36 : decode cX0_ask 36 = .ok (.bipush (-2), 2) := dk_16 254 (dk_at dksX0_ask_1 12 rfl rfl)
theorem dX0_ask_38 : decode cX0_ask 38 = .ok (.invokevirtual 95, 3) := dk_182 0 95 (dk_at dksX0_ask_1 14 rfl rfl)
theorem dX0_ask_41 : decode cX0_ask 41 = .ok (.ireturn, 1) := dk_172 (dk_at dksX0_ask_1 17 rfl rfl)
theorem dX0_ask_42 : decode cX0_ask 42 = .ok (.iload_n 1, 1) := dk_27 (dk_at dksX0_ask_1 18 rfl rfl)
theorem dX0_ask_43 : decode cX0_ask 43 = .ok (.ifCond .ne 13, 3) := dk_154 0 13 (dk_at dksX0_ask_1 19 rfl rfl)
theorem dX0_ask_46 : decode cX0_ask 46 = .ok (.aload_n 0, 1) := dk_42 (dk_at dksX0_ask_1 22 rfl rfl)
theorem dX0_ask_47 : decode cX0_ask 47 = .ok (.getfield 29, 3) := dk_180 0 29 (dk_at dksX0_ask_2 0 rfl rfl)
theorem dX0_ask_50 : decode cX0_ask 50 = .ok (.getfield 198, 3) := dk_180 0 198 (dk_at dksX0_ask_2 3 rfl rfl)
theorem dX0_ask_53 : decode cX0_ask 53 = .ok (.goto 10, 3) := dk_167 0 10 (dk_at dksX0_ask_2 6 rfl rfl)
theorem dX0_ask_56 : decode cX0_ask 56 = .ok (.aload_n 0, 1) := dk_42 (dk_at dksX0_ask_2 9 rfl rfl)
theorem dX0_ask_57 : decode cX0_ask 57 = .ok (.getfield 29, 3) := dk_180 0 29 (dk_at dksX0_ask_2 10 rfl rfl)
theorem dX0_ask_60 : decode cX0_ask 60 = .ok (.getfield 201, 3) := dk_180 0 201 (dk_at dksX0_ask_2 13 rfl rfl)
theorem dX0_ask_63 : decode cX0_ask 63 = .ok (.istore_n 3, 1) := dk_62 (dk_at dksX0_ask_2 16 rfl rfl)
theorem dX0_ask_64 : decode cX0_ask 64 = .ok (.aload_n 0, 1) := dk_42 (dk_at dksX0_ask_2 17 rfl rfl)
theorem dX0_ask_65 : decode cX0_ask 65 = .ok (.getfield 29, 3) := dk_180 0 29 (dk_at dksX0_ask_2 18 rfl rfl)
theorem dX0_ask_68 : decode cX0_ask 68 = .ok (.iload_n 1, 1) := dk_27 (dk_at dksX0_ask_2 21 rfl rfl)
theorem dX0_ask_69 : decode cX0_ask 69 = .ok (.ifCond .ne 7, 3) := dk_154 0 7 (dk_at dksX0_ask_3 0 rfl rfl)
theorem dX0_ask_72 : decode cX0_ask 72 = .ok (.iload_n 2, 1) := dk_28 (dk_at dksX0_ask_3 3 rfl rfl)
theorem dX0_ask_73 : decode cX0_ask 73 = .ok (.goto 10, 3) := dk_167 0 10 (dk_at dksX0_ask_3 4 rfl rfl)
theorem dX0_ask_76 : decode cX0_ask 76 = .ok (.aload_n 0, 1) := dk_42 (dk_at dksX0_ask_3 7 rfl rfl)
theorem dX0_ask_77 : decode cX0_ask 77 = .ok (.getfield 29, 3) := dk_180 0 29 (dk_at dksX0_ask_3 8 rfl rfl)
theorem dX0_ask_80 : decode cX0_ask 80 = .ok (.getfield 198, 3) := dk_180 0 198 (dk_at dksX0_ask_3 11 rfl rfl)
theorem dX0_ask_83 : decode cX0_ask 83 = .ok (.putfield 198, 3) := dk_181 0 198 (dk_at dksX0_ask_3 14 rfl rfl)
theorem dX0_ask_86 : decode cX0_ask 86 = .ok (.aload_n 0, 1) := dk_42 (dk_at dksX0_ask_3 17 rfl rfl)
theorem dX0_ask_87 : decode cX0_ask 87 = .ok (.getfield 29, 3) := dk_180 0 29 (dk_at dksX0_ask_3 18 rfl rfl)
theorem dX0_ask_90 : decode cX0_ask 90 = .ok (.iload_n 1, 1) := dk_27 (dk_at dksX0_ask_3 21 rfl rfl)
theorem dX0_ask_91 : decode cX0_ask 91 = .ok (.iconst 1, 1) := dk_4 (dk_at dksX0_ask_3 22 rfl rfl)
theorem dX0_ask_92 : decode cX0_ask 92 = .ok (.if_icmp .ne 7, 3) := dk_160 0 7 (dk_at dksX0_ask_4 0 rfl rfl)
theorem dX0_ask_95 : decode cX0_ask 95 = .ok (.iload_n 2, 1) := dk_28 (dk_at dksX0_ask_4 3 rfl rfl)
theorem dX0_ask_96 : decode cX0_ask 96 = .ok (.goto 10, 3) := dk_167 0 10 (dk_at dksX0_ask_4 4 rfl rfl)
theorem dX0_ask_99 : decode cX0_ask 99 = .ok (.aload_n 0, 1) := dk_42 (dk_at dksX0_ask_4 7 rfl rfl)
theorem dX0_ask_100 : decode cX0_ask 100 = .ok (.getfield 29, 3) := dk_180 0 29 (dk_at dksX0_ask_4 8 rfl rfl)
theorem dX0_ask_103 : decode cX0_ask 103 = .ok (.getfield 201, 3) := dk_180 0 201 (dk_at dksX0_ask_4 11 rfl rfl)
theorem dX0_ask_106 : decode cX0_ask 106 = .ok (.putfield 201, 3) := dk_181 0 201 (dk_at dksX0_ask_4 14 rfl rfl)
theorem dX0_ask_109 : decode cX0_ask 109 = .ok (.iload_n 3, 1) := dk_29 (dk_at dksX0_ask_4 17 rfl rfl)
theorem dX0_ask_110 : decode cX0_ask 110 = .ok (.ireturn, 1) := dk_172 (dk_at dksX0_ask_4 18 rfl rfl)
abbrev cX0_feed : ByteArray := prog_1_method_27_code
def yX0_feed : MethodName := ⟨RX0, "feed", "(I)I"⟩
def dkwX0_feed_2 : List UInt8 := [89, 180, 0, 204, 4, 96, 181, 0, 204, 42, 180, 0, 204, 172]
abbrev dktX0_feed_2 : List UInt8 := dkwX0_feed_2 ++ []
def dkwX0_feed_1 : List UInt8 := [17, 0, 250, 160, 0, 10, 42, 16, 250, 182, 0, 95, 172, 42, 180, 0, 63, 42, 180, 0, 204, 27, 79, 42]
abbrev dktX0_feed_1 : List UInt8 := dkwX0_feed_1 ++ dktX0_feed_2
def dkwX0_feed_0 : List UInt8 := [27, 3, 17, 0, 255, 184, 0, 70, 154, 0, 10, 42, 16, 254, 182, 0, 95, 172, 42, 180, 0, 204]
abbrev dktX0_feed_0 : List UInt8 := dkwX0_feed_0 ++ dktX0_feed_1
theorem dksX0_feed_0 : cX0_feed.data.toList.drop 0 = dktX0_feed_0 := by decide +kernel
theorem dksX0_feed_1 : cX0_feed.data.toList.drop 22 = dktX0_feed_1 := dk_seg dksX0_feed_0 22 rfl rfl
theorem dksX0_feed_2 : cX0_feed.data.toList.drop 46 = dktX0_feed_2 := dk_seg dksX0_feed_1 24 rfl rfl
theorem dX0_feed_0 : decode cX0_feed 0 = .ok (.iload_n 1, 1) := dk_27 (dk_at dksX0_feed_0 0 rfl rfl)
theorem dX0_feed_1 : decode cX0_feed 1 = .ok (.iconst 0, 1) := dk_3 (dk_at dksX0_feed_0 1 rfl rfl)
theorem dX0_feed_2 : decode cX0_feed 2 = .ok (.sipush 255, 3) := dk_17 0 255 (dk_at dksX0_feed_0 2 rfl rfl)
theorem dX0_feed_5 : decode cX0_feed 5 = .ok (.invokestatic 70, 3) := dk_184 0 70 (dk_at dksX0_feed_0 5 rfl rfl)
theorem dX0_feed_8 : decode cX0_feed 8 = .ok (.ifCond .ne 10, 3) := dk_154 0 10 (dk_at dksX0_feed_0 8 rfl rfl)
theorem dX0_feed_11 : decode cX0_feed 11 = .ok (.aload_n 0, 1) := dk_42 (dk_at dksX0_feed_0 11 rfl rfl)
theorem dX0_feed_12 : decode cX0_feed 12 = .ok (.bipush (-2), 2) := dk_16 254 (dk_at dksX0_feed_0 12 rfl rfl)
theorem dX0_feed_14 : decode cX0_feed 14 = .ok (.invokevirtual 95, 3) := dk_182 0 95 (dk_at dksX0_feed_0 14 rfl rfl)
theorem dX0_feed_17 : decode cX0_feed 17 = .ok (.ireturn, 1) := dk_172 (dk_at dksX0_feed_0 17 rfl rfl)
theorem dX0_feed_18 : decode cX0_feed 18 = .ok (.aload_n 0, 1) := dk_42 (dk_at dksX0_feed_0 18 rfl rfl)
theorem dX0_feed_19 : decode cX0_feed 19 = .ok (.getfield 204, 3) := dk_180 0 204 (dk_at dksX0_feed_0 19 rfl rfl)
theorem dX0_feed_22 : decode cX0_feed 22 = .ok (.sipush 250, 3) := dk_17 0 250 (dk_at dksX0_feed_1 0 rfl rfl)
theorem dX0_feed_25 : decode cX0_feed 25 = .ok (.if_icmp .ne 10, 3) := dk_160 0 10 (dk_at dksX0_feed_1 3 rfl rfl)
theorem dX0_feed_28 : decode cX0_feed 28 = .ok (.aload_n 0, 1) := dk_42 (dk_at dksX0_feed_1 6 rfl rfl)
theorem dX0_feed_29 : decode cX0_feed 29 = .ok (.bipush (-6), 2) := dk_16 250 (dk_at dksX0_feed_1 7 rfl rfl)
theorem dX0_feed_31 : decode cX0_feed 31 = .ok (.invokevirtual 95, 3) := dk_182 0 95 (dk_at dksX0_feed_1 9 rfl rfl)
theorem dX0_feed_34 : decode cX0_feed 34 = .ok (.ireturn, 1) := dk_172 (dk_at dksX0_feed_1 12 rfl rfl)
theorem dX0_feed_35 : decode cX0_feed 35 = .ok (.aload_n 0, 1) := dk_42 (dk_at dksX0_feed_1 13 rfl rfl)
theorem dX0_feed_36 : decode cX0_feed 36 = .ok (.getfield 63, 3) := dk_180 0 63 (dk_at dksX0_feed_1 14 rfl rfl)
theorem dX0_feed_39 : decode cX0_feed 39 = .ok (.aload_n 0, 1) := dk_42 (dk_at dksX0_feed_1 17 rfl rfl)
theorem dX0_feed_40 : decode cX0_feed 40 = .ok (.getfield 204, 3) := dk_180 0 204 (dk_at dksX0_feed_1 18 rfl rfl)
theorem dX0_feed_43 : decode cX0_feed 43 = .ok (.iload_n 1, 1) := dk_27 (dk_at dksX0_feed_1 21 rfl rfl)
theorem dX0_feed_44 : decode cX0_feed 44 = .ok (.iastore, 1) := dk_79 (dk_at dksX0_feed_1 22 rfl rfl)
theorem dX0_feed_45 : decode cX0_feed 45 = .ok (.aload_n 0, 1) := dk_42 (dk_at dksX0_feed_1 23 rfl rfl)
theorem dX0_feed_46 : decode cX0_feed 46 = .ok (.dup, 1) := dk_89 (dk_at dksX0_feed_2 0 rfl rfl)
theorem dX0_feed_47 : decode cX0_feed 47 = .ok (.getfield 204, 3) := dk_180 0 204 (dk_at dksX0_feed_2 1 rfl rfl)
theorem dX0_feed_50 : decode cX0_feed 50 = .ok (.iconst 1, 1) := dk_4 (dk_at dksX0_feed_2 4 rfl rfl)
theorem dX0_feed_51 : decode cX0_feed 51 = .ok (.iadd, 1) := dk_96 (dk_at dksX0_feed_2 5 rfl rfl)
theorem dX0_feed_52 : decode cX0_feed 52 = .ok (.putfield 204, 3) := dk_181 0 204 (dk_at dksX0_feed_2 6 rfl rfl)
theorem dX0_feed_55 : decode cX0_feed 55 = .ok (.aload_n 0, 1) := dk_42 (dk_at dksX0_feed_2 9 rfl rfl)
theorem dX0_feed_56 : decode cX0_feed 56 = .ok (.getfield 204, 3) := dk_180 0 204 (dk_at dksX0_feed_2 10 rfl rfl)
theorem dX0_feed_59 : decode cX0_feed 59 = .ok (.ireturn, 1) := dk_172 (dk_at dksX0_feed_2 13 rfl rfl)
abbrev cX0_wipe : ByteArray := prog_1_method_28_code
def yX0_wipe : MethodName := ⟨RX0, "wipe", "()I"⟩
def dkwX0_wipe_0 : List UInt8 := [42, 180, 0, 204, 60, 42, 3, 181, 0, 204, 27, 172]
abbrev dktX0_wipe_0 : List UInt8 := dkwX0_wipe_0 ++ []
theorem dksX0_wipe_0 : cX0_wipe.data.toList.drop 0 = dktX0_wipe_0 := by decide +kernel
theorem dX0_wipe_0 : decode cX0_wipe 0 = .ok (.aload_n 0, 1) := dk_42 (dk_at dksX0_wipe_0 0 rfl rfl)
theorem dX0_wipe_1 : decode cX0_wipe 1 = .ok (.getfield 204, 3) := dk_180 0 204 (dk_at dksX0_wipe_0 1 rfl rfl)
theorem dX0_wipe_4 : decode cX0_wipe 4 = .ok (.istore_n 1, 1) := dk_60 (dk_at dksX0_wipe_0 4 rfl rfl)
theorem dX0_wipe_5 : decode cX0_wipe 5 = .ok (.aload_n 0, 1) := dk_42 (dk_at dksX0_wipe_0 5 rfl rfl)
theorem dX0_wipe_6 : decode cX0_wipe 6 = .ok (.iconst 0, 1) := dk_3 (dk_at dksX0_wipe_0 6 rfl rfl)
theorem dX0_wipe_7 : decode cX0_wipe 7 = .ok (.putfield 204, 3) := dk_181 0 204 (dk_at dksX0_wipe_0 7 rfl rfl)
theorem dX0_wipe_10 : decode cX0_wipe 10 = .ok (.iload_n 1, 1) := dk_27 (dk_at dksX0_wipe_0 10 rfl rfl)
theorem dX0_wipe_11 : decode cX0_wipe 11 = .ok (.ireturn, 1) := dk_172 (dk_at dksX0_wipe_0 11 rfl rfl)
abbrev cX0_town : ByteArray := prog_1_method_29_code
def yX0_town : MethodName := ⟨RX0, "town", "()I"⟩
def dkwX0_town_3 : List UInt8 := [3, 181, 0, 204, 25, 4, 191]
abbrev dktX0_town_3 : List UInt8 := dkwX0_town_3 ++ []
def dkwX0_town_2 : List UInt8 := [16, 254, 182, 0, 95, 87, 16, 236, 43, 180, 0, 224, 100, 61, 42, 3, 181, 0, 204, 28, 172, 58, 4, 42]
abbrev dktX0_town_2 : List UInt8 := dkwX0_town_2 ++ dktX0_town_3
def dkwX0_town_1 : List UInt8 := [182, 0, 216, 61, 42, 43, 180, 0, 219, 181, 0, 29, 28, 62, 42, 3, 181, 0, 204, 29, 172, 76, 42]
abbrev dktX0_town_1 : List UInt8 := dkwX0_town_1 ++ dktX0_town_2
def dkwX0_town_0 : List UInt8 := [187, 0, 207, 89, 42, 180, 0, 63, 42, 180, 0, 204, 42, 180, 0, 29, 182, 0, 209, 183, 0, 213, 76, 43]
abbrev dktX0_town_0 : List UInt8 := dkwX0_town_0 ++ dktX0_town_1
theorem dksX0_town_0 : cX0_town.data.toList.drop 0 = dktX0_town_0 := by decide +kernel
theorem dksX0_town_1 : cX0_town.data.toList.drop 24 = dktX0_town_1 := dk_seg dksX0_town_0 24 rfl rfl
theorem dksX0_town_2 : cX0_town.data.toList.drop 47 = dktX0_town_2 := dk_seg dksX0_town_1 23 rfl rfl
theorem dksX0_town_3 : cX0_town.data.toList.drop 71 = dktX0_town_3 := dk_seg dksX0_town_2 24 rfl rfl
theorem dX0_town_0 : decode cX0_town 0 = .ok (.new 207, 3) := dk_187 0 207 (dk_at dksX0_town_0 0 rfl rfl)
theorem dX0_town_3 : decode cX0_town 3 = .ok (.dup, 1) := dk_89 (dk_at dksX0_town_0 3 rfl rfl)
theorem dX0_town_4 : decode cX0_town 4 = .ok (.aload_n 0, 1) := dk_42 (dk_at dksX0_town_0 4 rfl rfl)
theorem dX0_town_5 : decode cX0_town 5 = .ok (.getfield 63, 3) := dk_180 0 63 (dk_at dksX0_town_0 5 rfl rfl)
theorem dX0_town_8 : decode cX0_town 8 = .ok (.aload_n 0, 1) := dk_42 (dk_at dksX0_town_0 8 rfl rfl)
theorem dX0_town_9 : decode cX0_town 9 = .ok (.getfield 204, 3) := dk_180 0 204 (dk_at dksX0_town_0 9 rfl rfl)
theorem dX0_town_12 : decode cX0_town 12 = .ok (.aload_n 0, 1) := dk_42 (dk_at dksX0_town_0 12 rfl rfl)
theorem dX0_town_13 : decode cX0_town 13 = .ok (.getfield 29, 3) := dk_180 0 29 (dk_at dksX0_town_0 13 rfl rfl)
theorem dX0_town_16 : decode cX0_town 16 = .ok (.invokevirtual 209, 3) := dk_182 0 209 (dk_at dksX0_town_0 16 rfl rfl)
theorem dX0_town_19 : decode cX0_town 19 = .ok (.invokespecial 213, 3) := dk_183 0 213 (dk_at dksX0_town_0 19 rfl rfl)
theorem dX0_town_22 : decode cX0_town 22 = .ok (.astore_n 1, 1) := dk_76 (dk_at dksX0_town_0 22 rfl rfl)
theorem dX0_town_23 : decode cX0_town 23 = .ok (.aload_n 1, 1) := dk_43 (dk_at dksX0_town_0 23 rfl rfl)
theorem dX0_town_24 : decode cX0_town 24 = .ok (.invokevirtual 216, 3) := dk_182 0 216 (dk_at dksX0_town_1 0 rfl rfl)
theorem dX0_town_27 : decode cX0_town 27 = .ok (.istore_n 2, 1) := dk_61 (dk_at dksX0_town_1 3 rfl rfl)
theorem dX0_town_28 : decode cX0_town 28 = .ok (.aload_n 0, 1) := dk_42 (dk_at dksX0_town_1 4 rfl rfl)
theorem dX0_town_29 : decode cX0_town 29 = .ok (.aload_n 1, 1) := dk_43 (dk_at dksX0_town_1 5 rfl rfl)
theorem dX0_town_30 : decode cX0_town 30 = .ok (.getfield 219, 3) := dk_180 0 219 (dk_at dksX0_town_1 6 rfl rfl)
theorem dX0_town_33 : decode cX0_town 33 = .ok (.putfield 29, 3) := dk_181 0 29 (dk_at dksX0_town_1 9 rfl rfl)
theorem dX0_town_36 : decode cX0_town 36 = .ok (.iload_n 2, 1) := dk_28 (dk_at dksX0_town_1 12 rfl rfl)
theorem dX0_town_37 : decode cX0_town 37 = .ok (.istore_n 3, 1) := dk_62 (dk_at dksX0_town_1 13 rfl rfl)
theorem dX0_town_38 : decode cX0_town 38 = .ok (.aload_n 0, 1) := dk_42 (dk_at dksX0_town_1 14 rfl rfl)
theorem dX0_town_39 : decode cX0_town 39 = .ok (.iconst 0, 1) := dk_3 (dk_at dksX0_town_1 15 rfl rfl)
theorem dX0_town_40 : decode cX0_town 40 = .ok (.putfield 204, 3) := dk_181 0 204 (dk_at dksX0_town_1 16 rfl rfl)
theorem dX0_town_43 : decode cX0_town 43 = .ok (.iload_n 3, 1) := dk_29 (dk_at dksX0_town_1 19 rfl rfl)
theorem dX0_town_44 : decode cX0_town 44 = .ok (.ireturn, 1) := dk_172 (dk_at dksX0_town_1 20 rfl rfl)
theorem dX0_town_45 : decode cX0_town 45 = .ok (.astore_n 1, 1) := dk_76 (dk_at dksX0_town_1 21 rfl rfl)
theorem dX0_town_46 : decode cX0_town 46 = .ok (.aload_n 0, 1) := dk_42 (dk_at dksX0_town_1 22 rfl rfl)
theorem dX0_town_47 : decode cX0_town 47 = .ok (.bipush (-2), 2) := dk_16 254 (dk_at dksX0_town_2 0 rfl rfl)
theorem dX0_town_49 : decode cX0_town 49 = .ok (.invokevirtual 95, 3) := dk_182 0 95 (dk_at dksX0_town_2 2 rfl rfl)
theorem dX0_town_52 : decode cX0_town 52 = .ok (.pop, 1) := dk_87 (dk_at dksX0_town_2 5 rfl rfl)
theorem dX0_town_53 : decode cX0_town 53 = .ok (.bipush (-20), 2) := dk_16 236 (dk_at dksX0_town_2 6 rfl rfl)
theorem dX0_town_55 : decode cX0_town 55 = .ok (.aload_n 1, 1) := dk_43 (dk_at dksX0_town_2 8 rfl rfl)
theorem dX0_town_56 : decode cX0_town 56 = .ok (.getfield 224, 3) := dk_180 0 224 (dk_at dksX0_town_2 9 rfl rfl)
theorem dX0_town_59 : decode cX0_town 59 = .ok (.isub, 1) := dk_100 (dk_at dksX0_town_2 12 rfl rfl)
theorem dX0_town_60 : decode cX0_town 60 = .ok (.istore_n 2, 1) := dk_61 (dk_at dksX0_town_2 13 rfl rfl)
theorem dX0_town_61 : decode cX0_town 61 = .ok (.aload_n 0, 1) := dk_42 (dk_at dksX0_town_2 14 rfl rfl)
theorem dX0_town_62 : decode cX0_town 62 = .ok (.iconst 0, 1) := dk_3 (dk_at dksX0_town_2 15 rfl rfl)
theorem dX0_town_63 : decode cX0_town 63 = .ok (.putfield 204, 3) := dk_181 0 204 (dk_at dksX0_town_2 16 rfl rfl)
theorem dX0_town_66 : decode cX0_town 66 = .ok (.iload_n 2, 1) := dk_28 (dk_at dksX0_town_2 19 rfl rfl)
theorem dX0_town_67 : decode cX0_town 67 = .ok (.ireturn, 1) := dk_172 (dk_at dksX0_town_2 20 rfl rfl)
theorem dX0_town_68 : decode cX0_town 68 = .ok (.astore 4, 2) := dk_58 4 (dk_at dksX0_town_2 21 rfl rfl)
theorem dX0_town_70 : decode cX0_town 70 = .ok (.aload_n 0, 1) := dk_42 (dk_at dksX0_town_2 23 rfl rfl)
theorem dX0_town_71 : decode cX0_town 71 = .ok (.iconst 0, 1) := dk_3 (dk_at dksX0_town_3 0 rfl rfl)
theorem dX0_town_72 : decode cX0_town 72 = .ok (.putfield 204, 3) := dk_181 0 204 (dk_at dksX0_town_3 1 rfl rfl)
theorem dX0_town_75 : decode cX0_town 75 = .ok (.aload 4, 2) := dk_25 4 (dk_at dksX0_town_3 4 rfl rfl)
theorem dX0_town_77 : decode cX0_town 77 = .ok (.athrow, 1) := dk_191 (dk_at dksX0_town_3 6 rfl rfl)
abbrev cX0_personOf : ByteArray := prog_1_method_30_code
def yX0_personOf : MethodName := ⟨RX0, "personOf", "(II)I"⟩
def dkwX0_personOf_3 : List UInt8 := [27, 182, 0, 227, 172, 42, 180, 0, 29, 27, 182, 0, 227, 184, 0, 230, 172, 42, 16, 254, 182, 0, 95, 172]
abbrev dktX0_personOf_3 : List UInt8 := dkwX0_personOf_3 ++ []
def dkwX0_personOf_2 : List UInt8 := [42, 180, 0, 29, 180, 0, 181, 27, 46, 172, 42, 180, 0, 29, 180, 0, 184, 27, 46, 172, 42, 180, 0, 29]
abbrev dktX0_personOf_2 : List UInt8 := dkwX0_personOf_2 ++ dktX0_personOf_3
def dkwX0_personOf_1 : List UInt8 := [170, 0, 0, 0, 70, 0, 0, 0, 0, 0, 0, 0, 3, 0, 0, 0, 29, 0, 0, 0, 39, 0, 0, 0, 49, 0, 0, 0, 58]
abbrev dktX0_personOf_1 : List UInt8 := dkwX0_personOf_1 ++ dktX0_personOf_2
def dkwX0_personOf_0 : List UInt8 := [42, 180, 0, 29, 27, 182, 0, 178, 154, 0, 10, 42, 16, 254, 182, 0, 95, 172, 28]
abbrev dktX0_personOf_0 : List UInt8 := dkwX0_personOf_0 ++ dktX0_personOf_1
theorem dksX0_personOf_0 : cX0_personOf.data.toList.drop 0 = dktX0_personOf_0 := by decide +kernel
theorem dksX0_personOf_1 : cX0_personOf.data.toList.drop 19 = dktX0_personOf_1 := dk_seg dksX0_personOf_0 19 rfl rfl
theorem dksX0_personOf_2 : cX0_personOf.data.toList.drop 48 = dktX0_personOf_2 := dk_seg dksX0_personOf_1 29 rfl rfl
theorem dksX0_personOf_3 : cX0_personOf.data.toList.drop 72 = dktX0_personOf_3 := dk_seg dksX0_personOf_2 24 rfl rfl
theorem dX0_personOf_0 : decode cX0_personOf 0 = .ok (.aload_n 0, 1) := dk_42 (dk_at dksX0_personOf_0 0 rfl rfl)
theorem dX0_personOf_1 : decode cX0_personOf 1 = .ok (.getfield 29, 3) := dk_180 0 29 (dk_at dksX0_personOf_0 1 rfl rfl)
theorem dX0_personOf_4 : decode cX0_personOf 4 = .ok (.iload_n 1, 1) := dk_27 (dk_at dksX0_personOf_0 4 rfl rfl)
theorem dX0_personOf_5 : decode cX0_personOf 5 = .ok (.invokevirtual 178, 3) := dk_182 0 178 (dk_at dksX0_personOf_0 5 rfl rfl)
theorem dX0_personOf_8 : decode cX0_personOf 8 = .ok (.ifCond .ne 10, 3) := dk_154 0 10 (dk_at dksX0_personOf_0 8 rfl rfl)
theorem dX0_personOf_11 : decode cX0_personOf 11 = .ok (.aload_n 0, 1) := dk_42 (dk_at dksX0_personOf_0 11 rfl rfl)
theorem dX0_personOf_12 : decode cX0_personOf 12 = .ok (.bipush (-2), 2) := dk_16 254 (dk_at dksX0_personOf_0 12 rfl rfl)
theorem dX0_personOf_14 : decode cX0_personOf 14 = .ok (.invokevirtual 95, 3) := dk_182 0 95 (dk_at dksX0_personOf_0 14 rfl rfl)
theorem dX0_personOf_17 : decode cX0_personOf 17 = .ok (.ireturn, 1) := dk_172 (dk_at dksX0_personOf_0 17 rfl rfl)
theorem dX0_personOf_18 : decode cX0_personOf 18 = .ok (.iload_n 2, 1) := dk_28 (dk_at dksX0_personOf_0 18 rfl rfl)
theorem dX0_personOf_19 : decode cX0_personOf 19 = .ok (.tableswitch 70 0 3 #[29, 39, 49, 58], 29) := by decide +kernel
theorem dX0_personOf_48 : decode cX0_personOf 48 = .ok (.aload_n 0, 1) := dk_42 (dk_at dksX0_personOf_2 0 rfl rfl)
theorem dX0_personOf_49 : decode cX0_personOf 49 = .ok (.getfield 29, 3) := dk_180 0 29 (dk_at dksX0_personOf_2 1 rfl rfl)
theorem dX0_personOf_52 : decode cX0_personOf 52 = .ok (.getfield 181, 3) := dk_180 0 181 (dk_at dksX0_personOf_2 4 rfl rfl)
theorem dX0_personOf_55 : decode cX0_personOf 55 = .ok (.iload_n 1, 1) := dk_27 (dk_at dksX0_personOf_2 7 rfl rfl)
theorem dX0_personOf_56 : decode cX0_personOf 56 = .ok (.iaload, 1) := dk_46 (dk_at dksX0_personOf_2 8 rfl rfl)
theorem dX0_personOf_57 : decode cX0_personOf 57 = .ok (.ireturn, 1) := dk_172 (dk_at dksX0_personOf_2 9 rfl rfl)
theorem dX0_personOf_58 : decode cX0_personOf 58 = .ok (.aload_n 0, 1) := dk_42 (dk_at dksX0_personOf_2 10 rfl rfl)
theorem dX0_personOf_59 : decode cX0_personOf 59 = .ok (.getfield 29, 3) := dk_180 0 29 (dk_at dksX0_personOf_2 11 rfl rfl)
theorem dX0_personOf_62 : decode cX0_personOf 62 = .ok (.getfield 184, 3) := dk_180 0 184 (dk_at dksX0_personOf_2 14 rfl rfl)
theorem dX0_personOf_65 : decode cX0_personOf 65 = .ok (.iload_n 1, 1) := dk_27 (dk_at dksX0_personOf_2 17 rfl rfl)
theorem dX0_personOf_66 : decode cX0_personOf 66 = .ok (.iaload, 1) := dk_46 (dk_at dksX0_personOf_2 18 rfl rfl)
theorem dX0_personOf_67 : decode cX0_personOf 67 = .ok (.ireturn, 1) := dk_172 (dk_at dksX0_personOf_2 19 rfl rfl)
theorem dX0_personOf_68 : decode cX0_personOf 68 = .ok (.aload_n 0, 1) := dk_42 (dk_at dksX0_personOf_2 20 rfl rfl)
theorem dX0_personOf_69 : decode cX0_personOf 69 = .ok (.getfield 29, 3) := dk_180 0 29 (dk_at dksX0_personOf_2 21 rfl rfl)
theorem dX0_personOf_72 : decode cX0_personOf 72 = .ok (.iload_n 1, 1) := dk_27 (dk_at dksX0_personOf_3 0 rfl rfl)
theorem dX0_personOf_73 : decode cX0_personOf 73 = .ok (.invokevirtual 227, 3) := dk_182 0 227 (dk_at dksX0_personOf_3 1 rfl rfl)
theorem dX0_personOf_76 : decode cX0_personOf 76 = .ok (.ireturn, 1) := dk_172 (dk_at dksX0_personOf_3 4 rfl rfl)
theorem dX0_personOf_77 : decode cX0_personOf 77 = .ok (.aload_n 0, 1) := dk_42 (dk_at dksX0_personOf_3 5 rfl rfl)
theorem dX0_personOf_78 : decode cX0_personOf 78 = .ok (.getfield 29, 3) := dk_180 0 29 (dk_at dksX0_personOf_3 6 rfl rfl)
theorem dX0_personOf_81 : decode cX0_personOf 81 = .ok (.iload_n 1, 1) := dk_27 (dk_at dksX0_personOf_3 9 rfl rfl)
theorem dX0_personOf_82 : decode cX0_personOf 82 = .ok (.invokevirtual 227, 3) := dk_182 0 227 (dk_at dksX0_personOf_3 10 rfl rfl)
theorem dX0_personOf_85 : decode cX0_personOf 85 = .ok (.invokestatic 230, 3) := dk_184 0 230 (dk_at dksX0_personOf_3 13 rfl rfl)
theorem dX0_personOf_88 : decode cX0_personOf 88 = .ok (.ireturn, 1) := dk_172 (dk_at dksX0_personOf_3 16 rfl rfl)
theorem dX0_personOf_89 : decode cX0_personOf 89 = .ok (.aload_n 0, 1) := dk_42 (dk_at dksX0_personOf_3 17 rfl rfl)
theorem dX0_personOf_90 : decode cX0_personOf 90 = .ok (.bipush (-2), 2) := dk_16 254 (dk_at dksX0_personOf_3 18 rfl rfl)
theorem dX0_personOf_92 : decode cX0_personOf 92 = .ok (.invokevirtual 95, 3) := dk_182 0 95 (dk_at dksX0_personOf_3 20 rfl rfl)
theorem dX0_personOf_95 : decode cX0_personOf 95 = .ok (.ireturn, 1) := dk_172 (dk_at dksX0_personOf_3 23 rfl rfl)
abbrev cX0_knownOf : ByteArray := prog_1_method_31_code
def yX0_knownOf : MethodName := ⟨RX0, "knownOf", "(II)I"⟩
def dkwX0_knownOf_1 : List UInt8 := [182, 0, 95, 172]
abbrev dktX0_knownOf_1 : List UInt8 := dkwX0_knownOf_1 ++ []
def dkwX0_knownOf_0 : List UInt8 := [42, 27, 28, 182, 0, 187, 153, 0, 15, 42, 180, 0, 29, 27, 28, 182, 0, 191, 167, 0, 9, 42, 16, 254]
abbrev dktX0_knownOf_0 : List UInt8 := dkwX0_knownOf_0 ++ dktX0_knownOf_1
theorem dksX0_knownOf_0 : cX0_knownOf.data.toList.drop 0 = dktX0_knownOf_0 := by decide +kernel
theorem dksX0_knownOf_1 : cX0_knownOf.data.toList.drop 24 = dktX0_knownOf_1 := dk_seg dksX0_knownOf_0 24 rfl rfl
theorem dX0_knownOf_0 : decode cX0_knownOf 0 = .ok (.aload_n 0, 1) := dk_42 (dk_at dksX0_knownOf_0 0 rfl rfl)
theorem dX0_knownOf_1 : decode cX0_knownOf 1 = .ok (.iload_n 1, 1) := dk_27 (dk_at dksX0_knownOf_0 1 rfl rfl)
theorem dX0_knownOf_2 : decode cX0_knownOf 2 = .ok (.iload_n 2, 1) := dk_28 (dk_at dksX0_knownOf_0 2 rfl rfl)
theorem dX0_knownOf_3 : decode cX0_knownOf 3 = .ok (.invokevirtual 187, 3) := dk_182 0 187 (dk_at dksX0_knownOf_0 3 rfl rfl)
theorem dX0_knownOf_6 : decode cX0_knownOf 6 = .ok (.ifCond .eq 15, 3) := dk_153 0 15 (dk_at dksX0_knownOf_0 6 rfl rfl)
theorem dX0_knownOf_9 : decode cX0_knownOf 9 = .ok (.aload_n 0, 1) := dk_42 (dk_at dksX0_knownOf_0 9 rfl rfl)
theorem dX0_knownOf_10 : decode cX0_knownOf 10 = .ok (.getfield 29, 3) := dk_180 0 29 (dk_at dksX0_knownOf_0 10 rfl rfl)
theorem dX0_knownOf_13 : decode cX0_knownOf 13 = .ok (.iload_n 1, 1) := dk_27 (dk_at dksX0_knownOf_0 13 rfl rfl)
theorem dX0_knownOf_14 : decode cX0_knownOf 14 = .ok (.iload_n 2, 1) := dk_28 (dk_at dksX0_knownOf_0 14 rfl rfl)
theorem dX0_knownOf_15 : decode cX0_knownOf 15 = .ok (.invokevirtual 191, 3) := dk_182 0 191 (dk_at dksX0_knownOf_0 15 rfl rfl)
theorem dX0_knownOf_18 : decode cX0_knownOf 18 = .ok (.goto 9, 3) := dk_167 0 9 (dk_at dksX0_knownOf_0 18 rfl rfl)
theorem dX0_knownOf_21 : decode cX0_knownOf 21 = .ok (.aload_n 0, 1) := dk_42 (dk_at dksX0_knownOf_0 21 rfl rfl)
theorem dX0_knownOf_22 : decode cX0_knownOf 22 = .ok (.bipush (-2), 2) := dk_16 254 (dk_at dksX0_knownOf_0 22 rfl rfl)
theorem dX0_knownOf_24 : decode cX0_knownOf 24 = .ok (.invokevirtual 95, 3) := dk_182 0 95 (dk_at dksX0_knownOf_1 0 rfl rfl)
theorem dX0_knownOf_27 : decode cX0_knownOf 27 = .ok (.ireturn, 1) := dk_172 (dk_at dksX0_knownOf_1 3 rfl rfl)
abbrev cX0_isGroup : ByteArray := prog_1_method_32_code
def yX0_isGroup : MethodName := ⟨RX0, "isGroup", "(I)I"⟩
def dkwX0_isGroup_1 : List UInt8 := [182, 0, 238, 153, 0, 7, 4, 167, 0, 4, 3, 172]
abbrev dktX0_isGroup_1 : List UInt8 := dkwX0_isGroup_1 ++ []
def dkwX0_isGroup_0 : List UInt8 := [42, 180, 0, 29, 27, 182, 0, 235, 154, 0, 10, 42, 16, 254, 182, 0, 95, 172, 42, 182, 0, 152, 27]
abbrev dktX0_isGroup_0 : List UInt8 := dkwX0_isGroup_0 ++ dktX0_isGroup_1
theorem dksX0_isGroup_0 : cX0_isGroup.data.toList.drop 0 = dktX0_isGroup_0 := by decide +kernel
theorem dksX0_isGroup_1 : cX0_isGroup.data.toList.drop 23 = dktX0_isGroup_1 := dk_seg dksX0_isGroup_0 23 rfl rfl
theorem dX0_isGroup_0 : decode cX0_isGroup 0 = .ok (.aload_n 0, 1) := dk_42 (dk_at dksX0_isGroup_0 0 rfl rfl)
theorem dX0_isGroup_1 : decode cX0_isGroup 1 = .ok (.getfield 29, 3) := dk_180 0 29 (dk_at dksX0_isGroup_0 1 rfl rfl)
theorem dX0_isGroup_4 : decode cX0_isGroup 4 = .ok (.iload_n 1, 1) := dk_27 (dk_at dksX0_isGroup_0 4 rfl rfl)
theorem dX0_isGroup_5 : decode cX0_isGroup 5 = .ok (.invokevirtual 235, 3) := dk_182 0 235 (dk_at dksX0_isGroup_0 5 rfl rfl)
theorem dX0_isGroup_8 : decode cX0_isGroup 8 = .ok (.ifCond .ne 10, 3) := dk_154 0 10 (dk_at dksX0_isGroup_0 8 rfl rfl)
theorem dX0_isGroup_11 : decode cX0_isGroup 11 = .ok (.aload_n 0, 1) := dk_42 (dk_at dksX0_isGroup_0 11 rfl rfl)
theorem dX0_isGroup_12 : decode cX0_isGroup 12 = .ok (.bipush (-2), 2) := dk_16 254 (dk_at dksX0_isGroup_0 12 rfl rfl)
theorem dX0_isGroup_14 : decode cX0_isGroup 14 = .ok (.invokevirtual 95, 3) := dk_182 0 95 (dk_at dksX0_isGroup_0 14 rfl rfl)
theorem dX0_isGroup_17 : decode cX0_isGroup 17 = .ok (.ireturn, 1) := dk_172 (dk_at dksX0_isGroup_0 17 rfl rfl)
theorem dX0_isGroup_18 : decode cX0_isGroup 18 = .ok (.aload_n 0, 1) := dk_42 (dk_at dksX0_isGroup_0 18 rfl rfl)
theorem dX0_isGroup_19 : decode cX0_isGroup 19 = .ok (.invokevirtual 152, 3) := dk_182 0 152 (dk_at dksX0_isGroup_0 19 rfl rfl)
theorem dX0_isGroup_22 : decode cX0_isGroup 22 = .ok (.iload_n 1, 1) := dk_27 (dk_at dksX0_isGroup_0 22 rfl rfl)
theorem dX0_isGroup_23 : decode cX0_isGroup 23 = .ok (.invokevirtual 238, 3) := dk_182 0 238 (dk_at dksX0_isGroup_1 0 rfl rfl)
theorem dX0_isGroup_26 : decode cX0_isGroup 26 = .ok (.ifCond .eq 7, 3) := dk_153 0 7 (dk_at dksX0_isGroup_1 3 rfl rfl)
theorem dX0_isGroup_29 : decode cX0_isGroup 29 = .ok (.iconst 1, 1) := dk_4 (dk_at dksX0_isGroup_1 6 rfl rfl)
theorem dX0_isGroup_30 : decode cX0_isGroup 30 = .ok (.goto 4, 3) := dk_167 0 4 (dk_at dksX0_isGroup_1 7 rfl rfl)
theorem dX0_isGroup_33 : decode cX0_isGroup 33 = .ok (.iconst 0, 1) := dk_3 (dk_at dksX0_isGroup_1 10 rfl rfl)
theorem dX0_isGroup_34 : decode cX0_isGroup 34 = .ok (.ireturn, 1) := dk_172 (dk_at dksX0_isGroup_1 11 rfl rfl)
abbrev cX0_groups_2 : ByteArray := prog_1_method_33_code
def yX0_groups_2 : MethodName := ⟨RX0, "groups", "(I)I"⟩
def dkwX0_groups_2_1 : List UInt8 := [16, 254, 182, 0, 95, 172]
abbrev dktX0_groups_2_1 : List UInt8 := dkwX0_groups_2_1 ++ []
def dkwX0_groups_2_0 : List UInt8 := [42, 180, 0, 29, 27, 182, 0, 235, 153, 0, 14, 42, 182, 0, 152, 27, 182, 0, 241, 167, 0, 9, 42]
abbrev dktX0_groups_2_0 : List UInt8 := dkwX0_groups_2_0 ++ dktX0_groups_2_1
theorem dksX0_groups_2_0 : cX0_groups_2.data.toList.drop 0 = dktX0_groups_2_0 := by decide +kernel
theorem dksX0_groups_2_1 : cX0_groups_2.data.toList.drop 23 = dktX0_groups_2_1 := dk_seg dksX0_groups_2_0 23 rfl rfl
theorem dX0_groups_2_0 : decode cX0_groups_2 0 = .ok (.aload_n 0, 1) := dk_42 (dk_at dksX0_groups_2_0 0 rfl rfl)
theorem dX0_groups_2_1 : decode cX0_groups_2 1 = .ok (.getfield 29, 3) := dk_180 0 29 (dk_at dksX0_groups_2_0 1 rfl rfl)
theorem dX0_groups_2_4 : decode cX0_groups_2 4 = .ok (.iload_n 1, 1) := dk_27 (dk_at dksX0_groups_2_0 4 rfl rfl)
theorem dX0_groups_2_5 : decode cX0_groups_2 5 = .ok (.invokevirtual 235, 3) := dk_182 0 235 (dk_at dksX0_groups_2_0 5 rfl rfl)
theorem dX0_groups_2_8 : decode cX0_groups_2 8 = .ok (.ifCond .eq 14, 3) := dk_153 0 14 (dk_at dksX0_groups_2_0 8 rfl rfl)
theorem dX0_groups_2_11 : decode cX0_groups_2 11 = .ok (.aload_n 0, 1) := dk_42 (dk_at dksX0_groups_2_0 11 rfl rfl)
theorem dX0_groups_2_12 : decode cX0_groups_2 12 = .ok (.invokevirtual 152, 3) := dk_182 0 152 (dk_at dksX0_groups_2_0 12 rfl rfl)
theorem dX0_groups_2_15 : decode cX0_groups_2 15 = .ok (.iload_n 1, 1) := dk_27 (dk_at dksX0_groups_2_0 15 rfl rfl)
theorem dX0_groups_2_16 : decode cX0_groups_2 16 = .ok (.invokevirtual 241, 3) := dk_182 0 241 (dk_at dksX0_groups_2_0 16 rfl rfl)
theorem dX0_groups_2_19 : decode cX0_groups_2 19 = .ok (.goto 9, 3) := dk_167 0 9 (dk_at dksX0_groups_2_0 19 rfl rfl)
theorem dX0_groups_2_22 : decode cX0_groups_2 22 = .ok (.aload_n 0, 1) := dk_42 (dk_at dksX0_groups_2_0 22 rfl rfl)
theorem dX0_groups_2_23 : decode cX0_groups_2 23 = .ok (.bipush (-2), 2) := dk_16 254 (dk_at dksX0_groups_2_1 0 rfl rfl)
theorem dX0_groups_2_25 : decode cX0_groups_2 25 = .ok (.invokevirtual 95, 3) := dk_182 0 95 (dk_at dksX0_groups_2_1 2 rfl rfl)
theorem dX0_groups_2_28 : decode cX0_groups_2 28 = .ok (.ireturn, 1) := dk_172 (dk_at dksX0_groups_2_1 5 rfl rfl)
abbrev cX0_firstOf : ByteArray := prog_1_method_34_code
def yX0_firstOf : MethodName := ⟨RX0, "firstOf", "(I)I"⟩
def dkwX0_firstOf_1 : List UInt8 := [16, 254, 182, 0, 95, 172]
abbrev dktX0_firstOf_1 : List UInt8 := dkwX0_firstOf_1 ++ []
def dkwX0_firstOf_0 : List UInt8 := [42, 180, 0, 29, 27, 182, 0, 235, 153, 0, 14, 42, 182, 0, 152, 27, 182, 0, 244, 167, 0, 9, 42]
abbrev dktX0_firstOf_0 : List UInt8 := dkwX0_firstOf_0 ++ dktX0_firstOf_1
theorem dksX0_firstOf_0 : cX0_firstOf.data.toList.drop 0 = dktX0_firstOf_0 := by decide +kernel
theorem dksX0_firstOf_1 : cX0_firstOf.data.toList.drop 23 = dktX0_firstOf_1 := dk_seg dksX0_firstOf_0 23 rfl rfl
theorem dX0_firstOf_0 : decode cX0_firstOf 0 = .ok (.aload_n 0, 1) := dk_42 (dk_at dksX0_firstOf_0 0 rfl rfl)
theorem dX0_firstOf_1 : decode cX0_firstOf 1 = .ok (.getfield 29, 3) := dk_180 0 29 (dk_at dksX0_firstOf_0 1 rfl rfl)
theorem dX0_firstOf_4 : decode cX0_firstOf 4 = .ok (.iload_n 1, 1) := dk_27 (dk_at dksX0_firstOf_0 4 rfl rfl)
theorem dX0_firstOf_5 : decode cX0_firstOf 5 = .ok (.invokevirtual 235, 3) := dk_182 0 235 (dk_at dksX0_firstOf_0 5 rfl rfl)
theorem dX0_firstOf_8 : decode cX0_firstOf 8 = .ok (.ifCond .eq 14, 3) := dk_153 0 14 (dk_at dksX0_firstOf_0 8 rfl rfl)
theorem dX0_firstOf_11 : decode cX0_firstOf 11 = .ok (.aload_n 0, 1) := dk_42 (dk_at dksX0_firstOf_0 11 rfl rfl)
theorem dX0_firstOf_12 : decode cX0_firstOf 12 = .ok (.invokevirtual 152, 3) := dk_182 0 152 (dk_at dksX0_firstOf_0 12 rfl rfl)
theorem dX0_firstOf_15 : decode cX0_firstOf 15 = .ok (.iload_n 1, 1) := dk_27 (dk_at dksX0_firstOf_0 15 rfl rfl)
theorem dX0_firstOf_16 : decode cX0_firstOf 16 = .ok (.invokevirtual 244, 3) := dk_182 0 244 (dk_at dksX0_firstOf_0 16 rfl rfl)
theorem dX0_firstOf_19 : decode cX0_firstOf 19 = .ok (.goto 9, 3) := dk_167 0 9 (dk_at dksX0_firstOf_0 19 rfl rfl)
theorem dX0_firstOf_22 : decode cX0_firstOf 22 = .ok (.aload_n 0, 1) := dk_42 (dk_at dksX0_firstOf_0 22 rfl rfl)
theorem dX0_firstOf_23 : decode cX0_firstOf 23 = .ok (.bipush (-2), 2) := dk_16 254 (dk_at dksX0_firstOf_1 0 rfl rfl)
theorem dX0_firstOf_25 : decode cX0_firstOf 25 = .ok (.invokevirtual 95, 3) := dk_182 0 95 (dk_at dksX0_firstOf_1 2 rfl rfl)
theorem dX0_firstOf_28 : decode cX0_firstOf 28 = .ok (.ireturn, 1) := dk_172 (dk_at dksX0_firstOf_1 5 rfl rfl)
abbrev cX0_most : ByteArray := prog_1_method_35_code
def yX0_most : MethodName := ⟨RX0, "most", "(I)I"⟩
def dkwX0_most_1 : List UInt8 := [16, 254, 182, 0, 95, 172]
abbrev dktX0_most_1 : List UInt8 := dkwX0_most_1 ++ []
def dkwX0_most_0 : List UInt8 := [42, 180, 0, 29, 27, 182, 0, 235, 153, 0, 14, 42, 182, 0, 152, 27, 182, 0, 247, 167, 0, 9, 42]
abbrev dktX0_most_0 : List UInt8 := dkwX0_most_0 ++ dktX0_most_1
theorem dksX0_most_0 : cX0_most.data.toList.drop 0 = dktX0_most_0 := by decide +kernel
theorem dksX0_most_1 : cX0_most.data.toList.drop 23 = dktX0_most_1 := dk_seg dksX0_most_0 23 rfl rfl
theorem dX0_most_0 : decode cX0_most 0 = .ok (.aload_n 0, 1) := dk_42 (dk_at dksX0_most_0 0 rfl rfl)
theorem dX0_most_1 : decode cX0_most 1 = .ok (.getfield 29, 3) := dk_180 0 29 (dk_at dksX0_most_0 1 rfl rfl)
theorem dX0_most_4 : decode cX0_most 4 = .ok (.iload_n 1, 1) := dk_27 (dk_at dksX0_most_0 4 rfl rfl)
theorem dX0_most_5 : decode cX0_most 5 = .ok (.invokevirtual 235, 3) := dk_182 0 235 (dk_at dksX0_most_0 5 rfl rfl)
theorem dX0_most_8 : decode cX0_most 8 = .ok (.ifCond .eq 14, 3) := dk_153 0 14 (dk_at dksX0_most_0 8 rfl rfl)
theorem dX0_most_11 : decode cX0_most 11 = .ok (.aload_n 0, 1) := dk_42 (dk_at dksX0_most_0 11 rfl rfl)
theorem dX0_most_12 : decode cX0_most 12 = .ok (.invokevirtual 152, 3) := dk_182 0 152 (dk_at dksX0_most_0 12 rfl rfl)
theorem dX0_most_15 : decode cX0_most 15 = .ok (.iload_n 1, 1) := dk_27 (dk_at dksX0_most_0 15 rfl rfl)
theorem dX0_most_16 : decode cX0_most 16 = .ok (.invokevirtual 247, 3) := dk_182 0 247 (dk_at dksX0_most_0 16 rfl rfl)
theorem dX0_most_19 : decode cX0_most 19 = .ok (.goto 9, 3) := dk_167 0 9 (dk_at dksX0_most_0 19 rfl rfl)
theorem dX0_most_22 : decode cX0_most 22 = .ok (.aload_n 0, 1) := dk_42 (dk_at dksX0_most_0 22 rfl rfl)
theorem dX0_most_23 : decode cX0_most 23 = .ok (.bipush (-2), 2) := dk_16 254 (dk_at dksX0_most_1 0 rfl rfl)
theorem dX0_most_25 : decode cX0_most 25 = .ok (.invokevirtual 95, 3) := dk_182 0 95 (dk_at dksX0_most_1 2 rfl rfl)
theorem dX0_most_28 : decode cX0_most 28 = .ok (.ireturn, 1) := dk_172 (dk_at dksX0_most_1 5 rfl rfl)
abbrev cX0_mostOf : ByteArray := prog_1_method_36_code
def yX0_mostOf : MethodName := ⟨RX0, "mostOf", "(II)I"⟩
def dkwX0_mostOf_3 : List UInt8 := [132, 4, 1, 167, 255, 234, 42, 180, 0, 39, 29, 182, 0, 250, 172]
abbrev dktX0_mostOf_3 : List UInt8 := dkwX0_mostOf_3 ++ []
def dkwX0_mostOf_2 : List UInt8 := [27, 62, 3, 54, 4, 21, 4, 28, 162, 0, 22, 29, 42, 180, 0, 39, 29, 182, 0, 250, 2, 130, 126, 62]
abbrev dktX0_mostOf_2 : List UInt8 := dkwX0_mostOf_2 ++ dktX0_mostOf_3
def dkwX0_mostOf_1 : List UInt8 := [3, 42, 180, 0, 39, 27, 182, 0, 247, 4, 100, 184, 0, 70, 154, 0, 10, 42, 16, 251, 182, 0, 95, 172]
abbrev dktX0_mostOf_1 : List UInt8 := dkwX0_mostOf_1 ++ dktX0_mostOf_2
def dkwX0_mostOf_0 : List UInt8 := [42, 180, 0, 29, 27, 182, 0, 235, 154, 0, 10, 42, 16, 254, 182, 0, 95, 172, 42, 182, 0, 152, 87, 28]
abbrev dktX0_mostOf_0 : List UInt8 := dkwX0_mostOf_0 ++ dktX0_mostOf_1
theorem dksX0_mostOf_0 : cX0_mostOf.data.toList.drop 0 = dktX0_mostOf_0 := by decide +kernel
theorem dksX0_mostOf_1 : cX0_mostOf.data.toList.drop 24 = dktX0_mostOf_1 := dk_seg dksX0_mostOf_0 24 rfl rfl
theorem dksX0_mostOf_2 : cX0_mostOf.data.toList.drop 48 = dktX0_mostOf_2 := dk_seg dksX0_mostOf_1 24 rfl rfl
theorem dksX0_mostOf_3 : cX0_mostOf.data.toList.drop 72 = dktX0_mostOf_3 := dk_seg dksX0_mostOf_2 24 rfl rfl
theorem dX0_mostOf_0 : decode cX0_mostOf 0 = .ok (.aload_n 0, 1) := dk_42 (dk_at dksX0_mostOf_0 0 rfl rfl)
theorem dX0_mostOf_1 : decode cX0_mostOf 1 = .ok (.getfield 29, 3) := dk_180 0 29 (dk_at dksX0_mostOf_0 1 rfl rfl)
theorem dX0_mostOf_4 : decode cX0_mostOf 4 = .ok (.iload_n 1, 1) := dk_27 (dk_at dksX0_mostOf_0 4 rfl rfl)
theorem dX0_mostOf_5 : decode cX0_mostOf 5 = .ok (.invokevirtual 235, 3) := dk_182 0 235 (dk_at dksX0_mostOf_0 5 rfl rfl)
theorem dX0_mostOf_8 : decode cX0_mostOf 8 = .ok (.ifCond .ne 10, 3) := dk_154 0 10 (dk_at dksX0_mostOf_0 8 rfl rfl)
theorem dX0_mostOf_11 : decode cX0_mostOf 11 = .ok (.aload_n 0, 1) := dk_42 (dk_at dksX0_mostOf_0 11 rfl rfl)
theorem dX0_mostOf_12 : decode cX0_mostOf 12 = .ok (.bipush (-2), 2) := dk_16 254 (dk_at dksX0_mostOf_0 12 rfl rfl)
theorem dX0_mostOf_14 : decode cX0_mostOf 14 = .ok (.invokevirtual 95, 3) := dk_182 0 95 (dk_at dksX0_mostOf_0 14 rfl rfl)
theorem dX0_mostOf_17 : decode cX0_mostOf 17 = .ok (.ireturn, 1) := dk_172 (dk_at dksX0_mostOf_0 17 rfl rfl)
theorem dX0_mostOf_18 : decode cX0_mostOf 18 = .ok (.aload_n 0, 1) := dk_42 (dk_at dksX0_mostOf_0 18 rfl rfl)
theorem dX0_mostOf_19 : decode cX0_mostOf 19 = .ok (.invokevirtual 152, 3) := dk_182 0 152 (dk_at dksX0_mostOf_0 19 rfl rfl)
theorem dX0_mostOf_22 : decode cX0_mostOf 22 = .ok (.pop, 1) := dk_87 (dk_at dksX0_mostOf_0 22 rfl rfl)
theorem dX0_mostOf_23 : decode cX0_mostOf 23 = .ok (.iload_n 2, 1) := dk_28 (dk_at dksX0_mostOf_0 23 rfl rfl)
theorem dX0_mostOf_24 : decode cX0_mostOf 24 = .ok (.iconst 0, 1) := dk_3 (dk_at dksX0_mostOf_1 0 rfl rfl)
theorem dX0_mostOf_25 : decode cX0_mostOf 25 = .ok (.aload_n 0, 1) := dk_42 (dk_at dksX0_mostOf_1 1 rfl rfl)
theorem dX0_mostOf_26 : decode cX0_mostOf 26 = .ok (.getfield 39, 3) := dk_180 0 39 (dk_at dksX0_mostOf_1 2 rfl rfl)
theorem dX0_mostOf_29 : decode cX0_mostOf 29 = .ok (.iload_n 1, 1) := dk_27 (dk_at dksX0_mostOf_1 5 rfl rfl)
theorem dX0_mostOf_30 : decode cX0_mostOf 30 = .ok (.invokevirtual 247, 3) := dk_182 0 247 (dk_at dksX0_mostOf_1 6 rfl rfl)
theorem dX0_mostOf_33 : decode cX0_mostOf 33 = .ok (.iconst 1, 1) := dk_4 (dk_at dksX0_mostOf_1 9 rfl rfl)
theorem dX0_mostOf_34 : decode cX0_mostOf 34 = .ok (.isub, 1) := dk_100 (dk_at dksX0_mostOf_1 10 rfl rfl)
theorem dX0_mostOf_35 : decode cX0_mostOf 35 = .ok (.invokestatic 70, 3) := dk_184 0 70 (dk_at dksX0_mostOf_1 11 rfl rfl)
theorem dX0_mostOf_38 : decode cX0_mostOf 38 = .ok (.ifCond .ne 10, 3) := dk_154 0 10 (dk_at dksX0_mostOf_1 14 rfl rfl)
theorem dX0_mostOf_41 : decode cX0_mostOf 41 = .ok (.aload_n 0, 1) := dk_42 (dk_at dksX0_mostOf_1 17 rfl rfl)
theorem dX0_mostOf_42 : decode cX0_mostOf 42 = .ok (.bipush (-5), 2) := dk_16 251 (dk_at dksX0_mostOf_1 18 rfl rfl)
theorem dX0_mostOf_44 : decode cX0_mostOf 44 = .ok (.invokevirtual 95, 3) := dk_182 0 95 (dk_at dksX0_mostOf_1 20 rfl rfl)
theorem dX0_mostOf_47 : decode cX0_mostOf 47 = .ok (.ireturn, 1) := dk_172 (dk_at dksX0_mostOf_1 23 rfl rfl)
theorem dX0_mostOf_48 : decode cX0_mostOf 48 = .ok (.iload_n 1, 1) := dk_27 (dk_at dksX0_mostOf_2 0 rfl rfl)
theorem dX0_mostOf_49 : decode cX0_mostOf 49 = .ok (.istore_n 3, 1) := dk_62 (dk_at dksX0_mostOf_2 1 rfl rfl)
theorem dX0_mostOf_50 : decode cX0_mostOf 50 = .ok (.iconst 0, 1) := dk_3 (dk_at dksX0_mostOf_2 2 rfl rfl)
theorem dX0_mostOf_51 : decode cX0_mostOf 51 = .ok (.istore 4, 2) := dk_54 4 (dk_at dksX0_mostOf_2 3 rfl rfl)
theorem dX0_mostOf_53 : decode cX0_mostOf 53 = .ok (.iload 4, 2) := dk_21 4 (dk_at dksX0_mostOf_2 5 rfl rfl)
theorem dX0_mostOf_55 : decode cX0_mostOf 55 = .ok (.iload_n 2, 1) := dk_28 (dk_at dksX0_mostOf_2 7 rfl rfl)
theorem dX0_mostOf_56 : decode cX0_mostOf 56 = .ok (.if_icmp .ge 22, 3) := dk_162 0 22 (dk_at dksX0_mostOf_2 8 rfl rfl)
theorem dX0_mostOf_59 : decode cX0_mostOf 59 = .ok (.iload_n 3, 1) := dk_29 (dk_at dksX0_mostOf_2 11 rfl rfl)
theorem dX0_mostOf_60 : decode cX0_mostOf 60 = .ok (.aload_n 0, 1) := dk_42 (dk_at dksX0_mostOf_2 12 rfl rfl)
theorem dX0_mostOf_61 : decode cX0_mostOf 61 = .ok (.getfield 39, 3) := dk_180 0 39 (dk_at dksX0_mostOf_2 13 rfl rfl)
theorem dX0_mostOf_64 : decode cX0_mostOf 64 = .ok (.iload_n 3, 1) := dk_29 (dk_at dksX0_mostOf_2 16 rfl rfl)
theorem dX0_mostOf_65 : decode cX0_mostOf 65 = .ok (.invokevirtual 250, 3) := dk_182 0 250 (dk_at dksX0_mostOf_2 17 rfl rfl)
theorem dX0_mostOf_68 : decode cX0_mostOf 68 = .ok (.iconst (-1), 1) := dk_2 (dk_at dksX0_mostOf_2 20 rfl rfl)
theorem dX0_mostOf_69 : decode cX0_mostOf 69 = .ok (.ixor, 1) := dk_130 (dk_at dksX0_mostOf_2 21 rfl rfl)
theorem dX0_mostOf_70 : decode cX0_mostOf 70 = .ok (.iand, 1) := dk_126 (dk_at dksX0_mostOf_2 22 rfl rfl)
theorem dX0_mostOf_71 : decode cX0_mostOf 71 = .ok (.istore_n 3, 1) := dk_62 (dk_at dksX0_mostOf_2 23 rfl rfl)
theorem dX0_mostOf_72 : decode cX0_mostOf 72 = .ok (.iinc 4 1, 3) := dk_132 4 1 (dk_at dksX0_mostOf_3 0 rfl rfl)
theorem dX0_mostOf_75 : decode cX0_mostOf 75 = .ok (.goto (-22), 3) := dk_167 255 234 (dk_at dksX0_mostOf_3 3 rfl rfl)
theorem dX0_mostOf_78 : decode cX0_mostOf 78 = .ok (.aload_n 0, 1) := dk_42 (dk_at dksX0_mostOf_3 6 rfl rfl)
theorem dX0_mostOf_79 : decode cX0_mostOf 79 = .ok (.getfield 39, 3) := dk_180 0 39 (dk_at dksX0_mostOf_3 7 rfl rfl)
theorem dX0_mostOf_82 : decode cX0_mostOf 82 = .ok (.iload_n 3, 1) := dk_29 (dk_at dksX0_mostOf_3 10 rfl rfl)
theorem dX0_mostOf_83 : decode cX0_mostOf 83 = .ok (.invokevirtual 250, 3) := dk_182 0 250 (dk_at dksX0_mostOf_3 11 rfl rfl)
theorem dX0_mostOf_86 : decode cX0_mostOf 86 = .ok (.ireturn, 1) := dk_172 (dk_at dksX0_mostOf_3 14 rfl rfl)
abbrev cX0_sends : ByteArray := prog_1_method_37_code
def yX0_sends : MethodName := ⟨RX0, "sends", "(III)I"⟩
def dkwX0_sends_2 : List UInt8 := [58, 4, 42, 25, 4, 180, 0, 122, 182, 0, 95, 172]
abbrev dktX0_sends_2 : List UInt8 := dkwX0_sends_2 ++ []
def dkwX0_sends_1 : List UInt8 := [167, 0, 4, 3, 54, 4, 42, 21, 4, 27, 182, 0, 253, 42, 182, 0, 152, 28, 29, 182, 1, 1, 172]
abbrev dktX0_sends_1 : List UInt8 := dkwX0_sends_1 ++ dktX0_sends_2
def dkwX0_sends_0 : List UInt8 := [42, 180, 0, 29, 28, 182, 0, 235, 153, 0, 17, 29, 3, 16, 7, 184, 0, 70, 153, 0, 7, 4]
abbrev dktX0_sends_0 : List UInt8 := dkwX0_sends_0 ++ dktX0_sends_1
theorem dksX0_sends_0 : cX0_sends.data.toList.drop 0 = dktX0_sends_0 := by decide +kernel
theorem dksX0_sends_1 : cX0_sends.data.toList.drop 22 = dktX0_sends_1 := dk_seg dksX0_sends_0 22 rfl rfl
theorem dksX0_sends_2 : cX0_sends.data.toList.drop 45 = dktX0_sends_2 := dk_seg dksX0_sends_1 23 rfl rfl
theorem dX0_sends_0 : decode cX0_sends 0 = .ok (.aload_n 0, 1) := dk_42 (dk_at dksX0_sends_0 0 rfl rfl)
theorem dX0_sends_1 : decode cX0_sends 1 = .ok (.getfield 29, 3) := dk_180 0 29 (dk_at dksX0_sends_0 1 rfl rfl)
theorem dX0_sends_4 : decode cX0_sends 4 = .ok (.iload_n 2, 1) := dk_28 (dk_at dksX0_sends_0 4 rfl rfl)
theorem dX0_sends_5 : decode cX0_sends 5 = .ok (.invokevirtual 235, 3) := dk_182 0 235 (dk_at dksX0_sends_0 5 rfl rfl)
theorem dX0_sends_8 : decode cX0_sends 8 = .ok (.ifCond .eq 17, 3) := dk_153 0 17 (dk_at dksX0_sends_0 8 rfl rfl)
theorem dX0_sends_11 : decode cX0_sends 11 = .ok (.iload_n 3, 1) := dk_29 (dk_at dksX0_sends_0 11 rfl rfl)
theorem dX0_sends_12 : decode cX0_sends 12 = .ok (.iconst 0, 1) := dk_3 (dk_at dksX0_sends_0 12 rfl rfl)
theorem dX0_sends_13 : decode cX0_sends 13 = .ok (.bipush 7, 2) := dk_16 7 (dk_at dksX0_sends_0 13 rfl rfl)
theorem dX0_sends_15 : decode cX0_sends 15 = .ok (.invokestatic 70, 3) := dk_184 0 70 (dk_at dksX0_sends_0 15 rfl rfl)
theorem dX0_sends_18 : decode cX0_sends 18 = .ok (.ifCond .eq 7, 3) := dk_153 0 7 (dk_at dksX0_sends_0 18 rfl rfl)
theorem dX0_sends_21 : decode cX0_sends 21 = .ok (.iconst 1, 1) := dk_4 (dk_at dksX0_sends_0 21 rfl rfl)
theorem dX0_sends_22 : decode cX0_sends 22 = .ok (.goto 4, 3) := dk_167 0 4 (dk_at dksX0_sends_1 0 rfl rfl)
theorem dX0_sends_25 : decode cX0_sends 25 = .ok (.iconst 0, 1) := dk_3 (dk_at dksX0_sends_1 3 rfl rfl)
theorem dX0_sends_26 : decode cX0_sends 26 = .ok (.istore 4, 2) := dk_54 4 (dk_at dksX0_sends_1 4 rfl rfl)
theorem dX0_sends_28 : decode cX0_sends 28 = .ok (.aload_n 0, 1) := dk_42 (dk_at dksX0_sends_1 6 rfl rfl)
theorem dX0_sends_29 : decode cX0_sends 29 = .ok (.iload 4, 2) := dk_21 4 (dk_at dksX0_sends_1 7 rfl rfl)
theorem dX0_sends_31 : decode cX0_sends 31 = .ok (.iload_n 1, 1) := dk_27 (dk_at dksX0_sends_1 9 rfl rfl)
theorem dX0_sends_32 : decode cX0_sends 32 = .ok (.invokevirtual 253, 3) := dk_182 0 253 (dk_at dksX0_sends_1 10 rfl rfl)
theorem dX0_sends_35 : decode cX0_sends 35 = .ok (.aload_n 0, 1) := dk_42 (dk_at dksX0_sends_1 13 rfl rfl)
theorem dX0_sends_36 : decode cX0_sends 36 = .ok (.invokevirtual 152, 3) := dk_182 0 152 (dk_at dksX0_sends_1 14 rfl rfl)
theorem dX0_sends_39 : decode cX0_sends 39 = .ok (.iload_n 2, 1) := dk_28 (dk_at dksX0_sends_1 17 rfl rfl)
theorem dX0_sends_40 : decode cX0_sends 40 = .ok (.iload_n 3, 1) := dk_29 (dk_at dksX0_sends_1 18 rfl rfl)
theorem dX0_sends_41 : decode cX0_sends 41 = .ok (.invokevirtual 257, 3) := dk_182 1 1 (dk_at dksX0_sends_1 19 rfl rfl)
theorem dX0_sends_44 : decode cX0_sends 44 = .ok (.ireturn, 1) := dk_172 (dk_at dksX0_sends_1 22 rfl rfl)
theorem dX0_sends_45 : decode cX0_sends 45 = .ok (.astore 4, 2) := dk_58 4 (dk_at dksX0_sends_2 0 rfl rfl)
theorem dX0_sends_47 : decode cX0_sends 47 = .ok (.aload_n 0, 1) := dk_42 (dk_at dksX0_sends_2 2 rfl rfl)
theorem dX0_sends_48 : decode cX0_sends 48 = .ok (.aload 4, 2) := dk_25 4 (dk_at dksX0_sends_2 3 rfl rfl)
theorem dX0_sends_50 : decode cX0_sends 50 = .ok (.getfield 122, 3) := dk_180 0 122 (dk_at dksX0_sends_2 5 rfl rfl)
theorem dX0_sends_53 : decode cX0_sends 53 = .ok (.invokevirtual 95, 3) := dk_182 0 95 (dk_at dksX0_sends_2 8 rfl rfl)
theorem dX0_sends_56 : decode cX0_sends 56 = .ok (.ireturn, 1) := dk_172 (dk_at dksX0_sends_2 11 rfl rfl)
abbrev cX0_coachmanIn : ByteArray := prog_1_method_21_code
def yX0_coachmanIn : MethodName := ⟨RX0, "coachmanIn", "(ZI)LThreeStrangers$Coachman;"⟩
def dkwX0_coachmanIn_2 : List UInt8 := [193, 0, 109, 154, 0, 13, 187, 0, 111, 89, 16, 253, 183, 0, 113, 191, 45, 192, 0, 109, 176]
abbrev dktX0_coachmanIn_2 : List UInt8 := dkwX0_coachmanIn_2 ++ []
def dkwX0_coachmanIn_1 : List UInt8 := [180, 0, 59, 28, 50, 180, 0, 103, 78, 45, 199, 0, 13, 187, 0, 111, 89, 16, 252, 183, 0, 113, 191, 45]
abbrev dktX0_coachmanIn_1 : List UInt8 := dkwX0_coachmanIn_1 ++ dktX0_coachmanIn_2
def dkwX0_coachmanIn_0 : List UInt8 := [27, 153, 0, 10, 28, 184, 0, 91, 154, 0, 13, 187, 0, 111, 89, 16, 254, 183, 0, 113, 191, 42]
abbrev dktX0_coachmanIn_0 : List UInt8 := dkwX0_coachmanIn_0 ++ dktX0_coachmanIn_1
theorem dksX0_coachmanIn_0 : cX0_coachmanIn.data.toList.drop 0 = dktX0_coachmanIn_0 := by decide +kernel
theorem dksX0_coachmanIn_1 : cX0_coachmanIn.data.toList.drop 22 = dktX0_coachmanIn_1 := dk_seg dksX0_coachmanIn_0 22 rfl rfl
theorem dksX0_coachmanIn_2 : cX0_coachmanIn.data.toList.drop 46 = dktX0_coachmanIn_2 := dk_seg dksX0_coachmanIn_1 24 rfl rfl
theorem dX0_coachmanIn_0 : decode cX0_coachmanIn 0 = .ok (.iload_n 1, 1) := dk_27 (dk_at dksX0_coachmanIn_0 0 rfl rfl)
theorem dX0_coachmanIn_1 : decode cX0_coachmanIn 1 = .ok (.ifCond .eq 10, 3) := dk_153 0 10 (dk_at dksX0_coachmanIn_0 1 rfl rfl)
theorem dX0_coachmanIn_4 : decode cX0_coachmanIn 4 = .ok (.iload_n 2, 1) := dk_28 (dk_at dksX0_coachmanIn_0 4 rfl rfl)
theorem dX0_coachmanIn_5 : decode cX0_coachmanIn 5 = .ok (.invokestatic 91, 3) := dk_184 0 91 (dk_at dksX0_coachmanIn_0 5 rfl rfl)
theorem dX0_coachmanIn_8 : decode cX0_coachmanIn 8 = .ok (.ifCond .ne 13, 3) := dk_154 0 13 (dk_at dksX0_coachmanIn_0 8 rfl rfl)
theorem dX0_coachmanIn_11 : decode cX0_coachmanIn 11 = .ok (.new 111, 3) := dk_187 0 111 (dk_at dksX0_coachmanIn_0 11 rfl rfl)
theorem dX0_coachmanIn_14 : decode cX0_coachmanIn 14 = .ok (.dup, 1) := dk_89 (dk_at dksX0_coachmanIn_0 14 rfl rfl)
theorem dX0_coachmanIn_15 : decode cX0_coachmanIn 15 = .ok (.bipush (-2), 2) := dk_16 254 (dk_at dksX0_coachmanIn_0 15 rfl rfl)
theorem dX0_coachmanIn_17 : decode cX0_coachmanIn 17 = .ok (.invokespecial 113, 3) := dk_183 0 113 (dk_at dksX0_coachmanIn_0 17 rfl rfl)
theorem dX0_coachmanIn_20 : decode cX0_coachmanIn 20 = .ok (.athrow, 1) := dk_191 (dk_at dksX0_coachmanIn_0 20 rfl rfl)
theorem dX0_coachmanIn_21 : decode cX0_coachmanIn 21 = .ok (.aload_n 0, 1) := dk_42 (dk_at dksX0_coachmanIn_0 21 rfl rfl)
theorem dX0_coachmanIn_22 : decode cX0_coachmanIn 22 = .ok (.getfield 59, 3) := dk_180 0 59 (dk_at dksX0_coachmanIn_1 0 rfl rfl)
theorem dX0_coachmanIn_25 : decode cX0_coachmanIn 25 = .ok (.iload_n 2, 1) := dk_28 (dk_at dksX0_coachmanIn_1 3 rfl rfl)
theorem dX0_coachmanIn_26 : decode cX0_coachmanIn 26 = .ok (.aaload, 1) := dk_50 (dk_at dksX0_coachmanIn_1 4 rfl rfl)
theorem dX0_coachmanIn_27 : decode cX0_coachmanIn 27 = .ok (.getfield 103, 3) := dk_180 0 103 (dk_at dksX0_coachmanIn_1 5 rfl rfl)
theorem dX0_coachmanIn_30 : decode cX0_coachmanIn 30 = .ok (.astore_n 3, 1) := dk_78 (dk_at dksX0_coachmanIn_1 8 rfl rfl)
theorem dX0_coachmanIn_31 : decode cX0_coachmanIn 31 = .ok (.aload_n 3, 1) := dk_45 (dk_at dksX0_coachmanIn_1 9 rfl rfl)
theorem dX0_coachmanIn_32 : decode cX0_coachmanIn 32 = .ok (.ifnonnull 13, 3) := dk_199 0 13 (dk_at dksX0_coachmanIn_1 10 rfl rfl)
theorem dX0_coachmanIn_35 : decode cX0_coachmanIn 35 = .ok (.new 111, 3) := dk_187 0 111 (dk_at dksX0_coachmanIn_1 13 rfl rfl)
theorem dX0_coachmanIn_38 : decode cX0_coachmanIn 38 = .ok (.dup, 1) := dk_89 (dk_at dksX0_coachmanIn_1 16 rfl rfl)
theorem dX0_coachmanIn_39 : decode cX0_coachmanIn 39 = .ok (.bipush (-4), 2) := dk_16 252 (dk_at dksX0_coachmanIn_1 17 rfl rfl)
theorem dX0_coachmanIn_41 : decode cX0_coachmanIn 41 = .ok (.invokespecial 113, 3) := dk_183 0 113 (dk_at dksX0_coachmanIn_1 19 rfl rfl)
theorem dX0_coachmanIn_44 : decode cX0_coachmanIn 44 = .ok (.athrow, 1) := dk_191 (dk_at dksX0_coachmanIn_1 22 rfl rfl)
theorem dX0_coachmanIn_45 : decode cX0_coachmanIn 45 = .ok (.aload_n 3, 1) := dk_45 (dk_at dksX0_coachmanIn_1 23 rfl rfl)
theorem dX0_coachmanIn_46 : decode cX0_coachmanIn 46 = .ok (.instanceof 109, 3) := dk_193 0 109 (dk_at dksX0_coachmanIn_2 0 rfl rfl)
theorem dX0_coachmanIn_49 : decode cX0_coachmanIn 49 = .ok (.ifCond .ne 13, 3) := dk_154 0 13 (dk_at dksX0_coachmanIn_2 3 rfl rfl)
theorem dX0_coachmanIn_52 : decode cX0_coachmanIn 52 = .ok (.new 111, 3) := dk_187 0 111 (dk_at dksX0_coachmanIn_2 6 rfl rfl)
theorem dX0_coachmanIn_55 : decode cX0_coachmanIn 55 = .ok (.dup, 1) := dk_89 (dk_at dksX0_coachmanIn_2 9 rfl rfl)
theorem dX0_coachmanIn_56 : decode cX0_coachmanIn 56 = .ok (.bipush (-3), 2) := dk_16 253 (dk_at dksX0_coachmanIn_2 10 rfl rfl)
theorem dX0_coachmanIn_58 : decode cX0_coachmanIn 58 = .ok (.invokespecial 113, 3) := dk_183 0 113 (dk_at dksX0_coachmanIn_2 12 rfl rfl)
theorem dX0_coachmanIn_61 : decode cX0_coachmanIn 61 = .ok (.athrow, 1) := dk_191 (dk_at dksX0_coachmanIn_2 15 rfl rfl)
theorem dX0_coachmanIn_62 : decode cX0_coachmanIn 62 = .ok (.aload_n 3, 1) := dk_45 (dk_at dksX0_coachmanIn_2 16 rfl rfl)
theorem dX0_coachmanIn_63 : decode cX0_coachmanIn 63 = .ok (.checkcast 109, 3) := dk_192 0 109 (dk_at dksX0_coachmanIn_2 17 rfl rfl)
theorem dX0_coachmanIn_66 : decode cX0_coachmanIn 66 = .ok (.areturn, 1) := dk_176 (dk_at dksX0_coachmanIn_2 20 rfl rfl)
abbrev cX0_run : ByteArray := prog_1_method_39_code
def yX0_run : MethodName := ⟨RX0, "run", "(I)I"⟩
def dkwX0_run_0 : List UInt8 := [42, 27, 4, 182, 1, 7, 180, 1, 11, 172, 77, 42, 44, 180, 0, 122, 182, 0, 95, 172]
abbrev dktX0_run_0 : List UInt8 := dkwX0_run_0 ++ []
theorem dksX0_run_0 : cX0_run.data.toList.drop 0 = dktX0_run_0 := by decide +kernel
theorem dX0_run_0 : decode cX0_run 0 = .ok (.aload_n 0, 1) := dk_42 (dk_at dksX0_run_0 0 rfl rfl)
theorem dX0_run_1 : decode cX0_run 1 = .ok (.iload_n 1, 1) := dk_27 (dk_at dksX0_run_0 1 rfl rfl)
theorem dX0_run_2 : decode cX0_run 2 = .ok (.iconst 1, 1) := dk_4 (dk_at dksX0_run_0 2 rfl rfl)
theorem dX0_run_3 : decode cX0_run 3 = .ok (.invokevirtual 263, 3) := dk_182 1 7 (dk_at dksX0_run_0 3 rfl rfl)
theorem dX0_run_6 : decode cX0_run 6 = .ok (.getfield 267, 3) := dk_180 1 11 (dk_at dksX0_run_0 6 rfl rfl)
theorem dX0_run_9 : decode cX0_run 9 = .ok (.ireturn, 1) := dk_172 (dk_at dksX0_run_0 9 rfl rfl)
theorem dX0_run_10 : decode cX0_run 10 = .ok (.astore_n 2, 1) := dk_77 (dk_at dksX0_run_0 10 rfl rfl)
theorem dX0_run_11 : decode cX0_run 11 = .ok (.aload_n 0, 1) := dk_42 (dk_at dksX0_run_0 11 rfl rfl)
theorem dX0_run_12 : decode cX0_run 12 = .ok (.aload_n 2, 1) := dk_44 (dk_at dksX0_run_0 12 rfl rfl)
theorem dX0_run_13 : decode cX0_run 13 = .ok (.getfield 122, 3) := dk_180 0 122 (dk_at dksX0_run_0 13 rfl rfl)
theorem dX0_run_16 : decode cX0_run 16 = .ok (.invokevirtual 95, 3) := dk_182 0 95 (dk_at dksX0_run_0 16 rfl rfl)
theorem dX0_run_19 : decode cX0_run 19 = .ok (.ireturn, 1) := dk_172 (dk_at dksX0_run_0 19 rfl rfl)
abbrev cX0_dayBy : ByteArray := prog_1_method_38_code
def yX0_dayBy : MethodName := ⟨RX0, "dayBy", "(IZ)LThreeStrangers$Day;"⟩
def dkwX0_dayBy_0 : List UInt8 := [42, 28, 27, 182, 0, 253, 78, 42, 180, 0, 46, 42, 180, 0, 29, 42, 182, 0, 152, 45, 182, 1, 4, 176]
abbrev dktX0_dayBy_0 : List UInt8 := dkwX0_dayBy_0 ++ []
theorem dksX0_dayBy_0 : cX0_dayBy.data.toList.drop 0 = dktX0_dayBy_0 := by decide +kernel
theorem dX0_dayBy_0 : decode cX0_dayBy 0 = .ok (.aload_n 0, 1) := dk_42 (dk_at dksX0_dayBy_0 0 rfl rfl)
theorem dX0_dayBy_1 : decode cX0_dayBy 1 = .ok (.iload_n 2, 1) := dk_28 (dk_at dksX0_dayBy_0 1 rfl rfl)
theorem dX0_dayBy_2 : decode cX0_dayBy 2 = .ok (.iload_n 1, 1) := dk_27 (dk_at dksX0_dayBy_0 2 rfl rfl)
theorem dX0_dayBy_3 : decode cX0_dayBy 3 = .ok (.invokevirtual 253, 3) := dk_182 0 253 (dk_at dksX0_dayBy_0 3 rfl rfl)
theorem dX0_dayBy_6 : decode cX0_dayBy 6 = .ok (.astore_n 3, 1) := dk_78 (dk_at dksX0_dayBy_0 6 rfl rfl)
theorem dX0_dayBy_7 : decode cX0_dayBy 7 = .ok (.aload_n 0, 1) := dk_42 (dk_at dksX0_dayBy_0 7 rfl rfl)
theorem dX0_dayBy_8 : decode cX0_dayBy 8 = .ok (.getfield 46, 3) := dk_180 0 46 (dk_at dksX0_dayBy_0 8 rfl rfl)
theorem dX0_dayBy_11 : decode cX0_dayBy 11 = .ok (.aload_n 0, 1) := dk_42 (dk_at dksX0_dayBy_0 11 rfl rfl)
theorem dX0_dayBy_12 : decode cX0_dayBy 12 = .ok (.getfield 29, 3) := dk_180 0 29 (dk_at dksX0_dayBy_0 12 rfl rfl)
theorem dX0_dayBy_15 : decode cX0_dayBy 15 = .ok (.aload_n 0, 1) := dk_42 (dk_at dksX0_dayBy_0 15 rfl rfl)
theorem dX0_dayBy_16 : decode cX0_dayBy 16 = .ok (.invokevirtual 152, 3) := dk_182 0 152 (dk_at dksX0_dayBy_0 16 rfl rfl)
theorem dX0_dayBy_19 : decode cX0_dayBy 19 = .ok (.aload_n 3, 1) := dk_45 (dk_at dksX0_dayBy_0 19 rfl rfl)
theorem dX0_dayBy_20 : decode cX0_dayBy 20 = .ok (.invokevirtual 260, 3) := dk_182 1 4 (dk_at dksX0_dayBy_0 20 rfl rfl)
theorem dX0_dayBy_23 : decode cX0_dayBy 23 = .ok (.areturn, 1) := dk_176 (dk_at dksX0_dayBy_0 23 rfl rfl)
abbrev cX0_coach : ByteArray := prog_1_method_40_code
def yX0_coach : MethodName := ⟨RX0, "coach", "(II)I"⟩
def dkwX0_coach_2 : List UInt8 := [172]
abbrev dktX0_coach_2 : List UInt8 := dkwX0_coach_2 ++ []
def dkwX0_coach_1 : List UInt8 := [180, 1, 14, 28, 46, 167, 0, 9, 42, 16, 251, 182, 0, 95, 172, 78, 42, 45, 180, 0, 122, 182, 0, 95]
abbrev dktX0_coach_1 : List UInt8 := dkwX0_coach_1 ++ dktX0_coach_2
def dkwX0_coach_0 : List UInt8 := [42, 27, 4, 182, 1, 7, 78, 28, 3, 45, 180, 1, 11, 4, 100, 184, 0, 70, 153, 0, 12, 45]
abbrev dktX0_coach_0 : List UInt8 := dkwX0_coach_0 ++ dktX0_coach_1
theorem dksX0_coach_0 : cX0_coach.data.toList.drop 0 = dktX0_coach_0 := by decide +kernel
theorem dksX0_coach_1 : cX0_coach.data.toList.drop 22 = dktX0_coach_1 := dk_seg dksX0_coach_0 22 rfl rfl
theorem dksX0_coach_2 : cX0_coach.data.toList.drop 46 = dktX0_coach_2 := dk_seg dksX0_coach_1 24 rfl rfl
theorem dX0_coach_0 : decode cX0_coach 0 = .ok (.aload_n 0, 1) := dk_42 (dk_at dksX0_coach_0 0 rfl rfl)
theorem dX0_coach_1 : decode cX0_coach 1 = .ok (.iload_n 1, 1) := dk_27 (dk_at dksX0_coach_0 1 rfl rfl)
theorem dX0_coach_2 : decode cX0_coach 2 = .ok (.iconst 1, 1) := dk_4 (dk_at dksX0_coach_0 2 rfl rfl)
theorem dX0_coach_3 : decode cX0_coach 3 = .ok (.invokevirtual 263, 3) := dk_182 1 7 (dk_at dksX0_coach_0 3 rfl rfl)
theorem dX0_coach_6 : decode cX0_coach 6 = .ok (.astore_n 3, 1) := dk_78 (dk_at dksX0_coach_0 6 rfl rfl)
theorem dX0_coach_7 : decode cX0_coach 7 = .ok (.iload_n 2, 1) := dk_28 (dk_at dksX0_coach_0 7 rfl rfl)
theorem dX0_coach_8 : decode cX0_coach 8 = .ok (.iconst 0, 1) := dk_3 (dk_at dksX0_coach_0 8 rfl rfl)
theorem dX0_coach_9 : decode cX0_coach 9 = .ok (.aload_n 3, 1) := dk_45 (dk_at dksX0_coach_0 9 rfl rfl)
theorem dX0_coach_10 : decode cX0_coach 10 = .ok (.getfield 267, 3) := dk_180 1 11 (dk_at dksX0_coach_0 10 rfl rfl)
theorem dX0_coach_13 : decode cX0_coach 13 = .ok (.iconst 1, 1) := dk_4 (dk_at dksX0_coach_0 13 rfl rfl)
theorem dX0_coach_14 : decode cX0_coach 14 = .ok (.isub, 1) := dk_100 (dk_at dksX0_coach_0 14 rfl rfl)
theorem dX0_coach_15 : decode cX0_coach 15 = .ok (.invokestatic 70, 3) := dk_184 0 70 (dk_at dksX0_coach_0 15 rfl rfl)
theorem dX0_coach_18 : decode cX0_coach 18 = .ok (.ifCond .eq 12, 3) := dk_153 0 12 (dk_at dksX0_coach_0 18 rfl rfl)
theorem dX0_coach_21 : decode cX0_coach 21 = .ok (.aload_n 3, 1) := dk_45 (dk_at dksX0_coach_0 21 rfl rfl)
theorem dX0_coach_22 : decode cX0_coach 22 = .ok (.getfield 270, 3) := dk_180 1 14 (dk_at dksX0_coach_1 0 rfl rfl)
theorem dX0_coach_25 : decode cX0_coach 25 = .ok (.iload_n 2, 1) := dk_28 (dk_at dksX0_coach_1 3 rfl rfl)
theorem dX0_coach_26 : decode cX0_coach 26 = .ok (.iaload, 1) := dk_46 (dk_at dksX0_coach_1 4 rfl rfl)
theorem dX0_coach_27 : decode cX0_coach 27 = .ok (.goto 9, 3) := dk_167 0 9 (dk_at dksX0_coach_1 5 rfl rfl)
theorem dX0_coach_30 : decode cX0_coach 30 = .ok (.aload_n 0, 1) := dk_42 (dk_at dksX0_coach_1 8 rfl rfl)
theorem dX0_coach_31 : decode cX0_coach 31 = .ok (.bipush (-5), 2) := dk_16 251 (dk_at dksX0_coach_1 9 rfl rfl)
theorem dX0_coach_33 : decode cX0_coach 33 = .ok (.invokevirtual 95, 3) := dk_182 0 95 (dk_at dksX0_coach_1 11 rfl rfl)
theorem dX0_coach_36 : decode cX0_coach 36 = .ok (.ireturn, 1) := dk_172 (dk_at dksX0_coach_1 14 rfl rfl)
theorem dX0_coach_37 : decode cX0_coach 37 = .ok (.astore_n 3, 1) := dk_78 (dk_at dksX0_coach_1 15 rfl rfl)
theorem dX0_coach_38 : decode cX0_coach 38 = .ok (.aload_n 0, 1) := dk_42 (dk_at dksX0_coach_1 16 rfl rfl)
theorem dX0_coach_39 : decode cX0_coach 39 = .ok (.aload_n 3, 1) := dk_45 (dk_at dksX0_coach_1 17 rfl rfl)
theorem dX0_coach_40 : decode cX0_coach 40 = .ok (.getfield 122, 3) := dk_180 0 122 (dk_at dksX0_coach_1 18 rfl rfl)
theorem dX0_coach_43 : decode cX0_coach 43 = .ok (.invokevirtual 95, 3) := dk_182 0 95 (dk_at dksX0_coach_1 21 rfl rfl)
theorem dX0_coach_46 : decode cX0_coach 46 = .ok (.ireturn, 1) := dk_172 (dk_at dksX0_coach_2 0 rfl rfl)
abbrev cX0_left : ByteArray := prog_1_method_41_code
def yX0_left : MethodName := ⟨RX0, "left", "(I)I"⟩
def dkwX0_left_0 : List UInt8 := [42, 27, 4, 182, 1, 7, 180, 1, 17, 172, 77, 42, 44, 180, 0, 122, 182, 0, 95, 172]
abbrev dktX0_left_0 : List UInt8 := dkwX0_left_0 ++ []
theorem dksX0_left_0 : cX0_left.data.toList.drop 0 = dktX0_left_0 := by decide +kernel
theorem dX0_left_0 : decode cX0_left 0 = .ok (.aload_n 0, 1) := dk_42 (dk_at dksX0_left_0 0 rfl rfl)
theorem dX0_left_1 : decode cX0_left 1 = .ok (.iload_n 1, 1) := dk_27 (dk_at dksX0_left_0 1 rfl rfl)
theorem dX0_left_2 : decode cX0_left 2 = .ok (.iconst 1, 1) := dk_4 (dk_at dksX0_left_0 2 rfl rfl)
theorem dX0_left_3 : decode cX0_left 3 = .ok (.invokevirtual 263, 3) := dk_182 1 7 (dk_at dksX0_left_0 3 rfl rfl)
theorem dX0_left_6 : decode cX0_left 6 = .ok (.getfield 273, 3) := dk_180 1 17 (dk_at dksX0_left_0 6 rfl rfl)
theorem dX0_left_9 : decode cX0_left 9 = .ok (.ireturn, 1) := dk_172 (dk_at dksX0_left_0 9 rfl rfl)
theorem dX0_left_10 : decode cX0_left 10 = .ok (.astore_n 2, 1) := dk_77 (dk_at dksX0_left_0 10 rfl rfl)
theorem dX0_left_11 : decode cX0_left 11 = .ok (.aload_n 0, 1) := dk_42 (dk_at dksX0_left_0 11 rfl rfl)
theorem dX0_left_12 : decode cX0_left 12 = .ok (.aload_n 2, 1) := dk_44 (dk_at dksX0_left_0 12 rfl rfl)
theorem dX0_left_13 : decode cX0_left 13 = .ok (.getfield 122, 3) := dk_180 0 122 (dk_at dksX0_left_0 13 rfl rfl)
theorem dX0_left_16 : decode cX0_left 16 = .ok (.invokevirtual 95, 3) := dk_182 0 95 (dk_at dksX0_left_0 16 rfl rfl)
theorem dX0_left_19 : decode cX0_left 19 = .ok (.ireturn, 1) := dk_172 (dk_at dksX0_left_0 19 rfl rfl)
abbrev cX0_waits : ByteArray := prog_1_method_42_code
def yX0_waits : MethodName := ⟨RX0, "waits", "(II)I"⟩
def dkwX0_waits_2 : List UInt8 := [42, 45, 180, 0, 122, 182, 0, 95, 172]
abbrev dktX0_waits_2 : List UInt8 := dkwX0_waits_2 ++ []
def dkwX0_waits_1 : List UInt8 := [182, 1, 7, 78, 28, 2, 160, 0, 10, 45, 182, 1, 20, 167, 0, 9, 45, 180, 1, 23, 28, 46, 172, 78]
abbrev dktX0_waits_1 : List UInt8 := dkwX0_waits_1 ++ dktX0_waits_2
def dkwX0_waits_0 : List UInt8 := [42, 27, 28, 2, 159, 0, 14, 42, 180, 0, 29, 28, 182, 0, 178, 153, 0, 7, 4, 167, 0, 4, 3]
abbrev dktX0_waits_0 : List UInt8 := dkwX0_waits_0 ++ dktX0_waits_1
theorem dksX0_waits_0 : cX0_waits.data.toList.drop 0 = dktX0_waits_0 := by decide +kernel
theorem dksX0_waits_1 : cX0_waits.data.toList.drop 23 = dktX0_waits_1 := dk_seg dksX0_waits_0 23 rfl rfl
theorem dksX0_waits_2 : cX0_waits.data.toList.drop 47 = dktX0_waits_2 := dk_seg dksX0_waits_1 24 rfl rfl
theorem dX0_waits_0 : decode cX0_waits 0 = .ok (.aload_n 0, 1) := dk_42 (dk_at dksX0_waits_0 0 rfl rfl)
theorem dX0_waits_1 : decode cX0_waits 1 = .ok (.iload_n 1, 1) := dk_27 (dk_at dksX0_waits_0 1 rfl rfl)
theorem dX0_waits_2 : decode cX0_waits 2 = .ok (.iload_n 2, 1) := dk_28 (dk_at dksX0_waits_0 2 rfl rfl)
theorem dX0_waits_3 : decode cX0_waits 3 = .ok (.iconst (-1), 1) := dk_2 (dk_at dksX0_waits_0 3 rfl rfl)
theorem dX0_waits_4 : decode cX0_waits 4 = .ok (.if_icmp .eq 14, 3) := dk_159 0 14 (dk_at dksX0_waits_0 4 rfl rfl)
theorem dX0_waits_7 : decode cX0_waits 7 = .ok (.aload_n 0, 1) := dk_42 (dk_at dksX0_waits_0 7 rfl rfl)
theorem dX0_waits_8 : decode cX0_waits 8 = .ok (.getfield 29, 3) := dk_180 0 29 (dk_at dksX0_waits_0 8 rfl rfl)
theorem dX0_waits_11 : decode cX0_waits 11 = .ok (.iload_n 2, 1) := dk_28 (dk_at dksX0_waits_0 11 rfl rfl)
theorem dX0_waits_12 : decode cX0_waits 12 = .ok (.invokevirtual 178, 3) := dk_182 0 178 (dk_at dksX0_waits_0 12 rfl rfl)
theorem dX0_waits_15 : decode cX0_waits 15 = .ok (.ifCond .eq 7, 3) := dk_153 0 7 (dk_at dksX0_waits_0 15 rfl rfl)
theorem dX0_waits_18 : decode cX0_waits 18 = .ok (.iconst 1, 1) := dk_4 (dk_at dksX0_waits_0 18 rfl rfl)
theorem dX0_waits_19 : decode cX0_waits 19 = .ok (.goto 4, 3) := dk_167 0 4 (dk_at dksX0_waits_0 19 rfl rfl)
theorem dX0_waits_22 : decode cX0_waits 22 = .ok (.iconst 0, 1) := dk_3 (dk_at dksX0_waits_0 22 rfl rfl)
theorem dX0_waits_23 : decode cX0_waits 23 = .ok (.invokevirtual 263, 3) := dk_182 1 7 (dk_at dksX0_waits_1 0 rfl rfl)
theorem dX0_waits_26 : decode cX0_waits 26 = .ok (.astore_n 3, 1) := dk_78 (dk_at dksX0_waits_1 3 rfl rfl)
theorem dX0_waits_27 : decode cX0_waits 27 = .ok (.iload_n 2, 1) := dk_28 (dk_at dksX0_waits_1 4 rfl rfl)
theorem dX0_waits_28 : decode cX0_waits 28 = .ok (.iconst (-1), 1) := dk_2 (dk_at dksX0_waits_1 5 rfl rfl)
theorem dX0_waits_29 : decode cX0_waits 29 = .ok (.if_icmp .ne 10, 3) := dk_160 0 10 (dk_at dksX0_waits_1 6 rfl rfl)
theorem dX0_waits_32 : decode cX0_waits 32 = .ok (.aload_n 3, 1) := dk_45 (dk_at dksX0_waits_1 9 rfl rfl)
theorem dX0_waits_33 : decode cX0_waits 33 = .ok (.invokevirtual 276, 3) := dk_182 1 20 (dk_at dksX0_waits_1 10 rfl rfl)
theorem dX0_waits_36 : decode cX0_waits 36 = .ok (.goto 9, 3) := dk_167 0 9 (dk_at dksX0_waits_1 13 rfl rfl)
theorem dX0_waits_39 : decode cX0_waits 39 = .ok (.aload_n 3, 1) := dk_45 (dk_at dksX0_waits_1 16 rfl rfl)
theorem dX0_waits_40 : decode cX0_waits 40 = .ok (.getfield 279, 3) := dk_180 1 23 (dk_at dksX0_waits_1 17 rfl rfl)
theorem dX0_waits_43 : decode cX0_waits 43 = .ok (.iload_n 2, 1) := dk_28 (dk_at dksX0_waits_1 20 rfl rfl)
theorem dX0_waits_44 : decode cX0_waits 44 = .ok (.iaload, 1) := dk_46 (dk_at dksX0_waits_1 21 rfl rfl)
theorem dX0_waits_45 : decode cX0_waits 45 = .ok (.ireturn, 1) := dk_172 (dk_at dksX0_waits_1 22 rfl rfl)
theorem dX0_waits_46 : decode cX0_waits 46 = .ok (.astore_n 3, 1) := dk_78 (dk_at dksX0_waits_1 23 rfl rfl)
theorem dX0_waits_47 : decode cX0_waits 47 = .ok (.aload_n 0, 1) := dk_42 (dk_at dksX0_waits_2 0 rfl rfl)
theorem dX0_waits_48 : decode cX0_waits 48 = .ok (.aload_n 3, 1) := dk_45 (dk_at dksX0_waits_2 1 rfl rfl)
theorem dX0_waits_49 : decode cX0_waits 49 = .ok (.getfield 122, 3) := dk_180 0 122 (dk_at dksX0_waits_2 2 rfl rfl)
theorem dX0_waits_52 : decode cX0_waits 52 = .ok (.invokevirtual 95, 3) := dk_182 0 95 (dk_at dksX0_waits_2 5 rfl rfl)
theorem dX0_waits_55 : decode cX0_waits 55 = .ok (.ireturn, 1) := dk_172 (dk_at dksX0_waits_2 8 rfl rfl)
abbrev cX0_least : ByteArray := prog_1_method_45_code
def yX0_least : MethodName := ⟨RX0, "least", "(I)I"⟩
def dkwX0_least_5 : List UInt8 := [154, 0, 12, 42, 180, 0, 50, 3, 46, 167, 0, 9, 42, 180, 0, 54, 3, 46, 172]
abbrev dktX0_least_5 : List UInt8 := dkwX0_least_5 ++ []
def dkwX0_least_4 : List UInt8 := [154, 0, 11, 42, 29, 21, 5, 44, 182, 1, 44, 132, 5, 1, 167, 255, 228, 132, 3, 255, 167, 255, 186, 27]
abbrev dktX0_least_4 : List UInt8 := dkwX0_least_4 ++ dktX0_least_5
def dkwX0_least_3 : List UInt8 := [132, 5, 1, 167, 255, 236, 3, 54, 5, 21, 5, 21, 4, 163, 0, 27, 21, 5, 21, 4, 2, 130, 126]
abbrev dktX0_least_3 : List UInt8 := dkwX0_least_3 ++ dktX0_least_4
def dkwX0_least_2 : List UInt8 := [54, 4, 3, 54, 5, 21, 5, 29, 162, 0, 20, 21, 4, 4, 44, 21, 5, 46, 120, 128, 54, 4]
abbrev dktX0_least_2 : List UInt8 := dkwX0_least_2 ++ dktX0_least_3
def dkwX0_least_1 : List UInt8 := [180, 0, 46, 42, 180, 0, 29, 182, 1, 40, 77, 42, 180, 0, 29, 180, 0, 171, 62, 29, 155, 0, 72, 3]
abbrev dktX0_least_1 : List UInt8 := dkwX0_least_1 ++ dktX0_least_2
def dkwX0_least_0 : List UInt8 := [27, 3, 4, 184, 0, 70, 154, 0, 10, 42, 16, 254, 182, 0, 95, 172, 42, 182, 0, 152, 87, 42]
abbrev dktX0_least_0 : List UInt8 := dkwX0_least_0 ++ dktX0_least_1
theorem dksX0_least_0 : cX0_least.data.toList.drop 0 = dktX0_least_0 := by decide +kernel
theorem dksX0_least_1 : cX0_least.data.toList.drop 22 = dktX0_least_1 := dk_seg dksX0_least_0 22 rfl rfl
theorem dksX0_least_2 : cX0_least.data.toList.drop 46 = dktX0_least_2 := dk_seg dksX0_least_1 24 rfl rfl
theorem dksX0_least_3 : cX0_least.data.toList.drop 68 = dktX0_least_3 := dk_seg dksX0_least_2 22 rfl rfl
theorem dksX0_least_4 : cX0_least.data.toList.drop 91 = dktX0_least_4 := dk_seg dksX0_least_3 23 rfl rfl
theorem dksX0_least_5 : cX0_least.data.toList.drop 115 = dktX0_least_5 := dk_seg dksX0_least_4 24 rfl rfl
theorem dX0_least_0 : decode cX0_least 0 = .ok (.iload_n 1, 1) := dk_27 (dk_at dksX0_least_0 0 rfl rfl)
theorem dX0_least_1 : decode cX0_least 1 = .ok (.iconst 0, 1) := dk_3 (dk_at dksX0_least_0 1 rfl rfl)
theorem dX0_least_2 : decode cX0_least 2 = .ok (.iconst 1, 1) := dk_4 (dk_at dksX0_least_0 2 rfl rfl)
theorem dX0_least_3 : decode cX0_least 3 = .ok (.invokestatic 70, 3) := dk_184 0 70 (dk_at dksX0_least_0 3 rfl rfl)
theorem dX0_least_6 : decode cX0_least 6 = .ok (.ifCond .ne 10, 3) := dk_154 0 10 (dk_at dksX0_least_0 6 rfl rfl)
theorem dX0_least_9 : decode cX0_least 9 = .ok (.aload_n 0, 1) := dk_42 (dk_at dksX0_least_0 9 rfl rfl)
theorem dX0_least_10 : decode cX0_least 10 = .ok (.bipush (-2), 2) := dk_16 254 (dk_at dksX0_least_0 10 rfl rfl)
theorem dX0_least_12 : decode cX0_least 12 = .ok (.invokevirtual 95, 3) := dk_182 0 95 (dk_at dksX0_least_0 12 rfl rfl)
theorem dX0_least_15 : decode cX0_least 15 = .ok (.ireturn, 1) := dk_172 (dk_at dksX0_least_0 15 rfl rfl)
theorem dX0_least_16 : decode cX0_least 16 = .ok (.aload_n 0, 1) := dk_42 (dk_at dksX0_least_0 16 rfl rfl)
theorem dX0_least_17 : decode cX0_least 17 = .ok (.invokevirtual 152, 3) := dk_182 0 152 (dk_at dksX0_least_0 17 rfl rfl)
theorem dX0_least_20 : decode cX0_least 20 = .ok (.pop, 1) := dk_87 (dk_at dksX0_least_0 20 rfl rfl)
theorem dX0_least_21 : decode cX0_least 21 = .ok (.aload_n 0, 1) := dk_42 (dk_at dksX0_least_0 21 rfl rfl)
theorem dX0_least_22 : decode cX0_least 22 = .ok (.getfield 46, 3) := dk_180 0 46 (dk_at dksX0_least_1 0 rfl rfl)
theorem dX0_least_25 : decode cX0_least 25 = .ok (.aload_n 0, 1) := dk_42 (dk_at dksX0_least_1 3 rfl rfl)
theorem dX0_least_26 : decode cX0_least 26 = .ok (.getfield 29, 3) := dk_180 0 29 (dk_at dksX0_least_1 4 rfl rfl)
theorem dX0_least_29 : decode cX0_least 29 = .ok (.invokevirtual 296, 3) := dk_182 1 40 (dk_at dksX0_least_1 7 rfl rfl)
theorem dX0_least_32 : decode cX0_least 32 = .ok (.astore_n 2, 1) := dk_77 (dk_at dksX0_least_1 10 rfl rfl)
theorem dX0_least_33 : decode cX0_least 33 = .ok (.aload_n 0, 1) := dk_42 (dk_at dksX0_least_1 11 rfl rfl)
theorem dX0_least_34 : decode cX0_least 34 = .ok (.getfield 29, 3) := dk_180 0 29 (dk_at dksX0_least_1 12 rfl rfl)
theorem dX0_least_37 : decode cX0_least 37 = .ok (.getfield 171, 3) := dk_180 0 171 (dk_at dksX0_least_1 15 rfl rfl)
theorem dX0_least_40 : decode cX0_least 40 = .ok (.istore_n 3, 1) := dk_62 (dk_at dksX0_least_1 18 rfl rfl)
theorem dX0_least_41 : decode cX0_least 41 = .ok (.iload_n 3, 1) := dk_29 (dk_at dksX0_least_1 19 rfl rfl)
theorem dX0_least_42 : decode cX0_least 42 = .ok (.ifCond .lt 72, 3) := dk_155 0 72 (dk_at dksX0_least_1 20 rfl rfl)
theorem dX0_least_45 : decode cX0_least 45 = .ok (.iconst 0, 1) := dk_3 (dk_at dksX0_least_1 23 rfl rfl)
theorem dX0_least_46 : decode cX0_least 46 = .ok (.istore 4, 2) := dk_54 4 (dk_at dksX0_least_2 0 rfl rfl)
theorem dX0_least_48 : decode cX0_least 48 = .ok (.iconst 0, 1) := dk_3 (dk_at dksX0_least_2 2 rfl rfl)
theorem dX0_least_49 : decode cX0_least 49 = .ok (.istore 5, 2) := dk_54 5 (dk_at dksX0_least_2 3 rfl rfl)
theorem dX0_least_51 : decode cX0_least 51 = .ok (.iload 5, 2) := dk_21 5 (dk_at dksX0_least_2 5 rfl rfl)
theorem dX0_least_53 : decode cX0_least 53 = .ok (.iload_n 3, 1) := dk_29 (dk_at dksX0_least_2 7 rfl rfl)
theorem dX0_least_54 : decode cX0_least 54 = .ok (.if_icmp .ge 20, 3) := dk_162 0 20 (dk_at dksX0_least_2 8 rfl rfl)
theorem dX0_least_57 : decode cX0_least 57 = .ok (.iload 4, 2) := dk_21 4 (dk_at dksX0_least_2 11 rfl rfl)
theorem dX0_least_59 : decode cX0_least 59 = .ok (.iconst 1, 1) := dk_4 (dk_at dksX0_least_2 13 rfl rfl)
theorem dX0_least_60 : decode cX0_least 60 = .ok (.aload_n 2, 1) := dk_44 (dk_at dksX0_least_2 14 rfl rfl)
theorem dX0_least_61 : decode cX0_least 61 = .ok (.iload 5, 2) := dk_21 5 (dk_at dksX0_least_2 15 rfl rfl)
theorem dX0_least_63 : decode cX0_least 63 = .ok (.iaload, 1) := dk_46 (dk_at dksX0_least_2 17 rfl rfl)
theorem dX0_least_64 : decode cX0_least 64 = .ok (.ishl, 1) := dk_120 (dk_at dksX0_least_2 18 rfl rfl)
theorem dX0_least_65 : decode cX0_least 65 = .ok (.ior, 1) := dk_128 (dk_at dksX0_least_2 19 rfl rfl)
theorem dX0_least_66 : decode cX0_least 66 = .ok (.istore 4, 2) := dk_54 4 (dk_at dksX0_least_2 20 rfl rfl)
theorem dX0_least_68 : decode cX0_least 68 = .ok (.iinc 5 1, 3) := dk_132 5 1 (dk_at dksX0_least_3 0 rfl rfl)
theorem dX0_least_71 : decode cX0_least 71 = .ok (.goto (-20), 3) := dk_167 255 236 (dk_at dksX0_least_3 3 rfl rfl)
theorem dX0_least_74 : decode cX0_least 74 = .ok (.iconst 0, 1) := dk_3 (dk_at dksX0_least_3 6 rfl rfl)
theorem dX0_least_75 : decode cX0_least 75 = .ok (.istore 5, 2) := dk_54 5 (dk_at dksX0_least_3 7 rfl rfl)
theorem dX0_least_77 : decode cX0_least 77 = .ok (.iload 5, 2) := dk_21 5 (dk_at dksX0_least_3 9 rfl rfl)
theorem dX0_least_79 : decode cX0_least 79 = .ok (.iload 4, 2) := dk_21 4 (dk_at dksX0_least_3 11 rfl rfl)
theorem dX0_least_81 : decode cX0_least 81 = .ok (.if_icmp .gt 27, 3) := dk_163 0 27 (dk_at dksX0_least_3 13 rfl rfl)
theorem dX0_least_84 : decode cX0_least 84 = .ok (.iload 5, 2) := dk_21 5 (dk_at dksX0_least_3 16 rfl rfl)
theorem dX0_least_86 : decode cX0_least 86 = .ok (.iload 4, 2) := dk_21 4 (dk_at dksX0_least_3 18 rfl rfl)
theorem dX0_least_88 : decode cX0_least 88 = .ok (.iconst (-1), 1) := dk_2 (dk_at dksX0_least_3 20 rfl rfl)
theorem dX0_least_89 : decode cX0_least 89 = .ok (.ixor, 1) := dk_130 (dk_at dksX0_least_3 21 rfl rfl)
theorem dX0_least_90 : decode cX0_least 90 = .ok (.iand, 1) := dk_126 (dk_at dksX0_least_3 22 rfl rfl)
theorem dX0_least_91 : decode cX0_least 91 = .ok (.ifCond .ne 11, 3) := dk_154 0 11 (dk_at dksX0_least_4 0 rfl rfl)
theorem dX0_least_94 : decode cX0_least 94 = .ok (.aload_n 0, 1) := dk_42 (dk_at dksX0_least_4 3 rfl rfl)
theorem dX0_least_95 : decode cX0_least 95 = .ok (.iload_n 3, 1) := dk_29 (dk_at dksX0_least_4 4 rfl rfl)
theorem dX0_least_96 : decode cX0_least 96 = .ok (.iload 5, 2) := dk_21 5 (dk_at dksX0_least_4 5 rfl rfl)
theorem dX0_least_98 : decode cX0_least 98 = .ok (.aload_n 2, 1) := dk_44 (dk_at dksX0_least_4 7 rfl rfl)
theorem dX0_least_99 : decode cX0_least 99 = .ok (.invokevirtual 300, 3) := dk_182 1 44 (dk_at dksX0_least_4 8 rfl rfl)
theorem dX0_least_102 : decode cX0_least 102 = .ok (.iinc 5 1, 3) := dk_132 5 1 (dk_at dksX0_least_4 11 rfl rfl)
theorem dX0_least_105 : decode cX0_least 105 = .ok (.goto (-28), 3) := dk_167 255 228 (dk_at dksX0_least_4 14 rfl rfl)
theorem dX0_least_108 : decode cX0_least 108 = .ok (.iinc 3 (-1), 3) := dk_132 3 255 (dk_at dksX0_least_4 17 rfl rfl)
theorem dX0_least_111 : decode cX0_least 111 = .ok (.goto (-70), 3) := dk_167 255 186 (dk_at dksX0_least_4 20 rfl rfl)
theorem dX0_least_114 : decode cX0_least 114 = .ok (.iload_n 1, 1) := dk_27 (dk_at dksX0_least_4 23 rfl rfl)
theorem dX0_least_115 : decode cX0_least 115 = .ok (.ifCond .ne 12, 3) := dk_154 0 12 (dk_at dksX0_least_5 0 rfl rfl)
theorem dX0_least_118 : decode cX0_least 118 = .ok (.aload_n 0, 1) := dk_42 (dk_at dksX0_least_5 3 rfl rfl)
theorem dX0_least_119 : decode cX0_least 119 = .ok (.getfield 50, 3) := dk_180 0 50 (dk_at dksX0_least_5 4 rfl rfl)
theorem dX0_least_122 : decode cX0_least 122 = .ok (.iconst 0, 1) := dk_3 (dk_at dksX0_least_5 7 rfl rfl)
theorem dX0_least_123 : decode cX0_least 123 = .ok (.iaload, 1) := dk_46 (dk_at dksX0_least_5 8 rfl rfl)
theorem dX0_least_124 : decode cX0_least 124 = .ok (.goto 9, 3) := dk_167 0 9 (dk_at dksX0_least_5 9 rfl rfl)
theorem dX0_least_127 : decode cX0_least 127 = .ok (.aload_n 0, 1) := dk_42 (dk_at dksX0_least_5 12 rfl rfl)
theorem dX0_least_128 : decode cX0_least 128 = .ok (.getfield 54, 3) := dk_180 0 54 (dk_at dksX0_least_5 13 rfl rfl)
theorem dX0_least_131 : decode cX0_least 131 = .ok (.iconst 0, 1) := dk_3 (dk_at dksX0_least_5 16 rfl rfl)
theorem dX0_least_132 : decode cX0_least 132 = .ok (.iaload, 1) := dk_46 (dk_at dksX0_least_5 17 rfl rfl)
theorem dX0_least_133 : decode cX0_least 133 = .ok (.ireturn, 1) := dk_172 (dk_at dksX0_least_5 18 rfl rfl)
abbrev cX0_least_2 : ByteArray := prog_1_method_44_code
def yX0_least_2 : MethodName := ⟨RX0, "least", "(II[I)V"⟩
def dkwX0_least_2_10 : List UInt8 := [180, 0, 54, 21, 4, 21, 8, 79, 132, 5, 1, 167, 255, 104, 177]
abbrev dktX0_least_2_10 : List UInt8 := dkwX0_least_2_10 ++ []
def dkwX0_least_2_9 : List UInt8 := [21, 8, 42, 180, 0, 54, 21, 4, 46, 164, 0, 21, 42, 180, 0, 50, 21, 4, 21, 7, 79, 42]
abbrev dktX0_least_2_9 : List UInt8 := dkwX0_least_2_9 ++ dktX0_least_2_10
def dkwX0_least_2_8 : List UInt8 := [21, 7, 42, 180, 0, 50, 21, 4, 46, 161, 0, 27, 21, 7, 42, 180, 0, 50, 21, 4, 46, 160, 0, 33]
abbrev dktX0_least_2_8 : List UInt8 := dkwX0_least_2_8 ++ dktX0_least_2_9
def dkwX0_least_2_7 : List UInt8 := [182, 1, 29, 42, 180, 0, 50, 21, 6, 46, 96, 54, 7, 42, 180, 0, 54, 21, 6, 46, 4, 96, 54, 8]
abbrev dktX0_least_2_7 : List UInt8 := dkwX0_least_2_7 ++ dktX0_least_2_8
def dkwX0_least_2_6 : List UInt8 := [180, 0, 39, 180, 1, 37, 21, 5, 46, 42, 180, 0, 29, 180, 0, 181, 45, 27, 4, 100, 46, 46]
abbrev dktX0_least_2_6 : List UInt8 := dkwX0_least_2_6 ++ dktX0_least_2_7
def dkwX0_least_2_5 : List UInt8 := [154, 0, 6, 167, 0, 120, 21, 4, 42, 180, 0, 39, 180, 1, 37, 21, 5, 46, 100, 54, 6, 42, 42]
abbrev dktX0_least_2_5 : List UInt8 := dkwX0_least_2_5 ++ dktX0_least_2_6
def dkwX0_least_2_4 : List UInt8 := [180, 0, 39, 180, 1, 32, 162, 0, 146, 27, 158, 0, 142, 42, 180, 0, 39, 21, 5, 28, 182, 1, 34]
abbrev dktX0_least_2_4 : List UInt8 := dkwX0_least_2_4 ++ dktX0_least_2_5
def dkwX0_least_2_3 : List UInt8 := [21, 5, 46, 79, 42, 180, 0, 54, 21, 4, 42, 180, 0, 54, 21, 5, 46, 79, 3, 54, 5, 21, 5, 42]
abbrev dktX0_least_2_3 : List UInt8 := dkwX0_least_2_3 ++ dktX0_least_2_4
def dkwX0_least_2_2 : List UInt8 := [27, 4, 96, 104, 28, 4, 45, 27, 46, 120, 128, 96, 54, 5, 42, 180, 0, 50, 21, 4, 42, 180, 0, 50]
abbrev dktX0_least_2_2 : List UInt8 := dkwX0_least_2_2 ++ dktX0_least_2_3
def dkwX0_least_2_1 : List UInt8 := [21, 4, 42, 28, 16, 24, 182, 1, 29, 79, 42, 180, 0, 54, 21, 4, 3, 79, 167, 0, 48, 17, 0, 128]
abbrev dktX0_least_2_1 : List UInt8 := dkwX0_least_2_1 ++ dktX0_least_2_2
def dkwX0_least_2_0 : List UInt8 := [17, 0, 128, 27, 104, 28, 96, 54, 4, 27, 42, 180, 0, 29, 180, 0, 171, 160, 0, 28, 42, 180, 0, 50]
abbrev dktX0_least_2_0 : List UInt8 := dkwX0_least_2_0 ++ dktX0_least_2_1
theorem dksX0_least_2_0 : cX0_least_2.data.toList.drop 0 = dktX0_least_2_0 := by decide +kernel
theorem dksX0_least_2_1 : cX0_least_2.data.toList.drop 24 = dktX0_least_2_1 := dk_seg dksX0_least_2_0 24 rfl rfl
theorem dksX0_least_2_2 : cX0_least_2.data.toList.drop 48 = dktX0_least_2_2 := dk_seg dksX0_least_2_1 24 rfl rfl
theorem dksX0_least_2_3 : cX0_least_2.data.toList.drop 72 = dktX0_least_2_3 := dk_seg dksX0_least_2_2 24 rfl rfl
theorem dksX0_least_2_4 : cX0_least_2.data.toList.drop 96 = dktX0_least_2_4 := dk_seg dksX0_least_2_3 24 rfl rfl
theorem dksX0_least_2_5 : cX0_least_2.data.toList.drop 119 = dktX0_least_2_5 := dk_seg dksX0_least_2_4 23 rfl rfl
theorem dksX0_least_2_6 : cX0_least_2.data.toList.drop 142 = dktX0_least_2_6 := dk_seg dksX0_least_2_5 23 rfl rfl
theorem dksX0_least_2_7 : cX0_least_2.data.toList.drop 164 = dktX0_least_2_7 := dk_seg dksX0_least_2_6 22 rfl rfl
theorem dksX0_least_2_8 : cX0_least_2.data.toList.drop 188 = dktX0_least_2_8 := dk_seg dksX0_least_2_7 24 rfl rfl
theorem dksX0_least_2_9 : cX0_least_2.data.toList.drop 212 = dktX0_least_2_9 := dk_seg dksX0_least_2_8 24 rfl rfl
theorem dksX0_least_2_10 : cX0_least_2.data.toList.drop 234 = dktX0_least_2_10 := dk_seg dksX0_least_2_9 22 rfl rfl
theorem dX0_least_2_0 : decode cX0_least_2 0 = .ok (.sipush 128, 3) := dk_17 0 128 (dk_at dksX0_least_2_0 0 rfl rfl)
theorem dX0_least_2_3 : decode cX0_least_2 3 = .ok (.iload_n 1, 1) := dk_27 (dk_at dksX0_least_2_0 3 rfl rfl)
theorem dX0_least_2_4 : decode cX0_least_2 4 = .ok (.imul, 1) := dk_104 (dk_at dksX0_least_2_0 4 rfl rfl)
theorem dX0_least_2_5 : decode cX0_least_2 5 = .ok (.iload_n 2, 1) := dk_28 (dk_at dksX0_least_2_0 5 rfl rfl)
theorem dX0_least_2_6 : decode cX0_least_2 6 = .ok (.iadd, 1) := dk_96 (dk_at dksX0_least_2_0 6 rfl rfl)
theorem dX0_least_2_7 : decode cX0_least_2 7 = .ok (.istore 4, 2) := dk_54 4 (dk_at dksX0_least_2_0 7 rfl rfl)
theorem dX0_least_2_9 : decode cX0_least_2 9 = .ok (.iload_n 1, 1) := dk_27 (dk_at dksX0_least_2_0 9 rfl rfl)
theorem dX0_least_2_10 : decode cX0_least_2 10 = .ok (.aload_n 0, 1) := dk_42 (dk_at dksX0_least_2_0 10 rfl rfl)
theorem dX0_least_2_11 : decode cX0_least_2 11 = .ok (.getfield 29, 3) := dk_180 0 29 (dk_at dksX0_least_2_0 11 rfl rfl)
theorem dX0_least_2_14 : decode cX0_least_2 14 = .ok (.getfield 171, 3) := dk_180 0 171 (dk_at dksX0_least_2_0 14 rfl rfl)
theorem dX0_least_2_17 : decode cX0_least_2 17 = .ok (.if_icmp .ne 28, 3) := dk_160 0 28 (dk_at dksX0_least_2_0 17 rfl rfl)
theorem dX0_least_2_20 : decode cX0_least_2 20 = .ok (.aload_n 0, 1) := dk_42 (dk_at dksX0_least_2_0 20 rfl rfl)
theorem dX0_least_2_21 : decode cX0_least_2 21 = .ok (.getfield 50, 3) := dk_180 0 50 (dk_at dksX0_least_2_0 21 rfl rfl)
theorem dX0_least_2_24 : decode cX0_least_2 24 = .ok (.iload 4, 2) := dk_21 4 (dk_at dksX0_least_2_1 0 rfl rfl)
theorem dX0_least_2_26 : decode cX0_least_2 26 = .ok (.aload_n 0, 1) := dk_42 (dk_at dksX0_least_2_1 2 rfl rfl)
theorem dX0_least_2_27 : decode cX0_least_2 27 = .ok (.iload_n 2, 1) := dk_28 (dk_at dksX0_least_2_1 3 rfl rfl)
theorem dX0_least_2_28 : decode cX0_least_2 28 = .ok (.bipush 24, 2) := dk_16 24 (dk_at dksX0_least_2_1 4 rfl rfl)
theorem dX0_least_2_30 : decode cX0_least_2 30 = .ok (.invokevirtual 285, 3) := dk_182 1 29 (dk_at dksX0_least_2_1 6 rfl rfl)
theorem dX0_least_2_33 : decode cX0_least_2 33 = .ok (.iastore, 1) := dk_79 (dk_at dksX0_least_2_1 9 rfl rfl)
theorem dX0_least_2_34 : decode cX0_least_2 34 = .ok (.aload_n 0, 1) := dk_42 (dk_at dksX0_least_2_1 10 rfl rfl)
theorem dX0_least_2_35 : decode cX0_least_2 35 = .ok (.getfield 54, 3) := dk_180 0 54 (dk_at dksX0_least_2_1 11 rfl rfl)
theorem dX0_least_2_38 : decode cX0_least_2 38 = .ok (.iload 4, 2) := dk_21 4 (dk_at dksX0_least_2_1 14 rfl rfl)
theorem dX0_least_2_40 : decode cX0_least_2 40 = .ok (.iconst 0, 1) := dk_3 (dk_at dksX0_least_2_1 16 rfl rfl)
theorem dX0_least_2_41 : decode cX0_least_2 41 = .ok (.iastore, 1) := dk_79 (dk_at dksX0_least_2_1 17 rfl rfl)
theorem dX0_least_2_42 : decode cX0_least_2 42 = .ok (.goto 48, 3) := dk_167 0 48 (dk_at dksX0_least_2_1 18 rfl rfl)
theorem dX0_least_2_45 : decode cX0_least_2 45 = .ok (.sipush 128, 3) := dk_17 0 128 (dk_at dksX0_least_2_1 21 rfl rfl)
theorem dX0_least_2_48 : decode cX0_least_2 48 = .ok (.iload_n 1, 1) := dk_27 (dk_at dksX0_least_2_2 0 rfl rfl)
theorem dX0_least_2_49 : decode cX0_least_2 49 = .ok (.iconst 1, 1) := dk_4 (dk_at dksX0_least_2_2 1 rfl rfl)
theorem dX0_least_2_50 : decode cX0_least_2 50 = .ok (.iadd, 1) := dk_96 (dk_at dksX0_least_2_2 2 rfl rfl)
theorem dX0_least_2_51 : decode cX0_least_2 51 = .ok (.imul, 1) := dk_104 (dk_at dksX0_least_2_2 3 rfl rfl)
theorem dX0_least_2_52 : decode cX0_least_2 52 = .ok (.iload_n 2, 1) := dk_28 (dk_at dksX0_least_2_2 4 rfl rfl)
theorem dX0_least_2_53 : decode cX0_least_2 53 = .ok (.iconst 1, 1) := dk_4 (dk_at dksX0_least_2_2 5 rfl rfl)
theorem dX0_least_2_54 : decode cX0_least_2 54 = .ok (.aload_n 3, 1) := dk_45 (dk_at dksX0_least_2_2 6 rfl rfl)
theorem dX0_least_2_55 : decode cX0_least_2 55 = .ok (.iload_n 1, 1) := dk_27 (dk_at dksX0_least_2_2 7 rfl rfl)
theorem dX0_least_2_56 : decode cX0_least_2 56 = .ok (.iaload, 1) := dk_46 (dk_at dksX0_least_2_2 8 rfl rfl)
theorem dX0_least_2_57 : decode cX0_least_2 57 = .ok (.ishl, 1) := dk_120 (dk_at dksX0_least_2_2 9 rfl rfl)
theorem dX0_least_2_58 : decode cX0_least_2 58 = .ok (.ior, 1) := dk_128 (dk_at dksX0_least_2_2 10 rfl rfl)
theorem dX0_least_2_59 : decode cX0_least_2 59 = .ok (.iadd, 1) := dk_96 (dk_at dksX0_least_2_2 11 rfl rfl)
theorem dX0_least_2_60 : decode cX0_least_2 60 = .ok (.istore 5, 2) := dk_54 5 (dk_at dksX0_least_2_2 12 rfl rfl)
theorem dX0_least_2_62 : decode cX0_least_2 62 = .ok (.aload_n 0, 1) := dk_42 (dk_at dksX0_least_2_2 14 rfl rfl)
theorem dX0_least_2_63 : decode cX0_least_2 63 = .ok (.getfield 50, 3) := dk_180 0 50 (dk_at dksX0_least_2_2 15 rfl rfl)
theorem dX0_least_2_66 : decode cX0_least_2 66 = .ok (.iload 4, 2) := dk_21 4 (dk_at dksX0_least_2_2 18 rfl rfl)
theorem dX0_least_2_68 : decode cX0_least_2 68 = .ok (.aload_n 0, 1) := dk_42 (dk_at dksX0_least_2_2 20 rfl rfl)
theorem dX0_least_2_69 : decode cX0_least_2 69 = .ok (.getfield 50, 3) := dk_180 0 50 (dk_at dksX0_least_2_2 21 rfl rfl)
theorem dX0_least_2_72 : decode cX0_least_2 72 = .ok (.iload 5, 2) := dk_21 5 (dk_at dksX0_least_2_3 0 rfl rfl)
theorem dX0_least_2_74 : decode cX0_least_2 74 = .ok (.iaload, 1) := dk_46 (dk_at dksX0_least_2_3 2 rfl rfl)
theorem dX0_least_2_75 : decode cX0_least_2 75 = .ok (.iastore, 1) := dk_79 (dk_at dksX0_least_2_3 3 rfl rfl)
theorem dX0_least_2_76 : decode cX0_least_2 76 = .ok (.aload_n 0, 1) := dk_42 (dk_at dksX0_least_2_3 4 rfl rfl)
theorem dX0_least_2_77 : decode cX0_least_2 77 = .ok (.getfield 54, 3) := dk_180 0 54 (dk_at dksX0_least_2_3 5 rfl rfl)
theorem dX0_least_2_80 : decode cX0_least_2 80 = .ok (.iload 4, 2) := dk_21 4 (dk_at dksX0_least_2_3 8 rfl rfl)
theorem dX0_least_2_82 : decode cX0_least_2 82 = .ok (.aload_n 0, 1) := dk_42 (dk_at dksX0_least_2_3 10 rfl rfl)
theorem dX0_least_2_83 : decode cX0_least_2 83 = .ok (.getfield 54, 3) := dk_180 0 54 (dk_at dksX0_least_2_3 11 rfl rfl)
theorem dX0_least_2_86 : decode cX0_least_2 86 = .ok (.iload 5, 2) := dk_21 5 (dk_at dksX0_least_2_3 14 rfl rfl)
theorem dX0_least_2_88 : decode cX0_least_2 88 = .ok (.iaload, 1) := dk_46 (dk_at dksX0_least_2_3 16 rfl rfl)
theorem dX0_least_2_89 : decode cX0_least_2 89 = .ok (.iastore, 1) := dk_79 (dk_at dksX0_least_2_3 17 rfl rfl)
theorem dX0_least_2_90 : decode cX0_least_2 90 = .ok (.iconst 0, 1) := dk_3 (dk_at dksX0_least_2_3 18 rfl rfl)
theorem dX0_least_2_91 : decode cX0_least_2 91 = .ok (.istore 5, 2) := dk_54 5 (dk_at dksX0_least_2_3 19 rfl rfl)
theorem dX0_least_2_93 : decode cX0_least_2 93 = .ok (.iload 5, 2) := dk_21 5 (dk_at dksX0_least_2_3 21 rfl rfl)
theorem dX0_least_2_95 : decode cX0_least_2 95 = .ok (.aload_n 0, 1) := dk_42 (dk_at dksX0_least_2_3 23 rfl rfl)
theorem dX0_least_2_96 : decode cX0_least_2 96 = .ok (.getfield 39, 3) := dk_180 0 39 (dk_at dksX0_least_2_4 0 rfl rfl)
theorem dX0_least_2_99 : decode cX0_least_2 99 = .ok (.getfield 288, 3) := dk_180 1 32 (dk_at dksX0_least_2_4 3 rfl rfl)
theorem dX0_least_2_102 : decode cX0_least_2 102 = .ok (.if_icmp .ge 146, 3) := dk_162 0 146 (dk_at dksX0_least_2_4 6 rfl rfl)
theorem dX0_least_2_105 : decode cX0_least_2 105 = .ok (.iload_n 1, 1) := dk_27 (dk_at dksX0_least_2_4 9 rfl rfl)
theorem dX0_least_2_106 : decode cX0_least_2 106 = .ok (.ifCond .le 142, 3) := dk_158 0 142 (dk_at dksX0_least_2_4 10 rfl rfl)
theorem dX0_least_2_109 : decode cX0_least_2 109 = .ok (.aload_n 0, 1) := dk_42 (dk_at dksX0_least_2_4 13 rfl rfl)
theorem dX0_least_2_110 : decode cX0_least_2 110 = .ok (.getfield 39, 3) := dk_180 0 39 (dk_at dksX0_least_2_4 14 rfl rfl)
theorem dX0_least_2_113 : decode cX0_least_2 113 = .ok (.iload 5, 2) := dk_21 5 (dk_at dksX0_least_2_4 17 rfl rfl)
theorem dX0_least_2_115 : decode cX0_least_2 115 = .ok (.iload_n 2, 1) := dk_28 (dk_at dksX0_least_2_4 19 rfl rfl)
theorem dX0_least_2_116 : decode cX0_least_2 116 = .ok (.invokevirtual 290, 3) := dk_182 1 34 (dk_at dksX0_least_2_4 20 rfl rfl)
theorem dX0_least_2_119 : decode cX0_least_2 119 = .ok (.ifCond .ne 6, 3) := dk_154 0 6 (dk_at dksX0_least_2_5 0 rfl rfl)
theorem dX0_least_2_122 : decode cX0_least_2 122 = .ok (.goto 120, 3) := dk_167 0 120 (dk_at dksX0_least_2_5 3 rfl rfl)
theorem dX0_least_2_125 : decode cX0_least_2 125 = .ok (.iload 4, 2) := dk_21 4 (dk_at dksX0_least_2_5 6 rfl rfl)
theorem dX0_least_2_127 : decode cX0_least_2 127 = .ok (.aload_n 0, 1) := dk_42 (dk_at dksX0_least_2_5 8 rfl rfl)
theorem dX0_least_2_128 : decode cX0_least_2 128 = .ok (.getfield 39, 3) := dk_180 0 39 (dk_at dksX0_least_2_5 9 rfl rfl)
theorem dX0_least_2_131 : decode cX0_least_2 131 = .ok (.getfield 293, 3) := dk_180 1 37 (dk_at dksX0_least_2_5 12 rfl rfl)
theorem dX0_least_2_134 : decode cX0_least_2 134 = .ok (.iload 5, 2) := dk_21 5 (dk_at dksX0_least_2_5 15 rfl rfl)
theorem dX0_least_2_136 : decode cX0_least_2 136 = .ok (.iaload, 1) := dk_46 (dk_at dksX0_least_2_5 17 rfl rfl)
theorem dX0_least_2_137 : decode cX0_least_2 137 = .ok (.isub, 1) := dk_100 (dk_at dksX0_least_2_5 18 rfl rfl)
theorem dX0_least_2_138 : decode cX0_least_2 138 = .ok (.istore 6, 2) := dk_54 6 (dk_at dksX0_least_2_5 19 rfl rfl)
theorem dX0_least_2_140 : decode cX0_least_2 140 = .ok (.aload_n 0, 1) := dk_42 (dk_at dksX0_least_2_5 21 rfl rfl)
theorem dX0_least_2_141 : decode cX0_least_2 141 = .ok (.aload_n 0, 1) := dk_42 (dk_at dksX0_least_2_5 22 rfl rfl)
theorem dX0_least_2_142 : decode cX0_least_2 142 = .ok (.getfield 39, 3) := dk_180 0 39 (dk_at dksX0_least_2_6 0 rfl rfl)
theorem dX0_least_2_145 : decode cX0_least_2 145 = .ok (.getfield 293, 3) := dk_180 1 37 (dk_at dksX0_least_2_6 3 rfl rfl)
theorem dX0_least_2_148 : decode cX0_least_2 148 = .ok (.iload 5, 2) := dk_21 5 (dk_at dksX0_least_2_6 6 rfl rfl)
theorem dX0_least_2_150 : decode cX0_least_2 150 = .ok (.iaload, 1) := dk_46 (dk_at dksX0_least_2_6 8 rfl rfl)
theorem dX0_least_2_151 : decode cX0_least_2 151 = .ok (.aload_n 0, 1) := dk_42 (dk_at dksX0_least_2_6 9 rfl rfl)
theorem dX0_least_2_152 : decode cX0_least_2 152 = .ok (.getfield 29, 3) := dk_180 0 29 (dk_at dksX0_least_2_6 10 rfl rfl)
theorem dX0_least_2_155 : decode cX0_least_2 155 = .ok (.getfield 181, 3) := dk_180 0 181 (dk_at dksX0_least_2_6 13 rfl rfl)
theorem dX0_least_2_158 : decode cX0_least_2 158 = .ok (.aload_n 3, 1) := dk_45 (dk_at dksX0_least_2_6 16 rfl rfl)
theorem dX0_least_2_159 : decode cX0_least_2 159 = .ok (.iload_n 1, 1) := dk_27 (dk_at dksX0_least_2_6 17 rfl rfl)
theorem dX0_least_2_160 : decode cX0_least_2 160 = .ok (.iconst 1, 1) := dk_4 (dk_at dksX0_least_2_6 18 rfl rfl)
theorem dX0_least_2_161 : decode cX0_least_2 161 = .ok (.isub, 1) := dk_100 (dk_at dksX0_least_2_6 19 rfl rfl)
theorem dX0_least_2_162 : decode cX0_least_2 162 = .ok (.iaload, 1) := dk_46 (dk_at dksX0_least_2_6 20 rfl rfl)
theorem dX0_least_2_163 : decode cX0_least_2 163 = .ok (.iaload, 1) := dk_46 (dk_at dksX0_least_2_6 21 rfl rfl)
theorem dX0_least_2_164 : decode cX0_least_2 164 = .ok (.invokevirtual 285, 3) := dk_182 1 29 (dk_at dksX0_least_2_7 0 rfl rfl)
theorem dX0_least_2_167 : decode cX0_least_2 167 = .ok (.aload_n 0, 1) := dk_42 (dk_at dksX0_least_2_7 3 rfl rfl)
theorem dX0_least_2_168 : decode cX0_least_2 168 = .ok (.getfield 50, 3) := dk_180 0 50 (dk_at dksX0_least_2_7 4 rfl rfl)
theorem dX0_least_2_171 : decode cX0_least_2 171 = .ok (.iload 6, 2) := dk_21 6 (dk_at dksX0_least_2_7 7 rfl rfl)
theorem dX0_least_2_173 : decode cX0_least_2 173 = .ok (.iaload, 1) := dk_46 (dk_at dksX0_least_2_7 9 rfl rfl)
theorem dX0_least_2_174 : decode cX0_least_2 174 = .ok (.iadd, 1) := dk_96 (dk_at dksX0_least_2_7 10 rfl rfl)
theorem dX0_least_2_175 : decode cX0_least_2 175 = .ok (.istore 7, 2) := dk_54 7 (dk_at dksX0_least_2_7 11 rfl rfl)
theorem dX0_least_2_177 : decode cX0_least_2 177 = .ok (.aload_n 0, 1) := dk_42 (dk_at dksX0_least_2_7 13 rfl rfl)
theorem dX0_least_2_178 : decode cX0_least_2 178 = .ok (.getfield 54, 3) := dk_180 0 54 (dk_at dksX0_least_2_7 14 rfl rfl)
theorem dX0_least_2_181 : decode cX0_least_2 181 = .ok (.iload 6, 2) := dk_21 6 (dk_at dksX0_least_2_7 17 rfl rfl)
theorem dX0_least_2_183 : decode cX0_least_2 183 = .ok (.iaload, 1) := dk_46 (dk_at dksX0_least_2_7 19 rfl rfl)
theorem dX0_least_2_184 : decode cX0_least_2 184 = .ok (.iconst 1, 1) := dk_4 (dk_at dksX0_least_2_7 20 rfl rfl)
theorem dX0_least_2_185 : decode cX0_least_2 185 = .ok (.iadd, 1) := dk_96 (dk_at dksX0_least_2_7 21 rfl rfl)
theorem dX0_least_2_186 : decode cX0_least_2 186 = .ok (.istore 8, 2) := dk_54 8 (dk_at dksX0_least_2_7 22 rfl rfl)
theorem dX0_least_2_188 : decode cX0_least_2 188 = .ok (.iload 7, 2) := dk_21 7 (dk_at dksX0_least_2_8 0 rfl rfl)
theorem dX0_least_2_190 : decode cX0_least_2 190 = .ok (.aload_n 0, 1) := dk_42 (dk_at dksX0_least_2_8 2 rfl rfl)
theorem dX0_least_2_191 : decode cX0_least_2 191 = .ok (.getfield 50, 3) := dk_180 0 50 (dk_at dksX0_least_2_8 3 rfl rfl)
theorem dX0_least_2_194 : decode cX0_least_2 194 = .ok (.iload 4, 2) := dk_21 4 (dk_at dksX0_least_2_8 6 rfl rfl)
theorem dX0_least_2_196 : decode cX0_least_2 196 = .ok (.iaload, 1) := dk_46 (dk_at dksX0_least_2_8 8 rfl rfl)
theorem dX0_least_2_197 : decode cX0_least_2 197 = .ok (.if_icmp .lt 27, 3) := dk_161 0 27 (dk_at dksX0_least_2_8 9 rfl rfl)
theorem dX0_least_2_200 : decode cX0_least_2 200 = .ok (.iload 7, 2) := dk_21 7 (dk_at dksX0_least_2_8 12 rfl rfl)
theorem dX0_least_2_202 : decode cX0_least_2 202 = .ok (.aload_n 0, 1) := dk_42 (dk_at dksX0_least_2_8 14 rfl rfl)
theorem dX0_least_2_203 : decode cX0_least_2 203 = .ok (.getfield 50, 3) := dk_180 0 50 (dk_at dksX0_least_2_8 15 rfl rfl)
theorem dX0_least_2_206 : decode cX0_least_2 206 = .ok (.iload 4, 2) := dk_21 4 (dk_at dksX0_least_2_8 18 rfl rfl)
theorem dX0_least_2_208 : decode cX0_least_2 208 = .ok (.iaload, 1) := dk_46 (dk_at dksX0_least_2_8 20 rfl rfl)
theorem dX0_least_2_209 : decode cX0_least_2 209 = .ok (.if_icmp .ne 33, 3) := dk_160 0 33 (dk_at dksX0_least_2_8 21 rfl rfl)
theorem dX0_least_2_212 : decode cX0_least_2 212 = .ok (.iload 8, 2) := dk_21 8 (dk_at dksX0_least_2_9 0 rfl rfl)
theorem dX0_least_2_214 : decode cX0_least_2 214 = .ok (.aload_n 0, 1) := dk_42 (dk_at dksX0_least_2_9 2 rfl rfl)
theorem dX0_least_2_215 : decode cX0_least_2 215 = .ok (.getfield 54, 3) := dk_180 0 54 (dk_at dksX0_least_2_9 3 rfl rfl)
theorem dX0_least_2_218 : decode cX0_least_2 218 = .ok (.iload 4, 2) := dk_21 4 (dk_at dksX0_least_2_9 6 rfl rfl)
theorem dX0_least_2_220 : decode cX0_least_2 220 = .ok (.iaload, 1) := dk_46 (dk_at dksX0_least_2_9 8 rfl rfl)
theorem dX0_least_2_221 : decode cX0_least_2 221 = .ok (.if_icmp .le 21, 3) := dk_164 0 21 (dk_at dksX0_least_2_9 9 rfl rfl)
theorem dX0_least_2_224 : decode cX0_least_2 224 = .ok (.aload_n 0, 1) := dk_42 (dk_at dksX0_least_2_9 12 rfl rfl)
theorem dX0_least_2_225 : decode cX0_least_2 225 = .ok (.getfield 50, 3) := dk_180 0 50 (dk_at dksX0_least_2_9 13 rfl rfl)
theorem dX0_least_2_228 : decode cX0_least_2 228 = .ok (.iload 4, 2) := dk_21 4 (dk_at dksX0_least_2_9 16 rfl rfl)
theorem dX0_least_2_230 : decode cX0_least_2 230 = .ok (.iload 7, 2) := dk_21 7 (dk_at dksX0_least_2_9 18 rfl rfl)
theorem dX0_least_2_232 : decode cX0_least_2 232 = .ok (.iastore, 1) := dk_79 (dk_at dksX0_least_2_9 20 rfl rfl)
theorem dX0_least_2_233 : decode cX0_least_2 233 = .ok (.aload_n 0, 1) := dk_42 (dk_at dksX0_least_2_9 21 rfl rfl)
theorem dX0_least_2_234 : decode cX0_least_2 234 = .ok (.getfield 54, 3) := dk_180 0 54 (dk_at dksX0_least_2_10 0 rfl rfl)
theorem dX0_least_2_237 : decode cX0_least_2 237 = .ok (.iload 4, 2) := dk_21 4 (dk_at dksX0_least_2_10 3 rfl rfl)
theorem dX0_least_2_239 : decode cX0_least_2 239 = .ok (.iload 8, 2) := dk_21 8 (dk_at dksX0_least_2_10 5 rfl rfl)
theorem dX0_least_2_241 : decode cX0_least_2 241 = .ok (.iastore, 1) := dk_79 (dk_at dksX0_least_2_10 7 rfl rfl)
theorem dX0_least_2_242 : decode cX0_least_2 242 = .ok (.iinc 5 1, 3) := dk_132 5 1 (dk_at dksX0_least_2_10 8 rfl rfl)
theorem dX0_least_2_245 : decode cX0_least_2 245 = .ok (.goto (-152), 3) := dk_167 255 104 (dk_at dksX0_least_2_10 11 rfl rfl)
theorem dX0_least_2_248 : decode cX0_least_2 248 = .ok (.return_, 1) := dk_177 (dk_at dksX0_least_2_10 14 rfl rfl)
abbrev cX0_leaving : ByteArray := prog_1_method_43_code
def yX0_leaving : MethodName := ⟨RX0, "leaving", "(II)I"⟩
def dkwX0_leaving_2 : List UInt8 := [100, 104, 167, 0, 4, 3, 96, 62, 132, 4, 1, 167, 255, 202, 29, 172]
abbrev dktX0_leaving_2 : List UInt8 := dkwX0_leaving_2 ++ []
def dkwX0_leaving_1 : List UInt8 := [153, 0, 29, 42, 180, 0, 29, 180, 0, 184, 21, 4, 46, 28, 42, 180, 0, 29, 180, 0, 181, 21, 4, 46]
abbrev dktX0_leaving_1 : List UInt8 := dkwX0_leaving_1 ++ dktX0_leaving_2
def dkwX0_leaving_0 : List UInt8 := [3, 62, 3, 54, 4, 21, 4, 42, 180, 0, 29, 180, 0, 171, 162, 0, 48, 29, 27, 21, 4, 184, 1, 26]
abbrev dktX0_leaving_0 : List UInt8 := dkwX0_leaving_0 ++ dktX0_leaving_1
theorem dksX0_leaving_0 : cX0_leaving.data.toList.drop 0 = dktX0_leaving_0 := by decide +kernel
theorem dksX0_leaving_1 : cX0_leaving.data.toList.drop 24 = dktX0_leaving_1 := dk_seg dksX0_leaving_0 24 rfl rfl
theorem dksX0_leaving_2 : cX0_leaving.data.toList.drop 48 = dktX0_leaving_2 := dk_seg dksX0_leaving_1 24 rfl rfl
theorem dX0_leaving_0 : decode cX0_leaving 0 = .ok (.iconst 0, 1) := dk_3 (dk_at dksX0_leaving_0 0 rfl rfl)
theorem dX0_leaving_1 : decode cX0_leaving 1 = .ok (.istore_n 3, 1) := dk_62 (dk_at dksX0_leaving_0 1 rfl rfl)
theorem dX0_leaving_2 : decode cX0_leaving 2 = .ok (.iconst 0, 1) := dk_3 (dk_at dksX0_leaving_0 2 rfl rfl)
theorem dX0_leaving_3 : decode cX0_leaving 3 = .ok (.istore 4, 2) := dk_54 4 (dk_at dksX0_leaving_0 3 rfl rfl)
theorem dX0_leaving_5 : decode cX0_leaving 5 = .ok (.iload 4, 2) := dk_21 4 (dk_at dksX0_leaving_0 5 rfl rfl)
theorem dX0_leaving_7 : decode cX0_leaving 7 = .ok (.aload_n 0, 1) := dk_42 (dk_at dksX0_leaving_0 7 rfl rfl)
theorem dX0_leaving_8 : decode cX0_leaving 8 = .ok (.getfield 29, 3) := dk_180 0 29 (dk_at dksX0_leaving_0 8 rfl rfl)
theorem dX0_leaving_11 : decode cX0_leaving 11 = .ok (.getfield 171, 3) := dk_180 0 171 (dk_at dksX0_leaving_0 11 rfl rfl)
theorem dX0_leaving_14 : decode cX0_leaving 14 = .ok (.if_icmp .ge 48, 3) := dk_162 0 48 (dk_at dksX0_leaving_0 14 rfl rfl)
theorem dX0_leaving_17 : decode cX0_leaving 17 = .ok (.iload_n 3, 1) := dk_29 (dk_at dksX0_leaving_0 17 rfl rfl)
theorem dX0_leaving_18 : decode cX0_leaving 18 = .ok (.iload_n 1, 1) := dk_27 (dk_at dksX0_leaving_0 18 rfl rfl)
theorem dX0_leaving_19 : decode cX0_leaving 19 = .ok (.iload 4, 2) := dk_21 4 (dk_at dksX0_leaving_0 19 rfl rfl)
theorem dX0_leaving_21 : decode cX0_leaving 21 = .ok (.invokestatic 282, 3) := dk_184 1 26 (dk_at dksX0_leaving_0 21 rfl rfl)
theorem dX0_leaving_24 : decode cX0_leaving 24 = .ok (.ifCond .eq 29, 3) := dk_153 0 29 (dk_at dksX0_leaving_1 0 rfl rfl)
theorem dX0_leaving_27 : decode cX0_leaving 27 = .ok (.aload_n 0, 1) := dk_42 (dk_at dksX0_leaving_1 3 rfl rfl)
theorem dX0_leaving_28 : decode cX0_leaving 28 = .ok (.getfield 29, 3) := dk_180 0 29 (dk_at dksX0_leaving_1 4 rfl rfl)
theorem dX0_leaving_31 : decode cX0_leaving 31 = .ok (.getfield 184, 3) := dk_180 0 184 (dk_at dksX0_leaving_1 7 rfl rfl)
theorem dX0_leaving_34 : decode cX0_leaving 34 = .ok (.iload 4, 2) := dk_21 4 (dk_at dksX0_leaving_1 10 rfl rfl)
theorem dX0_leaving_36 : decode cX0_leaving 36 = .ok (.iaload, 1) := dk_46 (dk_at dksX0_leaving_1 12 rfl rfl)
theorem dX0_leaving_37 : decode cX0_leaving 37 = .ok (.iload_n 2, 1) := dk_28 (dk_at dksX0_leaving_1 13 rfl rfl)
theorem dX0_leaving_38 : decode cX0_leaving 38 = .ok (.aload_n 0, 1) := dk_42 (dk_at dksX0_leaving_1 14 rfl rfl)
theorem dX0_leaving_39 : decode cX0_leaving 39 = .ok (.getfield 29, 3) := dk_180 0 29 (dk_at dksX0_leaving_1 15 rfl rfl)
theorem dX0_leaving_42 : decode cX0_leaving 42 = .ok (.getfield 181, 3) := dk_180 0 181 (dk_at dksX0_leaving_1 18 rfl rfl)
theorem dX0_leaving_45 : decode cX0_leaving 45 = .ok (.iload 4, 2) := dk_21 4 (dk_at dksX0_leaving_1 21 rfl rfl)
theorem dX0_leaving_47 : decode cX0_leaving 47 = .ok (.iaload, 1) := dk_46 (dk_at dksX0_leaving_1 23 rfl rfl)
theorem dX0_leaving_48 : decode cX0_leaving 48 = .ok (.isub, 1) := dk_100 (dk_at dksX0_leaving_2 0 rfl rfl)
theorem dX0_leaving_49 : decode cX0_leaving 49 = .ok (.imul, 1) := dk_104 (dk_at dksX0_leaving_2 1 rfl rfl)
theorem dX0_leaving_50 : decode cX0_leaving 50 = .ok (.goto 4, 3) := dk_167 0 4 (dk_at dksX0_leaving_2 2 rfl rfl)
theorem dX0_leaving_53 : decode cX0_leaving 53 = .ok (.iconst 0, 1) := dk_3 (dk_at dksX0_leaving_2 5 rfl rfl)
theorem dX0_leaving_54 : decode cX0_leaving 54 = .ok (.iadd, 1) := dk_96 (dk_at dksX0_leaving_2 6 rfl rfl)
theorem dX0_leaving_55 : decode cX0_leaving 55 = .ok (.istore_n 3, 1) := dk_62 (dk_at dksX0_leaving_2 7 rfl rfl)
theorem dX0_leaving_56 : decode cX0_leaving 56 = .ok (.iinc 4 1, 3) := dk_132 4 1 (dk_at dksX0_leaving_2 8 rfl rfl)
theorem dX0_leaving_59 : decode cX0_leaving 59 = .ok (.goto (-54), 3) := dk_167 255 202 (dk_at dksX0_leaving_2 11 rfl rfl)
theorem dX0_leaving_62 : decode cX0_leaving 62 = .ok (.iload_n 3, 1) := dk_29 (dk_at dksX0_leaving_2 14 rfl rfl)
theorem dX0_leaving_63 : decode cX0_leaving 63 = .ok (.ireturn, 1) := dk_172 (dk_at dksX0_leaving_2 15 rfl rfl)
abbrev cX0_head : ByteArray := prog_1_method_46_code
def yX0_head : MethodName := ⟨RX0, "head", "()I"⟩
def dkwX0_head_3 : List UInt8 := [182, 0, 95, 167, 0, 4, 27, 172]
abbrev dktX0_head_3 : List UInt8 := dkwX0_head_3 ++ []
def dkwX0_head_2 : List UInt8 := [28, 162, 0, 8, 29, 60, 21, 4, 61, 132, 3, 1, 167, 255, 202, 27, 2, 160, 0, 12, 42, 16, 251]
abbrev dktX0_head_2 : List UInt8 := dkwX0_head_2 ++ dktX0_head_3
def dkwX0_head_1 : List UInt8 := [154, 0, 6, 167, 0, 30, 42, 29, 4, 182, 1, 7, 182, 1, 20, 54, 4, 27, 2, 159, 0, 9, 21, 4]
abbrev dktX0_head_1 : List UInt8 := dkwX0_head_1 ++ dktX0_head_2
def dkwX0_head_0 : List UInt8 := [2, 60, 3, 61, 3, 62, 29, 16, 8, 162, 0, 54, 42, 180, 0, 59, 29, 50, 180, 0, 103, 193, 0, 109]
abbrev dktX0_head_0 : List UInt8 := dkwX0_head_0 ++ dktX0_head_1
theorem dksX0_head_0 : cX0_head.data.toList.drop 0 = dktX0_head_0 := by decide +kernel
theorem dksX0_head_1 : cX0_head.data.toList.drop 24 = dktX0_head_1 := dk_seg dksX0_head_0 24 rfl rfl
theorem dksX0_head_2 : cX0_head.data.toList.drop 48 = dktX0_head_2 := dk_seg dksX0_head_1 24 rfl rfl
theorem dksX0_head_3 : cX0_head.data.toList.drop 71 = dktX0_head_3 := dk_seg dksX0_head_2 23 rfl rfl
theorem dX0_head_0 : decode cX0_head 0 = .ok (.iconst (-1), 1) := dk_2 (dk_at dksX0_head_0 0 rfl rfl)
theorem dX0_head_1 : decode cX0_head 1 = .ok (.istore_n 1, 1) := dk_60 (dk_at dksX0_head_0 1 rfl rfl)
theorem dX0_head_2 : decode cX0_head 2 = .ok (.iconst 0, 1) := dk_3 (dk_at dksX0_head_0 2 rfl rfl)
theorem dX0_head_3 : decode cX0_head 3 = .ok (.istore_n 2, 1) := dk_61 (dk_at dksX0_head_0 3 rfl rfl)
theorem dX0_head_4 : decode cX0_head 4 = .ok (.iconst 0, 1) := dk_3 (dk_at dksX0_head_0 4 rfl rfl)
theorem dX0_head_5 : decode cX0_head 5 = .ok (.istore_n 3, 1) := dk_62 (dk_at dksX0_head_0 5 rfl rfl)
theorem dX0_head_6 : decode cX0_head 6 = .ok (.iload_n 3, 1) := dk_29 (dk_at dksX0_head_0 6 rfl rfl)
theorem dX0_head_7 : decode cX0_head 7 = .ok (.bipush 8, 2) := dk_16 8 (dk_at dksX0_head_0 7 rfl rfl)
theorem dX0_head_9 : decode cX0_head 9 = .ok (.if_icmp .ge 54, 3) := dk_162 0 54 (dk_at dksX0_head_0 9 rfl rfl)
theorem dX0_head_12 : decode cX0_head 12 = .ok (.aload_n 0, 1) := dk_42 (dk_at dksX0_head_0 12 rfl rfl)
theorem dX0_head_13 : decode cX0_head 13 = .ok (.getfield 59, 3) := dk_180 0 59 (dk_at dksX0_head_0 13 rfl rfl)
theorem dX0_head_16 : decode cX0_head 16 = .ok (.iload_n 3, 1) := dk_29 (dk_at dksX0_head_0 16 rfl rfl)
theorem dX0_head_17 : decode cX0_head 17 = .ok (.aaload, 1) := dk_50 (dk_at dksX0_head_0 17 rfl rfl)
theorem dX0_head_18 : decode cX0_head 18 = .ok (.getfield 103, 3) := dk_180 0 103 (dk_at dksX0_head_0 18 rfl rfl)
theorem dX0_head_21 : decode cX0_head 21 = .ok (.instanceof 109, 3) := dk_193 0 109 (dk_at dksX0_head_0 21 rfl rfl)
theorem dX0_head_24 : decode cX0_head 24 = .ok (.ifCond .ne 6, 3) := dk_154 0 6 (dk_at dksX0_head_1 0 rfl rfl)
theorem dX0_head_27 : decode cX0_head 27 = .ok (.goto 30, 3) := dk_167 0 30 (dk_at dksX0_head_1 3 rfl rfl)
theorem dX0_head_30 : decode cX0_head 30 = .ok (.aload_n 0, 1) := dk_42 (dk_at dksX0_head_1 6 rfl rfl)
theorem dX0_head_31 : decode cX0_head 31 = .ok (.iload_n 3, 1) := dk_29 (dk_at dksX0_head_1 7 rfl rfl)
theorem dX0_head_32 : decode cX0_head 32 = .ok (.iconst 1, 1) := dk_4 (dk_at dksX0_head_1 8 rfl rfl)
theorem dX0_head_33 : decode cX0_head 33 = .ok (.invokevirtual 263, 3) := dk_182 1 7 (dk_at dksX0_head_1 9 rfl rfl)
theorem dX0_head_36 : decode cX0_head 36 = .ok (.invokevirtual 276, 3) := dk_182 1 20 (dk_at dksX0_head_1 12 rfl rfl)
theorem dX0_head_39 : decode cX0_head 39 = .ok (.istore 4, 2) := dk_54 4 (dk_at dksX0_head_1 15 rfl rfl)
theorem dX0_head_41 : decode cX0_head 41 = .ok (.iload_n 1, 1) := dk_27 (dk_at dksX0_head_1 17 rfl rfl)
theorem dX0_head_42 : decode cX0_head 42 = .ok (.iconst (-1), 1) := dk_2 (dk_at dksX0_head_1 18 rfl rfl)
theorem dX0_head_43 : decode cX0_head 43 = .ok (.if_icmp .eq 9, 3) := dk_159 0 9 (dk_at dksX0_head_1 19 rfl rfl)
theorem dX0_head_46 : decode cX0_head 46 = .ok (.iload 4, 2) := dk_21 4 (dk_at dksX0_head_1 22 rfl rfl)
theorem dX0_head_48 : decode cX0_head 48 = .ok (.iload_n 2, 1) := dk_28 (dk_at dksX0_head_2 0 rfl rfl)
theorem dX0_head_49 : decode cX0_head 49 = .ok (.if_icmp .ge 8, 3) := dk_162 0 8 (dk_at dksX0_head_2 1 rfl rfl)
theorem dX0_head_52 : decode cX0_head 52 = .ok (.iload_n 3, 1) := dk_29 (dk_at dksX0_head_2 4 rfl rfl)
theorem dX0_head_53 : decode cX0_head 53 = .ok (.istore_n 1, 1) := dk_60 (dk_at dksX0_head_2 5 rfl rfl)
theorem dX0_head_54 : decode cX0_head 54 = .ok (.iload 4, 2) := dk_21 4 (dk_at dksX0_head_2 6 rfl rfl)
theorem dX0_head_56 : decode cX0_head 56 = .ok (.istore_n 2, 1) := dk_61 (dk_at dksX0_head_2 8 rfl rfl)
theorem dX0_head_57 : decode cX0_head 57 = .ok (.iinc 3 1, 3) := dk_132 3 1 (dk_at dksX0_head_2 9 rfl rfl)
theorem dX0_head_60 : decode cX0_head 60 = .ok (.goto (-54), 3) := dk_167 255 202 (dk_at dksX0_head_2 12 rfl rfl)
theorem dX0_head_63 : decode cX0_head 63 = .ok (.iload_n 1, 1) := dk_27 (dk_at dksX0_head_2 15 rfl rfl)
theorem dX0_head_64 : decode cX0_head 64 = .ok (.iconst (-1), 1) := dk_2 (dk_at dksX0_head_2 16 rfl rfl)
theorem dX0_head_65 : decode cX0_head 65 = .ok (.if_icmp .ne 12, 3) := dk_160 0 12 (dk_at dksX0_head_2 17 rfl rfl)
theorem dX0_head_68 : decode cX0_head 68 = .ok (.aload_n 0, 1) := dk_42 (dk_at dksX0_head_2 20 rfl rfl)
theorem dX0_head_69 : decode cX0_head 69 = .ok (.bipush (-5), 2) := dk_16 251 (dk_at dksX0_head_2 21 rfl rfl)
theorem dX0_head_71 : decode cX0_head 71 = .ok (.invokevirtual 95, 3) := dk_182 0 95 (dk_at dksX0_head_3 0 rfl rfl)
theorem dX0_head_74 : decode cX0_head 74 = .ok (.goto 4, 3) := dk_167 0 4 (dk_at dksX0_head_3 3 rfl rfl)
theorem dX0_head_77 : decode cX0_head 77 = .ok (.iload_n 1, 1) := dk_27 (dk_at dksX0_head_3 6 rfl rfl)
theorem dX0_head_78 : decode cX0_head 78 = .ok (.ireturn, 1) := dk_172 (dk_at dksX0_head_3 7 rfl rfl)
abbrev cX0_days : ByteArray := prog_1_method_47_code
def yX0_days : MethodName := ⟨RX0, "days", "(I)I"⟩
def dkwX0_days_3 : List UInt8 := [42, 44, 180, 0, 122, 182, 0, 95, 172]
abbrev dktX0_days_3 : List UInt8 := dkwX0_days_3 ++ []
def dkwX0_days_2 : List UInt8 := [180, 1, 11, 158, 0, 17, 42, 180, 0, 46, 45, 182, 1, 52, 132, 4, 1, 167, 255, 215, 21, 4, 172, 77]
abbrev dktX0_days_2 : List UInt8 := dkwX0_days_2 ++ dktX0_days_3
def dkwX0_days_1 : List UInt8 := [16, 30, 162, 0, 40, 42, 180, 0, 46, 45, 42, 180, 0, 39, 45, 182, 0, 74, 44, 182, 1, 4]
abbrev dktX0_days_1 : List UInt8 := dkwX0_days_1 ++ dktX0_days_2
def dkwX0_days_0 : List UInt8 := [42, 4, 27, 182, 0, 253, 77, 42, 180, 0, 33, 42, 180, 0, 29, 182, 1, 48, 78, 3, 54, 4, 21, 4]
abbrev dktX0_days_0 : List UInt8 := dkwX0_days_0 ++ dktX0_days_1
theorem dksX0_days_0 : cX0_days.data.toList.drop 0 = dktX0_days_0 := by decide +kernel
theorem dksX0_days_1 : cX0_days.data.toList.drop 24 = dktX0_days_1 := dk_seg dksX0_days_0 24 rfl rfl
theorem dksX0_days_2 : cX0_days.data.toList.drop 46 = dktX0_days_2 := dk_seg dksX0_days_1 22 rfl rfl
theorem dksX0_days_3 : cX0_days.data.toList.drop 70 = dktX0_days_3 := dk_seg dksX0_days_2 24 rfl rfl
theorem dX0_days_0 : decode cX0_days 0 = .ok (.aload_n 0, 1) := dk_42 (dk_at dksX0_days_0 0 rfl rfl)
theorem dX0_days_1 : decode cX0_days 1 = .ok (.iconst 1, 1) := dk_4 (dk_at dksX0_days_0 1 rfl rfl)
theorem dX0_days_2 : decode cX0_days 2 = .ok (.iload_n 1, 1) := dk_27 (dk_at dksX0_days_0 2 rfl rfl)
theorem dX0_days_3 : decode cX0_days 3 = .ok (.invokevirtual 253, 3) := dk_182 0 253 (dk_at dksX0_days_0 3 rfl rfl)
theorem dX0_days_6 : decode cX0_days 6 = .ok (.astore_n 2, 1) := dk_77 (dk_at dksX0_days_0 6 rfl rfl)
theorem dX0_days_7 : decode cX0_days 7 = .ok (.aload_n 0, 1) := dk_42 (dk_at dksX0_days_0 7 rfl rfl)
theorem dX0_days_8 : decode cX0_days 8 = .ok (.getfield 33, 3) := dk_180 0 33 (dk_at dksX0_days_0 8 rfl rfl)
theorem dX0_days_11 : decode cX0_days 11 = .ok (.aload_n 0, 1) := dk_42 (dk_at dksX0_days_0 11 rfl rfl)
theorem dX0_days_12 : decode cX0_days 12 = .ok (.getfield 29, 3) := dk_180 0 29 (dk_at dksX0_days_0 12 rfl rfl)
theorem dX0_days_15 : decode cX0_days 15 = .ok (.invokevirtual 304, 3) := dk_182 1 48 (dk_at dksX0_days_0 15 rfl rfl)
theorem dX0_days_18 : decode cX0_days 18 = .ok (.astore_n 3, 1) := dk_78 (dk_at dksX0_days_0 18 rfl rfl)
theorem dX0_days_19 : decode cX0_days 19 = .ok (.iconst 0, 1) := dk_3 (dk_at dksX0_days_0 19 rfl rfl)
theorem dX0_days_20 : decode cX0_days 20 = .ok (.istore 4, 2) := dk_54 4 (dk_at dksX0_days_0 20 rfl rfl)
theorem dX0_days_22 : decode cX0_days 22 = .ok (.iload 4, 2) := dk_21 4 (dk_at dksX0_days_0 22 rfl rfl)
theorem dX0_days_24 : decode cX0_days 24 = .ok (.bipush 30, 2) := dk_16 30 (dk_at dksX0_days_1 0 rfl rfl)
theorem dX0_days_26 : decode cX0_days 26 = .ok (.if_icmp .ge 40, 3) := dk_162 0 40 (dk_at dksX0_days_1 2 rfl rfl)
theorem dX0_days_29 : decode cX0_days 29 = .ok (.aload_n 0, 1) := dk_42 (dk_at dksX0_days_1 5 rfl rfl)
theorem dX0_days_30 : decode cX0_days 30 = .ok (.getfield 46, 3) := dk_180 0 46 (dk_at dksX0_days_1 6 rfl rfl)
theorem dX0_days_33 : decode cX0_days 33 = .ok (.aload_n 3, 1) := dk_45 (dk_at dksX0_days_1 9 rfl rfl)
theorem dX0_days_34 : decode cX0_days 34 = .ok (.aload_n 0, 1) := dk_42 (dk_at dksX0_days_1 10 rfl rfl)
theorem dX0_days_35 : decode cX0_days 35 = .ok (.getfield 39, 3) := dk_180 0 39 (dk_at dksX0_days_1 11 rfl rfl)
theorem dX0_days_38 : decode cX0_days 38 = .ok (.aload_n 3, 1) := dk_45 (dk_at dksX0_days_1 14 rfl rfl)
theorem dX0_days_39 : decode cX0_days 39 = .ok (.invokevirtual 74, 3) := dk_182 0 74 (dk_at dksX0_days_1 15 rfl rfl)
theorem dX0_days_42 : decode cX0_days 42 = .ok (.aload_n 2, 1) := dk_44 (dk_at dksX0_days_1 18 rfl rfl)
theorem dX0_days_43 : decode cX0_days 43 = .ok (.invokevirtual 260, 3) := dk_182 1 4 (dk_at dksX0_days_1 19 rfl rfl)
theorem dX0_days_46 : decode cX0_days 46 = .ok (.getfield 267, 3) := dk_180 1 11 (dk_at dksX0_days_2 0 rfl rfl)
theorem dX0_days_49 : decode cX0_days 49 = .ok (.ifCond .le 17, 3) := dk_158 0 17 (dk_at dksX0_days_2 3 rfl rfl)
theorem dX0_days_52 : decode cX0_days 52 = .ok (.aload_n 0, 1) := dk_42 (dk_at dksX0_days_2 6 rfl rfl)
theorem dX0_days_53 : decode cX0_days 53 = .ok (.getfield 46, 3) := dk_180 0 46 (dk_at dksX0_days_2 7 rfl rfl)
theorem dX0_days_56 : decode cX0_days 56 = .ok (.aload_n 3, 1) := dk_45 (dk_at dksX0_days_2 10 rfl rfl)
theorem dX0_days_57 : decode cX0_days 57 = .ok (.invokevirtual 308, 3) := dk_182 1 52 (dk_at dksX0_days_2 11 rfl rfl)
theorem dX0_days_60 : decode cX0_days 60 = .ok (.iinc 4 1, 3) := dk_132 4 1 (dk_at dksX0_days_2 14 rfl rfl)
theorem dX0_days_63 : decode cX0_days 63 = .ok (.goto (-41), 3) := dk_167 255 215 (dk_at dksX0_days_2 17 rfl rfl)
theorem dX0_days_66 : decode cX0_days 66 = .ok (.iload 4, 2) := dk_21 4 (dk_at dksX0_days_2 20 rfl rfl)
theorem dX0_days_68 : decode cX0_days 68 = .ok (.ireturn, 1) := dk_172 (dk_at dksX0_days_2 22 rfl rfl)
theorem dX0_days_69 : decode cX0_days 69 = .ok (.astore_n 2, 1) := dk_77 (dk_at dksX0_days_2 23 rfl rfl)
theorem dX0_days_70 : decode cX0_days 70 = .ok (.aload_n 0, 1) := dk_42 (dk_at dksX0_days_3 0 rfl rfl)
theorem dX0_days_71 : decode cX0_days 71 = .ok (.aload_n 2, 1) := dk_44 (dk_at dksX0_days_3 1 rfl rfl)
theorem dX0_days_72 : decode cX0_days 72 = .ok (.getfield 122, 3) := dk_180 0 122 (dk_at dksX0_days_3 2 rfl rfl)
theorem dX0_days_75 : decode cX0_days 75 = .ok (.invokevirtual 95, 3) := dk_182 0 95 (dk_at dksX0_days_3 5 rfl rfl)
theorem dX0_days_78 : decode cX0_days 78 = .ok (.ireturn, 1) := dk_172 (dk_at dksX0_days_3 8 rfl rfl)
abbrev cX0_ever : ByteArray := prog_1_method_48_code
def yX0_ever : MethodName := ⟨RX0, "ever", "(I)I"⟩
def dkwX0_ever_1 : List UInt8 := [27, 154, 0, 13, 42, 180, 0, 39, 180, 1, 59, 167, 0, 10, 42, 180, 0, 39, 180, 1, 62, 172]
abbrev dktX0_ever_1 : List UInt8 := dkwX0_ever_1 ++ []
def dkwX0_ever_0 : List UInt8 := [27, 3, 4, 184, 0, 70, 154, 0, 10, 42, 16, 254, 182, 0, 95, 172, 42, 182, 0, 152, 182, 1, 56, 87]
abbrev dktX0_ever_0 : List UInt8 := dkwX0_ever_0 ++ dktX0_ever_1
theorem dksX0_ever_0 : cX0_ever.data.toList.drop 0 = dktX0_ever_0 := by decide +kernel
theorem dksX0_ever_1 : cX0_ever.data.toList.drop 24 = dktX0_ever_1 := dk_seg dksX0_ever_0 24 rfl rfl
theorem dX0_ever_0 : decode cX0_ever 0 = .ok (.iload_n 1, 1) := dk_27 (dk_at dksX0_ever_0 0 rfl rfl)
theorem dX0_ever_1 : decode cX0_ever 1 = .ok (.iconst 0, 1) := dk_3 (dk_at dksX0_ever_0 1 rfl rfl)
theorem dX0_ever_2 : decode cX0_ever 2 = .ok (.iconst 1, 1) := dk_4 (dk_at dksX0_ever_0 2 rfl rfl)
theorem dX0_ever_3 : decode cX0_ever 3 = .ok (.invokestatic 70, 3) := dk_184 0 70 (dk_at dksX0_ever_0 3 rfl rfl)
theorem dX0_ever_6 : decode cX0_ever 6 = .ok (.ifCond .ne 10, 3) := dk_154 0 10 (dk_at dksX0_ever_0 6 rfl rfl)
theorem dX0_ever_9 : decode cX0_ever 9 = .ok (.aload_n 0, 1) := dk_42 (dk_at dksX0_ever_0 9 rfl rfl)
theorem dX0_ever_10 : decode cX0_ever 10 = .ok (.bipush (-2), 2) := dk_16 254 (dk_at dksX0_ever_0 10 rfl rfl)
theorem dX0_ever_12 : decode cX0_ever 12 = .ok (.invokevirtual 95, 3) := dk_182 0 95 (dk_at dksX0_ever_0 12 rfl rfl)
theorem dX0_ever_15 : decode cX0_ever 15 = .ok (.ireturn, 1) := dk_172 (dk_at dksX0_ever_0 15 rfl rfl)
theorem dX0_ever_16 : decode cX0_ever 16 = .ok (.aload_n 0, 1) := dk_42 (dk_at dksX0_ever_0 16 rfl rfl)
theorem dX0_ever_17 : decode cX0_ever 17 = .ok (.invokevirtual 152, 3) := dk_182 0 152 (dk_at dksX0_ever_0 17 rfl rfl)
theorem dX0_ever_20 : decode cX0_ever 20 = .ok (.invokevirtual 312, 3) := dk_182 1 56 (dk_at dksX0_ever_0 20 rfl rfl)
theorem dX0_ever_23 : decode cX0_ever 23 = .ok (.pop, 1) := dk_87 (dk_at dksX0_ever_0 23 rfl rfl)
theorem dX0_ever_24 : decode cX0_ever 24 = .ok (.iload_n 1, 1) := dk_27 (dk_at dksX0_ever_1 0 rfl rfl)
theorem dX0_ever_25 : decode cX0_ever 25 = .ok (.ifCond .ne 13, 3) := dk_154 0 13 (dk_at dksX0_ever_1 1 rfl rfl)
theorem dX0_ever_28 : decode cX0_ever 28 = .ok (.aload_n 0, 1) := dk_42 (dk_at dksX0_ever_1 4 rfl rfl)
theorem dX0_ever_29 : decode cX0_ever 29 = .ok (.getfield 39, 3) := dk_180 0 39 (dk_at dksX0_ever_1 5 rfl rfl)
theorem dX0_ever_32 : decode cX0_ever 32 = .ok (.getfield 315, 3) := dk_180 1 59 (dk_at dksX0_ever_1 8 rfl rfl)
theorem dX0_ever_35 : decode cX0_ever 35 = .ok (.goto 10, 3) := dk_167 0 10 (dk_at dksX0_ever_1 11 rfl rfl)
theorem dX0_ever_38 : decode cX0_ever 38 = .ok (.aload_n 0, 1) := dk_42 (dk_at dksX0_ever_1 14 rfl rfl)
theorem dX0_ever_39 : decode cX0_ever 39 = .ok (.getfield 39, 3) := dk_180 0 39 (dk_at dksX0_ever_1 15 rfl rfl)
theorem dX0_ever_42 : decode cX0_ever 42 = .ok (.getfield 318, 3) := dk_180 1 62 (dk_at dksX0_ever_1 18 rfl rfl)
theorem dX0_ever_45 : decode cX0_ever 45 = .ok (.ireturn, 1) := dk_172 (dk_at dksX0_ever_1 21 rfl rfl)
abbrev cX0_hire : ByteArray := prog_1_method_49_code
def yX0_hire : MethodName := ⟨RX0, "hire", "()I"⟩
def dkwX0_hire_4 : List UInt8 := [132, 4, 1, 167, 255, 185, 3, 29, 28, 100, 184, 1, 68, 172]
abbrev dktX0_hire_4 : List UInt8 := dkwX0_hire_4 ++ []
def dkwX0_hire_3 : List UInt8 := [29, 4, 42, 180, 0, 39, 27, 21, 4, 2, 130, 126, 182, 0, 247, 96, 184, 1, 68, 167, 0, 4, 29, 62]
abbrev dktX0_hire_3 : List UInt8 := dkwX0_hire_3 ++ dktX0_hire_4
def dkwX0_hire_2 : List UInt8 := [160, 0, 16, 42, 21, 4, 182, 1, 65, 153, 0, 7, 4, 167, 0, 4, 3, 54, 5, 21, 5, 153, 0, 25]
abbrev dktX0_hire_2 : List UInt8 := dkwX0_hire_2 ++ dktX0_hire_3
def dkwX0_hire_1 : List UInt8 := [4, 54, 4, 21, 4, 27, 163, 0, 71, 21, 4, 184, 0, 230, 42, 180, 0, 29, 180, 0, 198, 4, 100]
abbrev dktX0_hire_1 : List UInt8 := dkwX0_hire_1 ++ dktX0_hire_2
def dkwX0_hire_0 : List UInt8 := [42, 182, 0, 152, 87, 42, 180, 0, 29, 182, 0, 155, 60, 42, 180, 0, 39, 27, 182, 0, 247, 61, 3, 62]
abbrev dktX0_hire_0 : List UInt8 := dkwX0_hire_0 ++ dktX0_hire_1
theorem dksX0_hire_0 : cX0_hire.data.toList.drop 0 = dktX0_hire_0 := by decide +kernel
theorem dksX0_hire_1 : cX0_hire.data.toList.drop 24 = dktX0_hire_1 := dk_seg dksX0_hire_0 24 rfl rfl
theorem dksX0_hire_2 : cX0_hire.data.toList.drop 47 = dktX0_hire_2 := dk_seg dksX0_hire_1 23 rfl rfl
theorem dksX0_hire_3 : cX0_hire.data.toList.drop 71 = dktX0_hire_3 := dk_seg dksX0_hire_2 24 rfl rfl
theorem dksX0_hire_4 : cX0_hire.data.toList.drop 95 = dktX0_hire_4 := dk_seg dksX0_hire_3 24 rfl rfl
theorem dX0_hire_0 : decode cX0_hire 0 = .ok (.aload_n 0, 1) := dk_42 (dk_at dksX0_hire_0 0 rfl rfl)
theorem dX0_hire_1 : decode cX0_hire 1 = .ok (.invokevirtual 152, 3) := dk_182 0 152 (dk_at dksX0_hire_0 1 rfl rfl)
theorem dX0_hire_4 : decode cX0_hire 4 = .ok (.pop, 1) := dk_87 (dk_at dksX0_hire_0 4 rfl rfl)
theorem dX0_hire_5 : decode cX0_hire 5 = .ok (.aload_n 0, 1) := dk_42 (dk_at dksX0_hire_0 5 rfl rfl)
theorem dX0_hire_6 : decode cX0_hire 6 = .ok (.getfield 29, 3) := dk_180 0 29 (dk_at dksX0_hire_0 6 rfl rfl)
theorem dX0_hire_9 : decode cX0_hire 9 = .ok (.invokevirtual 155, 3) := dk_182 0 155 (dk_at dksX0_hire_0 9 rfl rfl)
theorem dX0_hire_12 : decode cX0_hire 12 = .ok (.istore_n 1, 1) := dk_60 (dk_at dksX0_hire_0 12 rfl rfl)
theorem dX0_hire_13 : decode cX0_hire 13 = .ok (.aload_n 0, 1) := dk_42 (dk_at dksX0_hire_0 13 rfl rfl)
theorem dX0_hire_14 : decode cX0_hire 14 = .ok (.getfield 39, 3) := dk_180 0 39 (dk_at dksX0_hire_0 14 rfl rfl)
theorem dX0_hire_17 : decode cX0_hire 17 = .ok (.iload_n 1, 1) := dk_27 (dk_at dksX0_hire_0 17 rfl rfl)
theorem dX0_hire_18 : decode cX0_hire 18 = .ok (.invokevirtual 247, 3) := dk_182 0 247 (dk_at dksX0_hire_0 18 rfl rfl)
theorem dX0_hire_21 : decode cX0_hire 21 = .ok (.istore_n 2, 1) := dk_61 (dk_at dksX0_hire_0 21 rfl rfl)
theorem dX0_hire_22 : decode cX0_hire 22 = .ok (.iconst 0, 1) := dk_3 (dk_at dksX0_hire_0 22 rfl rfl)
theorem dX0_hire_23 : decode cX0_hire 23 = .ok (.istore_n 3, 1) := dk_62 (dk_at dksX0_hire_0 23 rfl rfl)
theorem dX0_hire_24 : decode cX0_hire 24 = .ok (.iconst 1, 1) := dk_4 (dk_at dksX0_hire_1 0 rfl rfl)
theorem dX0_hire_25 : decode cX0_hire 25 = .ok (.istore 4, 2) := dk_54 4 (dk_at dksX0_hire_1 1 rfl rfl)
theorem dX0_hire_27 : decode cX0_hire 27 = .ok (.iload 4, 2) := dk_21 4 (dk_at dksX0_hire_1 3 rfl rfl)
theorem dX0_hire_29 : decode cX0_hire 29 = .ok (.iload_n 1, 1) := dk_27 (dk_at dksX0_hire_1 5 rfl rfl)
theorem dX0_hire_30 : decode cX0_hire 30 = .ok (.if_icmp .gt 71, 3) := dk_163 0 71 (dk_at dksX0_hire_1 6 rfl rfl)
theorem dX0_hire_33 : decode cX0_hire 33 = .ok (.iload 4, 2) := dk_21 4 (dk_at dksX0_hire_1 9 rfl rfl)
theorem dX0_hire_35 : decode cX0_hire 35 = .ok (.invokestatic 230, 3) := dk_184 0 230 (dk_at dksX0_hire_1 11 rfl rfl)
theorem dX0_hire_38 : decode cX0_hire 38 = .ok (.aload_n 0, 1) := dk_42 (dk_at dksX0_hire_1 14 rfl rfl)
theorem dX0_hire_39 : decode cX0_hire 39 = .ok (.getfield 29, 3) := dk_180 0 29 (dk_at dksX0_hire_1 15 rfl rfl)
theorem dX0_hire_42 : decode cX0_hire 42 = .ok (.getfield 198, 3) := dk_180 0 198 (dk_at dksX0_hire_1 18 rfl rfl)
theorem dX0_hire_45 : decode cX0_hire 45 = .ok (.iconst 1, 1) := dk_4 (dk_at dksX0_hire_1 21 rfl rfl)
theorem dX0_hire_46 : decode cX0_hire 46 = .ok (.isub, 1) := dk_100 (dk_at dksX0_hire_1 22 rfl rfl)
theorem dX0_hire_47 : decode cX0_hire 47 = .ok (.if_icmp .ne 16, 3) := dk_160 0 16 (dk_at dksX0_hire_2 0 rfl rfl)
theorem dX0_hire_50 : decode cX0_hire 50 = .ok (.aload_n 0, 1) := dk_42 (dk_at dksX0_hire_2 3 rfl rfl)
theorem dX0_hire_51 : decode cX0_hire 51 = .ok (.iload 4, 2) := dk_21 4 (dk_at dksX0_hire_2 4 rfl rfl)
theorem dX0_hire_53 : decode cX0_hire 53 = .ok (.invokevirtual 321, 3) := dk_182 1 65 (dk_at dksX0_hire_2 6 rfl rfl)
theorem dX0_hire_56 : decode cX0_hire 56 = .ok (.ifCond .eq 7, 3) := dk_153 0 7 (dk_at dksX0_hire_2 9 rfl rfl)
theorem dX0_hire_59 : decode cX0_hire 59 = .ok (.iconst 1, 1) := dk_4 (dk_at dksX0_hire_2 12 rfl rfl)
theorem dX0_hire_60 : decode cX0_hire 60 = .ok (.goto 4, 3) := dk_167 0 4 (dk_at dksX0_hire_2 13 rfl rfl)
theorem dX0_hire_63 : decode cX0_hire 63 = .ok (.iconst 0, 1) := dk_3 (dk_at dksX0_hire_2 16 rfl rfl)
theorem dX0_hire_64 : decode cX0_hire 64 = .ok (.istore 5, 2) := dk_54 5 (dk_at dksX0_hire_2 17 rfl rfl)
theorem dX0_hire_66 : decode cX0_hire 66 = .ok (.iload 5, 2) := dk_21 5 (dk_at dksX0_hire_2 19 rfl rfl)
theorem dX0_hire_68 : decode cX0_hire 68 = .ok (.ifCond .eq 25, 3) := dk_153 0 25 (dk_at dksX0_hire_2 21 rfl rfl)
theorem dX0_hire_71 : decode cX0_hire 71 = .ok (.iload_n 3, 1) := dk_29 (dk_at dksX0_hire_3 0 rfl rfl)
theorem dX0_hire_72 : decode cX0_hire 72 = .ok (.iconst 1, 1) := dk_4 (dk_at dksX0_hire_3 1 rfl rfl)
theorem dX0_hire_73 : decode cX0_hire 73 = .ok (.aload_n 0, 1) := dk_42 (dk_at dksX0_hire_3 2 rfl rfl)
theorem dX0_hire_74 : decode cX0_hire 74 = .ok (.getfield 39, 3) := dk_180 0 39 (dk_at dksX0_hire_3 3 rfl rfl)
theorem dX0_hire_77 : decode cX0_hire 77 = .ok (.iload_n 1, 1) := dk_27 (dk_at dksX0_hire_3 6 rfl rfl)
theorem dX0_hire_78 : decode cX0_hire 78 = .ok (.iload 4, 2) := dk_21 4 (dk_at dksX0_hire_3 7 rfl rfl)
theorem dX0_hire_80 : decode cX0_hire 80 = .ok (.iconst (-1), 1) := dk_2 (dk_at dksX0_hire_3 9 rfl rfl)
theorem dX0_hire_81 : decode cX0_hire 81 = .ok (.ixor, 1) := dk_130 (dk_at dksX0_hire_3 10 rfl rfl)
theorem dX0_hire_82 : decode cX0_hire 82 = .ok (.iand, 1) := dk_126 (dk_at dksX0_hire_3 11 rfl rfl)
theorem dX0_hire_83 : decode cX0_hire 83 = .ok (.invokevirtual 247, 3) := dk_182 0 247 (dk_at dksX0_hire_3 12 rfl rfl)
theorem dX0_hire_86 : decode cX0_hire 86 = .ok (.iadd, 1) := dk_96 (dk_at dksX0_hire_3 15 rfl rfl)
theorem dX0_hire_87 : decode cX0_hire 87 = .ok (.invokestatic 324, 3) := dk_184 1 68 (dk_at dksX0_hire_3 16 rfl rfl)
theorem dX0_hire_90 : decode cX0_hire 90 = .ok (.goto 4, 3) := dk_167 0 4 (dk_at dksX0_hire_3 19 rfl rfl)
theorem dX0_hire_93 : decode cX0_hire 93 = .ok (.iload_n 3, 1) := dk_29 (dk_at dksX0_hire_3 22 rfl rfl)
theorem dX0_hire_94 : decode cX0_hire 94 = .ok (.istore_n 3, 1) := dk_62 (dk_at dksX0_hire_3 23 rfl rfl)
theorem dX0_hire_95 : decode cX0_hire 95 = .ok (.iinc 4 1, 3) := dk_132 4 1 (dk_at dksX0_hire_4 0 rfl rfl)
theorem dX0_hire_98 : decode cX0_hire 98 = .ok (.goto (-71), 3) := dk_167 255 185 (dk_at dksX0_hire_4 3 rfl rfl)
theorem dX0_hire_101 : decode cX0_hire 101 = .ok (.iconst 0, 1) := dk_3 (dk_at dksX0_hire_4 6 rfl rfl)
theorem dX0_hire_102 : decode cX0_hire 102 = .ok (.iload_n 3, 1) := dk_29 (dk_at dksX0_hire_4 7 rfl rfl)
theorem dX0_hire_103 : decode cX0_hire 103 = .ok (.iload_n 2, 1) := dk_28 (dk_at dksX0_hire_4 8 rfl rfl)
theorem dX0_hire_104 : decode cX0_hire 104 = .ok (.isub, 1) := dk_100 (dk_at dksX0_hire_4 9 rfl rfl)
theorem dX0_hire_105 : decode cX0_hire 105 = .ok (.invokestatic 324, 3) := dk_184 1 68 (dk_at dksX0_hire_4 10 rfl rfl)
theorem dX0_hire_108 : decode cX0_hire 108 = .ok (.ireturn, 1) := dk_172 (dk_at dksX0_hire_4 13 rfl rfl)
abbrev cX0_areStrangers : ByteArray := prog_1_method_50_code
def yX0_areStrangers : MethodName := ⟨RX0, "areStrangers", "(I)Z"⟩
def dkwX0_areStrangers_2 : List UInt8 := [167, 255, 211, 4, 172]
abbrev dktX0_areStrangers_2 : List UInt8 := dkwX0_areStrangers_2 ++ []
def dkwX0_areStrangers_1 : List UInt8 := [120, 2, 130, 126, 42, 180, 0, 29, 28, 182, 0, 227, 2, 130, 126, 153, 0, 5, 3, 172, 132, 2, 1]
abbrev dktX0_areStrangers_1 : List UInt8 := dkwX0_areStrangers_1 ++ dktX0_areStrangers_2
def dkwX0_areStrangers_0 : List UInt8 := [3, 61, 28, 42, 180, 0, 29, 180, 0, 171, 162, 0, 40, 27, 28, 184, 1, 26, 153, 0, 26, 27, 4, 28]
abbrev dktX0_areStrangers_0 : List UInt8 := dkwX0_areStrangers_0 ++ dktX0_areStrangers_1
theorem dksX0_areStrangers_0 : cX0_areStrangers.data.toList.drop 0 = dktX0_areStrangers_0 := by decide +kernel
theorem dksX0_areStrangers_1 : cX0_areStrangers.data.toList.drop 24 = dktX0_areStrangers_1 := dk_seg dksX0_areStrangers_0 24 rfl rfl
theorem dksX0_areStrangers_2 : cX0_areStrangers.data.toList.drop 47 = dktX0_areStrangers_2 := dk_seg dksX0_areStrangers_1 23 rfl rfl
theorem dX0_areStrangers_0 : decode cX0_areStrangers 0 = .ok (.iconst 0, 1) := dk_3 (dk_at dksX0_areStrangers_0 0 rfl rfl)
theorem dX0_areStrangers_1 : decode cX0_areStrangers 1 = .ok (.istore_n 2, 1) := dk_61 (dk_at dksX0_areStrangers_0 1 rfl rfl)
theorem dX0_areStrangers_2 : decode cX0_areStrangers 2 = .ok (.iload_n 2, 1) := dk_28 (dk_at dksX0_areStrangers_0 2 rfl rfl)
theorem dX0_areStrangers_3 : decode cX0_areStrangers 3 = .ok (.aload_n 0, 1) := dk_42 (dk_at dksX0_areStrangers_0 3 rfl rfl)
theorem dX0_areStrangers_4 : decode cX0_areStrangers 4 = .ok (.getfield 29, 3) := dk_180 0 29 (dk_at dksX0_areStrangers_0 4 rfl rfl)
theorem dX0_areStrangers_7 : decode cX0_areStrangers 7 = .ok (.getfield 171, 3) := dk_180 0 171 (dk_at dksX0_areStrangers_0 7 rfl rfl)
theorem dX0_areStrangers_10 : decode cX0_areStrangers 10 = .ok (.if_icmp .ge 40, 3) := dk_162 0 40 (dk_at dksX0_areStrangers_0 10 rfl rfl)
theorem dX0_areStrangers_13 : decode cX0_areStrangers 13 = .ok (.iload_n 1, 1) := dk_27 (dk_at dksX0_areStrangers_0 13 rfl rfl)
theorem dX0_areStrangers_14 : decode cX0_areStrangers 14 = .ok (.iload_n 2, 1) := dk_28 (dk_at dksX0_areStrangers_0 14 rfl rfl)
theorem dX0_areStrangers_15 : decode cX0_areStrangers 15 = .ok (.invokestatic 282, 3) := dk_184 1 26 (dk_at dksX0_areStrangers_0 15 rfl rfl)
theorem dX0_areStrangers_18 : decode cX0_areStrangers 18 = .ok (.ifCond .eq 26, 3) := dk_153 0 26 (dk_at dksX0_areStrangers_0 18 rfl rfl)
theorem dX0_areStrangers_21 : decode cX0_areStrangers 21 = .ok (.iload_n 1, 1) := dk_27 (dk_at dksX0_areStrangers_0 21 rfl rfl)
theorem dX0_areStrangers_22 : decode cX0_areStrangers 22 = .ok (.iconst 1, 1) := dk_4 (dk_at dksX0_areStrangers_0 22 rfl rfl)
theorem dX0_areStrangers_23 : decode cX0_areStrangers 23 = .ok (.iload_n 2, 1) := dk_28 (dk_at dksX0_areStrangers_0 23 rfl rfl)
theorem dX0_areStrangers_24 : decode cX0_areStrangers 24 = .ok (.ishl, 1) := dk_120 (dk_at dksX0_areStrangers_1 0 rfl rfl)
theorem dX0_areStrangers_25 : decode cX0_areStrangers 25 = .ok (.iconst (-1), 1) := dk_2 (dk_at dksX0_areStrangers_1 1 rfl rfl)
theorem dX0_areStrangers_26 : decode cX0_areStrangers 26 = .ok (.ixor, 1) := dk_130 (dk_at dksX0_areStrangers_1 2 rfl rfl)
theorem dX0_areStrangers_27 : decode cX0_areStrangers 27 = .ok (.iand, 1) := dk_126 (dk_at dksX0_areStrangers_1 3 rfl rfl)
theorem dX0_areStrangers_28 : decode cX0_areStrangers 28 = .ok (.aload_n 0, 1) := dk_42 (dk_at dksX0_areStrangers_1 4 rfl rfl)
theorem dX0_areStrangers_29 : decode cX0_areStrangers 29 = .ok (.getfield 29, 3) := dk_180 0 29 (dk_at dksX0_areStrangers_1 5 rfl rfl)
theorem dX0_areStrangers_32 : decode cX0_areStrangers 32 = .ok (.iload_n 2, 1) := dk_28 (dk_at dksX0_areStrangers_1 8 rfl rfl)
theorem dX0_areStrangers_33 : decode cX0_areStrangers 33 = .ok (.invokevirtual 227, 3) := dk_182 0 227 (dk_at dksX0_areStrangers_1 9 rfl rfl)
theorem dX0_areStrangers_36 : decode cX0_areStrangers 36 = .ok (.iconst (-1), 1) := dk_2 (dk_at dksX0_areStrangers_1 12 rfl rfl)
theorem dX0_areStrangers_37 : decode cX0_areStrangers 37 = .ok (.ixor, 1) := dk_130 (dk_at dksX0_areStrangers_1 13 rfl rfl)
theorem dX0_areStrangers_38 : decode cX0_areStrangers 38 = .ok (.iand, 1) := dk_126 (dk_at dksX0_areStrangers_1 14 rfl rfl)
theorem dX0_areStrangers_39 : decode cX0_areStrangers 39 = .ok (.ifCond .eq 5, 3) := dk_153 0 5 (dk_at dksX0_areStrangers_1 15 rfl rfl)
theorem dX0_areStrangers_42 : decode cX0_areStrangers 42 = .ok (.iconst 0, 1) := dk_3 (dk_at dksX0_areStrangers_1 18 rfl rfl)
theorem dX0_areStrangers_43 : decode cX0_areStrangers 43 = .ok (.ireturn, 1) := dk_172 (dk_at dksX0_areStrangers_1 19 rfl rfl)
theorem dX0_areStrangers_44 : decode cX0_areStrangers 44 = .ok (.iinc 2 1, 3) := dk_132 2 1 (dk_at dksX0_areStrangers_1 20 rfl rfl)
theorem dX0_areStrangers_47 : decode cX0_areStrangers 47 = .ok (.goto (-45), 3) := dk_167 255 211 (dk_at dksX0_areStrangers_2 0 rfl rfl)
theorem dX0_areStrangers_50 : decode cX0_areStrangers 50 = .ok (.iconst 1, 1) := dk_4 (dk_at dksX0_areStrangers_2 3 rfl rfl)
theorem dX0_areStrangers_51 : decode cX0_areStrangers 51 = .ok (.ireturn, 1) := dk_172 (dk_at dksX0_areStrangers_2 4 rfl rfl)
abbrev cX0_feast : ByteArray := prog_1_method_51_code
def yX0_feast : MethodName := ⟨RX0, "feast", "(I)I"⟩
def dkwX0_feast_2 : List UInt8 := [87, 28, 42, 180, 0, 39, 45, 182, 0, 74, 182, 1, 56, 180, 1, 59, 100, 172]
abbrev dktX0_feast_2 : List UInt8 := dkwX0_feast_2 ++ []
def dkwX0_feast_1 : List UInt8 := [182, 1, 56, 180, 1, 59, 61, 42, 180, 0, 33, 42, 180, 0, 29, 182, 1, 48, 78, 45, 27, 182, 1, 73]
abbrev dktX0_feast_1 : List UInt8 := dkwX0_feast_1 ++ dktX0_feast_2
def dkwX0_feast_0 : List UInt8 := [42, 180, 0, 29, 27, 182, 0, 235, 154, 0, 10, 42, 16, 254, 182, 0, 95, 172, 42, 182, 0, 152]
abbrev dktX0_feast_0 : List UInt8 := dkwX0_feast_0 ++ dktX0_feast_1
theorem dksX0_feast_0 : cX0_feast.data.toList.drop 0 = dktX0_feast_0 := by decide +kernel
theorem dksX0_feast_1 : cX0_feast.data.toList.drop 22 = dktX0_feast_1 := dk_seg dksX0_feast_0 22 rfl rfl
theorem dksX0_feast_2 : cX0_feast.data.toList.drop 46 = dktX0_feast_2 := dk_seg dksX0_feast_1 24 rfl rfl
theorem dX0_feast_0 : decode cX0_feast 0 = .ok (.aload_n 0, 1) := dk_42 (dk_at dksX0_feast_0 0 rfl rfl)
theorem dX0_feast_1 : decode cX0_feast 1 = .ok (.getfield 29, 3) := dk_180 0 29 (dk_at dksX0_feast_0 1 rfl rfl)
theorem dX0_feast_4 : decode cX0_feast 4 = .ok (.iload_n 1, 1) := dk_27 (dk_at dksX0_feast_0 4 rfl rfl)
theorem dX0_feast_5 : decode cX0_feast 5 = .ok (.invokevirtual 235, 3) := dk_182 0 235 (dk_at dksX0_feast_0 5 rfl rfl)
theorem dX0_feast_8 : decode cX0_feast 8 = .ok (.ifCond .ne 10, 3) := dk_154 0 10 (dk_at dksX0_feast_0 8 rfl rfl)
theorem dX0_feast_11 : decode cX0_feast 11 = .ok (.aload_n 0, 1) := dk_42 (dk_at dksX0_feast_0 11 rfl rfl)
theorem dX0_feast_12 : decode cX0_feast 12 = .ok (.bipush (-2), 2) := dk_16 254 (dk_at dksX0_feast_0 12 rfl rfl)
theorem dX0_feast_14 : decode cX0_feast 14 = .ok (.invokevirtual 95, 3) := dk_182 0 95 (dk_at dksX0_feast_0 14 rfl rfl)
theorem dX0_feast_17 : decode cX0_feast 17 = .ok (.ireturn, 1) := dk_172 (dk_at dksX0_feast_0 17 rfl rfl)
theorem dX0_feast_18 : decode cX0_feast 18 = .ok (.aload_n 0, 1) := dk_42 (dk_at dksX0_feast_0 18 rfl rfl)
theorem dX0_feast_19 : decode cX0_feast 19 = .ok (.invokevirtual 152, 3) := dk_182 0 152 (dk_at dksX0_feast_0 19 rfl rfl)
theorem dX0_feast_22 : decode cX0_feast 22 = .ok (.invokevirtual 312, 3) := dk_182 1 56 (dk_at dksX0_feast_1 0 rfl rfl)
theorem dX0_feast_25 : decode cX0_feast 25 = .ok (.getfield 315, 3) := dk_180 1 59 (dk_at dksX0_feast_1 3 rfl rfl)
theorem dX0_feast_28 : decode cX0_feast 28 = .ok (.istore_n 2, 1) := dk_61 (dk_at dksX0_feast_1 6 rfl rfl)
theorem dX0_feast_29 : decode cX0_feast 29 = .ok (.aload_n 0, 1) := dk_42 (dk_at dksX0_feast_1 7 rfl rfl)
theorem dX0_feast_30 : decode cX0_feast 30 = .ok (.getfield 33, 3) := dk_180 0 33 (dk_at dksX0_feast_1 8 rfl rfl)
theorem dX0_feast_33 : decode cX0_feast 33 = .ok (.aload_n 0, 1) := dk_42 (dk_at dksX0_feast_1 11 rfl rfl)
theorem dX0_feast_34 : decode cX0_feast 34 = .ok (.getfield 29, 3) := dk_180 0 29 (dk_at dksX0_feast_1 12 rfl rfl)
theorem dX0_feast_37 : decode cX0_feast 37 = .ok (.invokevirtual 304, 3) := dk_182 1 48 (dk_at dksX0_feast_1 15 rfl rfl)
theorem dX0_feast_40 : decode cX0_feast 40 = .ok (.astore_n 3, 1) := dk_78 (dk_at dksX0_feast_1 18 rfl rfl)
theorem dX0_feast_41 : decode cX0_feast 41 = .ok (.aload_n 3, 1) := dk_45 (dk_at dksX0_feast_1 19 rfl rfl)
theorem dX0_feast_42 : decode cX0_feast 42 = .ok (.iload_n 1, 1) := dk_27 (dk_at dksX0_feast_1 20 rfl rfl)
theorem dX0_feast_43 : decode cX0_feast 43 = .ok (.invokevirtual 329, 3) := dk_182 1 73 (dk_at dksX0_feast_1 21 rfl rfl)
theorem dX0_feast_46 : decode cX0_feast 46 = .ok (.pop, 1) := dk_87 (dk_at dksX0_feast_2 0 rfl rfl)
theorem dX0_feast_47 : decode cX0_feast 47 = .ok (.iload_n 2, 1) := dk_28 (dk_at dksX0_feast_2 1 rfl rfl)
theorem dX0_feast_48 : decode cX0_feast 48 = .ok (.aload_n 0, 1) := dk_42 (dk_at dksX0_feast_2 2 rfl rfl)
theorem dX0_feast_49 : decode cX0_feast 49 = .ok (.getfield 39, 3) := dk_180 0 39 (dk_at dksX0_feast_2 3 rfl rfl)
theorem dX0_feast_52 : decode cX0_feast 52 = .ok (.aload_n 3, 1) := dk_45 (dk_at dksX0_feast_2 6 rfl rfl)
theorem dX0_feast_53 : decode cX0_feast 53 = .ok (.invokevirtual 74, 3) := dk_182 0 74 (dk_at dksX0_feast_2 7 rfl rfl)
theorem dX0_feast_56 : decode cX0_feast 56 = .ok (.invokevirtual 312, 3) := dk_182 1 56 (dk_at dksX0_feast_2 10 rfl rfl)
theorem dX0_feast_59 : decode cX0_feast 59 = .ok (.getfield 315, 3) := dk_180 1 59 (dk_at dksX0_feast_2 13 rfl rfl)
theorem dX0_feast_62 : decode cX0_feast 62 = .ok (.isub, 1) := dk_100 (dk_at dksX0_feast_2 16 rfl rfl)
theorem dX0_feast_63 : decode cX0_feast 63 = .ok (.ireturn, 1) := dk_172 (dk_at dksX0_feast_2 17 rfl rfl)
abbrev cX0_closes : ByteArray := prog_1_method_53_code
def yX0_closes : MethodName := ⟨RX0, "closes", "(II)I"⟩
def dkwX0_closes_1 : List UInt8 := [182, 1, 75, 172]
abbrev dktX0_closes_1 : List UInt8 := dkwX0_closes_1 ++ []
def dkwX0_closes_0 : List UInt8 := [42, 27, 28, 182, 0, 187, 154, 0, 10, 42, 16, 254, 182, 0, 95, 172, 42, 182, 0, 152, 87, 42, 27, 28]
abbrev dktX0_closes_0 : List UInt8 := dkwX0_closes_0 ++ dktX0_closes_1
theorem dksX0_closes_0 : cX0_closes.data.toList.drop 0 = dktX0_closes_0 := by decide +kernel
theorem dksX0_closes_1 : cX0_closes.data.toList.drop 24 = dktX0_closes_1 := dk_seg dksX0_closes_0 24 rfl rfl
theorem dX0_closes_0 : decode cX0_closes 0 = .ok (.aload_n 0, 1) := dk_42 (dk_at dksX0_closes_0 0 rfl rfl)
theorem dX0_closes_1 : decode cX0_closes 1 = .ok (.iload_n 1, 1) := dk_27 (dk_at dksX0_closes_0 1 rfl rfl)
theorem dX0_closes_2 : decode cX0_closes 2 = .ok (.iload_n 2, 1) := dk_28 (dk_at dksX0_closes_0 2 rfl rfl)
theorem dX0_closes_3 : decode cX0_closes 3 = .ok (.invokevirtual 187, 3) := dk_182 0 187 (dk_at dksX0_closes_0 3 rfl rfl)
theorem dX0_closes_6 : decode cX0_closes 6 = .ok (.ifCond .ne 10, 3) := dk_154 0 10 (dk_at dksX0_closes_0 6 rfl rfl)
theorem dX0_closes_9 : decode cX0_closes 9 = .ok (.aload_n 0, 1) := dk_42 (dk_at dksX0_closes_0 9 rfl rfl)
theorem dX0_closes_10 : decode cX0_closes 10 = .ok (.bipush (-2), 2) := dk_16 254 (dk_at dksX0_closes_0 10 rfl rfl)
theorem dX0_closes_12 : decode cX0_closes 12 = .ok (.invokevirtual 95, 3) := dk_182 0 95 (dk_at dksX0_closes_0 12 rfl rfl)
theorem dX0_closes_15 : decode cX0_closes 15 = .ok (.ireturn, 1) := dk_172 (dk_at dksX0_closes_0 15 rfl rfl)
theorem dX0_closes_16 : decode cX0_closes 16 = .ok (.aload_n 0, 1) := dk_42 (dk_at dksX0_closes_0 16 rfl rfl)
theorem dX0_closes_17 : decode cX0_closes 17 = .ok (.invokevirtual 152, 3) := dk_182 0 152 (dk_at dksX0_closes_0 17 rfl rfl)
theorem dX0_closes_20 : decode cX0_closes 20 = .ok (.pop, 1) := dk_87 (dk_at dksX0_closes_0 20 rfl rfl)
theorem dX0_closes_21 : decode cX0_closes 21 = .ok (.aload_n 0, 1) := dk_42 (dk_at dksX0_closes_0 21 rfl rfl)
theorem dX0_closes_22 : decode cX0_closes 22 = .ok (.iload_n 1, 1) := dk_27 (dk_at dksX0_closes_0 22 rfl rfl)
theorem dX0_closes_23 : decode cX0_closes 23 = .ok (.iload_n 2, 1) := dk_28 (dk_at dksX0_closes_0 23 rfl rfl)
theorem dX0_closes_24 : decode cX0_closes 24 = .ok (.invokevirtual 331, 3) := dk_182 1 75 (dk_at dksX0_closes_1 0 rfl rfl)
theorem dX0_closes_27 : decode cX0_closes 27 = .ok (.ireturn, 1) := dk_172 (dk_at dksX0_closes_1 3 rfl rfl)
abbrev cX0_closesOf : ByteArray := prog_1_method_52_code
def yX0_closesOf : MethodName := ⟨RX0, "closesOf", "(II)I"⟩
def dkwX0_closesOf_2 : List UInt8 := [184, 1, 26, 153, 0, 7, 4, 167, 0, 4, 3, 96, 62, 132, 4, 1, 167, 255, 199, 29, 172]
abbrev dktX0_closesOf_2 : List UInt8 := dkwX0_closesOf_2 ++ []
def dkwX0_closesOf_1 : List UInt8 := [180, 1, 37, 21, 4, 46, 27, 184, 1, 26, 153, 0, 24, 42, 180, 0, 39, 180, 1, 37, 21, 4, 46, 28]
abbrev dktX0_closesOf_1 : List UInt8 := dkwX0_closesOf_1 ++ dktX0_closesOf_2
def dkwX0_closesOf_0 : List UInt8 := [3, 62, 3, 54, 4, 21, 4, 42, 180, 0, 39, 180, 1, 32, 162, 0, 51, 29, 42, 180, 0, 39]
abbrev dktX0_closesOf_0 : List UInt8 := dkwX0_closesOf_0 ++ dktX0_closesOf_1
theorem dksX0_closesOf_0 : cX0_closesOf.data.toList.drop 0 = dktX0_closesOf_0 := by decide +kernel
theorem dksX0_closesOf_1 : cX0_closesOf.data.toList.drop 22 = dktX0_closesOf_1 := dk_seg dksX0_closesOf_0 22 rfl rfl
theorem dksX0_closesOf_2 : cX0_closesOf.data.toList.drop 46 = dktX0_closesOf_2 := dk_seg dksX0_closesOf_1 24 rfl rfl
theorem dX0_closesOf_0 : decode cX0_closesOf 0 = .ok (.iconst 0, 1) := dk_3 (dk_at dksX0_closesOf_0 0 rfl rfl)
theorem dX0_closesOf_1 : decode cX0_closesOf 1 = .ok (.istore_n 3, 1) := dk_62 (dk_at dksX0_closesOf_0 1 rfl rfl)
theorem dX0_closesOf_2 : decode cX0_closesOf 2 = .ok (.iconst 0, 1) := dk_3 (dk_at dksX0_closesOf_0 2 rfl rfl)
theorem dX0_closesOf_3 : decode cX0_closesOf 3 = .ok (.istore 4, 2) := dk_54 4 (dk_at dksX0_closesOf_0 3 rfl rfl)
theorem dX0_closesOf_5 : decode cX0_closesOf 5 = .ok (.iload 4, 2) := dk_21 4 (dk_at dksX0_closesOf_0 5 rfl rfl)
theorem dX0_closesOf_7 : decode cX0_closesOf 7 = .ok (.aload_n 0, 1) := dk_42 (dk_at dksX0_closesOf_0 7 rfl rfl)
theorem dX0_closesOf_8 : decode cX0_closesOf 8 = .ok (.getfield 39, 3) := dk_180 0 39 (dk_at dksX0_closesOf_0 8 rfl rfl)
theorem dX0_closesOf_11 : decode cX0_closesOf 11 = .ok (.getfield 288, 3) := dk_180 1 32 (dk_at dksX0_closesOf_0 11 rfl rfl)
theorem dX0_closesOf_14 : decode cX0_closesOf 14 = .ok (.if_icmp .ge 51, 3) := dk_162 0 51 (dk_at dksX0_closesOf_0 14 rfl rfl)
theorem dX0_closesOf_17 : decode cX0_closesOf 17 = .ok (.iload_n 3, 1) := dk_29 (dk_at dksX0_closesOf_0 17 rfl rfl)
theorem dX0_closesOf_18 : decode cX0_closesOf 18 = .ok (.aload_n 0, 1) := dk_42 (dk_at dksX0_closesOf_0 18 rfl rfl)
theorem dX0_closesOf_19 : decode cX0_closesOf 19 = .ok (.getfield 39, 3) := dk_180 0 39 (dk_at dksX0_closesOf_0 19 rfl rfl)
theorem dX0_closesOf_22 : decode cX0_closesOf 22 = .ok (.getfield 293, 3) := dk_180 1 37 (dk_at dksX0_closesOf_1 0 rfl rfl)
theorem dX0_closesOf_25 : decode cX0_closesOf 25 = .ok (.iload 4, 2) := dk_21 4 (dk_at dksX0_closesOf_1 3 rfl rfl)
theorem dX0_closesOf_27 : decode cX0_closesOf 27 = .ok (.iaload, 1) := dk_46 (dk_at dksX0_closesOf_1 5 rfl rfl)
theorem dX0_closesOf_28 : decode cX0_closesOf 28 = .ok (.iload_n 1, 1) := dk_27 (dk_at dksX0_closesOf_1 6 rfl rfl)
theorem dX0_closesOf_29 : decode cX0_closesOf 29 = .ok (.invokestatic 282, 3) := dk_184 1 26 (dk_at dksX0_closesOf_1 7 rfl rfl)
theorem dX0_closesOf_32 : decode cX0_closesOf 32 = .ok (.ifCond .eq 24, 3) := dk_153 0 24 (dk_at dksX0_closesOf_1 10 rfl rfl)
theorem dX0_closesOf_35 : decode cX0_closesOf 35 = .ok (.aload_n 0, 1) := dk_42 (dk_at dksX0_closesOf_1 13 rfl rfl)
theorem dX0_closesOf_36 : decode cX0_closesOf 36 = .ok (.getfield 39, 3) := dk_180 0 39 (dk_at dksX0_closesOf_1 14 rfl rfl)
theorem dX0_closesOf_39 : decode cX0_closesOf 39 = .ok (.getfield 293, 3) := dk_180 1 37 (dk_at dksX0_closesOf_1 17 rfl rfl)
theorem dX0_closesOf_42 : decode cX0_closesOf 42 = .ok (.iload 4, 2) := dk_21 4 (dk_at dksX0_closesOf_1 20 rfl rfl)
theorem dX0_closesOf_44 : decode cX0_closesOf 44 = .ok (.iaload, 1) := dk_46 (dk_at dksX0_closesOf_1 22 rfl rfl)
theorem dX0_closesOf_45 : decode cX0_closesOf 45 = .ok (.iload_n 2, 1) := dk_28 (dk_at dksX0_closesOf_1 23 rfl rfl)
theorem dX0_closesOf_46 : decode cX0_closesOf 46 = .ok (.invokestatic 282, 3) := dk_184 1 26 (dk_at dksX0_closesOf_2 0 rfl rfl)
theorem dX0_closesOf_49 : decode cX0_closesOf 49 = .ok (.ifCond .eq 7, 3) := dk_153 0 7 (dk_at dksX0_closesOf_2 3 rfl rfl)
theorem dX0_closesOf_52 : decode cX0_closesOf 52 = .ok (.iconst 1, 1) := dk_4 (dk_at dksX0_closesOf_2 6 rfl rfl)
theorem dX0_closesOf_53 : decode cX0_closesOf 53 = .ok (.goto 4, 3) := dk_167 0 4 (dk_at dksX0_closesOf_2 7 rfl rfl)
theorem dX0_closesOf_56 : decode cX0_closesOf 56 = .ok (.iconst 0, 1) := dk_3 (dk_at dksX0_closesOf_2 10 rfl rfl)
theorem dX0_closesOf_57 : decode cX0_closesOf 57 = .ok (.iadd, 1) := dk_96 (dk_at dksX0_closesOf_2 11 rfl rfl)
theorem dX0_closesOf_58 : decode cX0_closesOf 58 = .ok (.istore_n 3, 1) := dk_62 (dk_at dksX0_closesOf_2 12 rfl rfl)
theorem dX0_closesOf_59 : decode cX0_closesOf 59 = .ok (.iinc 4 1, 3) := dk_132 4 1 (dk_at dksX0_closesOf_2 13 rfl rfl)
theorem dX0_closesOf_62 : decode cX0_closesOf 62 = .ok (.goto (-57), 3) := dk_167 255 199 (dk_at dksX0_closesOf_2 16 rfl rfl)
theorem dX0_closesOf_65 : decode cX0_closesOf 65 = .ok (.iload_n 3, 1) := dk_29 (dk_at dksX0_closesOf_2 19 rfl rfl)
theorem dX0_closesOf_66 : decode cX0_closesOf 66 = .ok (.ireturn, 1) := dk_172 (dk_at dksX0_closesOf_2 20 rfl rfl)
abbrev cX0_worst : ByteArray := prog_1_method_54_code
def yX0_worst : MethodName := ⟨RX0, "worst", "()I"⟩
def dkwX0_worst_4 : List UInt8 := [167, 255, 174, 27, 2, 160, 0, 12, 42, 16, 251, 182, 0, 95, 167, 0, 4, 27, 172]
abbrev dktX0_worst_4 : List UInt8 := dkwX0_worst_4 ++ []
def dkwX0_worst_3 : List UInt8 := [164, 0, 14, 16, 10, 29, 104, 21, 4, 96, 60, 21, 5, 61, 132, 4, 1, 167, 255, 196, 132, 3, 1]
abbrev dktX0_worst_3 : List UInt8 := dkwX0_worst_3 ++ dktX0_worst_4
def dkwX0_worst_2 : List UInt8 := [42, 180, 0, 29, 29, 21, 4, 182, 0, 191, 2, 160, 0, 25, 27, 2, 159, 0, 9, 21, 5, 28]
abbrev dktX0_worst_2 : List UInt8 := dkwX0_worst_2 ++ dktX0_worst_3
def dkwX0_worst_1 : List UInt8 := [96, 54, 4, 21, 4, 42, 180, 0, 29, 180, 0, 171, 162, 0, 54, 42, 29, 21, 4, 182, 1, 75, 54, 5]
abbrev dktX0_worst_1 : List UInt8 := dkwX0_worst_1 ++ dktX0_worst_2
def dkwX0_worst_0 : List UInt8 := [42, 182, 0, 152, 87, 2, 60, 3, 61, 3, 62, 29, 42, 180, 0, 29, 180, 0, 171, 162, 0, 77, 29, 4]
abbrev dktX0_worst_0 : List UInt8 := dkwX0_worst_0 ++ dktX0_worst_1
theorem dksX0_worst_0 : cX0_worst.data.toList.drop 0 = dktX0_worst_0 := by decide +kernel
theorem dksX0_worst_1 : cX0_worst.data.toList.drop 24 = dktX0_worst_1 := dk_seg dksX0_worst_0 24 rfl rfl
theorem dksX0_worst_2 : cX0_worst.data.toList.drop 48 = dktX0_worst_2 := dk_seg dksX0_worst_1 24 rfl rfl
theorem dksX0_worst_3 : cX0_worst.data.toList.drop 70 = dktX0_worst_3 := dk_seg dksX0_worst_2 22 rfl rfl
theorem dksX0_worst_4 : cX0_worst.data.toList.drop 93 = dktX0_worst_4 := dk_seg dksX0_worst_3 23 rfl rfl
theorem dX0_worst_0 : decode cX0_worst 0 = .ok (.aload_n 0, 1) := dk_42 (dk_at dksX0_worst_0 0 rfl rfl)
theorem dX0_worst_1 : decode cX0_worst 1 = .ok (.invokevirtual 152, 3) := dk_182 0 152 (dk_at dksX0_worst_0 1 rfl rfl)
theorem dX0_worst_4 : decode cX0_worst 4 = .ok (.pop, 1) := dk_87 (dk_at dksX0_worst_0 4 rfl rfl)
theorem dX0_worst_5 : decode cX0_worst 5 = .ok (.iconst (-1), 1) := dk_2 (dk_at dksX0_worst_0 5 rfl rfl)
theorem dX0_worst_6 : decode cX0_worst 6 = .ok (.istore_n 1, 1) := dk_60 (dk_at dksX0_worst_0 6 rfl rfl)
theorem dX0_worst_7 : decode cX0_worst 7 = .ok (.iconst 0, 1) := dk_3 (dk_at dksX0_worst_0 7 rfl rfl)
theorem dX0_worst_8 : decode cX0_worst 8 = .ok (.istore_n 2, 1) := dk_61 (dk_at dksX0_worst_0 8 rfl rfl)
theorem dX0_worst_9 : decode cX0_worst 9 = .ok (.iconst 0, 1) := dk_3 (dk_at dksX0_worst_0 9 rfl rfl)
theorem dX0_worst_10 : decode cX0_worst 10 = .ok (.istore_n 3, 1) := dk_62 (dk_at dksX0_worst_0 10 rfl rfl)
theorem dX0_worst_11 : decode cX0_worst 11 = .ok (.iload_n 3, 1) := dk_29 (dk_at dksX0_worst_0 11 rfl rfl)
theorem dX0_worst_12 : decode cX0_worst 12 = .ok (.aload_n 0, 1) := dk_42 (dk_at dksX0_worst_0 12 rfl rfl)
theorem dX0_worst_13 : decode cX0_worst 13 = .ok (.getfield 29, 3) := dk_180 0 29 (dk_at dksX0_worst_0 13 rfl rfl)
theorem dX0_worst_16 : decode cX0_worst 16 = .ok (.getfield 171, 3) := dk_180 0 171 (dk_at dksX0_worst_0 16 rfl rfl)
theorem dX0_worst_19 : decode cX0_worst 19 = .ok (.if_icmp .ge 77, 3) := dk_162 0 77 (dk_at dksX0_worst_0 19 rfl rfl)
theorem dX0_worst_22 : decode cX0_worst 22 = .ok (.iload_n 3, 1) := dk_29 (dk_at dksX0_worst_0 22 rfl rfl)
theorem dX0_worst_23 : decode cX0_worst 23 = .ok (.iconst 1, 1) := dk_4 (dk_at dksX0_worst_0 23 rfl rfl)
theorem dX0_worst_24 : decode cX0_worst 24 = .ok (.iadd, 1) := dk_96 (dk_at dksX0_worst_1 0 rfl rfl)
theorem dX0_worst_25 : decode cX0_worst 25 = .ok (.istore 4, 2) := dk_54 4 (dk_at dksX0_worst_1 1 rfl rfl)
theorem dX0_worst_27 : decode cX0_worst 27 = .ok (.iload 4, 2) := dk_21 4 (dk_at dksX0_worst_1 3 rfl rfl)
theorem dX0_worst_29 : decode cX0_worst 29 = .ok (.aload_n 0, 1) := dk_42 (dk_at dksX0_worst_1 5 rfl rfl)
theorem dX0_worst_30 : decode cX0_worst 30 = .ok (.getfield 29, 3) := dk_180 0 29 (dk_at dksX0_worst_1 6 rfl rfl)
theorem dX0_worst_33 : decode cX0_worst 33 = .ok (.getfield 171, 3) := dk_180 0 171 (dk_at dksX0_worst_1 9 rfl rfl)
theorem dX0_worst_36 : decode cX0_worst 36 = .ok (.if_icmp .ge 54, 3) := dk_162 0 54 (dk_at dksX0_worst_1 12 rfl rfl)
theorem dX0_worst_39 : decode cX0_worst 39 = .ok (.aload_n 0, 1) := dk_42 (dk_at dksX0_worst_1 15 rfl rfl)
theorem dX0_worst_40 : decode cX0_worst 40 = .ok (.iload_n 3, 1) := dk_29 (dk_at dksX0_worst_1 16 rfl rfl)
theorem dX0_worst_41 : decode cX0_worst 41 = .ok (.iload 4, 2) := dk_21 4 (dk_at dksX0_worst_1 17 rfl rfl)
theorem dX0_worst_43 : decode cX0_worst 43 = .ok (.invokevirtual 331, 3) := dk_182 1 75 (dk_at dksX0_worst_1 19 rfl rfl)
theorem dX0_worst_46 : decode cX0_worst 46 = .ok (.istore 5, 2) := dk_54 5 (dk_at dksX0_worst_1 22 rfl rfl)
theorem dX0_worst_48 : decode cX0_worst 48 = .ok (.aload_n 0, 1) := dk_42 (dk_at dksX0_worst_2 0 rfl rfl)
theorem dX0_worst_49 : decode cX0_worst 49 = .ok (.getfield 29, 3) := dk_180 0 29 (dk_at dksX0_worst_2 1 rfl rfl)
theorem dX0_worst_52 : decode cX0_worst 52 = .ok (.iload_n 3, 1) := dk_29 (dk_at dksX0_worst_2 4 rfl rfl)
theorem dX0_worst_53 : decode cX0_worst 53 = .ok (.iload 4, 2) := dk_21 4 (dk_at dksX0_worst_2 5 rfl rfl)
theorem dX0_worst_55 : decode cX0_worst 55 = .ok (.invokevirtual 191, 3) := dk_182 0 191 (dk_at dksX0_worst_2 7 rfl rfl)
theorem dX0_worst_58 : decode cX0_worst 58 = .ok (.iconst (-1), 1) := dk_2 (dk_at dksX0_worst_2 10 rfl rfl)
theorem dX0_worst_59 : decode cX0_worst 59 = .ok (.if_icmp .ne 25, 3) := dk_160 0 25 (dk_at dksX0_worst_2 11 rfl rfl)
theorem dX0_worst_62 : decode cX0_worst 62 = .ok (.iload_n 1, 1) := dk_27 (dk_at dksX0_worst_2 14 rfl rfl)
theorem dX0_worst_63 : decode cX0_worst 63 = .ok (.iconst (-1), 1) := dk_2 (dk_at dksX0_worst_2 15 rfl rfl)
theorem dX0_worst_64 : decode cX0_worst 64 = .ok (.if_icmp .eq 9, 3) := dk_159 0 9 (dk_at dksX0_worst_2 16 rfl rfl)
theorem dX0_worst_67 : decode cX0_worst 67 = .ok (.iload 5, 2) := dk_21 5 (dk_at dksX0_worst_2 19 rfl rfl)
theorem dX0_worst_69 : decode cX0_worst 69 = .ok (.iload_n 2, 1) := dk_28 (dk_at dksX0_worst_2 21 rfl rfl)
theorem dX0_worst_70 : decode cX0_worst 70 = .ok (.if_icmp .le 14, 3) := dk_164 0 14 (dk_at dksX0_worst_3 0 rfl rfl)
theorem dX0_worst_73 : decode cX0_worst 73 = .ok (.bipush 10, 2) := dk_16 10 (dk_at dksX0_worst_3 3 rfl rfl)
theorem dX0_worst_75 : decode cX0_worst 75 = .ok (.iload_n 3, 1) := dk_29 (dk_at dksX0_worst_3 5 rfl rfl)
theorem dX0_worst_76 : decode cX0_worst 76 = .ok (.imul, 1) := dk_104 (dk_at dksX0_worst_3 6 rfl rfl)
theorem dX0_worst_77 : decode cX0_worst 77 = .ok (.iload 4, 2) := dk_21 4 (dk_at dksX0_worst_3 7 rfl rfl)
theorem dX0_worst_79 : decode cX0_worst 79 = .ok (.iadd, 1) := dk_96 (dk_at dksX0_worst_3 9 rfl rfl)
theorem dX0_worst_80 : decode cX0_worst 80 = .ok (.istore_n 1, 1) := dk_60 (dk_at dksX0_worst_3 10 rfl rfl)
theorem dX0_worst_81 : decode cX0_worst 81 = .ok (.iload 5, 2) := dk_21 5 (dk_at dksX0_worst_3 11 rfl rfl)
theorem dX0_worst_83 : decode cX0_worst 83 = .ok (.istore_n 2, 1) := dk_61 (dk_at dksX0_worst_3 13 rfl rfl)
theorem dX0_worst_84 : decode cX0_worst 84 = .ok (.iinc 4 1, 3) := dk_132 4 1 (dk_at dksX0_worst_3 14 rfl rfl)
theorem dX0_worst_87 : decode cX0_worst 87 = .ok (.goto (-60), 3) := dk_167 255 196 (dk_at dksX0_worst_3 17 rfl rfl)
theorem dX0_worst_90 : decode cX0_worst 90 = .ok (.iinc 3 1, 3) := dk_132 3 1 (dk_at dksX0_worst_3 20 rfl rfl)
theorem dX0_worst_93 : decode cX0_worst 93 = .ok (.goto (-82), 3) := dk_167 255 174 (dk_at dksX0_worst_4 0 rfl rfl)
theorem dX0_worst_96 : decode cX0_worst 96 = .ok (.iload_n 1, 1) := dk_27 (dk_at dksX0_worst_4 3 rfl rfl)
theorem dX0_worst_97 : decode cX0_worst 97 = .ok (.iconst (-1), 1) := dk_2 (dk_at dksX0_worst_4 4 rfl rfl)
theorem dX0_worst_98 : decode cX0_worst 98 = .ok (.if_icmp .ne 12, 3) := dk_160 0 12 (dk_at dksX0_worst_4 5 rfl rfl)
theorem dX0_worst_101 : decode cX0_worst 101 = .ok (.aload_n 0, 1) := dk_42 (dk_at dksX0_worst_4 8 rfl rfl)
theorem dX0_worst_102 : decode cX0_worst 102 = .ok (.bipush (-5), 2) := dk_16 251 (dk_at dksX0_worst_4 9 rfl rfl)
theorem dX0_worst_104 : decode cX0_worst 104 = .ok (.invokevirtual 95, 3) := dk_182 0 95 (dk_at dksX0_worst_4 11 rfl rfl)
theorem dX0_worst_107 : decode cX0_worst 107 = .ok (.goto 4, 3) := dk_167 0 4 (dk_at dksX0_worst_4 14 rfl rfl)
theorem dX0_worst_110 : decode cX0_worst 110 = .ok (.iload_n 1, 1) := dk_27 (dk_at dksX0_worst_4 17 rfl rfl)
theorem dX0_worst_111 : decode cX0_worst 111 = .ok (.ireturn, 1) := dk_172 (dk_at dksX0_worst_4 18 rfl rfl)
abbrev cX0_fits : ByteArray := prog_1_method_58_code
def yX0_fits : MethodName := ⟨RX0, "fits", "(I)I"⟩
def dkwX0_fits_1 : List UInt8 := [16, 254, 182, 0, 95, 172]
abbrev dktX0_fits_1 : List UInt8 := dkwX0_fits_1 ++ []
def dkwX0_fits_0 : List UInt8 := [42, 27, 182, 1, 82, 153, 0, 18, 187, 1, 85, 89, 42, 27, 183, 1, 87, 180, 1, 90, 167, 0, 9, 42]
abbrev dktX0_fits_0 : List UInt8 := dkwX0_fits_0 ++ dktX0_fits_1
theorem dksX0_fits_0 : cX0_fits.data.toList.drop 0 = dktX0_fits_0 := by decide +kernel
theorem dksX0_fits_1 : cX0_fits.data.toList.drop 24 = dktX0_fits_1 := dk_seg dksX0_fits_0 24 rfl rfl
theorem dX0_fits_0 : decode cX0_fits 0 = .ok (.aload_n 0, 1) := dk_42 (dk_at dksX0_fits_0 0 rfl rfl)
theorem dX0_fits_1 : decode cX0_fits 1 = .ok (.iload_n 1, 1) := dk_27 (dk_at dksX0_fits_0 1 rfl rfl)
theorem dX0_fits_2 : decode cX0_fits 2 = .ok (.invokevirtual 338, 3) := dk_182 1 82 (dk_at dksX0_fits_0 2 rfl rfl)
theorem dX0_fits_5 : decode cX0_fits 5 = .ok (.ifCond .eq 18, 3) := dk_153 0 18 (dk_at dksX0_fits_0 5 rfl rfl)
theorem dX0_fits_8 : decode cX0_fits 8 = .ok (.new 341, 3) := dk_187 1 85 (dk_at dksX0_fits_0 8 rfl rfl)
theorem dX0_fits_11 : decode cX0_fits 11 = .ok (.dup, 1) := dk_89 (dk_at dksX0_fits_0 11 rfl rfl)
theorem dX0_fits_12 : decode cX0_fits 12 = .ok (.aload_n 0, 1) := dk_42 (dk_at dksX0_fits_0 12 rfl rfl)
theorem dX0_fits_13 : decode cX0_fits 13 = .ok (.iload_n 1, 1) := dk_27 (dk_at dksX0_fits_0 13 rfl rfl)
theorem dX0_fits_14 : decode cX0_fits 14 = .ok (.invokespecial 343, 3) := dk_183 1 87 (dk_at dksX0_fits_0 14 rfl rfl)
theorem dX0_fits_17 : decode cX0_fits 17 = .ok (.getfield 346, 3) := dk_180 1 90 (dk_at dksX0_fits_0 17 rfl rfl)
theorem dX0_fits_20 : decode cX0_fits 20 = .ok (.goto 9, 3) := dk_167 0 9 (dk_at dksX0_fits_0 20 rfl rfl)
theorem dX0_fits_23 : decode cX0_fits 23 = .ok (.aload_n 0, 1) := dk_42 (dk_at dksX0_fits_0 23 rfl rfl)
theorem dX0_fits_24 : decode cX0_fits 24 = .ok (.bipush (-2), 2) := dk_16 254 (dk_at dksX0_fits_1 0 rfl rfl)
theorem dX0_fits_26 : decode cX0_fits 26 = .ok (.invokevirtual 95, 3) := dk_182 0 95 (dk_at dksX0_fits_1 2 rfl rfl)
theorem dX0_fits_29 : decode cX0_fits 29 = .ok (.ireturn, 1) := dk_172 (dk_at dksX0_fits_1 5 rfl rfl)
abbrev cX0_isFew : ByteArray := prog_1_method_57_code
def yX0_isFew : MethodName := ⟨RX0, "isFew", "(I)Z"⟩
def dkwX0_isFew_1 : List UInt8 := [172]
abbrev dktX0_isFew_1 : List UInt8 := dkwX0_isFew_1 ++ []
def dkwX0_isFew_0 : List UInt8 := [42, 180, 0, 29, 27, 182, 0, 235, 153, 0, 15, 27, 184, 0, 230, 8, 163, 0, 7, 4, 167, 0, 4, 3]
abbrev dktX0_isFew_0 : List UInt8 := dkwX0_isFew_0 ++ dktX0_isFew_1
theorem dksX0_isFew_0 : cX0_isFew.data.toList.drop 0 = dktX0_isFew_0 := by decide +kernel
theorem dksX0_isFew_1 : cX0_isFew.data.toList.drop 24 = dktX0_isFew_1 := dk_seg dksX0_isFew_0 24 rfl rfl
theorem dX0_isFew_0 : decode cX0_isFew 0 = .ok (.aload_n 0, 1) := dk_42 (dk_at dksX0_isFew_0 0 rfl rfl)
theorem dX0_isFew_1 : decode cX0_isFew 1 = .ok (.getfield 29, 3) := dk_180 0 29 (dk_at dksX0_isFew_0 1 rfl rfl)
theorem dX0_isFew_4 : decode cX0_isFew 4 = .ok (.iload_n 1, 1) := dk_27 (dk_at dksX0_isFew_0 4 rfl rfl)
theorem dX0_isFew_5 : decode cX0_isFew 5 = .ok (.invokevirtual 235, 3) := dk_182 0 235 (dk_at dksX0_isFew_0 5 rfl rfl)
theorem dX0_isFew_8 : decode cX0_isFew 8 = .ok (.ifCond .eq 15, 3) := dk_153 0 15 (dk_at dksX0_isFew_0 8 rfl rfl)
theorem dX0_isFew_11 : decode cX0_isFew 11 = .ok (.iload_n 1, 1) := dk_27 (dk_at dksX0_isFew_0 11 rfl rfl)
theorem dX0_isFew_12 : decode cX0_isFew 12 = .ok (.invokestatic 230, 3) := dk_184 0 230 (dk_at dksX0_isFew_0 12 rfl rfl)
theorem dX0_isFew_15 : decode cX0_isFew 15 = .ok (.iconst 5, 1) := dk_8 (dk_at dksX0_isFew_0 15 rfl rfl)
theorem dX0_isFew_16 : decode cX0_isFew 16 = .ok (.if_icmp .gt 7, 3) := dk_163 0 7 (dk_at dksX0_isFew_0 16 rfl rfl)
theorem dX0_isFew_19 : decode cX0_isFew 19 = .ok (.iconst 1, 1) := dk_4 (dk_at dksX0_isFew_0 19 rfl rfl)
theorem dX0_isFew_20 : decode cX0_isFew 20 = .ok (.goto 4, 3) := dk_167 0 4 (dk_at dksX0_isFew_0 20 rfl rfl)
theorem dX0_isFew_23 : decode cX0_isFew 23 = .ok (.iconst 0, 1) := dk_3 (dk_at dksX0_isFew_0 23 rfl rfl)
theorem dX0_isFew_24 : decode cX0_isFew 24 = .ok (.ireturn, 1) := dk_172 (dk_at dksX0_isFew_1 0 rfl rfl)
abbrev cX0_hasGroup : ByteArray := prog_1_method_55_code
def yX0_hasGroup : MethodName := ⟨RX0, "hasGroup", "(LThreeStrangers$Town;I)Z"⟩
def dkwX0_hasGroup_0 : List UInt8 := [42, 3, 27, 42, 180, 0, 198, 184, 1, 78, 172]
abbrev dktX0_hasGroup_0 : List UInt8 := dkwX0_hasGroup_0 ++ []
theorem dksX0_hasGroup_0 : cX0_hasGroup.data.toList.drop 0 = dktX0_hasGroup_0 := by decide +kernel
theorem dX0_hasGroup_0 : decode cX0_hasGroup 0 = .ok (.aload_n 0, 1) := dk_42 (dk_at dksX0_hasGroup_0 0 rfl rfl)
theorem dX0_hasGroup_1 : decode cX0_hasGroup 1 = .ok (.iconst 0, 1) := dk_3 (dk_at dksX0_hasGroup_0 1 rfl rfl)
theorem dX0_hasGroup_2 : decode cX0_hasGroup 2 = .ok (.iload_n 1, 1) := dk_27 (dk_at dksX0_hasGroup_0 2 rfl rfl)
theorem dX0_hasGroup_3 : decode cX0_hasGroup 3 = .ok (.aload_n 0, 1) := dk_42 (dk_at dksX0_hasGroup_0 3 rfl rfl)
theorem dX0_hasGroup_4 : decode cX0_hasGroup 4 = .ok (.getfield 198, 3) := dk_180 0 198 (dk_at dksX0_hasGroup_0 4 rfl rfl)
theorem dX0_hasGroup_7 : decode cX0_hasGroup 7 = .ok (.invokestatic 334, 3) := dk_184 1 78 (dk_at dksX0_hasGroup_0 7 rfl rfl)
theorem dX0_hasGroup_10 : decode cX0_hasGroup 10 = .ok (.ireturn, 1) := dk_172 (dk_at dksX0_hasGroup_0 10 rfl rfl)
abbrev cX0_grows : ByteArray := prog_1_method_56_code
def yX0_grows : MethodName := ⟨RX0, "grows", "(LThreeStrangers$Town;III)Z"⟩
def dkwX0_grows_2 : List UInt8 := [153, 0, 5, 4, 172, 132, 4, 1, 167, 255, 211, 3, 172]
abbrev dktX0_grows_2 : List UInt8 := dkwX0_grows_2 ++ []
def dkwX0_grows_1 : List UInt8 := [153, 0, 27, 42, 21, 4, 4, 96, 28, 42, 21, 4, 182, 0, 227, 126, 29, 4, 100, 184, 1, 78]
abbrev dktX0_grows_1 : List UInt8 := dkwX0_grows_1 ++ dktX0_grows_2
def dkwX0_grows_0 : List UInt8 := [29, 154, 0, 5, 4, 172, 27, 54, 4, 21, 4, 42, 180, 0, 171, 162, 0, 42, 28, 21, 4, 184, 1, 26]
abbrev dktX0_grows_0 : List UInt8 := dkwX0_grows_0 ++ dktX0_grows_1
theorem dksX0_grows_0 : cX0_grows.data.toList.drop 0 = dktX0_grows_0 := by decide +kernel
theorem dksX0_grows_1 : cX0_grows.data.toList.drop 24 = dktX0_grows_1 := dk_seg dksX0_grows_0 24 rfl rfl
theorem dksX0_grows_2 : cX0_grows.data.toList.drop 46 = dktX0_grows_2 := dk_seg dksX0_grows_1 22 rfl rfl
theorem dX0_grows_0 : decode cX0_grows 0 = .ok (.iload_n 3, 1) := dk_29 (dk_at dksX0_grows_0 0 rfl rfl)
theorem dX0_grows_1 : decode cX0_grows 1 = .ok (.ifCond .ne 5, 3) := dk_154 0 5 (dk_at dksX0_grows_0 1 rfl rfl)
theorem dX0_grows_4 : decode cX0_grows 4 = .ok (.iconst 1, 1) := dk_4 (dk_at dksX0_grows_0 4 rfl rfl)
theorem dX0_grows_5 : decode cX0_grows 5 = .ok (.ireturn, 1) := dk_172 (dk_at dksX0_grows_0 5 rfl rfl)
theorem dX0_grows_6 : decode cX0_grows 6 = .ok (.iload_n 1, 1) := dk_27 (dk_at dksX0_grows_0 6 rfl rfl)
theorem dX0_grows_7 : decode cX0_grows 7 = .ok (.istore 4, 2) := dk_54 4 (dk_at dksX0_grows_0 7 rfl rfl)
theorem dX0_grows_9 : decode cX0_grows 9 = .ok (.iload 4, 2) := dk_21 4 (dk_at dksX0_grows_0 9 rfl rfl)
theorem dX0_grows_11 : decode cX0_grows 11 = .ok (.aload_n 0, 1) := dk_42 (dk_at dksX0_grows_0 11 rfl rfl)
theorem dX0_grows_12 : decode cX0_grows 12 = .ok (.getfield 171, 3) := dk_180 0 171 (dk_at dksX0_grows_0 12 rfl rfl)
theorem dX0_grows_15 : decode cX0_grows 15 = .ok (.if_icmp .ge 42, 3) := dk_162 0 42 (dk_at dksX0_grows_0 15 rfl rfl)
theorem dX0_grows_18 : decode cX0_grows 18 = .ok (.iload_n 2, 1) := dk_28 (dk_at dksX0_grows_0 18 rfl rfl)
theorem dX0_grows_19 : decode cX0_grows 19 = .ok (.iload 4, 2) := dk_21 4 (dk_at dksX0_grows_0 19 rfl rfl)
theorem dX0_grows_21 : decode cX0_grows 21 = .ok (.invokestatic 282, 3) := dk_184 1 26 (dk_at dksX0_grows_0 21 rfl rfl)
theorem dX0_grows_24 : decode cX0_grows 24 = .ok (.ifCond .eq 27, 3) := dk_153 0 27 (dk_at dksX0_grows_1 0 rfl rfl)
theorem dX0_grows_27 : decode cX0_grows 27 = .ok (.aload_n 0, 1) := dk_42 (dk_at dksX0_grows_1 3 rfl rfl)
theorem dX0_grows_28 : decode cX0_grows 28 = .ok (.iload 4, 2) := dk_21 4 (dk_at dksX0_grows_1 4 rfl rfl)
theorem dX0_grows_30 : decode cX0_grows 30 = .ok (.iconst 1, 1) := dk_4 (dk_at dksX0_grows_1 6 rfl rfl)
theorem dX0_grows_31 : decode cX0_grows 31 = .ok (.iadd, 1) := dk_96 (dk_at dksX0_grows_1 7 rfl rfl)
theorem dX0_grows_32 : decode cX0_grows 32 = .ok (.iload_n 2, 1) := dk_28 (dk_at dksX0_grows_1 8 rfl rfl)
theorem dX0_grows_33 : decode cX0_grows 33 = .ok (.aload_n 0, 1) := dk_42 (dk_at dksX0_grows_1 9 rfl rfl)
theorem dX0_grows_34 : decode cX0_grows 34 = .ok (.iload 4, 2) := dk_21 4 (dk_at dksX0_grows_1 10 rfl rfl)
theorem dX0_grows_36 : decode cX0_grows 36 = .ok (.invokevirtual 227, 3) := dk_182 0 227 (dk_at dksX0_grows_1 12 rfl rfl)
theorem dX0_grows_39 : decode cX0_grows 39 = .ok (.iand, 1) := dk_126 (dk_at dksX0_grows_1 15 rfl rfl)
theorem dX0_grows_40 : decode cX0_grows 40 = .ok (.iload_n 3, 1) := dk_29 (dk_at dksX0_grows_1 16 rfl rfl)
theorem dX0_grows_41 : decode cX0_grows 41 = .ok (.iconst 1, 1) := dk_4 (dk_at dksX0_grows_1 17 rfl rfl)
theorem dX0_grows_42 : decode cX0_grows 42 = .ok (.isub, 1) := dk_100 (dk_at dksX0_grows_1 18 rfl rfl)
theorem dX0_grows_43 : decode cX0_grows 43 = .ok (.invokestatic 334, 3) := dk_184 1 78 (dk_at dksX0_grows_1 19 rfl rfl)
theorem dX0_grows_46 : decode cX0_grows 46 = .ok (.ifCond .eq 5, 3) := dk_153 0 5 (dk_at dksX0_grows_2 0 rfl rfl)
theorem dX0_grows_49 : decode cX0_grows 49 = .ok (.iconst 1, 1) := dk_4 (dk_at dksX0_grows_2 3 rfl rfl)
theorem dX0_grows_50 : decode cX0_grows 50 = .ok (.ireturn, 1) := dk_172 (dk_at dksX0_grows_2 4 rfl rfl)
theorem dX0_grows_51 : decode cX0_grows 51 = .ok (.iinc 4 1, 3) := dk_132 4 1 (dk_at dksX0_grows_2 5 rfl rfl)
theorem dX0_grows_54 : decode cX0_grows 54 = .ok (.goto (-45), 3) := dk_167 255 211 (dk_at dksX0_grows_2 8 rfl rfl)
theorem dX0_grows_57 : decode cX0_grows 57 = .ok (.iconst 0, 1) := dk_3 (dk_at dksX0_grows_2 11 rfl rfl)
theorem dX0_grows_58 : decode cX0_grows 58 = .ok (.ireturn, 1) := dk_172 (dk_at dksX0_grows_2 12 rfl rfl)
abbrev cX0_sure : ByteArray := prog_1_method_59_code
def yX0_sure : MethodName := ⟨RX0, "sure", "(I)I"⟩
def dkwX0_sure_1 : List UInt8 := [182, 1, 93, 61, 28, 2, 160, 0, 12, 42, 16, 251, 182, 0, 95, 167, 0, 4, 28, 172]
abbrev dktX0_sure_1 : List UInt8 := dkwX0_sure_1 ++ []
def dkwX0_sure_0 : List UInt8 := [42, 27, 182, 1, 82, 154, 0, 10, 42, 16, 254, 182, 0, 95, 172, 187, 1, 85, 89, 42, 27, 183, 1, 87]
abbrev dktX0_sure_0 : List UInt8 := dkwX0_sure_0 ++ dktX0_sure_1
theorem dksX0_sure_0 : cX0_sure.data.toList.drop 0 = dktX0_sure_0 := by decide +kernel
theorem dksX0_sure_1 : cX0_sure.data.toList.drop 24 = dktX0_sure_1 := dk_seg dksX0_sure_0 24 rfl rfl
theorem dX0_sure_0 : decode cX0_sure 0 = .ok (.aload_n 0, 1) := dk_42 (dk_at dksX0_sure_0 0 rfl rfl)
theorem dX0_sure_1 : decode cX0_sure 1 = .ok (.iload_n 1, 1) := dk_27 (dk_at dksX0_sure_0 1 rfl rfl)
theorem dX0_sure_2 : decode cX0_sure 2 = .ok (.invokevirtual 338, 3) := dk_182 1 82 (dk_at dksX0_sure_0 2 rfl rfl)
theorem dX0_sure_5 : decode cX0_sure 5 = .ok (.ifCond .ne 10, 3) := dk_154 0 10 (dk_at dksX0_sure_0 5 rfl rfl)
theorem dX0_sure_8 : decode cX0_sure 8 = .ok (.aload_n 0, 1) := dk_42 (dk_at dksX0_sure_0 8 rfl rfl)
theorem dX0_sure_9 : decode cX0_sure 9 = .ok (.bipush (-2), 2) := dk_16 254 (dk_at dksX0_sure_0 9 rfl rfl)
theorem dX0_sure_11 : decode cX0_sure 11 = .ok (.invokevirtual 95, 3) := dk_182 0 95 (dk_at dksX0_sure_0 11 rfl rfl)
theorem dX0_sure_14 : decode cX0_sure 14 = .ok (.ireturn, 1) := dk_172 (dk_at dksX0_sure_0 14 rfl rfl)
theorem dX0_sure_15 : decode cX0_sure 15 = .ok (.new 341, 3) := dk_187 1 85 (dk_at dksX0_sure_0 15 rfl rfl)
theorem dX0_sure_18 : decode cX0_sure 18 = .ok (.dup, 1) := dk_89 (dk_at dksX0_sure_0 18 rfl rfl)
theorem dX0_sure_19 : decode cX0_sure 19 = .ok (.aload_n 0, 1) := dk_42 (dk_at dksX0_sure_0 19 rfl rfl)
theorem dX0_sure_20 : decode cX0_sure 20 = .ok (.iload_n 1, 1) := dk_27 (dk_at dksX0_sure_0 20 rfl rfl)
theorem dX0_sure_21 : decode cX0_sure 21 = .ok (.invokespecial 343, 3) := dk_183 1 87 (dk_at dksX0_sure_0 21 rfl rfl)
theorem dX0_sure_24 : decode cX0_sure 24 = .ok (.invokevirtual 349, 3) := dk_182 1 93 (dk_at dksX0_sure_1 0 rfl rfl)
theorem dX0_sure_27 : decode cX0_sure 27 = .ok (.istore_n 2, 1) := dk_61 (dk_at dksX0_sure_1 3 rfl rfl)
theorem dX0_sure_28 : decode cX0_sure 28 = .ok (.iload_n 2, 1) := dk_28 (dk_at dksX0_sure_1 4 rfl rfl)
theorem dX0_sure_29 : decode cX0_sure 29 = .ok (.iconst (-1), 1) := dk_2 (dk_at dksX0_sure_1 5 rfl rfl)
theorem dX0_sure_30 : decode cX0_sure 30 = .ok (.if_icmp .ne 12, 3) := dk_160 0 12 (dk_at dksX0_sure_1 6 rfl rfl)
theorem dX0_sure_33 : decode cX0_sure 33 = .ok (.aload_n 0, 1) := dk_42 (dk_at dksX0_sure_1 9 rfl rfl)
theorem dX0_sure_34 : decode cX0_sure 34 = .ok (.bipush (-5), 2) := dk_16 251 (dk_at dksX0_sure_1 10 rfl rfl)
theorem dX0_sure_36 : decode cX0_sure 36 = .ok (.invokevirtual 95, 3) := dk_182 0 95 (dk_at dksX0_sure_1 12 rfl rfl)
theorem dX0_sure_39 : decode cX0_sure 39 = .ok (.goto 4, 3) := dk_167 0 4 (dk_at dksX0_sure_1 15 rfl rfl)
theorem dX0_sure_42 : decode cX0_sure 42 = .ok (.iload_n 2, 1) := dk_28 (dk_at dksX0_sure_1 18 rfl rfl)
theorem dX0_sure_43 : decode cX0_sure 43 = .ok (.ireturn, 1) := dk_172 (dk_at dksX0_sure_1 19 rfl rfl)
abbrev cX0_judge : ByteArray := prog_1_method_62_code
def yX0_judge : MethodName := ⟨RX0, "judge", "(II)I"⟩
def dkwX0_judge_0 : List UInt8 := [42, 42, 27, 28, 182, 1, 96, 182, 1, 100, 172, 78, 42, 45, 180, 0, 122, 182, 0, 95, 172]
abbrev dktX0_judge_0 : List UInt8 := dkwX0_judge_0 ++ []
theorem dksX0_judge_0 : cX0_judge.data.toList.drop 0 = dktX0_judge_0 := by decide +kernel
theorem dX0_judge_0 : decode cX0_judge 0 = .ok (.aload_n 0, 1) := dk_42 (dk_at dksX0_judge_0 0 rfl rfl)
theorem dX0_judge_1 : decode cX0_judge 1 = .ok (.aload_n 0, 1) := dk_42 (dk_at dksX0_judge_0 1 rfl rfl)
theorem dX0_judge_2 : decode cX0_judge 2 = .ok (.iload_n 1, 1) := dk_27 (dk_at dksX0_judge_0 2 rfl rfl)
theorem dX0_judge_3 : decode cX0_judge 3 = .ok (.iload_n 2, 1) := dk_28 (dk_at dksX0_judge_0 3 rfl rfl)
theorem dX0_judge_4 : decode cX0_judge 4 = .ok (.invokevirtual 352, 3) := dk_182 1 96 (dk_at dksX0_judge_0 4 rfl rfl)
theorem dX0_judge_7 : decode cX0_judge 7 = .ok (.invokevirtual 356, 3) := dk_182 1 100 (dk_at dksX0_judge_0 7 rfl rfl)
theorem dX0_judge_10 : decode cX0_judge 10 = .ok (.ireturn, 1) := dk_172 (dk_at dksX0_judge_0 10 rfl rfl)
theorem dX0_judge_11 : decode cX0_judge 11 = .ok (.astore_n 3, 1) := dk_78 (dk_at dksX0_judge_0 11 rfl rfl)
theorem dX0_judge_12 : decode cX0_judge 12 = .ok (.aload_n 0, 1) := dk_42 (dk_at dksX0_judge_0 12 rfl rfl)
theorem dX0_judge_13 : decode cX0_judge 13 = .ok (.aload_n 3, 1) := dk_45 (dk_at dksX0_judge_0 13 rfl rfl)
theorem dX0_judge_14 : decode cX0_judge 14 = .ok (.getfield 122, 3) := dk_180 0 122 (dk_at dksX0_judge_0 14 rfl rfl)
theorem dX0_judge_17 : decode cX0_judge 17 = .ok (.invokevirtual 95, 3) := dk_182 0 95 (dk_at dksX0_judge_0 17 rfl rfl)
theorem dX0_judge_20 : decode cX0_judge 20 = .ok (.ireturn, 1) := dk_172 (dk_at dksX0_judge_0 20 rfl rfl)
abbrev cX0_toldIn : ByteArray := prog_1_method_60_code
def yX0_toldIn : MethodName := ⟨RX0, "toldIn", "(II)[J"⟩
def dkwX0_toldIn_3 : List UInt8 := [187, 0, 111, 89, 16, 254, 183, 0, 113, 191, 25, 4, 176]
abbrev dktX0_toldIn_3 : List UInt8 := dkwX0_toldIn_3 ++ []
def dkwX0_toldIn_2 : List UInt8 := [25, 4, 21, 5, 45, 21, 5, 184, 0, 140, 80, 132, 5, 1, 167, 255, 236, 167, 0, 15, 58, 5]
abbrev dktX0_toldIn_2 : List UInt8 := dkwX0_toldIn_2 ++ dktX0_toldIn_3
def dkwX0_toldIn_1 : List UInt8 := [183, 0, 113, 191, 42, 27, 182, 0, 114, 78, 28, 188, 11, 58, 4, 3, 54, 5, 21, 5, 28, 162, 0, 20]
abbrev dktX0_toldIn_1 : List UInt8 := dkwX0_toldIn_1 ++ dktX0_toldIn_2
def dkwX0_toldIn_0 : List UInt8 := [27, 184, 0, 91, 153, 0, 13, 28, 3, 16, 7, 184, 0, 70, 154, 0, 13, 187, 0, 111, 89, 16, 254]
abbrev dktX0_toldIn_0 : List UInt8 := dkwX0_toldIn_0 ++ dktX0_toldIn_1
theorem dksX0_toldIn_0 : cX0_toldIn.data.toList.drop 0 = dktX0_toldIn_0 := by decide +kernel
theorem dksX0_toldIn_1 : cX0_toldIn.data.toList.drop 23 = dktX0_toldIn_1 := dk_seg dksX0_toldIn_0 23 rfl rfl
theorem dksX0_toldIn_2 : cX0_toldIn.data.toList.drop 47 = dktX0_toldIn_2 := dk_seg dksX0_toldIn_1 24 rfl rfl
theorem dksX0_toldIn_3 : cX0_toldIn.data.toList.drop 69 = dktX0_toldIn_3 := dk_seg dksX0_toldIn_2 22 rfl rfl
theorem dX0_toldIn_0 : decode cX0_toldIn 0 = .ok (.iload_n 1, 1) := dk_27 (dk_at dksX0_toldIn_0 0 rfl rfl)
theorem dX0_toldIn_1 : decode cX0_toldIn 1 = .ok (.invokestatic 91, 3) := dk_184 0 91 (dk_at dksX0_toldIn_0 1 rfl rfl)
theorem dX0_toldIn_4 : decode cX0_toldIn 4 = .ok (.ifCond .eq 13, 3) := dk_153 0 13 (dk_at dksX0_toldIn_0 4 rfl rfl)
theorem dX0_toldIn_7 : decode cX0_toldIn 7 = .ok (.iload_n 2, 1) := dk_28 (dk_at dksX0_toldIn_0 7 rfl rfl)
theorem dX0_toldIn_8 : decode cX0_toldIn 8 = .ok (.iconst 0, 1) := dk_3 (dk_at dksX0_toldIn_0 8 rfl rfl)
theorem dX0_toldIn_9 : decode cX0_toldIn 9 = .ok (.bipush 7, 2) := dk_16 7 (dk_at dksX0_toldIn_0 9 rfl rfl)
theorem dX0_toldIn_11 : decode cX0_toldIn 11 = .ok (.invokestatic 70, 3) := dk_184 0 70 (dk_at dksX0_toldIn_0 11 rfl rfl)
theorem dX0_toldIn_14 : decode cX0_toldIn 14 = .ok (.ifCond .ne 13, 3) := dk_154 0 13 (dk_at dksX0_toldIn_0 14 rfl rfl)
theorem dX0_toldIn_17 : decode cX0_toldIn 17 = .ok (.new 111, 3) := dk_187 0 111 (dk_at dksX0_toldIn_0 17 rfl rfl)
theorem dX0_toldIn_20 : decode cX0_toldIn 20 = .ok (.dup, 1) := dk_89 (dk_at dksX0_toldIn_0 20 rfl rfl)
theorem dX0_toldIn_21 : decode cX0_toldIn 21 = .ok (.bipush (-2), 2) := dk_16 254 (dk_at dksX0_toldIn_0 21 rfl rfl)
theorem dX0_toldIn_23 : decode cX0_toldIn 23 = .ok (.invokespecial 113, 3) := dk_183 0 113 (dk_at dksX0_toldIn_1 0 rfl rfl)
theorem dX0_toldIn_26 : decode cX0_toldIn 26 = .ok (.athrow, 1) := dk_191 (dk_at dksX0_toldIn_1 3 rfl rfl)
theorem dX0_toldIn_27 : decode cX0_toldIn 27 = .ok (.aload_n 0, 1) := dk_42 (dk_at dksX0_toldIn_1 4 rfl rfl)
theorem dX0_toldIn_28 : decode cX0_toldIn 28 = .ok (.iload_n 1, 1) := dk_27 (dk_at dksX0_toldIn_1 5 rfl rfl)
theorem dX0_toldIn_29 : decode cX0_toldIn 29 = .ok (.invokevirtual 114, 3) := dk_182 0 114 (dk_at dksX0_toldIn_1 6 rfl rfl)
theorem dX0_toldIn_32 : decode cX0_toldIn 32 = .ok (.astore_n 3, 1) := dk_78 (dk_at dksX0_toldIn_1 9 rfl rfl)
theorem dX0_toldIn_33 : decode cX0_toldIn 33 = .ok (.iload_n 2, 1) := dk_28 (dk_at dksX0_toldIn_1 10 rfl rfl)
theorem dX0_toldIn_34 : decode cX0_toldIn 34 = .ok (.newarray .long, 2) := dk_188_11 (dk_at dksX0_toldIn_1 11 rfl rfl)
theorem dX0_toldIn_36 : decode cX0_toldIn 36 = .ok (.astore 4, 2) := dk_58 4 (dk_at dksX0_toldIn_1 13 rfl rfl)
theorem dX0_toldIn_38 : decode cX0_toldIn 38 = .ok (.iconst 0, 1) := dk_3 (dk_at dksX0_toldIn_1 15 rfl rfl)
theorem dX0_toldIn_39 : decode cX0_toldIn 39 = .ok (.istore 5, 2) := dk_54 5 (dk_at dksX0_toldIn_1 16 rfl rfl)
theorem dX0_toldIn_41 : decode cX0_toldIn 41 = .ok (.iload 5, 2) := dk_21 5 (dk_at dksX0_toldIn_1 18 rfl rfl)
theorem dX0_toldIn_43 : decode cX0_toldIn 43 = .ok (.iload_n 2, 1) := dk_28 (dk_at dksX0_toldIn_1 20 rfl rfl)
theorem dX0_toldIn_44 : decode cX0_toldIn 44 = .ok (.if_icmp .ge 20, 3) := dk_162 0 20 (dk_at dksX0_toldIn_1 21 rfl rfl)
theorem dX0_toldIn_47 : decode cX0_toldIn 47 = .ok (.aload 4, 2) := dk_25 4 (dk_at dksX0_toldIn_2 0 rfl rfl)
theorem dX0_toldIn_49 : decode cX0_toldIn 49 = .ok (.iload 5, 2) := dk_21 5 (dk_at dksX0_toldIn_2 2 rfl rfl)
theorem dX0_toldIn_51 : decode cX0_toldIn 51 = .ok (.aload_n 3, 1) := dk_45 (dk_at dksX0_toldIn_2 4 rfl rfl)
theorem dX0_toldIn_52 : decode cX0_toldIn 52 = .ok (.iload 5, 2) := dk_21 5 (dk_at dksX0_toldIn_2 5 rfl rfl)
theorem dX0_toldIn_54 : decode cX0_toldIn 54 = .ok (.invokestatic 140, 3) := dk_184 0 140 (dk_at dksX0_toldIn_2 7 rfl rfl)
theorem dX0_toldIn_57 : decode cX0_toldIn 57 = .ok (.lastore, 1) := dk_80 (dk_at dksX0_toldIn_2 10 rfl rfl)
theorem dX0_toldIn_58 : decode cX0_toldIn 58 = .ok (.iinc 5 1, 3) := dk_132 5 1 (dk_at dksX0_toldIn_2 11 rfl rfl)
theorem dX0_toldIn_61 : decode cX0_toldIn 61 = .ok (.goto (-20), 3) := dk_167 255 236 (dk_at dksX0_toldIn_2 14 rfl rfl)
theorem dX0_toldIn_64 : decode cX0_toldIn 64 = .ok (.goto 15, 3) := dk_167 0 15 (dk_at dksX0_toldIn_2 17 rfl rfl)
theorem dX0_toldIn_67 : decode cX0_toldIn 67 = .ok (.astore 5, 2) := dk_58 5 (dk_at dksX0_toldIn_2 20 rfl rfl)
theorem dX0_toldIn_69 : decode cX0_toldIn 69 = .ok (.new 111, 3) := dk_187 0 111 (dk_at dksX0_toldIn_3 0 rfl rfl)
theorem dX0_toldIn_72 : decode cX0_toldIn 72 = .ok (.dup, 1) := dk_89 (dk_at dksX0_toldIn_3 3 rfl rfl)
theorem dX0_toldIn_73 : decode cX0_toldIn 73 = .ok (.bipush (-2), 2) := dk_16 254 (dk_at dksX0_toldIn_3 4 rfl rfl)
theorem dX0_toldIn_75 : decode cX0_toldIn 75 = .ok (.invokespecial 113, 3) := dk_183 0 113 (dk_at dksX0_toldIn_3 6 rfl rfl)
theorem dX0_toldIn_78 : decode cX0_toldIn 78 = .ok (.athrow, 1) := dk_191 (dk_at dksX0_toldIn_3 9 rfl rfl)
theorem dX0_toldIn_79 : decode cX0_toldIn 79 = .ok (.aload 4, 2) := dk_25 4 (dk_at dksX0_toldIn_3 10 rfl rfl)
theorem dX0_toldIn_81 : decode cX0_toldIn 81 = .ok (.areturn, 1) := dk_176 (dk_at dksX0_toldIn_3 12 rfl rfl)
abbrev cX0_wrongIn : ByteArray := prog_1_method_61_code
def yX0_wrongIn : MethodName := ⟨RX0, "wrongIn", "([J)I"⟩
def dkwX0_wrongIn_3 : List UInt8 := [9, 148, 153, 0, 5, 29, 172, 28, 43, 29, 47, 136, 128, 61, 132, 3, 1, 167, 255, 178, 2, 172]
abbrev dktX0_wrongIn_3 : List UInt8 := dkwX0_wrongIn_3 ++ []
def dkwX0_wrongIn_2 : List UInt8 := [182, 0, 238, 153, 0, 7, 4, 167, 0, 4, 3, 54, 4, 21, 4, 153, 0, 14, 43, 29, 47, 28, 133, 127]
abbrev dktX0_wrongIn_2 : List UInt8 := dkwX0_wrongIn_2 ++ dktX0_wrongIn_3
def dkwX0_wrongIn_1 : List UInt8 := [29, 47, 42, 180, 0, 29, 182, 0, 155, 133, 148, 157, 0, 21, 42, 180, 0, 39, 43, 29, 47, 136]
abbrev dktX0_wrongIn_1 : List UInt8 := dkwX0_wrongIn_1 ++ dktX0_wrongIn_2
def dkwX0_wrongIn_0 : List UInt8 := [42, 182, 0, 152, 87, 3, 61, 3, 62, 29, 43, 190, 162, 0, 78, 43, 29, 47, 9, 148, 155, 0, 36, 43]
abbrev dktX0_wrongIn_0 : List UInt8 := dkwX0_wrongIn_0 ++ dktX0_wrongIn_1
theorem dksX0_wrongIn_0 : cX0_wrongIn.data.toList.drop 0 = dktX0_wrongIn_0 := by decide +kernel
theorem dksX0_wrongIn_1 : cX0_wrongIn.data.toList.drop 24 = dktX0_wrongIn_1 := dk_seg dksX0_wrongIn_0 24 rfl rfl
theorem dksX0_wrongIn_2 : cX0_wrongIn.data.toList.drop 46 = dktX0_wrongIn_2 := dk_seg dksX0_wrongIn_1 22 rfl rfl
theorem dksX0_wrongIn_3 : cX0_wrongIn.data.toList.drop 70 = dktX0_wrongIn_3 := dk_seg dksX0_wrongIn_2 24 rfl rfl
theorem dX0_wrongIn_0 : decode cX0_wrongIn 0 = .ok (.aload_n 0, 1) := dk_42 (dk_at dksX0_wrongIn_0 0 rfl rfl)
theorem dX0_wrongIn_1 : decode cX0_wrongIn 1 = .ok (.invokevirtual 152, 3) := dk_182 0 152 (dk_at dksX0_wrongIn_0 1 rfl rfl)
theorem dX0_wrongIn_4 : decode cX0_wrongIn 4 = .ok (.pop, 1) := dk_87 (dk_at dksX0_wrongIn_0 4 rfl rfl)
theorem dX0_wrongIn_5 : decode cX0_wrongIn 5 = .ok (.iconst 0, 1) := dk_3 (dk_at dksX0_wrongIn_0 5 rfl rfl)
theorem dX0_wrongIn_6 : decode cX0_wrongIn 6 = .ok (.istore_n 2, 1) := dk_61 (dk_at dksX0_wrongIn_0 6 rfl rfl)
theorem dX0_wrongIn_7 : decode cX0_wrongIn 7 = .ok (.iconst 0, 1) := dk_3 (dk_at dksX0_wrongIn_0 7 rfl rfl)
theorem dX0_wrongIn_8 : decode cX0_wrongIn 8 = .ok (.istore_n 3, 1) := dk_62 (dk_at dksX0_wrongIn_0 8 rfl rfl)
theorem dX0_wrongIn_9 : decode cX0_wrongIn 9 = .ok (.iload_n 3, 1) := dk_29 (dk_at dksX0_wrongIn_0 9 rfl rfl)
theorem dX0_wrongIn_10 : decode cX0_wrongIn 10 = .ok (.aload_n 1, 1) := dk_43 (dk_at dksX0_wrongIn_0 10 rfl rfl)
theorem dX0_wrongIn_11 : decode cX0_wrongIn 11 = .ok (.arraylength, 1) := dk_190 (dk_at dksX0_wrongIn_0 11 rfl rfl)
theorem dX0_wrongIn_12 : decode cX0_wrongIn 12 = .ok (.if_icmp .ge 78, 3) := dk_162 0 78 (dk_at dksX0_wrongIn_0 12 rfl rfl)
theorem dX0_wrongIn_15 : decode cX0_wrongIn 15 = .ok (.aload_n 1, 1) := dk_43 (dk_at dksX0_wrongIn_0 15 rfl rfl)
theorem dX0_wrongIn_16 : decode cX0_wrongIn 16 = .ok (.iload_n 3, 1) := dk_29 (dk_at dksX0_wrongIn_0 16 rfl rfl)
theorem dX0_wrongIn_17 : decode cX0_wrongIn 17 = .ok (.laload, 1) := dk_47 (dk_at dksX0_wrongIn_0 17 rfl rfl)
theorem dX0_wrongIn_18 : decode cX0_wrongIn 18 = .ok (.lconst 0, 1) := dk_9 (dk_at dksX0_wrongIn_0 18 rfl rfl)
theorem dX0_wrongIn_19 : decode cX0_wrongIn 19 = .ok (.lcmp, 1) := dk_148 (dk_at dksX0_wrongIn_0 19 rfl rfl)
theorem dX0_wrongIn_20 : decode cX0_wrongIn 20 = .ok (.ifCond .lt 36, 3) := dk_155 0 36 (dk_at dksX0_wrongIn_0 20 rfl rfl)
theorem dX0_wrongIn_23 : decode cX0_wrongIn 23 = .ok (.aload_n 1, 1) := dk_43 (dk_at dksX0_wrongIn_0 23 rfl rfl)
theorem dX0_wrongIn_24 : decode cX0_wrongIn 24 = .ok (.iload_n 3, 1) := dk_29 (dk_at dksX0_wrongIn_1 0 rfl rfl)
theorem dX0_wrongIn_25 : decode cX0_wrongIn 25 = .ok (.laload, 1) := dk_47 (dk_at dksX0_wrongIn_1 1 rfl rfl)
theorem dX0_wrongIn_26 : decode cX0_wrongIn 26 = .ok (.aload_n 0, 1) := dk_42 (dk_at dksX0_wrongIn_1 2 rfl rfl)
theorem dX0_wrongIn_27 : decode cX0_wrongIn 27 = .ok (.getfield 29, 3) := dk_180 0 29 (dk_at dksX0_wrongIn_1 3 rfl rfl)
theorem dX0_wrongIn_30 : decode cX0_wrongIn 30 = .ok (.invokevirtual 155, 3) := dk_182 0 155 (dk_at dksX0_wrongIn_1 6 rfl rfl)
theorem dX0_wrongIn_33 : decode cX0_wrongIn 33 = .ok (.i2l, 1) := dk_133 (dk_at dksX0_wrongIn_1 9 rfl rfl)
theorem dX0_wrongIn_34 : decode cX0_wrongIn 34 = .ok (.lcmp, 1) := dk_148 (dk_at dksX0_wrongIn_1 10 rfl rfl)
theorem dX0_wrongIn_35 : decode cX0_wrongIn 35 = .ok (.ifCond .gt 21, 3) := dk_157 0 21 (dk_at dksX0_wrongIn_1 11 rfl rfl)
theorem dX0_wrongIn_38 : decode cX0_wrongIn 38 = .ok (.aload_n 0, 1) := dk_42 (dk_at dksX0_wrongIn_1 14 rfl rfl)
theorem dX0_wrongIn_39 : decode cX0_wrongIn 39 = .ok (.getfield 39, 3) := dk_180 0 39 (dk_at dksX0_wrongIn_1 15 rfl rfl)
theorem dX0_wrongIn_42 : decode cX0_wrongIn 42 = .ok (.aload_n 1, 1) := dk_43 (dk_at dksX0_wrongIn_1 18 rfl rfl)
theorem dX0_wrongIn_43 : decode cX0_wrongIn 43 = .ok (.iload_n 3, 1) := dk_29 (dk_at dksX0_wrongIn_1 19 rfl rfl)
theorem dX0_wrongIn_44 : decode cX0_wrongIn 44 = .ok (.laload, 1) := dk_47 (dk_at dksX0_wrongIn_1 20 rfl rfl)
theorem dX0_wrongIn_45 : decode cX0_wrongIn 45 = .ok (.l2i, 1) := dk_136 (dk_at dksX0_wrongIn_1 21 rfl rfl)
theorem dX0_wrongIn_46 : decode cX0_wrongIn 46 = .ok (.invokevirtual 238, 3) := dk_182 0 238 (dk_at dksX0_wrongIn_2 0 rfl rfl)
theorem dX0_wrongIn_49 : decode cX0_wrongIn 49 = .ok (.ifCond .eq 7, 3) := dk_153 0 7 (dk_at dksX0_wrongIn_2 3 rfl rfl)
theorem dX0_wrongIn_52 : decode cX0_wrongIn 52 = .ok (.iconst 1, 1) := dk_4 (dk_at dksX0_wrongIn_2 6 rfl rfl)
theorem dX0_wrongIn_53 : decode cX0_wrongIn 53 = .ok (.goto 4, 3) := dk_167 0 4 (dk_at dksX0_wrongIn_2 7 rfl rfl)
theorem dX0_wrongIn_56 : decode cX0_wrongIn 56 = .ok (.iconst 0, 1) := dk_3 (dk_at dksX0_wrongIn_2 10 rfl rfl)
theorem dX0_wrongIn_57 : decode cX0_wrongIn 57 = .ok (.istore 4, 2) := dk_54 4 (dk_at dksX0_wrongIn_2 11 rfl rfl)
theorem dX0_wrongIn_59 : decode cX0_wrongIn 59 = .ok (.iload 4, 2) := dk_21 4 (dk_at dksX0_wrongIn_2 13 rfl rfl)
theorem dX0_wrongIn_61 : decode cX0_wrongIn 61 = .ok (.ifCond .eq 14, 3) := dk_153 0 14 (dk_at dksX0_wrongIn_2 15 rfl rfl)
theorem dX0_wrongIn_64 : decode cX0_wrongIn 64 = .ok (.aload_n 1, 1) := dk_43 (dk_at dksX0_wrongIn_2 18 rfl rfl)
theorem dX0_wrongIn_65 : decode cX0_wrongIn 65 = .ok (.iload_n 3, 1) := dk_29 (dk_at dksX0_wrongIn_2 19 rfl rfl)
theorem dX0_wrongIn_66 : decode cX0_wrongIn 66 = .ok (.laload, 1) := dk_47 (dk_at dksX0_wrongIn_2 20 rfl rfl)
theorem dX0_wrongIn_67 : decode cX0_wrongIn 67 = .ok (.iload_n 2, 1) := dk_28 (dk_at dksX0_wrongIn_2 21 rfl rfl)
theorem dX0_wrongIn_68 : decode cX0_wrongIn 68 = .ok (.i2l, 1) := dk_133 (dk_at dksX0_wrongIn_2 22 rfl rfl)
theorem dX0_wrongIn_69 : decode cX0_wrongIn 69 = .ok (.land, 1) := dk_127 (dk_at dksX0_wrongIn_2 23 rfl rfl)
theorem dX0_wrongIn_70 : decode cX0_wrongIn 70 = .ok (.lconst 0, 1) := dk_9 (dk_at dksX0_wrongIn_3 0 rfl rfl)
theorem dX0_wrongIn_71 : decode cX0_wrongIn 71 = .ok (.lcmp, 1) := dk_148 (dk_at dksX0_wrongIn_3 1 rfl rfl)
theorem dX0_wrongIn_72 : decode cX0_wrongIn 72 = .ok (.ifCond .eq 5, 3) := dk_153 0 5 (dk_at dksX0_wrongIn_3 2 rfl rfl)
theorem dX0_wrongIn_75 : decode cX0_wrongIn 75 = .ok (.iload_n 3, 1) := dk_29 (dk_at dksX0_wrongIn_3 5 rfl rfl)
theorem dX0_wrongIn_76 : decode cX0_wrongIn 76 = .ok (.ireturn, 1) := dk_172 (dk_at dksX0_wrongIn_3 6 rfl rfl)
theorem dX0_wrongIn_77 : decode cX0_wrongIn 77 = .ok (.iload_n 2, 1) := dk_28 (dk_at dksX0_wrongIn_3 7 rfl rfl)
theorem dX0_wrongIn_78 : decode cX0_wrongIn 78 = .ok (.aload_n 1, 1) := dk_43 (dk_at dksX0_wrongIn_3 8 rfl rfl)
theorem dX0_wrongIn_79 : decode cX0_wrongIn 79 = .ok (.iload_n 3, 1) := dk_29 (dk_at dksX0_wrongIn_3 9 rfl rfl)
theorem dX0_wrongIn_80 : decode cX0_wrongIn 80 = .ok (.laload, 1) := dk_47 (dk_at dksX0_wrongIn_3 10 rfl rfl)
theorem dX0_wrongIn_81 : decode cX0_wrongIn 81 = .ok (.l2i, 1) := dk_136 (dk_at dksX0_wrongIn_3 11 rfl rfl)
theorem dX0_wrongIn_82 : decode cX0_wrongIn 82 = .ok (.ior, 1) := dk_128 (dk_at dksX0_wrongIn_3 12 rfl rfl)
theorem dX0_wrongIn_83 : decode cX0_wrongIn 83 = .ok (.istore_n 2, 1) := dk_61 (dk_at dksX0_wrongIn_3 13 rfl rfl)
theorem dX0_wrongIn_84 : decode cX0_wrongIn 84 = .ok (.iinc 3 1, 3) := dk_132 3 1 (dk_at dksX0_wrongIn_3 14 rfl rfl)
theorem dX0_wrongIn_87 : decode cX0_wrongIn 87 = .ok (.goto (-78), 3) := dk_167 255 178 (dk_at dksX0_wrongIn_3 17 rfl rfl)
theorem dX0_wrongIn_90 : decode cX0_wrongIn 90 = .ok (.iconst (-1), 1) := dk_2 (dk_at dksX0_wrongIn_3 20 rfl rfl)
theorem dX0_wrongIn_91 : decode cX0_wrongIn 91 = .ok (.ireturn, 1) := dk_172 (dk_at dksX0_wrongIn_3 21 rfl rfl)
abbrev cX0_behind : ByteArray := prog_1_method_65_code
def yX0_behind : MethodName := ⟨RX0, "behind", "(III)I"⟩
def dkwX0_behind_4 : List UInt8 := [182, 0, 74, 180, 1, 32, 172, 58, 4, 42, 25, 4, 180, 0, 122, 182, 0, 95, 172]
abbrev dktX0_behind_4 : List UInt8 := dkwX0_behind_4 ++ []
def dkwX0_behind_3 : List UInt8 := [58, 6, 25, 6, 25, 4, 184, 1, 107, 29, 154, 0, 8, 21, 5, 167, 0, 15, 42, 180, 0, 39, 25, 6]
abbrev dktX0_behind_3 : List UInt8 := dkwX0_behind_3 ++ dktX0_behind_4
def dkwX0_behind_2 : List UInt8 := [47, 136, 2, 130, 126, 54, 5, 132, 6, 1, 167, 255, 234, 42, 180, 0, 33, 42, 180, 0, 29, 182, 1, 48]
abbrev dktX0_behind_2 : List UInt8 := dkwX0_behind_2 ++ dktX0_behind_3
def dkwX0_behind_1 : List UInt8 := [42, 180, 0, 29, 182, 0, 155, 54, 5, 3, 54, 6, 21, 6, 28, 162, 0, 22, 21, 5, 25, 4, 21, 6]
abbrev dktX0_behind_1 : List UInt8 := dkwX0_behind_1 ++ dktX0_behind_2
def dkwX0_behind_0 : List UInt8 := [29, 3, 4, 184, 0, 70, 154, 0, 10, 42, 16, 254, 182, 0, 95, 172, 42, 27, 28, 182, 1, 104, 58, 4]
abbrev dktX0_behind_0 : List UInt8 := dkwX0_behind_0 ++ dktX0_behind_1
theorem dksX0_behind_0 : cX0_behind.data.toList.drop 0 = dktX0_behind_0 := by decide +kernel
theorem dksX0_behind_1 : cX0_behind.data.toList.drop 24 = dktX0_behind_1 := dk_seg dksX0_behind_0 24 rfl rfl
theorem dksX0_behind_2 : cX0_behind.data.toList.drop 48 = dktX0_behind_2 := dk_seg dksX0_behind_1 24 rfl rfl
theorem dksX0_behind_3 : cX0_behind.data.toList.drop 72 = dktX0_behind_3 := dk_seg dksX0_behind_2 24 rfl rfl
theorem dksX0_behind_4 : cX0_behind.data.toList.drop 96 = dktX0_behind_4 := dk_seg dksX0_behind_3 24 rfl rfl
theorem dX0_behind_0 : decode cX0_behind 0 = .ok (.iload_n 3, 1) := dk_29 (dk_at dksX0_behind_0 0 rfl rfl)
theorem dX0_behind_1 : decode cX0_behind 1 = .ok (.iconst 0, 1) := dk_3 (dk_at dksX0_behind_0 1 rfl rfl)
theorem dX0_behind_2 : decode cX0_behind 2 = .ok (.iconst 1, 1) := dk_4 (dk_at dksX0_behind_0 2 rfl rfl)
theorem dX0_behind_3 : decode cX0_behind 3 = .ok (.invokestatic 70, 3) := dk_184 0 70 (dk_at dksX0_behind_0 3 rfl rfl)
theorem dX0_behind_6 : decode cX0_behind 6 = .ok (.ifCond .ne 10, 3) := dk_154 0 10 (dk_at dksX0_behind_0 6 rfl rfl)
theorem dX0_behind_9 : decode cX0_behind 9 = .ok (.aload_n 0, 1) := dk_42 (dk_at dksX0_behind_0 9 rfl rfl)
theorem dX0_behind_10 : decode cX0_behind 10 = .ok (.bipush (-2), 2) := dk_16 254 (dk_at dksX0_behind_0 10 rfl rfl)
theorem dX0_behind_12 : decode cX0_behind 12 = .ok (.invokevirtual 95, 3) := dk_182 0 95 (dk_at dksX0_behind_0 12 rfl rfl)
theorem dX0_behind_15 : decode cX0_behind 15 = .ok (.ireturn, 1) := dk_172 (dk_at dksX0_behind_0 15 rfl rfl)
theorem dX0_behind_16 : decode cX0_behind 16 = .ok (.aload_n 0, 1) := dk_42 (dk_at dksX0_behind_0 16 rfl rfl)
theorem dX0_behind_17 : decode cX0_behind 17 = .ok (.iload_n 1, 1) := dk_27 (dk_at dksX0_behind_0 17 rfl rfl)
theorem dX0_behind_18 : decode cX0_behind 18 = .ok (.iload_n 2, 1) := dk_28 (dk_at dksX0_behind_0 18 rfl rfl)
theorem dX0_behind_19 : decode cX0_behind 19 = .ok (.invokevirtual 360, 3) := dk_182 1 104 (dk_at dksX0_behind_0 19 rfl rfl)
theorem dX0_behind_22 : decode cX0_behind 22 = .ok (.astore 4, 2) := dk_58 4 (dk_at dksX0_behind_0 22 rfl rfl)
theorem dX0_behind_24 : decode cX0_behind 24 = .ok (.aload_n 0, 1) := dk_42 (dk_at dksX0_behind_1 0 rfl rfl)
theorem dX0_behind_25 : decode cX0_behind 25 = .ok (.getfield 29, 3) := dk_180 0 29 (dk_at dksX0_behind_1 1 rfl rfl)
theorem dX0_behind_28 : decode cX0_behind 28 = .ok (.invokevirtual 155, 3) := dk_182 0 155 (dk_at dksX0_behind_1 4 rfl rfl)
theorem dX0_behind_31 : decode cX0_behind 31 = .ok (.istore 5, 2) := dk_54 5 (dk_at dksX0_behind_1 7 rfl rfl)
theorem dX0_behind_33 : decode cX0_behind 33 = .ok (.iconst 0, 1) := dk_3 (dk_at dksX0_behind_1 9 rfl rfl)
theorem dX0_behind_34 : decode cX0_behind 34 = .ok (.istore 6, 2) := dk_54 6 (dk_at dksX0_behind_1 10 rfl rfl)
theorem dX0_behind_36 : decode cX0_behind 36 = .ok (.iload 6, 2) := dk_21 6 (dk_at dksX0_behind_1 12 rfl rfl)
theorem dX0_behind_38 : decode cX0_behind 38 = .ok (.iload_n 2, 1) := dk_28 (dk_at dksX0_behind_1 14 rfl rfl)
theorem dX0_behind_39 : decode cX0_behind 39 = .ok (.if_icmp .ge 22, 3) := dk_162 0 22 (dk_at dksX0_behind_1 15 rfl rfl)
theorem dX0_behind_42 : decode cX0_behind 42 = .ok (.iload 5, 2) := dk_21 5 (dk_at dksX0_behind_1 18 rfl rfl)
theorem dX0_behind_44 : decode cX0_behind 44 = .ok (.aload 4, 2) := dk_25 4 (dk_at dksX0_behind_1 20 rfl rfl)
theorem dX0_behind_46 : decode cX0_behind 46 = .ok (.iload 6, 2) := dk_21 6 (dk_at dksX0_behind_1 22 rfl rfl)
theorem dX0_behind_48 : decode cX0_behind 48 = .ok (.laload, 1) := dk_47 (dk_at dksX0_behind_2 0 rfl rfl)
theorem dX0_behind_49 : decode cX0_behind 49 = .ok (.l2i, 1) := dk_136 (dk_at dksX0_behind_2 1 rfl rfl)
theorem dX0_behind_50 : decode cX0_behind 50 = .ok (.iconst (-1), 1) := dk_2 (dk_at dksX0_behind_2 2 rfl rfl)
theorem dX0_behind_51 : decode cX0_behind 51 = .ok (.ixor, 1) := dk_130 (dk_at dksX0_behind_2 3 rfl rfl)
theorem dX0_behind_52 : decode cX0_behind 52 = .ok (.iand, 1) := dk_126 (dk_at dksX0_behind_2 4 rfl rfl)
theorem dX0_behind_53 : decode cX0_behind 53 = .ok (.istore 5, 2) := dk_54 5 (dk_at dksX0_behind_2 5 rfl rfl)
theorem dX0_behind_55 : decode cX0_behind 55 = .ok (.iinc 6 1, 3) := dk_132 6 1 (dk_at dksX0_behind_2 7 rfl rfl)
theorem dX0_behind_58 : decode cX0_behind 58 = .ok (.goto (-22), 3) := dk_167 255 234 (dk_at dksX0_behind_2 10 rfl rfl)
theorem dX0_behind_61 : decode cX0_behind 61 = .ok (.aload_n 0, 1) := dk_42 (dk_at dksX0_behind_2 13 rfl rfl)
theorem dX0_behind_62 : decode cX0_behind 62 = .ok (.getfield 33, 3) := dk_180 0 33 (dk_at dksX0_behind_2 14 rfl rfl)
theorem dX0_behind_65 : decode cX0_behind 65 = .ok (.aload_n 0, 1) := dk_42 (dk_at dksX0_behind_2 17 rfl rfl)
theorem dX0_behind_66 : decode cX0_behind 66 = .ok (.getfield 29, 3) := dk_180 0 29 (dk_at dksX0_behind_2 18 rfl rfl)
theorem dX0_behind_69 : decode cX0_behind 69 = .ok (.invokevirtual 304, 3) := dk_182 1 48 (dk_at dksX0_behind_2 21 rfl rfl)
theorem dX0_behind_72 : decode cX0_behind 72 = .ok (.astore 6, 2) := dk_58 6 (dk_at dksX0_behind_3 0 rfl rfl)
theorem dX0_behind_74 : decode cX0_behind 74 = .ok (.aload 6, 2) := dk_25 6 (dk_at dksX0_behind_3 2 rfl rfl)
theorem dX0_behind_76 : decode cX0_behind 76 = .ok (.aload 4, 2) := dk_25 4 (dk_at dksX0_behind_3 4 rfl rfl)
theorem dX0_behind_78 : decode cX0_behind 78 = .ok (.invokestatic 363, 3) := dk_184 1 107 (dk_at dksX0_behind_3 6 rfl rfl)
theorem dX0_behind_81 : decode cX0_behind 81 = .ok (.iload_n 3, 1) := dk_29 (dk_at dksX0_behind_3 9 rfl rfl)
theorem dX0_behind_82 : decode cX0_behind 82 = .ok (.ifCond .ne 8, 3) := dk_154 0 8 (dk_at dksX0_behind_3 10 rfl rfl)
theorem dX0_behind_85 : decode cX0_behind 85 = .ok (.iload 5, 2) := dk_21 5 (dk_at dksX0_behind_3 13 rfl rfl)
theorem dX0_behind_87 : decode cX0_behind 87 = .ok (.goto 15, 3) := dk_167 0 15 (dk_at dksX0_behind_3 15 rfl rfl)
theorem dX0_behind_90 : decode cX0_behind 90 = .ok (.aload_n 0, 1) := dk_42 (dk_at dksX0_behind_3 18 rfl rfl)
theorem dX0_behind_91 : decode cX0_behind 91 = .ok (.getfield 39, 3) := dk_180 0 39 (dk_at dksX0_behind_3 19 rfl rfl)
theorem dX0_behind_94 : decode cX0_behind 94 = .ok (.aload 6, 2) := dk_25 6 (dk_at dksX0_behind_3 22 rfl rfl)
theorem dX0_behind_96 : decode cX0_behind 96 = .ok (.invokevirtual 74, 3) := dk_182 0 74 (dk_at dksX0_behind_4 0 rfl rfl)
theorem dX0_behind_99 : decode cX0_behind 99 = .ok (.getfield 288, 3) := dk_180 1 32 (dk_at dksX0_behind_4 3 rfl rfl)
theorem dX0_behind_102 : decode cX0_behind 102 = .ok (.ireturn, 1) := dk_172 (dk_at dksX0_behind_4 6 rfl rfl)
theorem dX0_behind_103 : decode cX0_behind 103 = .ok (.astore 4, 2) := dk_58 4 (dk_at dksX0_behind_4 7 rfl rfl)
theorem dX0_behind_105 : decode cX0_behind 105 = .ok (.aload_n 0, 1) := dk_42 (dk_at dksX0_behind_4 9 rfl rfl)
theorem dX0_behind_106 : decode cX0_behind 106 = .ok (.aload 4, 2) := dk_25 4 (dk_at dksX0_behind_4 10 rfl rfl)
theorem dX0_behind_108 : decode cX0_behind 108 = .ok (.getfield 122, 3) := dk_180 0 122 (dk_at dksX0_behind_4 12 rfl rfl)
theorem dX0_behind_111 : decode cX0_behind 111 = .ok (.invokevirtual 95, 3) := dk_182 0 95 (dk_at dksX0_behind_4 15 rfl rfl)
theorem dX0_behind_114 : decode cX0_behind 114 = .ok (.ireturn, 1) := dk_172 (dk_at dksX0_behind_4 18 rfl rfl)
abbrev cX0_goodIn : ByteArray := prog_1_method_63_code
def yX0_goodIn : MethodName := ⟨RX0, "goodIn", "(II)[J"⟩
def dkwX0_goodIn_1 : List UInt8 := [183, 0, 113, 191, 45, 176]
abbrev dktX0_goodIn_1 : List UInt8 := dkwX0_goodIn_1 ++ []
def dkwX0_goodIn_0 : List UInt8 := [42, 27, 28, 182, 1, 96, 78, 42, 45, 182, 1, 100, 2, 159, 0, 13, 187, 0, 111, 89, 16, 251]
abbrev dktX0_goodIn_0 : List UInt8 := dkwX0_goodIn_0 ++ dktX0_goodIn_1
theorem dksX0_goodIn_0 : cX0_goodIn.data.toList.drop 0 = dktX0_goodIn_0 := by decide +kernel
theorem dksX0_goodIn_1 : cX0_goodIn.data.toList.drop 22 = dktX0_goodIn_1 := dk_seg dksX0_goodIn_0 22 rfl rfl
theorem dX0_goodIn_0 : decode cX0_goodIn 0 = .ok (.aload_n 0, 1) := dk_42 (dk_at dksX0_goodIn_0 0 rfl rfl)
theorem dX0_goodIn_1 : decode cX0_goodIn 1 = .ok (.iload_n 1, 1) := dk_27 (dk_at dksX0_goodIn_0 1 rfl rfl)
theorem dX0_goodIn_2 : decode cX0_goodIn 2 = .ok (.iload_n 2, 1) := dk_28 (dk_at dksX0_goodIn_0 2 rfl rfl)
theorem dX0_goodIn_3 : decode cX0_goodIn 3 = .ok (.invokevirtual 352, 3) := dk_182 1 96 (dk_at dksX0_goodIn_0 3 rfl rfl)
theorem dX0_goodIn_6 : decode cX0_goodIn 6 = .ok (.astore_n 3, 1) := dk_78 (dk_at dksX0_goodIn_0 6 rfl rfl)
theorem dX0_goodIn_7 : decode cX0_goodIn 7 = .ok (.aload_n 0, 1) := dk_42 (dk_at dksX0_goodIn_0 7 rfl rfl)
theorem dX0_goodIn_8 : decode cX0_goodIn 8 = .ok (.aload_n 3, 1) := dk_45 (dk_at dksX0_goodIn_0 8 rfl rfl)
theorem dX0_goodIn_9 : decode cX0_goodIn 9 = .ok (.invokevirtual 356, 3) := dk_182 1 100 (dk_at dksX0_goodIn_0 9 rfl rfl)
theorem dX0_goodIn_12 : decode cX0_goodIn 12 = .ok (.iconst (-1), 1) := dk_2 (dk_at dksX0_goodIn_0 12 rfl rfl)
theorem dX0_goodIn_13 : decode cX0_goodIn 13 = .ok (.if_icmp .eq 13, 3) := dk_159 0 13 (dk_at dksX0_goodIn_0 13 rfl rfl)
theorem dX0_goodIn_16 : decode cX0_goodIn 16 = .ok (.new 111, 3) := dk_187 0 111 (dk_at dksX0_goodIn_0 16 rfl rfl)
theorem dX0_goodIn_19 : decode cX0_goodIn 19 = .ok (.dup, 1) := dk_89 (dk_at dksX0_goodIn_0 19 rfl rfl)
theorem dX0_goodIn_20 : decode cX0_goodIn 20 = .ok (.bipush (-5), 2) := dk_16 251 (dk_at dksX0_goodIn_0 20 rfl rfl)
theorem dX0_goodIn_22 : decode cX0_goodIn 22 = .ok (.invokespecial 113, 3) := dk_183 0 113 (dk_at dksX0_goodIn_1 0 rfl rfl)
theorem dX0_goodIn_25 : decode cX0_goodIn 25 = .ok (.athrow, 1) := dk_191 (dk_at dksX0_goodIn_1 3 rfl rfl)
theorem dX0_goodIn_26 : decode cX0_goodIn 26 = .ok (.aload_n 3, 1) := dk_45 (dk_at dksX0_goodIn_1 4 rfl rfl)
theorem dX0_goodIn_27 : decode cX0_goodIn 27 = .ok (.areturn, 1) := dk_176 (dk_at dksX0_goodIn_1 5 rfl rfl)
abbrev cX0_rides : ByteArray := prog_1_method_64_code
def yX0_rides : MethodName := ⟨RX0, "rides", "(LThreeStrangers$Town;[J)V"⟩
def dkwX0_rides_0 : List UInt8 := [3, 61, 28, 43, 190, 162, 0, 18, 42, 43, 28, 47, 136, 182, 1, 73, 87, 132, 2, 1, 167, 255, 238, 177]
abbrev dktX0_rides_0 : List UInt8 := dkwX0_rides_0 ++ []
theorem dksX0_rides_0 : cX0_rides.data.toList.drop 0 = dktX0_rides_0 := by decide +kernel
theorem dX0_rides_0 : decode cX0_rides 0 = .ok (.iconst 0, 1) := dk_3 (dk_at dksX0_rides_0 0 rfl rfl)
theorem dX0_rides_1 : decode cX0_rides 1 = .ok (.istore_n 2, 1) := dk_61 (dk_at dksX0_rides_0 1 rfl rfl)
theorem dX0_rides_2 : decode cX0_rides 2 = .ok (.iload_n 2, 1) := dk_28 (dk_at dksX0_rides_0 2 rfl rfl)
theorem dX0_rides_3 : decode cX0_rides 3 = .ok (.aload_n 1, 1) := dk_43 (dk_at dksX0_rides_0 3 rfl rfl)
theorem dX0_rides_4 : decode cX0_rides 4 = .ok (.arraylength, 1) := dk_190 (dk_at dksX0_rides_0 4 rfl rfl)
theorem dX0_rides_5 : decode cX0_rides 5 = .ok (.if_icmp .ge 18, 3) := dk_162 0 18 (dk_at dksX0_rides_0 5 rfl rfl)
theorem dX0_rides_8 : decode cX0_rides 8 = .ok (.aload_n 0, 1) := dk_42 (dk_at dksX0_rides_0 8 rfl rfl)
theorem dX0_rides_9 : decode cX0_rides 9 = .ok (.aload_n 1, 1) := dk_43 (dk_at dksX0_rides_0 9 rfl rfl)
theorem dX0_rides_10 : decode cX0_rides 10 = .ok (.iload_n 2, 1) := dk_28 (dk_at dksX0_rides_0 10 rfl rfl)
theorem dX0_rides_11 : decode cX0_rides 11 = .ok (.laload, 1) := dk_47 (dk_at dksX0_rides_0 11 rfl rfl)
theorem dX0_rides_12 : decode cX0_rides 12 = .ok (.l2i, 1) := dk_136 (dk_at dksX0_rides_0 12 rfl rfl)
theorem dX0_rides_13 : decode cX0_rides 13 = .ok (.invokevirtual 329, 3) := dk_182 1 73 (dk_at dksX0_rides_0 13 rfl rfl)
theorem dX0_rides_16 : decode cX0_rides 16 = .ok (.pop, 1) := dk_87 (dk_at dksX0_rides_0 16 rfl rfl)
theorem dX0_rides_17 : decode cX0_rides 17 = .ok (.iinc 2 1, 3) := dk_132 2 1 (dk_at dksX0_rides_0 17 rfl rfl)
theorem dX0_rides_20 : decode cX0_rides 20 = .ok (.goto (-18), 3) := dk_167 255 238 (dk_at dksX0_rides_0 20 rfl rfl)
theorem dX0_rides_23 : decode cX0_rides 23 = .ok (.return_, 1) := dk_177 (dk_at dksX0_rides_0 23 rfl rfl)
abbrev cX0_rides_2 : ByteArray := prog_1_method_66_code
def yX0_rides_2 : MethodName := ⟨RX0, "rides", "(II)I"⟩
def dkwX0_rides_2_2 : List UInt8 := [182, 0, 95, 172]
abbrev dktX0_rides_2_2 : List UInt8 := dkwX0_rides_2_2 ++ []
def dkwX0_rides_2_1 : List UInt8 := [181, 1, 111, 42, 180, 0, 29, 89, 180, 1, 112, 4, 96, 181, 1, 112, 28, 172, 78, 42, 45, 180, 0, 122]
abbrev dktX0_rides_2_1 : List UInt8 := dkwX0_rides_2_1 ++ dktX0_rides_2_2
def dkwX0_rides_2_0 : List UInt8 := [42, 180, 0, 29, 42, 27, 28, 182, 1, 104, 184, 1, 107, 42, 180, 0, 29, 89, 180, 1, 111, 28, 96]
abbrev dktX0_rides_2_0 : List UInt8 := dkwX0_rides_2_0 ++ dktX0_rides_2_1
theorem dksX0_rides_2_0 : cX0_rides_2.data.toList.drop 0 = dktX0_rides_2_0 := by decide +kernel
theorem dksX0_rides_2_1 : cX0_rides_2.data.toList.drop 23 = dktX0_rides_2_1 := dk_seg dksX0_rides_2_0 23 rfl rfl
theorem dksX0_rides_2_2 : cX0_rides_2.data.toList.drop 47 = dktX0_rides_2_2 := dk_seg dksX0_rides_2_1 24 rfl rfl
theorem dX0_rides_2_0 : decode cX0_rides_2 0 = .ok (.aload_n 0, 1) := dk_42 (dk_at dksX0_rides_2_0 0 rfl rfl)
theorem dX0_rides_2_1 : decode cX0_rides_2 1 = .ok (.getfield 29, 3) := dk_180 0 29 (dk_at dksX0_rides_2_0 1 rfl rfl)
theorem dX0_rides_2_4 : decode cX0_rides_2 4 = .ok (.aload_n 0, 1) := dk_42 (dk_at dksX0_rides_2_0 4 rfl rfl)
theorem dX0_rides_2_5 : decode cX0_rides_2 5 = .ok (.iload_n 1, 1) := dk_27 (dk_at dksX0_rides_2_0 5 rfl rfl)
theorem dX0_rides_2_6 : decode cX0_rides_2 6 = .ok (.iload_n 2, 1) := dk_28 (dk_at dksX0_rides_2_0 6 rfl rfl)
theorem dX0_rides_2_7 : decode cX0_rides_2 7 = .ok (.invokevirtual 360, 3) := dk_182 1 104 (dk_at dksX0_rides_2_0 7 rfl rfl)
theorem dX0_rides_2_10 : decode cX0_rides_2 10 = .ok (.invokestatic 363, 3) := dk_184 1 107 (dk_at dksX0_rides_2_0 10 rfl rfl)
theorem dX0_rides_2_13 : decode cX0_rides_2 13 = .ok (.aload_n 0, 1) := dk_42 (dk_at dksX0_rides_2_0 13 rfl rfl)
theorem dX0_rides_2_14 : decode cX0_rides_2 14 = .ok (.getfield 29, 3) := dk_180 0 29 (dk_at dksX0_rides_2_0 14 rfl rfl)
theorem dX0_rides_2_17 : decode cX0_rides_2 17 = .ok (.dup, 1) := dk_89 (dk_at dksX0_rides_2_0 17 rfl rfl)
theorem dX0_rides_2_18 : decode cX0_rides_2 18 = .ok (.getfield 367, 3) := dk_180 1 111 (dk_at dksX0_rides_2_0 18 rfl rfl)
theorem dX0_rides_2_21 : decode cX0_rides_2 21 = .ok (.iload_n 2, 1) := dk_28 (dk_at dksX0_rides_2_0 21 rfl rfl)
theorem dX0_rides_2_22 : decode cX0_rides_2 22 = .ok (.iadd, 1) := dk_96 (dk_at dksX0_rides_2_0 22 rfl rfl)
theorem dX0_rides_2_23 : decode cX0_rides_2 23 = .ok (.putfield 367, 3) := dk_181 1 111 (dk_at dksX0_rides_2_1 0 rfl rfl)
theorem dX0_rides_2_26 : decode cX0_rides_2 26 = .ok (.aload_n 0, 1) := dk_42 (dk_at dksX0_rides_2_1 3 rfl rfl)
theorem dX0_rides_2_27 : decode cX0_rides_2 27 = .ok (.getfield 29, 3) := dk_180 0 29 (dk_at dksX0_rides_2_1 4 rfl rfl)
theorem dX0_rides_2_30 : decode cX0_rides_2 30 = .ok (.dup, 1) := dk_89 (dk_at dksX0_rides_2_1 7 rfl rfl)
theorem dX0_rides_2_31 : decode cX0_rides_2 31 = .ok (.getfield 368, 3) := dk_180 1 112 (dk_at dksX0_rides_2_1 8 rfl rfl)
theorem dX0_rides_2_34 : decode cX0_rides_2 34 = .ok (.iconst 1, 1) := dk_4 (dk_at dksX0_rides_2_1 11 rfl rfl)
theorem dX0_rides_2_35 : decode cX0_rides_2 35 = .ok (.iadd, 1) := dk_96 (dk_at dksX0_rides_2_1 12 rfl rfl)
theorem dX0_rides_2_36 : decode cX0_rides_2 36 = .ok (.putfield 368, 3) := dk_181 1 112 (dk_at dksX0_rides_2_1 13 rfl rfl)
theorem dX0_rides_2_39 : decode cX0_rides_2 39 = .ok (.iload_n 2, 1) := dk_28 (dk_at dksX0_rides_2_1 16 rfl rfl)
theorem dX0_rides_2_40 : decode cX0_rides_2 40 = .ok (.ireturn, 1) := dk_172 (dk_at dksX0_rides_2_1 17 rfl rfl)
theorem dX0_rides_2_41 : decode cX0_rides_2 41 = .ok (.astore_n 3, 1) := dk_78 (dk_at dksX0_rides_2_1 18 rfl rfl)
theorem dX0_rides_2_42 : decode cX0_rides_2 42 = .ok (.aload_n 0, 1) := dk_42 (dk_at dksX0_rides_2_1 19 rfl rfl)
theorem dX0_rides_2_43 : decode cX0_rides_2 43 = .ok (.aload_n 3, 1) := dk_45 (dk_at dksX0_rides_2_1 20 rfl rfl)
theorem dX0_rides_2_44 : decode cX0_rides_2 44 = .ok (.getfield 122, 3) := dk_180 0 122 (dk_at dksX0_rides_2_1 21 rfl rfl)
theorem dX0_rides_2_47 : decode cX0_rides_2 47 = .ok (.invokevirtual 95, 3) := dk_182 0 95 (dk_at dksX0_rides_2_2 0 rfl rfl)
theorem dX0_rides_2_50 : decode cX0_rides_2 50 = .ok (.ireturn, 1) := dk_172 (dk_at dksX0_rides_2_2 3 rfl rfl)
abbrev cX0_day : ByteArray := prog_1_method_67_code
def yX0_day : MethodName := ⟨RX0, "day", "(I)I"⟩
def dkwX0_day_2 : List UInt8 := [172, 77, 42, 44, 180, 0, 122, 182, 0, 95, 172]
abbrev dktX0_day_2 : List UInt8 := dkwX0_day_2 ++ []
def dkwX0_day_1 : List UInt8 := [180, 1, 11, 96, 181, 1, 111, 42, 180, 0, 29, 89, 180, 1, 112, 4, 96, 181, 1, 112, 44, 180, 1, 11]
abbrev dktX0_day_1 : List UInt8 := dkwX0_day_1 ++ dktX0_day_2
def dkwX0_day_0 : List UInt8 := [42, 27, 4, 182, 1, 7, 77, 44, 42, 180, 0, 29, 182, 1, 52, 42, 180, 0, 29, 89, 180, 1, 111, 44]
abbrev dktX0_day_0 : List UInt8 := dkwX0_day_0 ++ dktX0_day_1
theorem dksX0_day_0 : cX0_day.data.toList.drop 0 = dktX0_day_0 := by decide +kernel
theorem dksX0_day_1 : cX0_day.data.toList.drop 24 = dktX0_day_1 := dk_seg dksX0_day_0 24 rfl rfl
theorem dksX0_day_2 : cX0_day.data.toList.drop 48 = dktX0_day_2 := dk_seg dksX0_day_1 24 rfl rfl
theorem dX0_day_0 : decode cX0_day 0 = .ok (.aload_n 0, 1) := dk_42 (dk_at dksX0_day_0 0 rfl rfl)
theorem dX0_day_1 : decode cX0_day 1 = .ok (.iload_n 1, 1) := dk_27 (dk_at dksX0_day_0 1 rfl rfl)
theorem dX0_day_2 : decode cX0_day 2 = .ok (.iconst 1, 1) := dk_4 (dk_at dksX0_day_0 2 rfl rfl)
theorem dX0_day_3 : decode cX0_day 3 = .ok (.invokevirtual 263, 3) := dk_182 1 7 (dk_at dksX0_day_0 3 rfl rfl)
theorem dX0_day_6 : decode cX0_day 6 = .ok (.astore_n 2, 1) := dk_77 (dk_at dksX0_day_0 6 rfl rfl)
theorem dX0_day_7 : decode cX0_day 7 = .ok (.aload_n 2, 1) := dk_44 (dk_at dksX0_day_0 7 rfl rfl)
theorem dX0_day_8 : decode cX0_day 8 = .ok (.aload_n 0, 1) := dk_42 (dk_at dksX0_day_0 8 rfl rfl)
theorem dX0_day_9 : decode cX0_day 9 = .ok (.getfield 29, 3) := dk_180 0 29 (dk_at dksX0_day_0 9 rfl rfl)
theorem dX0_day_12 : decode cX0_day 12 = .ok (.invokevirtual 308, 3) := dk_182 1 52 (dk_at dksX0_day_0 12 rfl rfl)
theorem dX0_day_15 : decode cX0_day 15 = .ok (.aload_n 0, 1) := dk_42 (dk_at dksX0_day_0 15 rfl rfl)
theorem dX0_day_16 : decode cX0_day 16 = .ok (.getfield 29, 3) := dk_180 0 29 (dk_at dksX0_day_0 16 rfl rfl)
theorem dX0_day_19 : decode cX0_day 19 = .ok (.dup, 1) := dk_89 (dk_at dksX0_day_0 19 rfl rfl)
theorem dX0_day_20 : decode cX0_day 20 = .ok (.getfield 367, 3) := dk_180 1 111 (dk_at dksX0_day_0 20 rfl rfl)
theorem dX0_day_23 : decode cX0_day 23 = .ok (.aload_n 2, 1) := dk_44 (dk_at dksX0_day_0 23 rfl rfl)
theorem dX0_day_24 : decode cX0_day 24 = .ok (.getfield 267, 3) := dk_180 1 11 (dk_at dksX0_day_1 0 rfl rfl)
theorem dX0_day_27 : decode cX0_day 27 = .ok (.iadd, 1) := dk_96 (dk_at dksX0_day_1 3 rfl rfl)
theorem dX0_day_28 : decode cX0_day 28 = .ok (.putfield 367, 3) := dk_181 1 111 (dk_at dksX0_day_1 4 rfl rfl)
theorem dX0_day_31 : decode cX0_day 31 = .ok (.aload_n 0, 1) := dk_42 (dk_at dksX0_day_1 7 rfl rfl)
theorem dX0_day_32 : decode cX0_day 32 = .ok (.getfield 29, 3) := dk_180 0 29 (dk_at dksX0_day_1 8 rfl rfl)
theorem dX0_day_35 : decode cX0_day 35 = .ok (.dup, 1) := dk_89 (dk_at dksX0_day_1 11 rfl rfl)
theorem dX0_day_36 : decode cX0_day 36 = .ok (.getfield 368, 3) := dk_180 1 112 (dk_at dksX0_day_1 12 rfl rfl)
theorem dX0_day_39 : decode cX0_day 39 = .ok (.iconst 1, 1) := dk_4 (dk_at dksX0_day_1 15 rfl rfl)
theorem dX0_day_40 : decode cX0_day 40 = .ok (.iadd, 1) := dk_96 (dk_at dksX0_day_1 16 rfl rfl)
theorem dX0_day_41 : decode cX0_day 41 = .ok (.putfield 368, 3) := dk_181 1 112 (dk_at dksX0_day_1 17 rfl rfl)
theorem dX0_day_44 : decode cX0_day 44 = .ok (.aload_n 2, 1) := dk_44 (dk_at dksX0_day_1 20 rfl rfl)
theorem dX0_day_45 : decode cX0_day 45 = .ok (.getfield 267, 3) := dk_180 1 11 (dk_at dksX0_day_1 21 rfl rfl)
theorem dX0_day_48 : decode cX0_day 48 = .ok (.ireturn, 1) := dk_172 (dk_at dksX0_day_2 0 rfl rfl)
theorem dX0_day_49 : decode cX0_day 49 = .ok (.astore_n 2, 1) := dk_77 (dk_at dksX0_day_2 1 rfl rfl)
theorem dX0_day_50 : decode cX0_day 50 = .ok (.aload_n 0, 1) := dk_42 (dk_at dksX0_day_2 2 rfl rfl)
theorem dX0_day_51 : decode cX0_day 51 = .ok (.aload_n 2, 1) := dk_44 (dk_at dksX0_day_2 3 rfl rfl)
theorem dX0_day_52 : decode cX0_day 52 = .ok (.getfield 122, 3) := dk_180 0 122 (dk_at dksX0_day_2 4 rfl rfl)
theorem dX0_day_55 : decode cX0_day 55 = .ok (.invokevirtual 95, 3) := dk_182 0 95 (dk_at dksX0_day_2 7 rfl rfl)
theorem dX0_day_58 : decode cX0_day 58 = .ok (.ireturn, 1) := dk_172 (dk_at dksX0_day_2 10 rfl rfl)
abbrev cX0_meet : ByteArray := prog_1_method_68_code
def yX0_meet : MethodName := ⟨RX0, "meet", "(I)I"⟩
def dkwX0_meet_1 : List UInt8 := [16, 254, 182, 0, 95, 172]
abbrev dktX0_meet_1 : List UInt8 := dkwX0_meet_1 ++ []
def dkwX0_meet_0 : List UInt8 := [42, 180, 0, 29, 27, 182, 0, 235, 153, 0, 14, 42, 180, 0, 29, 27, 182, 1, 73, 167, 0, 9, 42]
abbrev dktX0_meet_0 : List UInt8 := dkwX0_meet_0 ++ dktX0_meet_1
theorem dksX0_meet_0 : cX0_meet.data.toList.drop 0 = dktX0_meet_0 := by decide +kernel
theorem dksX0_meet_1 : cX0_meet.data.toList.drop 23 = dktX0_meet_1 := dk_seg dksX0_meet_0 23 rfl rfl
theorem dX0_meet_0 : decode cX0_meet 0 = .ok (.aload_n 0, 1) := dk_42 (dk_at dksX0_meet_0 0 rfl rfl)
theorem dX0_meet_1 : decode cX0_meet 1 = .ok (.getfield 29, 3) := dk_180 0 29 (dk_at dksX0_meet_0 1 rfl rfl)
theorem dX0_meet_4 : decode cX0_meet 4 = .ok (.iload_n 1, 1) := dk_27 (dk_at dksX0_meet_0 4 rfl rfl)
theorem dX0_meet_5 : decode cX0_meet 5 = .ok (.invokevirtual 235, 3) := dk_182 0 235 (dk_at dksX0_meet_0 5 rfl rfl)
theorem dX0_meet_8 : decode cX0_meet 8 = .ok (.ifCond .eq 14, 3) := dk_153 0 14 (dk_at dksX0_meet_0 8 rfl rfl)
theorem dX0_meet_11 : decode cX0_meet 11 = .ok (.aload_n 0, 1) := dk_42 (dk_at dksX0_meet_0 11 rfl rfl)
theorem dX0_meet_12 : decode cX0_meet 12 = .ok (.getfield 29, 3) := dk_180 0 29 (dk_at dksX0_meet_0 12 rfl rfl)
theorem dX0_meet_15 : decode cX0_meet 15 = .ok (.iload_n 1, 1) := dk_27 (dk_at dksX0_meet_0 15 rfl rfl)
theorem dX0_meet_16 : decode cX0_meet 16 = .ok (.invokevirtual 329, 3) := dk_182 1 73 (dk_at dksX0_meet_0 16 rfl rfl)
theorem dX0_meet_19 : decode cX0_meet 19 = .ok (.goto 9, 3) := dk_167 0 9 (dk_at dksX0_meet_0 19 rfl rfl)
theorem dX0_meet_22 : decode cX0_meet 22 = .ok (.aload_n 0, 1) := dk_42 (dk_at dksX0_meet_0 22 rfl rfl)
theorem dX0_meet_23 : decode cX0_meet 23 = .ok (.bipush (-2), 2) := dk_16 254 (dk_at dksX0_meet_1 0 rfl rfl)
theorem dX0_meet_25 : decode cX0_meet 25 = .ok (.invokevirtual 95, 3) := dk_182 0 95 (dk_at dksX0_meet_1 2 rfl rfl)
theorem dX0_meet_28 : decode cX0_meet 28 = .ok (.ireturn, 1) := dk_172 (dk_at dksX0_meet_1 5 rfl rfl)
abbrev cX0_year : ByteArray := prog_1_method_69_code
def yX0_year : MethodName := ⟨RX0, "year", "()I"⟩
def dkwX0_year_0 : List UInt8 := [42, 180, 0, 29, 182, 1, 115, 172]
abbrev dktX0_year_0 : List UInt8 := dkwX0_year_0 ++ []
theorem dksX0_year_0 : cX0_year.data.toList.drop 0 = dktX0_year_0 := by decide +kernel
theorem dX0_year_0 : decode cX0_year 0 = .ok (.aload_n 0, 1) := dk_42 (dk_at dksX0_year_0 0 rfl rfl)
theorem dX0_year_1 : decode cX0_year 1 = .ok (.getfield 29, 3) := dk_180 0 29 (dk_at dksX0_year_0 1 rfl rfl)
theorem dX0_year_4 : decode cX0_year 4 = .ok (.invokevirtual 371, 3) := dk_182 1 115 (dk_at dksX0_year_0 4 rfl rfl)
theorem dX0_year_7 : decode cX0_year 7 = .ok (.ireturn, 1) := dk_172 (dk_at dksX0_year_0 7 rfl rfl)
abbrev cX0_come : ByteArray := prog_1_method_70_code
def yX0_come : MethodName := ⟨RX0, "come", "(I)I"⟩
def dkwX0_come_4 : List UInt8 := [3, 167, 0, 4, 2, 182, 0, 194, 132, 5, 1, 167, 255, 219, 132, 2, 1, 167, 255, 164, 28, 172]
abbrev dktX0_come_4 : List UInt8 := dkwX0_come_4 ++ []
def dkwX0_come_3 : List UInt8 := [21, 4, 162, 0, 36, 42, 180, 0, 29, 21, 4, 21, 5, 42, 180, 0, 29, 6, 182, 1, 118, 154, 0, 7]
abbrev dktX0_come_3 : List UInt8 := dkwX0_come_3 ++ dktX0_come_4
def dkwX0_come_2 : List UInt8 := [180, 0, 29, 29, 42, 180, 0, 29, 16, 10, 182, 1, 118, 182, 0, 174, 54, 4, 3, 54, 5, 21, 5]
abbrev dktX0_come_2 : List UInt8 := dkwX0_come_2 ++ dktX0_come_3
def dkwX0_come_1 : List UInt8 := [42, 180, 0, 29, 180, 0, 171, 16, 7, 162, 0, 81, 42, 180, 0, 29, 16, 24, 182, 1, 118, 62, 42]
abbrev dktX0_come_1 : List UInt8 := dkwX0_come_1 ++ dktX0_come_2
def dkwX0_come_0 : List UInt8 := [27, 4, 16, 7, 184, 0, 70, 154, 0, 10, 42, 16, 254, 182, 0, 95, 172, 3, 61, 28, 27, 162, 0, 93]
abbrev dktX0_come_0 : List UInt8 := dkwX0_come_0 ++ dktX0_come_1
theorem dksX0_come_0 : cX0_come.data.toList.drop 0 = dktX0_come_0 := by decide +kernel
theorem dksX0_come_1 : cX0_come.data.toList.drop 24 = dktX0_come_1 := dk_seg dksX0_come_0 24 rfl rfl
theorem dksX0_come_2 : cX0_come.data.toList.drop 47 = dktX0_come_2 := dk_seg dksX0_come_1 23 rfl rfl
theorem dksX0_come_3 : cX0_come.data.toList.drop 70 = dktX0_come_3 := dk_seg dksX0_come_2 23 rfl rfl
theorem dksX0_come_4 : cX0_come.data.toList.drop 94 = dktX0_come_4 := dk_seg dksX0_come_3 24 rfl rfl
theorem dX0_come_0 : decode cX0_come 0 = .ok (.iload_n 1, 1) := dk_27 (dk_at dksX0_come_0 0 rfl rfl)
theorem dX0_come_1 : decode cX0_come 1 = .ok (.iconst 1, 1) := dk_4 (dk_at dksX0_come_0 1 rfl rfl)
theorem dX0_come_2 : decode cX0_come 2 = .ok (.bipush 7, 2) := dk_16 7 (dk_at dksX0_come_0 2 rfl rfl)
theorem dX0_come_4 : decode cX0_come 4 = .ok (.invokestatic 70, 3) := dk_184 0 70 (dk_at dksX0_come_0 4 rfl rfl)
theorem dX0_come_7 : decode cX0_come 7 = .ok (.ifCond .ne 10, 3) := dk_154 0 10 (dk_at dksX0_come_0 7 rfl rfl)
theorem dX0_come_10 : decode cX0_come 10 = .ok (.aload_n 0, 1) := dk_42 (dk_at dksX0_come_0 10 rfl rfl)
theorem dX0_come_11 : decode cX0_come 11 = .ok (.bipush (-2), 2) := dk_16 254 (dk_at dksX0_come_0 11 rfl rfl)
theorem dX0_come_13 : decode cX0_come 13 = .ok (.invokevirtual 95, 3) := dk_182 0 95 (dk_at dksX0_come_0 13 rfl rfl)
theorem dX0_come_16 : decode cX0_come 16 = .ok (.ireturn, 1) := dk_172 (dk_at dksX0_come_0 16 rfl rfl)
theorem dX0_come_17 : decode cX0_come 17 = .ok (.iconst 0, 1) := dk_3 (dk_at dksX0_come_0 17 rfl rfl)
theorem dX0_come_18 : decode cX0_come 18 = .ok (.istore_n 2, 1) := dk_61 (dk_at dksX0_come_0 18 rfl rfl)
theorem dX0_come_19 : decode cX0_come 19 = .ok (.iload_n 2, 1) := dk_28 (dk_at dksX0_come_0 19 rfl rfl)
theorem dX0_come_20 : decode cX0_come 20 = .ok (.iload_n 1, 1) := dk_27 (dk_at dksX0_come_0 20 rfl rfl)
theorem dX0_come_21 : decode cX0_come 21 = .ok (.if_icmp .ge 93, 3) := dk_162 0 93 (dk_at dksX0_come_0 21 rfl rfl)
theorem dX0_come_24 : decode cX0_come 24 = .ok (.aload_n 0, 1) := dk_42 (dk_at dksX0_come_1 0 rfl rfl)
theorem dX0_come_25 : decode cX0_come 25 = .ok (.getfield 29, 3) := dk_180 0 29 (dk_at dksX0_come_1 1 rfl rfl)
theorem dX0_come_28 : decode cX0_come 28 = .ok (.getfield 171, 3) := dk_180 0 171 (dk_at dksX0_come_1 4 rfl rfl)
theorem dX0_come_31 : decode cX0_come 31 = .ok (.bipush 7, 2) := dk_16 7 (dk_at dksX0_come_1 7 rfl rfl)
theorem dX0_come_33 : decode cX0_come 33 = .ok (.if_icmp .ge 81, 3) := dk_162 0 81 (dk_at dksX0_come_1 9 rfl rfl)
theorem dX0_come_36 : decode cX0_come 36 = .ok (.aload_n 0, 1) := dk_42 (dk_at dksX0_come_1 12 rfl rfl)
theorem dX0_come_37 : decode cX0_come 37 = .ok (.getfield 29, 3) := dk_180 0 29 (dk_at dksX0_come_1 13 rfl rfl)
theorem dX0_come_40 : decode cX0_come 40 = .ok (.bipush 24, 2) := dk_16 24 (dk_at dksX0_come_1 16 rfl rfl)
theorem dX0_come_42 : decode cX0_come 42 = .ok (.invokevirtual 374, 3) := dk_182 1 118 (dk_at dksX0_come_1 18 rfl rfl)
theorem dX0_come_45 : decode cX0_come 45 = .ok (.istore_n 3, 1) := dk_62 (dk_at dksX0_come_1 21 rfl rfl)
theorem dX0_come_46 : decode cX0_come 46 = .ok (.aload_n 0, 1) := dk_42 (dk_at dksX0_come_1 22 rfl rfl)
theorem dX0_come_47 : decode cX0_come 47 = .ok (.getfield 29, 3) := dk_180 0 29 (dk_at dksX0_come_2 0 rfl rfl)
theorem dX0_come_50 : decode cX0_come 50 = .ok (.iload_n 3, 1) := dk_29 (dk_at dksX0_come_2 3 rfl rfl)
theorem dX0_come_51 : decode cX0_come 51 = .ok (.aload_n 0, 1) := dk_42 (dk_at dksX0_come_2 4 rfl rfl)
theorem dX0_come_52 : decode cX0_come 52 = .ok (.getfield 29, 3) := dk_180 0 29 (dk_at dksX0_come_2 5 rfl rfl)
theorem dX0_come_55 : decode cX0_come 55 = .ok (.bipush 10, 2) := dk_16 10 (dk_at dksX0_come_2 8 rfl rfl)
theorem dX0_come_57 : decode cX0_come 57 = .ok (.invokevirtual 374, 3) := dk_182 1 118 (dk_at dksX0_come_2 10 rfl rfl)
theorem dX0_come_60 : decode cX0_come 60 = .ok (.invokevirtual 174, 3) := dk_182 0 174 (dk_at dksX0_come_2 13 rfl rfl)
theorem dX0_come_63 : decode cX0_come 63 = .ok (.istore 4, 2) := dk_54 4 (dk_at dksX0_come_2 16 rfl rfl)
theorem dX0_come_65 : decode cX0_come 65 = .ok (.iconst 0, 1) := dk_3 (dk_at dksX0_come_2 18 rfl rfl)
theorem dX0_come_66 : decode cX0_come 66 = .ok (.istore 5, 2) := dk_54 5 (dk_at dksX0_come_2 19 rfl rfl)
theorem dX0_come_68 : decode cX0_come 68 = .ok (.iload 5, 2) := dk_21 5 (dk_at dksX0_come_2 21 rfl rfl)
theorem dX0_come_70 : decode cX0_come 70 = .ok (.iload 4, 2) := dk_21 4 (dk_at dksX0_come_3 0 rfl rfl)
theorem dX0_come_72 : decode cX0_come 72 = .ok (.if_icmp .ge 36, 3) := dk_162 0 36 (dk_at dksX0_come_3 2 rfl rfl)
theorem dX0_come_75 : decode cX0_come 75 = .ok (.aload_n 0, 1) := dk_42 (dk_at dksX0_come_3 5 rfl rfl)
theorem dX0_come_76 : decode cX0_come 76 = .ok (.getfield 29, 3) := dk_180 0 29 (dk_at dksX0_come_3 6 rfl rfl)
theorem dX0_come_79 : decode cX0_come 79 = .ok (.iload 4, 2) := dk_21 4 (dk_at dksX0_come_3 9 rfl rfl)
theorem dX0_come_81 : decode cX0_come 81 = .ok (.iload 5, 2) := dk_21 5 (dk_at dksX0_come_3 11 rfl rfl)
theorem dX0_come_83 : decode cX0_come 83 = .ok (.aload_n 0, 1) := dk_42 (dk_at dksX0_come_3 13 rfl rfl)
theorem dX0_come_84 : decode cX0_come 84 = .ok (.getfield 29, 3) := dk_180 0 29 (dk_at dksX0_come_3 14 rfl rfl)
theorem dX0_come_87 : decode cX0_come 87 = .ok (.iconst 3, 1) := dk_6 (dk_at dksX0_come_3 17 rfl rfl)
theorem dX0_come_88 : decode cX0_come 88 = .ok (.invokevirtual 374, 3) := dk_182 1 118 (dk_at dksX0_come_3 18 rfl rfl)
theorem dX0_come_91 : decode cX0_come 91 = .ok (.ifCond .ne 7, 3) := dk_154 0 7 (dk_at dksX0_come_3 21 rfl rfl)
theorem dX0_come_94 : decode cX0_come 94 = .ok (.iconst 0, 1) := dk_3 (dk_at dksX0_come_4 0 rfl rfl)
theorem dX0_come_95 : decode cX0_come 95 = .ok (.goto 4, 3) := dk_167 0 4 (dk_at dksX0_come_4 1 rfl rfl)
theorem dX0_come_98 : decode cX0_come 98 = .ok (.iconst (-1), 1) := dk_2 (dk_at dksX0_come_4 4 rfl rfl)
theorem dX0_come_99 : decode cX0_come 99 = .ok (.invokevirtual 194, 3) := dk_182 0 194 (dk_at dksX0_come_4 5 rfl rfl)
theorem dX0_come_102 : decode cX0_come 102 = .ok (.iinc 5 1, 3) := dk_132 5 1 (dk_at dksX0_come_4 8 rfl rfl)
theorem dX0_come_105 : decode cX0_come 105 = .ok (.goto (-37), 3) := dk_167 255 219 (dk_at dksX0_come_4 11 rfl rfl)
theorem dX0_come_108 : decode cX0_come 108 = .ok (.iinc 2 1, 3) := dk_132 2 1 (dk_at dksX0_come_4 14 rfl rfl)
theorem dX0_come_111 : decode cX0_come 111 = .ok (.goto (-92), 3) := dk_167 255 164 (dk_at dksX0_come_4 17 rfl rfl)
theorem dX0_come_114 : decode cX0_come 114 = .ok (.iload_n 2, 1) := dk_28 (dk_at dksX0_come_4 20 rfl rfl)
theorem dX0_come_115 : decode cX0_come 115 = .ok (.ireturn, 1) := dk_172 (dk_at dksX0_come_4 21 rfl rfl)
abbrev cX0_seed : ByteArray := prog_1_method_71_code
def yX0_seed : MethodName := ⟨RX0, "seed", "(I)I"⟩
def dkwX0_seed_0 : List UInt8 := [42, 180, 0, 29, 180, 1, 121, 61, 42, 180, 0, 29, 27, 181, 1, 121, 28, 172]
abbrev dktX0_seed_0 : List UInt8 := dkwX0_seed_0 ++ []
theorem dksX0_seed_0 : cX0_seed.data.toList.drop 0 = dktX0_seed_0 := by decide +kernel
theorem dX0_seed_0 : decode cX0_seed 0 = .ok (.aload_n 0, 1) := dk_42 (dk_at dksX0_seed_0 0 rfl rfl)
theorem dX0_seed_1 : decode cX0_seed 1 = .ok (.getfield 29, 3) := dk_180 0 29 (dk_at dksX0_seed_0 1 rfl rfl)
theorem dX0_seed_4 : decode cX0_seed 4 = .ok (.getfield 377, 3) := dk_180 1 121 (dk_at dksX0_seed_0 4 rfl rfl)
theorem dX0_seed_7 : decode cX0_seed 7 = .ok (.istore_n 2, 1) := dk_61 (dk_at dksX0_seed_0 7 rfl rfl)
theorem dX0_seed_8 : decode cX0_seed 8 = .ok (.aload_n 0, 1) := dk_42 (dk_at dksX0_seed_0 8 rfl rfl)
theorem dX0_seed_9 : decode cX0_seed 9 = .ok (.getfield 29, 3) := dk_180 0 29 (dk_at dksX0_seed_0 9 rfl rfl)
theorem dX0_seed_12 : decode cX0_seed 12 = .ok (.iload_n 1, 1) := dk_27 (dk_at dksX0_seed_0 12 rfl rfl)
theorem dX0_seed_13 : decode cX0_seed 13 = .ok (.putfield 377, 3) := dk_181 1 121 (dk_at dksX0_seed_0 13 rfl rfl)
theorem dX0_seed_16 : decode cX0_seed 16 = .ok (.iload_n 2, 1) := dk_28 (dk_at dksX0_seed_0 16 rfl rfl)
theorem dX0_seed_17 : decode cX0_seed 17 = .ok (.ireturn, 1) := dk_172 (dk_at dksX0_seed_0 17 rfl rfl)
abbrev cX0_image : ByteArray := prog_1_method_72_code
def yX0_image : MethodName := ⟨RX0, "image", "()I"⟩
def dkwX0_image_0 : List UInt8 := [42, 42, 180, 0, 29, 182, 0, 209, 181, 1, 124, 4, 172]
abbrev dktX0_image_0 : List UInt8 := dkwX0_image_0 ++ []
theorem dksX0_image_0 : cX0_image.data.toList.drop 0 = dktX0_image_0 := by decide +kernel
theorem dX0_image_0 : decode cX0_image 0 = .ok (.aload_n 0, 1) := dk_42 (dk_at dksX0_image_0 0 rfl rfl)
theorem dX0_image_1 : decode cX0_image 1 = .ok (.aload_n 0, 1) := dk_42 (dk_at dksX0_image_0 1 rfl rfl)
theorem dX0_image_2 : decode cX0_image 2 = .ok (.getfield 29, 3) := dk_180 0 29 (dk_at dksX0_image_0 2 rfl rfl)
theorem dX0_image_5 : decode cX0_image 5 = .ok (.invokevirtual 209, 3) := dk_182 0 209 (dk_at dksX0_image_0 5 rfl rfl)
theorem dX0_image_8 : decode cX0_image 8 = .ok (.putfield 380, 3) := dk_181 1 124 (dk_at dksX0_image_0 8 rfl rfl)
theorem dX0_image_11 : decode cX0_image 11 = .ok (.iconst 1, 1) := dk_4 (dk_at dksX0_image_0 11 rfl rfl)
theorem dX0_image_12 : decode cX0_image 12 = .ok (.ireturn, 1) := dk_172 (dk_at dksX0_image_0 12 rfl rfl)
abbrev cX0_back : ByteArray := prog_1_method_73_code
def yX0_back : MethodName := ⟨RX0, "back", "()I"⟩
def dkwX0_back_1 : List UInt8 := [181, 0, 29, 4, 172]
abbrev dktX0_back_1 : List UInt8 := dkwX0_back_1 ++ []
def dkwX0_back_0 : List UInt8 := [42, 180, 1, 124, 199, 0, 10, 42, 16, 251, 182, 0, 95, 172, 42, 42, 180, 1, 124, 182, 0, 209]
abbrev dktX0_back_0 : List UInt8 := dkwX0_back_0 ++ dktX0_back_1
theorem dksX0_back_0 : cX0_back.data.toList.drop 0 = dktX0_back_0 := by decide +kernel
theorem dksX0_back_1 : cX0_back.data.toList.drop 22 = dktX0_back_1 := dk_seg dksX0_back_0 22 rfl rfl
theorem dX0_back_0 : decode cX0_back 0 = .ok (.aload_n 0, 1) := dk_42 (dk_at dksX0_back_0 0 rfl rfl)
theorem dX0_back_1 : decode cX0_back 1 = .ok (.getfield 380, 3) := dk_180 1 124 (dk_at dksX0_back_0 1 rfl rfl)
theorem dX0_back_4 : decode cX0_back 4 = .ok (.ifnonnull 10, 3) := dk_199 0 10 (dk_at dksX0_back_0 4 rfl rfl)
theorem dX0_back_7 : decode cX0_back 7 = .ok (.aload_n 0, 1) := dk_42 (dk_at dksX0_back_0 7 rfl rfl)
theorem dX0_back_8 : decode cX0_back 8 = .ok (.bipush (-5), 2) := dk_16 251 (dk_at dksX0_back_0 8 rfl rfl)
theorem dX0_back_10 : decode cX0_back 10 = .ok (.invokevirtual 95, 3) := dk_182 0 95 (dk_at dksX0_back_0 10 rfl rfl)
theorem dX0_back_13 : decode cX0_back 13 = .ok (.ireturn, 1) := dk_172 (dk_at dksX0_back_0 13 rfl rfl)
theorem dX0_back_14 : decode cX0_back 14 = .ok (.aload_n 0, 1) := dk_42 (dk_at dksX0_back_0 14 rfl rfl)
theorem dX0_back_15 : decode cX0_back 15 = .ok (.aload_n 0, 1) := dk_42 (dk_at dksX0_back_0 15 rfl rfl)
theorem dX0_back_16 : decode cX0_back 16 = .ok (.getfield 380, 3) := dk_180 1 124 (dk_at dksX0_back_0 16 rfl rfl)
theorem dX0_back_19 : decode cX0_back 19 = .ok (.invokevirtual 209, 3) := dk_182 0 209 (dk_at dksX0_back_0 19 rfl rfl)
theorem dX0_back_22 : decode cX0_back 22 = .ok (.putfield 29, 3) := dk_181 0 29 (dk_at dksX0_back_1 0 rfl rfl)
theorem dX0_back_25 : decode cX0_back 25 = .ok (.iconst 1, 1) := dk_4 (dk_at dksX0_back_1 3 rfl rfl)
theorem dX0_back_26 : decode cX0_back 26 = .ok (.ireturn, 1) := dk_172 (dk_at dksX0_back_1 4 rfl rfl)
abbrev cX0_status : ByteArray := prog_1_method_75_code
def yX0_status : MethodName := ⟨RX0, "status", "(I)I"⟩
def dkwX0_status_5 : List UInt8 := [182, 1, 133, 172, 2, 172]
abbrev dktX0_status_5 : List UInt8 := dkwX0_status_5 ++ []
def dkwX0_status_4 : List UInt8 := [42, 180, 0, 29, 180, 1, 130, 172, 42, 180, 0, 204, 172, 42, 180, 0, 29, 180, 1, 121, 172, 42]
abbrev dktX0_status_4 : List UInt8 := dkwX0_status_4 ++ dktX0_status_5
def dkwX0_status_3 : List UInt8 := [42, 180, 0, 29, 182, 1, 127, 172, 42, 180, 0, 29, 180, 1, 111, 172, 42, 180, 0, 29, 180, 1, 112, 172]
abbrev dktX0_status_3 : List UInt8 := dkwX0_status_3 ++ dktX0_status_4
def dkwX0_status_2 : List UInt8 := [42, 180, 0, 29, 180, 0, 171, 172, 42, 180, 0, 29, 180, 0, 198, 172, 42, 180, 0, 29, 180, 0, 201, 172]
abbrev dktX0_status_2 : List UInt8 := dkwX0_status_2 ++ dktX0_status_3
def dkwX0_status_1 : List UInt8 := [170, 0, 0, 0, 0, 128, 0, 0, 0, 0, 0, 0, 0, 9, 0, 0, 0, 54, 0, 0, 0, 62, 0, 0, 0, 70, 0, 0, 0, 78, 0, 0, 0, 86, 0, 0, 0, 94, 0, 0, 0, 102, 0, 0, 0, 110, 0, 0, 0, 115, 0, 0, 0, 123]
abbrev dktX0_status_1 : List UInt8 := dkwX0_status_1 ++ dktX0_status_2
def dkwX0_status_0 : List UInt8 := [27, 16, 12, 16, 16, 184, 0, 70, 153, 0, 13, 42, 180, 0, 66, 27, 16, 10, 100, 46, 172, 27]
abbrev dktX0_status_0 : List UInt8 := dkwX0_status_0 ++ dktX0_status_1
theorem dksX0_status_0 : cX0_status.data.toList.drop 0 = dktX0_status_0 := by decide +kernel
theorem dksX0_status_1 : cX0_status.data.toList.drop 22 = dktX0_status_1 := dk_seg dksX0_status_0 22 rfl rfl
theorem dksX0_status_2 : cX0_status.data.toList.drop 76 = dktX0_status_2 := dk_seg dksX0_status_1 54 rfl rfl
theorem dksX0_status_3 : cX0_status.data.toList.drop 100 = dktX0_status_3 := dk_seg dksX0_status_2 24 rfl rfl
theorem dksX0_status_4 : cX0_status.data.toList.drop 124 = dktX0_status_4 := dk_seg dksX0_status_3 24 rfl rfl
theorem dksX0_status_5 : cX0_status.data.toList.drop 146 = dktX0_status_5 := dk_seg dksX0_status_4 22 rfl rfl
theorem dX0_status_0 : decode cX0_status 0 = .ok (.iload_n 1, 1) := dk_27 (dk_at dksX0_status_0 0 rfl rfl)
theorem dX0_status_1 : decode cX0_status 1 = .ok (.bipush 12, 2) := dk_16 12 (dk_at dksX0_status_0 1 rfl rfl)
theorem dX0_status_3 : decode cX0_status 3 = .ok (.bipush 16, 2) := dk_16 16 (dk_at dksX0_status_0 3 rfl rfl)
theorem dX0_status_5 : decode cX0_status 5 = .ok (.invokestatic 70, 3) := dk_184 0 70 (dk_at dksX0_status_0 5 rfl rfl)
theorem dX0_status_8 : decode cX0_status 8 = .ok (.ifCond .eq 13, 3) := dk_153 0 13 (dk_at dksX0_status_0 8 rfl rfl)
theorem dX0_status_11 : decode cX0_status 11 = .ok (.aload_n 0, 1) := dk_42 (dk_at dksX0_status_0 11 rfl rfl)
theorem dX0_status_12 : decode cX0_status 12 = .ok (.getfield 66, 3) := dk_180 0 66 (dk_at dksX0_status_0 12 rfl rfl)
theorem dX0_status_15 : decode cX0_status 15 = .ok (.iload_n 1, 1) := dk_27 (dk_at dksX0_status_0 15 rfl rfl)
theorem dX0_status_16 : decode cX0_status 16 = .ok (.bipush 10, 2) := dk_16 10 (dk_at dksX0_status_0 16 rfl rfl)
theorem dX0_status_18 : decode cX0_status 18 = .ok (.isub, 1) := dk_100 (dk_at dksX0_status_0 18 rfl rfl)
theorem dX0_status_19 : decode cX0_status 19 = .ok (.iaload, 1) := dk_46 (dk_at dksX0_status_0 19 rfl rfl)
theorem dX0_status_20 : decode cX0_status 20 = .ok (.ireturn, 1) := dk_172 (dk_at dksX0_status_0 20 rfl rfl)
theorem dX0_status_21 : decode cX0_status 21 = .ok (.iload_n 1, 1) := dk_27 (dk_at dksX0_status_0 21 rfl rfl)
theorem dX0_status_22 : decode cX0_status 22 = .ok (.tableswitch 128 0 9 #[54, 62, 70, 78, 86, 94, 102, 110, 115, 123], 54) := by decide +kernel
theorem dX0_status_76 : decode cX0_status 76 = .ok (.aload_n 0, 1) := dk_42 (dk_at dksX0_status_2 0 rfl rfl)
theorem dX0_status_77 : decode cX0_status 77 = .ok (.getfield 29, 3) := dk_180 0 29 (dk_at dksX0_status_2 1 rfl rfl)
theorem dX0_status_80 : decode cX0_status 80 = .ok (.getfield 171, 3) := dk_180 0 171 (dk_at dksX0_status_2 4 rfl rfl)
theorem dX0_status_83 : decode cX0_status 83 = .ok (.ireturn, 1) := dk_172 (dk_at dksX0_status_2 7 rfl rfl)
theorem dX0_status_84 : decode cX0_status 84 = .ok (.aload_n 0, 1) := dk_42 (dk_at dksX0_status_2 8 rfl rfl)
theorem dX0_status_85 : decode cX0_status 85 = .ok (.getfield 29, 3) := dk_180 0 29 (dk_at dksX0_status_2 9 rfl rfl)
theorem dX0_status_88 : decode cX0_status 88 = .ok (.getfield 198, 3) := dk_180 0 198 (dk_at dksX0_status_2 12 rfl rfl)
theorem dX0_status_91 : decode cX0_status 91 = .ok (.ireturn, 1) := dk_172 (dk_at dksX0_status_2 15 rfl rfl)
theorem dX0_status_92 : decode cX0_status 92 = .ok (.aload_n 0, 1) := dk_42 (dk_at dksX0_status_2 16 rfl rfl)
theorem dX0_status_93 : decode cX0_status 93 = .ok (.getfield 29, 3) := dk_180 0 29 (dk_at dksX0_status_2 17 rfl rfl)
theorem dX0_status_96 : decode cX0_status 96 = .ok (.getfield 201, 3) := dk_180 0 201 (dk_at dksX0_status_2 20 rfl rfl)
theorem dX0_status_99 : decode cX0_status 99 = .ok (.ireturn, 1) := dk_172 (dk_at dksX0_status_2 23 rfl rfl)
theorem dX0_status_100 : decode cX0_status 100 = .ok (.aload_n 0, 1) := dk_42 (dk_at dksX0_status_3 0 rfl rfl)
theorem dX0_status_101 : decode cX0_status 101 = .ok (.getfield 29, 3) := dk_180 0 29 (dk_at dksX0_status_3 1 rfl rfl)
theorem dX0_status_104 : decode cX0_status 104 = .ok (.invokevirtual 383, 3) := dk_182 1 127 (dk_at dksX0_status_3 4 rfl rfl)
theorem dX0_status_107 : decode cX0_status 107 = .ok (.ireturn, 1) := dk_172 (dk_at dksX0_status_3 7 rfl rfl)
theorem dX0_status_108 : decode cX0_status 108 = .ok (.aload_n 0, 1) := dk_42 (dk_at dksX0_status_3 8 rfl rfl)
theorem dX0_status_109 : decode cX0_status 109 = .ok (.getfield 29, 3) := dk_180 0 29 (dk_at dksX0_status_3 9 rfl rfl)
theorem dX0_status_112 : decode cX0_status 112 = .ok (.getfield 367, 3) := dk_180 1 111 (dk_at dksX0_status_3 12 rfl rfl)
theorem dX0_status_115 : decode cX0_status 115 = .ok (.ireturn, 1) := dk_172 (dk_at dksX0_status_3 15 rfl rfl)
theorem dX0_status_116 : decode cX0_status 116 = .ok (.aload_n 0, 1) := dk_42 (dk_at dksX0_status_3 16 rfl rfl)
theorem dX0_status_117 : decode cX0_status 117 = .ok (.getfield 29, 3) := dk_180 0 29 (dk_at dksX0_status_3 17 rfl rfl)
theorem dX0_status_120 : decode cX0_status 120 = .ok (.getfield 368, 3) := dk_180 1 112 (dk_at dksX0_status_3 20 rfl rfl)
theorem dX0_status_123 : decode cX0_status 123 = .ok (.ireturn, 1) := dk_172 (dk_at dksX0_status_3 23 rfl rfl)
theorem dX0_status_124 : decode cX0_status 124 = .ok (.aload_n 0, 1) := dk_42 (dk_at dksX0_status_4 0 rfl rfl)
theorem dX0_status_125 : decode cX0_status 125 = .ok (.getfield 29, 3) := dk_180 0 29 (dk_at dksX0_status_4 1 rfl rfl)
theorem dX0_status_128 : decode cX0_status 128 = .ok (.getfield 386, 3) := dk_180 1 130 (dk_at dksX0_status_4 4 rfl rfl)
theorem dX0_status_131 : decode cX0_status 131 = .ok (.ireturn, 1) := dk_172 (dk_at dksX0_status_4 7 rfl rfl)
theorem dX0_status_132 : decode cX0_status 132 = .ok (.aload_n 0, 1) := dk_42 (dk_at dksX0_status_4 8 rfl rfl)
theorem dX0_status_133 : decode cX0_status 133 = .ok (.getfield 204, 3) := dk_180 0 204 (dk_at dksX0_status_4 9 rfl rfl)
theorem dX0_status_136 : decode cX0_status 136 = .ok (.ireturn, 1) := dk_172 (dk_at dksX0_status_4 12 rfl rfl)
theorem dX0_status_137 : decode cX0_status 137 = .ok (.aload_n 0, 1) := dk_42 (dk_at dksX0_status_4 13 rfl rfl)
theorem dX0_status_138 : decode cX0_status 138 = .ok (.getfield 29, 3) := dk_180 0 29 (dk_at dksX0_status_4 14 rfl rfl)
theorem dX0_status_141 : decode cX0_status 141 = .ok (.getfield 377, 3) := dk_180 1 121 (dk_at dksX0_status_4 17 rfl rfl)
theorem dX0_status_144 : decode cX0_status 144 = .ok (.ireturn, 1) := dk_172 (dk_at dksX0_status_4 20 rfl rfl)
theorem dX0_status_145 : decode cX0_status 145 = .ok (.aload_n 0, 1) := dk_42 (dk_at dksX0_status_4 21 rfl rfl)
theorem dX0_status_146 : decode cX0_status 146 = .ok (.invokevirtual 389, 3) := dk_182 1 133 (dk_at dksX0_status_5 0 rfl rfl)
theorem dX0_status_149 : decode cX0_status 149 = .ok (.ireturn, 1) := dk_172 (dk_at dksX0_status_5 3 rfl rfl)
theorem dX0_status_150 : decode cX0_status 150 = .ok (.iconst (-1), 1) := dk_2 (dk_at dksX0_status_5 4 rfl rfl)
theorem dX0_status_151 : decode cX0_status 151 = .ok (.ireturn, 1) := dk_172 (dk_at dksX0_status_5 5 rfl rfl)
abbrev cX0_held : ByteArray := prog_1_method_74_code
def yX0_held : MethodName := ⟨RX0, "held", "()I"⟩
def dkwX0_held_1 : List UInt8 := [167, 0, 4, 3, 96, 60, 132, 2, 1, 167, 255, 227, 27, 172]
abbrev dktX0_held_1 : List UInt8 := dkwX0_held_1 ++ []
def dkwX0_held_0 : List UInt8 := [3, 60, 3, 61, 28, 16, 8, 162, 0, 29, 27, 42, 180, 0, 59, 28, 50, 180, 0, 103, 198, 0, 7, 4]
abbrev dktX0_held_0 : List UInt8 := dkwX0_held_0 ++ dktX0_held_1
theorem dksX0_held_0 : cX0_held.data.toList.drop 0 = dktX0_held_0 := by decide +kernel
theorem dksX0_held_1 : cX0_held.data.toList.drop 24 = dktX0_held_1 := dk_seg dksX0_held_0 24 rfl rfl
theorem dX0_held_0 : decode cX0_held 0 = .ok (.iconst 0, 1) := dk_3 (dk_at dksX0_held_0 0 rfl rfl)
theorem dX0_held_1 : decode cX0_held 1 = .ok (.istore_n 1, 1) := dk_60 (dk_at dksX0_held_0 1 rfl rfl)
theorem dX0_held_2 : decode cX0_held 2 = .ok (.iconst 0, 1) := dk_3 (dk_at dksX0_held_0 2 rfl rfl)
theorem dX0_held_3 : decode cX0_held 3 = .ok (.istore_n 2, 1) := dk_61 (dk_at dksX0_held_0 3 rfl rfl)
theorem dX0_held_4 : decode cX0_held 4 = .ok (.iload_n 2, 1) := dk_28 (dk_at dksX0_held_0 4 rfl rfl)
theorem dX0_held_5 : decode cX0_held 5 = .ok (.bipush 8, 2) := dk_16 8 (dk_at dksX0_held_0 5 rfl rfl)
theorem dX0_held_7 : decode cX0_held 7 = .ok (.if_icmp .ge 29, 3) := dk_162 0 29 (dk_at dksX0_held_0 7 rfl rfl)
theorem dX0_held_10 : decode cX0_held 10 = .ok (.iload_n 1, 1) := dk_27 (dk_at dksX0_held_0 10 rfl rfl)
theorem dX0_held_11 : decode cX0_held 11 = .ok (.aload_n 0, 1) := dk_42 (dk_at dksX0_held_0 11 rfl rfl)
theorem dX0_held_12 : decode cX0_held 12 = .ok (.getfield 59, 3) := dk_180 0 59 (dk_at dksX0_held_0 12 rfl rfl)
theorem dX0_held_15 : decode cX0_held 15 = .ok (.iload_n 2, 1) := dk_28 (dk_at dksX0_held_0 15 rfl rfl)
theorem dX0_held_16 : decode cX0_held 16 = .ok (.aaload, 1) := dk_50 (dk_at dksX0_held_0 16 rfl rfl)
theorem dX0_held_17 : decode cX0_held 17 = .ok (.getfield 103, 3) := dk_180 0 103 (dk_at dksX0_held_0 17 rfl rfl)
theorem dX0_held_20 : decode cX0_held 20 = .ok (.ifnull 7, 3) := dk_198 0 7 (dk_at dksX0_held_0 20 rfl rfl)
theorem dX0_held_23 : decode cX0_held 23 = .ok (.iconst 1, 1) := dk_4 (dk_at dksX0_held_0 23 rfl rfl)
theorem dX0_held_24 : decode cX0_held 24 = .ok (.goto 4, 3) := dk_167 0 4 (dk_at dksX0_held_1 0 rfl rfl)
theorem dX0_held_27 : decode cX0_held 27 = .ok (.iconst 0, 1) := dk_3 (dk_at dksX0_held_1 3 rfl rfl)
theorem dX0_held_28 : decode cX0_held 28 = .ok (.iadd, 1) := dk_96 (dk_at dksX0_held_1 4 rfl rfl)
theorem dX0_held_29 : decode cX0_held 29 = .ok (.istore_n 1, 1) := dk_60 (dk_at dksX0_held_1 5 rfl rfl)
theorem dX0_held_30 : decode cX0_held 30 = .ok (.iinc 2 1, 3) := dk_132 2 1 (dk_at dksX0_held_1 6 rfl rfl)
theorem dX0_held_33 : decode cX0_held 33 = .ok (.goto (-29), 3) := dk_167 255 227 (dk_at dksX0_held_1 9 rfl rfl)
theorem dX0_held_36 : decode cX0_held 36 = .ok (.iload_n 1, 1) := dk_27 (dk_at dksX0_held_1 12 rfl rfl)
theorem dX0_held_37 : decode cX0_held 37 = .ok (.ireturn, 1) := dk_172 (dk_at dksX0_held_1 13 rfl rfl)
theorem q81 : (Jvm.Cond.initialized "ThreeStrangers") ∈ lw_all := lw_g (lw_at lw_m1 1 rfl) rfl
theorem q118 : (Jvm.Cond.instantiable "ThreeStrangers" (11 : Nat)) ∈ lw_all := lw_g (lw_at lw_m1 38 rfl) rfl
theorem q120 : (Jvm.Cond.instanceMethod ({ cls := "ThreeStrangers", name := "<init>", desc := "()V" } : Jvm.MethodName)) ∈ lw_all := lw_g (lw_at lw_m1 40 rfl) rfl
theorem q121 : (Jvm.Cond.code ({ cls := "ThreeStrangers", name := "<init>", desc := "()V" } : Jvm.MethodName) prog_1_method_4_code (2 : Nat) (Option.none : Option Jvm.ClassFile.FieldType)) ∈ lw_all := lw_g (lw_at lw_m1 41 rfl) rfl
theorem q122 : (Jvm.Cond.methodLink "ThreeStrangers" (21 : Nat) ({ cls := "java/lang/Object", name := "<init>", desc := "()V" } : Jvm.MethodName)) ∈ lw_all := lw_g (lw_at lw_m1 42 rfl) rfl
theorem q125 : (Jvm.Cond.classLink "ThreeStrangers" (26 : Nat) "ThreeStrangers$Town") ∈ lw_all := lw_g (lw_at lw_m1 45 rfl) rfl
theorem q127 : (Jvm.Cond.methodLinkNest "ThreeStrangers" (28 : Nat) ({ cls := "ThreeStrangers$Town", name := "<init>", desc := "()V" } : Jvm.MethodName) "ThreeStrangers") ∈ lw_tbl := lw_at lw_m1 47 rfl
theorem q133 : (Jvm.Cond.fieldLink "ThreeStrangers" (181 : Nat) "ThreeStrangers$Town" "hour" "[I") ∈ lw_all := lw_g (lw_at lw_m1 53 rfl) rfl
theorem q137 : (Jvm.Cond.fieldLink "ThreeStrangers" (184 : Nat) "ThreeStrangers$Town" "cost" "[I") ∈ lw_all := lw_g (lw_at lw_m1 57 rfl) rfl
theorem q144 : (Jvm.Cond.fieldLink "ThreeStrangers" (171 : Nat) "ThreeStrangers$Town" "people" "I") ∈ lw_all := lw_g (lw_at lw_m1 64 rfl) rfl
theorem q148 : (Jvm.Cond.fieldLink "ThreeStrangers" (198 : Nat) "ThreeStrangers$Town" "seats" "I") ∈ lw_all := lw_g (lw_at lw_m1 68 rfl) rfl
theorem q151 : (Jvm.Cond.fieldLink "ThreeStrangers" (201 : Nat) "ThreeStrangers$Town" "memory" "I") ∈ lw_all := lw_g (lw_at lw_m1 71 rfl) rfl
theorem q153 : (Jvm.Cond.fieldLink "ThreeStrangers" (367 : Nat) "ThreeStrangers$Town" "coaches" "I") ∈ lw_all := lw_g (lw_at lw_m1 73 rfl) rfl
theorem q155 : (Jvm.Cond.fieldLink "ThreeStrangers" (368 : Nat) "ThreeStrangers$Town" "days" "I") ∈ lw_all := lw_g (lw_at lw_m1 75 rfl) rfl
theorem q157 : (Jvm.Cond.fieldLink "ThreeStrangers" (386 : Nat) "ThreeStrangers$Town" "years" "I") ∈ lw_all := lw_g (lw_at lw_m1 77 rfl) rfl
theorem q159 : (Jvm.Cond.fieldLink "ThreeStrangers" (377 : Nat) "ThreeStrangers$Town" "seed" "I") ∈ lw_all := lw_g (lw_at lw_m1 79 rfl) rfl
theorem q182 : (Jvm.Cond.classLink "ThreeStrangers" (36 : Nat) "ThreeStrangers$Groups") ∈ lw_all := lw_g (lw_at lw_m1 102 rfl) rfl
theorem q184 : (Jvm.Cond.methodLinkNest "ThreeStrangers" (38 : Nat) ({ cls := "ThreeStrangers$Groups", name := "<init>", desc := "()V" } : Jvm.MethodName) "ThreeStrangers") ∈ lw_tbl := lw_at lw_m1 104 rfl
theorem q190 : (Jvm.Cond.fieldLink "ThreeStrangers" (293 : Nat) "ThreeStrangers$Groups" "group" "[I") ∈ lw_all := lw_g (lw_at lw_m1 110 rfl) rfl
theorem q197 : (Jvm.Cond.fieldLink "ThreeStrangers" (288 : Nat) "ThreeStrangers$Groups" "many" "I") ∈ lw_all := lw_g (lw_at lw_m1 117 rfl) rfl
theorem q199 : (Jvm.Cond.fieldLink "ThreeStrangers" (315 : Nat) "ThreeStrangers$Groups" "longest" "I") ∈ lw_all := lw_g (lw_at lw_m1 119 rfl) rfl
theorem q201 : (Jvm.Cond.fieldLink "ThreeStrangers" (318 : Nat) "ThreeStrangers$Groups" "soonest" "I") ∈ lw_all := lw_g (lw_at lw_m1 121 rfl) rfl
theorem q219 : (Jvm.Cond.classLink "ThreeStrangers" (43 : Nat) "ThreeStrangers$Day") ∈ lw_all := lw_g (lw_at lw_m1 139 rfl) rfl
theorem q221 : (Jvm.Cond.methodLinkNest "ThreeStrangers" (45 : Nat) ({ cls := "ThreeStrangers$Day", name := "<init>", desc := "()V" } : Jvm.MethodName) "ThreeStrangers") ∈ lw_tbl := lw_at lw_m1 141 rfl
theorem q227 : (Jvm.Cond.fieldLink "ThreeStrangers" (270 : Nat) "ThreeStrangers$Day" "coach" "[I") ∈ lw_all := lw_g (lw_at lw_m1 147 rfl) rfl
theorem q229 : (Jvm.Cond.fieldLink "ThreeStrangers" (279 : Nat) "ThreeStrangers$Day" "waits" "[I") ∈ lw_all := lw_g (lw_at lw_m1 149 rfl) rfl
theorem q233 : (Jvm.Cond.fieldLink "ThreeStrangers" (267 : Nat) "ThreeStrangers$Day" "coaches" "I") ∈ lw_all := lw_g (lw_at lw_m1 153 rfl) rfl
theorem q235 : (Jvm.Cond.fieldLink "ThreeStrangers" (273 : Nat) "ThreeStrangers$Day" "left" "I") ∈ lw_all := lw_g (lw_at lw_m1 155 rfl) rfl
theorem q251 : (Jvm.Cond.classLink "ThreeStrangers" (57 : Nat) "ThreeStrangers$Sheet") ∈ lw_all := lw_g (lw_at lw_m1 171 rfl) rfl
theorem q254 : (Jvm.Cond.methodLinkNest "ThreeStrangers" (69 : Nat) ({ cls := "ThreeStrangers$Sheet", name := "<init>", desc := "()V" } : Jvm.MethodName) "ThreeStrangers") ∈ lw_tbl := lw_at lw_m1 174 rfl
theorem q258 : (Jvm.Cond.fieldLink "ThreeStrangers" (103 : Nat) "ThreeStrangers$Sheet" "held" "Ljava/lang/Object;") ∈ lw_all := lw_g (lw_at lw_m1 178 rfl) rfl
theorem q263 : (Jvm.Cond.fieldLink "ThreeStrangers" (29 : Nat) "ThreeStrangers" "now" "LThreeStrangers$Town;") ∈ lw_all := lw_g (lw_at lw_m1 183 rfl) rfl
theorem q264 : (Jvm.Cond.fieldLink "ThreeStrangers" (380 : Nat) "ThreeStrangers" "image" "LThreeStrangers$Town;") ∈ lw_all := lw_g (lw_at lw_m1 184 rfl) rfl
theorem q266 : (Jvm.Cond.fieldLink "ThreeStrangers" (33 : Nat) "ThreeStrangers" "tried" "LThreeStrangers$Town;") ∈ lw_all := lw_g (lw_at lw_m1 186 rfl) rfl
theorem q267 : (Jvm.Cond.fieldLink "ThreeStrangers" (39 : Nat) "ThreeStrangers" "groups" "LThreeStrangers$Groups;") ∈ lw_all := lw_g (lw_at lw_m1 187 rfl) rfl
theorem q268 : (Jvm.Cond.fieldLink "ThreeStrangers" (46 : Nat) "ThreeStrangers" "day" "LThreeStrangers$Day;") ∈ lw_all := lw_g (lw_at lw_m1 188 rfl) rfl
theorem q269 : (Jvm.Cond.fieldLink "ThreeStrangers" (50 : Nat) "ThreeStrangers" "cheap" "[I") ∈ lw_all := lw_g (lw_at lw_m1 189 rfl) rfl
theorem q270 : (Jvm.Cond.fieldLink "ThreeStrangers" (54 : Nat) "ThreeStrangers" "rode" "[I") ∈ lw_all := lw_g (lw_at lw_m1 190 rfl) rfl
theorem q271 : (Jvm.Cond.fieldLink "ThreeStrangers" (59 : Nat) "ThreeStrangers" "shelves" "[LThreeStrangers$Sheet;") ∈ lw_all := lw_g (lw_at lw_m1 191 rfl) rfl
theorem q272 : (Jvm.Cond.fieldLink "ThreeStrangers" (63 : Nat) "ThreeStrangers" "tape" "[I") ∈ lw_all := lw_g (lw_at lw_m1 192 rfl) rfl
theorem q273 : (Jvm.Cond.fieldLink "ThreeStrangers" (204 : Nat) "ThreeStrangers" "size" "I") ∈ lw_all := lw_g (lw_at lw_m1 193 rfl) rfl
theorem q274 : (Jvm.Cond.fieldLink "ThreeStrangers" (66 : Nat) "ThreeStrangers" "refused" "[I") ∈ lw_all := lw_g (lw_at lw_m1 194 rfl) rfl
theorem q275 : (Jvm.Cond.lays "ThreeStrangers" "ThreeStrangers" "now" "LThreeStrangers$Town;") ∈ lw_all := lw_g (lw_at lw_m1 195 rfl) rfl
theorem q276 : (Jvm.Cond.soleField "ThreeStrangers" "now") ∈ lw_all := lw_g (lw_at lw_m1 196 rfl) rfl
theorem q277 : (Jvm.Cond.lays "ThreeStrangers" "ThreeStrangers" "image" "LThreeStrangers$Town;") ∈ lw_all := lw_g (lw_at lw_m1 197 rfl) rfl
theorem q278 : (Jvm.Cond.soleField "ThreeStrangers" "image") ∈ lw_all := lw_g (lw_at lw_m1 198 rfl) rfl
theorem q279 : (Jvm.Cond.laysFinal "ThreeStrangers" "ThreeStrangers" "tried" "LThreeStrangers$Town;") ∈ lw_all := lw_g (lw_at lw_m1 199 rfl) rfl
theorem q280 : (Jvm.Cond.soleField "ThreeStrangers" "tried") ∈ lw_all := lw_g (lw_at lw_m1 200 rfl) rfl
theorem q281 : (Jvm.Cond.laysFinal "ThreeStrangers" "ThreeStrangers" "groups" "LThreeStrangers$Groups;") ∈ lw_all := lw_g (lw_at lw_m1 201 rfl) rfl
theorem q282 : (Jvm.Cond.soleField "ThreeStrangers" "groups") ∈ lw_all := lw_g (lw_at lw_m1 202 rfl) rfl
theorem q283 : (Jvm.Cond.laysFinal "ThreeStrangers" "ThreeStrangers" "day" "LThreeStrangers$Day;") ∈ lw_all := lw_g (lw_at lw_m1 203 rfl) rfl
theorem q284 : (Jvm.Cond.soleField "ThreeStrangers" "day") ∈ lw_all := lw_g (lw_at lw_m1 204 rfl) rfl
theorem q285 : (Jvm.Cond.laysFinal "ThreeStrangers" "ThreeStrangers" "cheap" "[I") ∈ lw_all := lw_g (lw_at lw_m1 205 rfl) rfl
theorem q286 : (Jvm.Cond.soleField "ThreeStrangers" "cheap") ∈ lw_all := lw_g (lw_at lw_m1 206 rfl) rfl
theorem q287 : (Jvm.Cond.laysFinal "ThreeStrangers" "ThreeStrangers" "rode" "[I") ∈ lw_all := lw_g (lw_at lw_m1 207 rfl) rfl
theorem q288 : (Jvm.Cond.soleField "ThreeStrangers" "rode") ∈ lw_all := lw_g (lw_at lw_m1 208 rfl) rfl
theorem q289 : (Jvm.Cond.laysFinal "ThreeStrangers" "ThreeStrangers" "shelves" "[LThreeStrangers$Sheet;") ∈ lw_all := lw_g (lw_at lw_m1 209 rfl) rfl
theorem q290 : (Jvm.Cond.soleField "ThreeStrangers" "shelves") ∈ lw_all := lw_g (lw_at lw_m1 210 rfl) rfl
theorem q291 : (Jvm.Cond.laysFinal "ThreeStrangers" "ThreeStrangers" "tape" "[I") ∈ lw_all := lw_g (lw_at lw_m1 211 rfl) rfl
theorem q292 : (Jvm.Cond.soleField "ThreeStrangers" "tape") ∈ lw_all := lw_g (lw_at lw_m1 212 rfl) rfl
theorem q293 : (Jvm.Cond.lays "ThreeStrangers" "ThreeStrangers" "size" "I") ∈ lw_all := lw_g (lw_at lw_m1 213 rfl) rfl
theorem q294 : (Jvm.Cond.soleField "ThreeStrangers" "size") ∈ lw_all := lw_g (lw_at lw_m1 214 rfl) rfl
theorem q295 : (Jvm.Cond.laysFinal "ThreeStrangers" "ThreeStrangers" "refused" "[I") ∈ lw_all := lw_g (lw_at lw_m1 215 rfl) rfl
theorem q296 : (Jvm.Cond.soleField "ThreeStrangers" "refused") ∈ lw_all := lw_g (lw_at lw_m1 216 rfl) rfl
theorem q297 : (Jvm.Cond.superclass "ThreeStrangers" "java/lang/Object") ∈ lw_all := lw_g (lw_at lw_m1 217 rfl) rfl
theorem q299 : (Jvm.Cond.instanceMethod ({ cls := "ThreeStrangers", name := "row", desc := "(III)I" } : Jvm.MethodName)) ∈ lw_all := lw_g (lw_at lw_m1 219 rfl) rfl
theorem q300 : (Jvm.Cond.selects "ThreeStrangers" ({ cls := "ThreeStrangers", name := "row", desc := "(III)I" } : Jvm.MethodName) ({ cls := "ThreeStrangers", name := "row", desc := "(III)I" } : Jvm.MethodName)) ∈ lw_all := lw_g (lw_at lw_m1 220 rfl) rfl
theorem q301 : (Jvm.Cond.codeWith ({ cls := "ThreeStrangers", name := "row", desc := "(III)I" } : Jvm.MethodName) prog_1_method_12_code (5 : Nat) (Option.some Jvm.ClassFile.FieldType.int) [((29 : Nat), (43 : Nat), (46 : Nat), (107 : Nat))]) ∈ lw_all := lw_g (lw_at lw_m1 221 rfl) rfl
theorem q302 : (Jvm.Cond.classLink "ThreeStrangers" (107 : Nat) "java/lang/NegativeArraySizeException") ∈ lw_all := lw_g (lw_at lw_m1 222 rfl) rfl
theorem q390 : (Jvm.Cond.methodLink "ThreeStrangers" (91 : Nat) ({ cls := "ThreeStrangers", name := "isShelf", desc := "(I)Z" } : Jvm.MethodName)) ∈ lw_all := lw_g (lw_at lw_m2 70 rfl) rfl
theorem q391 : (Jvm.Cond.static ({ cls := "ThreeStrangers", name := "isShelf", desc := "(I)Z" } : Jvm.MethodName)) ∈ lw_all := lw_g (lw_at lw_m2 71 rfl) rfl
theorem q392 : (Jvm.Cond.code ({ cls := "ThreeStrangers", name := "isShelf", desc := "(I)Z" } : Jvm.MethodName) prog_1_method_6_code (1 : Nat) (Option.some Jvm.ClassFile.FieldType.boolean)) ∈ lw_all := lw_g (lw_at lw_m2 72 rfl) rfl
theorem q393 : (Jvm.Cond.methodLink "ThreeStrangers" (70 : Nat) ({ cls := "ThreeStrangers", name := "isIn", desc := "(III)Z" } : Jvm.MethodName)) ∈ lw_all := lw_g (lw_at lw_m2 73 rfl) rfl
theorem q394 : (Jvm.Cond.static ({ cls := "ThreeStrangers", name := "isIn", desc := "(III)Z" } : Jvm.MethodName)) ∈ lw_all := lw_g (lw_at lw_m2 74 rfl) rfl
theorem q395 : (Jvm.Cond.code ({ cls := "ThreeStrangers", name := "isIn", desc := "(III)Z" } : Jvm.MethodName) prog_1_method_1_code (3 : Nat) (Option.some Jvm.ClassFile.FieldType.boolean)) ∈ lw_all := lw_g (lw_at lw_m2 75 rfl) rfl
theorem q396 : (Jvm.Cond.methodLink "ThreeStrangers" (95 : Nat) ({ cls := "ThreeStrangers", name := "no", desc := "(I)I" } : Jvm.MethodName)) ∈ lw_all := lw_g (lw_at lw_m2 76 rfl) rfl
theorem q397 : (Jvm.Cond.privateMethod ({ cls := "ThreeStrangers", name := "no", desc := "(I)I" } : Jvm.MethodName)) ∈ lw_tbl := lw_at lw_m2 77 rfl
theorem q398 : (Jvm.Cond.instanceMethod ({ cls := "ThreeStrangers", name := "no", desc := "(I)I" } : Jvm.MethodName)) ∈ lw_all := lw_g (lw_at lw_m2 78 rfl) rfl
theorem q399 : (Jvm.Cond.code ({ cls := "ThreeStrangers", name := "no", desc := "(I)I" } : Jvm.MethodName) prog_1_method_5_code (2 : Nat) (Option.some Jvm.ClassFile.FieldType.int)) ∈ lw_all := lw_g (lw_at lw_m2 79 rfl) rfl
theorem q400 : (Jvm.Cond.methodLink "ThreeStrangers" (99 : Nat) ({ cls := "ThreeStrangers", name := "rowOf", desc := "(II)Ljava/lang/Object;" } : Jvm.MethodName)) ∈ lw_all := lw_g (lw_at lw_m2 80 rfl) rfl
theorem q401 : (Jvm.Cond.static ({ cls := "ThreeStrangers", name := "rowOf", desc := "(II)Ljava/lang/Object;" } : Jvm.MethodName)) ∈ lw_all := lw_g (lw_at lw_m2 81 rfl) rfl
theorem q402 : (Jvm.Cond.code ({ cls := "ThreeStrangers", name := "rowOf", desc := "(II)Ljava/lang/Object;" } : Jvm.MethodName) prog_1_method_8_code (2 : Nat) (Option.some (Jvm.ClassFile.FieldType.object "java/lang/Object"))) ∈ lw_all := lw_g (lw_at lw_m2 82 rfl) rfl
theorem q407 : (Jvm.Cond.instanceMethod ({ cls := "ThreeStrangers", name := "set", desc := "(IIJ)I" } : Jvm.MethodName)) ∈ lw_all := lw_g (lw_at lw_m2 87 rfl) rfl
theorem q408 : (Jvm.Cond.selects "ThreeStrangers" ({ cls := "ThreeStrangers", name := "set", desc := "(IIJ)I" } : Jvm.MethodName) ({ cls := "ThreeStrangers", name := "set", desc := "(IIJ)I" } : Jvm.MethodName)) ∈ lw_all := lw_g (lw_at lw_m2 88 rfl) rfl
theorem q409 : (Jvm.Cond.codeWith ({ cls := "ThreeStrangers", name := "set", desc := "(IIJ)I" } : Jvm.MethodName) prog_1_method_14_code (6 : Nat) (Option.some Jvm.ClassFile.FieldType.int) [((14 : Nat), (25 : Nat), (26 : Nat), (111 : Nat)), ((14 : Nat), (25 : Nat), (38 : Nat), (126 : Nat))]) ∈ lw_all := lw_g (lw_at lw_m2 89 rfl) rfl
theorem q410 : (Jvm.Cond.classLink "ThreeStrangers" (111 : Nat) "ThreeStrangers$Refused") ∈ lw_all := lw_g (lw_at lw_m2 90 rfl) rfl
theorem q411 : (Jvm.Cond.classLink "ThreeStrangers" (126 : Nat) "java/lang/ArrayIndexOutOfBoundsException") ∈ lw_all := lw_g (lw_at lw_m2 91 rfl) rfl
theorem q430 : (Jvm.Cond.methodLink "ThreeStrangers" (114 : Nat) ({ cls := "ThreeStrangers", name := "rowIn", desc := "(I)Ljava/lang/Object;" } : Jvm.MethodName)) ∈ lw_all := lw_g (lw_at lw_m2 110 rfl) rfl
theorem q431 : (Jvm.Cond.privateMethod ({ cls := "ThreeStrangers", name := "rowIn", desc := "(I)Ljava/lang/Object;" } : Jvm.MethodName)) ∈ lw_tbl := lw_at lw_m2 111 rfl
theorem q432 : (Jvm.Cond.instanceMethod ({ cls := "ThreeStrangers", name := "rowIn", desc := "(I)Ljava/lang/Object;" } : Jvm.MethodName)) ∈ lw_all := lw_g (lw_at lw_m2 112 rfl) rfl
theorem q433 : (Jvm.Cond.code ({ cls := "ThreeStrangers", name := "rowIn", desc := "(I)Ljava/lang/Object;" } : Jvm.MethodName) prog_1_method_13_code (3 : Nat) (Option.some (Jvm.ClassFile.FieldType.object "java/lang/Object"))) ∈ lw_all := lw_g (lw_at lw_m2 113 rfl) rfl
theorem q434 : (Jvm.Cond.classLink "ThreeStrangers" (109 : Nat) "ThreeStrangers$Coachman") ∈ lw_all := lw_g (lw_at lw_m2 114 rfl) rfl
theorem q443 : (Jvm.Cond.methodLink "ThreeStrangers" (113 : Nat) ({ cls := "ThreeStrangers$Refused", name := "<init>", desc := "(I)V" } : Jvm.MethodName)) ∈ lw_all := lw_g (lw_at lw_m2 123 rfl) rfl
theorem q456 : (Jvm.Cond.fieldLink "ThreeStrangers" (122 : Nat) "ThreeStrangers$Refused" "by" "I") ∈ lw_all := lw_g (lw_at lw_m2 136 rfl) rfl
theorem q461 : (Jvm.Cond.methodLink "ThreeStrangers" (118 : Nat) ({ cls := "ThreeStrangers", name := "puts", desc := "(Ljava/lang/Object;IJ)V" } : Jvm.MethodName)) ∈ lw_all := lw_g (lw_at lw_m2 141 rfl) rfl
theorem q462 : (Jvm.Cond.static ({ cls := "ThreeStrangers", name := "puts", desc := "(Ljava/lang/Object;IJ)V" } : Jvm.MethodName)) ∈ lw_all := lw_g (lw_at lw_m2 142 rfl) rfl
theorem q463 : (Jvm.Cond.code ({ cls := "ThreeStrangers", name := "puts", desc := "(Ljava/lang/Object;IJ)V" } : Jvm.MethodName) prog_1_method_11_code (4 : Nat) (Option.none : Option Jvm.ClassFile.FieldType)) ∈ lw_all := lw_g (lw_at lw_m2 143 rfl) rfl
theorem q464 : (Jvm.Cond.methodLink "ThreeStrangers" (85 : Nat) ({ cls := "ThreeStrangers", name := "sortOf", desc := "(Ljava/lang/Object;)I" } : Jvm.MethodName)) ∈ lw_all := lw_g (lw_at lw_m2 144 rfl) rfl
theorem q465 : (Jvm.Cond.static ({ cls := "ThreeStrangers", name := "sortOf", desc := "(Ljava/lang/Object;)I" } : Jvm.MethodName)) ∈ lw_all := lw_g (lw_at lw_m2 145 rfl) rfl
theorem q466 : (Jvm.Cond.code ({ cls := "ThreeStrangers", name := "sortOf", desc := "(Ljava/lang/Object;)I" } : Jvm.MethodName) prog_1_method_9_code (1 : Nat) (Option.some Jvm.ClassFile.FieldType.int)) ∈ lw_all := lw_g (lw_at lw_m2 146 rfl) rfl
theorem q467 : (Jvm.Cond.classLink "ThreeStrangers" (78 : Nat) "[B") ∈ lw_all := lw_g (lw_at lw_m2 147 rfl) rfl
theorem q468 : (Jvm.Cond.classLink "ThreeStrangers" (80 : Nat) "[S") ∈ lw_all := lw_g (lw_at lw_m2 148 rfl) rfl
theorem q469 : (Jvm.Cond.classLink "ThreeStrangers" (82 : Nat) "[I") ∈ lw_all := lw_g (lw_at lw_m2 149 rfl) rfl
theorem q470 : (Jvm.Cond.classLink "ThreeStrangers" (83 : Nat) "[J") ∈ lw_all := lw_g (lw_at lw_m2 150 rfl) rfl
theorem q471 : (Jvm.Cond.classLink "ThreeStrangers" (89 : Nat) "[Z") ∈ lw_all := lw_g (lw_at lw_m2 151 rfl) rfl
theorem q473 : (Jvm.Cond.instanceMethod ({ cls := "ThreeStrangers", name := "copy", desc := "(IIIII)I" } : Jvm.MethodName)) ∈ lw_all := lw_g (lw_at lw_m2 153 rfl) rfl
theorem q474 : (Jvm.Cond.selects "ThreeStrangers" ({ cls := "ThreeStrangers", name := "copy", desc := "(IIIII)I" } : Jvm.MethodName) ({ cls := "ThreeStrangers", name := "copy", desc := "(IIIII)I" } : Jvm.MethodName)) ∈ lw_all := lw_g (lw_at lw_m2 154 rfl) rfl
theorem q475 : (Jvm.Cond.codeWith ({ cls := "ThreeStrangers", name := "copy", desc := "(IIIII)I" } : Jvm.MethodName) prog_1_method_15_code (9 : Nat) (Option.some Jvm.ClassFile.FieldType.int) [((66 : Nat), (80 : Nat), (81 : Nat), (134 : Nat)), ((66 : Nat), (80 : Nat), (90 : Nat), (136 : Nat)), ((66 : Nat), (80 : Nat), (99 : Nat), (138 : Nat))]) ∈ lw_all := lw_g (lw_at lw_m2 155 rfl) rfl
theorem q476 : (Jvm.Cond.classLink "ThreeStrangers" (134 : Nat) "java/lang/NullPointerException") ∈ lw_all := lw_g (lw_at lw_m2 156 rfl) rfl
theorem q501 : (Jvm.Cond.classLink "ThreeStrangers" (136 : Nat) "java/lang/ArrayStoreException") ∈ lw_all := lw_g (lw_at lw_m2 181 rfl) rfl
theorem q515 : (Jvm.Cond.classLink "ThreeStrangers" (138 : Nat) "java/lang/IndexOutOfBoundsException") ∈ lw_all := lw_g (lw_at lw_m2 195 rfl) rfl
theorem q516 : (Jvm.Cond.methodLink "ThreeStrangers" (128 : Nat) ({ cls := "java/lang/System", name := "arraycopy", desc := "(Ljava/lang/Object;ILjava/lang/Object;II)V" } : Jvm.MethodName)) ∈ lw_all := lw_g (lw_at lw_m2 196 rfl) rfl
theorem q520 : (Jvm.Cond.instanceMethod ({ cls := "ThreeStrangers", name := "element", desc := "(II)J" } : Jvm.MethodName)) ∈ lw_all := lw_g (lw_at lw_m2 200 rfl) rfl
theorem q521 : (Jvm.Cond.selects "ThreeStrangers" ({ cls := "ThreeStrangers", name := "element", desc := "(II)J" } : Jvm.MethodName) ({ cls := "ThreeStrangers", name := "element", desc := "(II)J" } : Jvm.MethodName)) ∈ lw_all := lw_g (lw_at lw_m2 201 rfl) rfl
theorem q522 : (Jvm.Cond.codeWith ({ cls := "ThreeStrangers", name := "element", desc := "(II)J" } : Jvm.MethodName) prog_1_method_16_code (4 : Nat) (Option.some Jvm.ClassFile.FieldType.long) [((9 : Nat), (18 : Nat), (19 : Nat), (111 : Nat)), ((9 : Nat), (18 : Nat), (22 : Nat), (126 : Nat))]) ∈ lw_all := lw_g (lw_at lw_m2 202 rfl) rfl
theorem q523 : (Jvm.Cond.methodLink "ThreeStrangers" (140 : Nat) ({ cls := "ThreeStrangers", name := "elementOf", desc := "(Ljava/lang/Object;I)J" } : Jvm.MethodName)) ∈ lw_all := lw_g (lw_at lw_m2 203 rfl) rfl
theorem q524 : (Jvm.Cond.static ({ cls := "ThreeStrangers", name := "elementOf", desc := "(Ljava/lang/Object;I)J" } : Jvm.MethodName)) ∈ lw_all := lw_g (lw_at lw_m2 204 rfl) rfl
theorem q525 : (Jvm.Cond.code ({ cls := "ThreeStrangers", name := "elementOf", desc := "(Ljava/lang/Object;I)J" } : Jvm.MethodName) prog_1_method_10_code (2 : Nat) (Option.some Jvm.ClassFile.FieldType.long)) ∈ lw_all := lw_g (lw_at lw_m2 205 rfl) rfl
theorem q527 : (Jvm.Cond.instanceMethod ({ cls := "ThreeStrangers", name := "holds", desc := "(I)I" } : Jvm.MethodName)) ∈ lw_all := lw_g (lw_at lw_m2 207 rfl) rfl
theorem q528 : (Jvm.Cond.selects "ThreeStrangers" ({ cls := "ThreeStrangers", name := "holds", desc := "(I)I" } : Jvm.MethodName) ({ cls := "ThreeStrangers", name := "holds", desc := "(I)I" } : Jvm.MethodName)) ∈ lw_all := lw_g (lw_at lw_m2 208 rfl) rfl
theorem q529 : (Jvm.Cond.code ({ cls := "ThreeStrangers", name := "holds", desc := "(I)I" } : Jvm.MethodName) prog_1_method_17_code (3 : Nat) (Option.some Jvm.ClassFile.FieldType.int)) ∈ lw_all := lw_g (lw_at lw_m2 209 rfl) rfl
theorem q530 : (Jvm.Cond.methodLink "ThreeStrangers" (144 : Nat) ({ cls := "ThreeStrangers$Coachman", name := "kind", desc := "()I" } : Jvm.MethodName)) ∈ lw_all := lw_g (lw_at lw_m2 210 rfl) rfl
theorem q550 : (Jvm.Cond.instanceMethod ({ cls := "ThreeStrangers", name := "coachman", desc := "(III)I" } : Jvm.MethodName)) ∈ lw_all := lw_g (lw_at lw_m2 230 rfl) rfl
theorem q551 : (Jvm.Cond.selects "ThreeStrangers" ({ cls := "ThreeStrangers", name := "coachman", desc := "(III)I" } : Jvm.MethodName) ({ cls := "ThreeStrangers", name := "coachman", desc := "(III)I" } : Jvm.MethodName)) ∈ lw_all := lw_g (lw_at lw_m2 231 rfl) rfl
theorem q552 : (Jvm.Cond.code ({ cls := "ThreeStrangers", name := "coachman", desc := "(III)I" } : Jvm.MethodName) prog_1_method_18_code (4 : Nat) (Option.some Jvm.ClassFile.FieldType.int)) ∈ lw_all := lw_g (lw_at lw_m2 232 rfl) rfl
theorem q553 : (Jvm.Cond.methodLink "ThreeStrangers" (148 : Nat) ({ cls := "ThreeStrangers", name := "made", desc := "(II)LThreeStrangers$Coachman;" } : Jvm.MethodName)) ∈ lw_all := lw_g (lw_at lw_m2 233 rfl) rfl
theorem q554 : (Jvm.Cond.static ({ cls := "ThreeStrangers", name := "made", desc := "(II)LThreeStrangers$Coachman;" } : Jvm.MethodName)) ∈ lw_all := lw_g (lw_at lw_m2 234 rfl) rfl
theorem q555 : (Jvm.Cond.code ({ cls := "ThreeStrangers", name := "made", desc := "(II)LThreeStrangers$Coachman;" } : Jvm.MethodName) prog_1_method_3_code (2 : Nat) (Option.some (Jvm.ClassFile.FieldType.object "ThreeStrangers$Coachman"))) ∈ lw_all := lw_g (lw_at lw_m2 235 rfl) rfl
theorem q556 : (Jvm.Cond.classLink "ThreeStrangers" (3 : Nat) "ThreeStrangers$First") ∈ lw_all := lw_g (lw_at lw_m2 236 rfl) rfl
theorem q558 : (Jvm.Cond.methodLink "ThreeStrangers" (5 : Nat) ({ cls := "ThreeStrangers$First", name := "<init>", desc := "(I)V" } : Jvm.MethodName)) ∈ lw_all := lw_g (lw_at lw_m2 238 rfl) rfl
theorem q568 : (Jvm.Cond.fieldLink "ThreeStrangers" (162 : Nat) "ThreeStrangers$Coachman" "a" "I") ∈ lw_all := lw_g (lw_at lw_m3 8 rfl) rfl
theorem q572 : (Jvm.Cond.classLink "ThreeStrangers" (9 : Nat) "ThreeStrangers$Choose") ∈ lw_all := lw_g (lw_at lw_m3 12 rfl) rfl
theorem q574 : (Jvm.Cond.methodLink "ThreeStrangers" (11 : Nat) ({ cls := "ThreeStrangers$Choose", name := "<init>", desc := "(I)V" } : Jvm.MethodName)) ∈ lw_all := lw_g (lw_at lw_m3 14 rfl) rfl
theorem q580 : (Jvm.Cond.classLink "ThreeStrangers" (12 : Nat) "ThreeStrangers$Waits") ∈ lw_all := lw_g (lw_at lw_m3 20 rfl) rfl
theorem q582 : (Jvm.Cond.methodLink "ThreeStrangers" (14 : Nat) ({ cls := "ThreeStrangers$Waits", name := "<init>", desc := "(I)V" } : Jvm.MethodName)) ∈ lw_all := lw_g (lw_at lw_m3 22 rfl) rfl
theorem q588 : (Jvm.Cond.classLink "ThreeStrangers" (15 : Nat) "ThreeStrangers$Spares") ∈ lw_all := lw_g (lw_at lw_m3 28 rfl) rfl
theorem q590 : (Jvm.Cond.methodLink "ThreeStrangers" (17 : Nat) ({ cls := "ThreeStrangers$Spares", name := "<init>", desc := "(I)V" } : Jvm.MethodName)) ∈ lw_all := lw_g (lw_at lw_m3 30 rfl) rfl
theorem q596 : (Jvm.Cond.classLink "ThreeStrangers" (18 : Nat) "ThreeStrangers$Best") ∈ lw_all := lw_g (lw_at lw_m3 36 rfl) rfl
theorem q598 : (Jvm.Cond.methodLink "ThreeStrangers" (20 : Nat) ({ cls := "ThreeStrangers$Best", name := "<init>", desc := "(I)V" } : Jvm.MethodName)) ∈ lw_all := lw_g (lw_at lw_m3 38 rfl) rfl
theorem q605 : (Jvm.Cond.instanceMethod ({ cls := "ThreeStrangers", name := "says", desc := "(II)I" } : Jvm.MethodName)) ∈ lw_all := lw_g (lw_at lw_m3 45 rfl) rfl
theorem q606 : (Jvm.Cond.selects "ThreeStrangers" ({ cls := "ThreeStrangers", name := "says", desc := "(II)I" } : Jvm.MethodName) ({ cls := "ThreeStrangers", name := "says", desc := "(II)I" } : Jvm.MethodName)) ∈ lw_all := lw_g (lw_at lw_m3 46 rfl) rfl
theorem q607 : (Jvm.Cond.codeWith ({ cls := "ThreeStrangers", name := "says", desc := "(II)I" } : Jvm.MethodName) prog_1_method_20_code (5 : Nat) (Option.some Jvm.ClassFile.FieldType.int) [((44 : Nat), (87 : Nat), (133 : Nat), (169 : Nat)), ((88 : Nat), (96 : Nat), (133 : Nat), (169 : Nat)), ((97 : Nat), (105 : Nat), (133 : Nat), (169 : Nat)), ((106 : Nat), (114 : Nat), (133 : Nat), (169 : Nat)), ((115 : Nat), (123 : Nat), (133 : Nat), (169 : Nat)), ((124 : Nat), (132 : Nat), (133 : Nat), (169 : Nat))]) ∈ lw_all := lw_g (lw_at lw_m3 47 rfl) rfl
theorem q608 : (Jvm.Cond.classLink "ThreeStrangers" (169 : Nat) "java/lang/ClassCastException") ∈ lw_all := lw_g (lw_at lw_m3 48 rfl) rfl
theorem q622 : (Jvm.Cond.methodLink "ThreeStrangers" (165 : Nat) ({ cls := "ThreeStrangers", name := "says", desc := "(LThreeStrangers$Coachman;)I" } : Jvm.MethodName)) ∈ lw_all := lw_g (lw_at lw_m3 62 rfl) rfl
theorem q623 : (Jvm.Cond.privateMethod ({ cls := "ThreeStrangers", name := "says", desc := "(LThreeStrangers$Coachman;)I" } : Jvm.MethodName)) ∈ lw_tbl := lw_at lw_m3 63 rfl
theorem q624 : (Jvm.Cond.instanceMethod ({ cls := "ThreeStrangers", name := "says", desc := "(LThreeStrangers$Coachman;)I" } : Jvm.MethodName)) ∈ lw_all := lw_g (lw_at lw_m3 64 rfl) rfl
theorem q625 : (Jvm.Cond.code ({ cls := "ThreeStrangers", name := "says", desc := "(LThreeStrangers$Coachman;)I" } : Jvm.MethodName) prog_1_method_19_code (2 : Nat) (Option.some Jvm.ClassFile.FieldType.int)) ∈ lw_all := lw_g (lw_at lw_m3 65 rfl) rfl
theorem q626 : (Jvm.Cond.methodLink "ThreeStrangers" (152 : Nat) ({ cls := "ThreeStrangers", name := "groups", desc := "()LThreeStrangers$Groups;" } : Jvm.MethodName)) ∈ lw_all := lw_g (lw_at lw_m3 66 rfl) rfl
theorem q627 : (Jvm.Cond.privateMethod ({ cls := "ThreeStrangers", name := "groups", desc := "()LThreeStrangers$Groups;" } : Jvm.MethodName)) ∈ lw_tbl := lw_at lw_m3 67 rfl
theorem q628 : (Jvm.Cond.instanceMethod ({ cls := "ThreeStrangers", name := "groups", desc := "()LThreeStrangers$Groups;" } : Jvm.MethodName)) ∈ lw_all := lw_g (lw_at lw_m3 68 rfl) rfl
theorem q629 : (Jvm.Cond.code ({ cls := "ThreeStrangers", name := "groups", desc := "()LThreeStrangers$Groups;" } : Jvm.MethodName) prog_1_method_7_code (1 : Nat) (Option.some (Jvm.ClassFile.FieldType.object "ThreeStrangers$Groups"))) ∈ lw_all := lw_g (lw_at lw_m3 69 rfl) rfl
theorem q630 : (Jvm.Cond.methodLink "ThreeStrangers" (74 : Nat) ({ cls := "ThreeStrangers$Groups", name := "of", desc := "(LThreeStrangers$Town;)LThreeStrangers$Groups;" } : Jvm.MethodName)) ∈ lw_all := lw_g (lw_at lw_m3 70 rfl) rfl
theorem q660 : (Jvm.Cond.static ({ cls := "ThreeStrangers", name := "has", desc := "(II)Z" } : Jvm.MethodName)) ∈ lw_all := lw_g (lw_at lw_m3 100 rfl) rfl
theorem q661 : (Jvm.Cond.code ({ cls := "ThreeStrangers", name := "has", desc := "(II)Z" } : Jvm.MethodName) prog_1_method_2_code (2 : Nat) (Option.some Jvm.ClassFile.FieldType.boolean)) ∈ lw_all := lw_g (lw_at lw_m3 101 rfl) rfl
theorem q669 : (Jvm.Cond.methodLink "ThreeStrangers" (155 : Nat) ({ cls := "ThreeStrangers$Town", name := "all", desc := "()I" } : Jvm.MethodName)) ∈ lw_all := lw_g (lw_at lw_m3 109 rfl) rfl
theorem q740 : (Jvm.Cond.instanceMethod ({ cls := "ThreeStrangers", name := "person", desc := "(II)I" } : Jvm.MethodName)) ∈ lw_all := lw_g (lw_at lw_m3 180 rfl) rfl
theorem q741 : (Jvm.Cond.selects "ThreeStrangers" ({ cls := "ThreeStrangers", name := "person", desc := "(II)I" } : Jvm.MethodName) ({ cls := "ThreeStrangers", name := "person", desc := "(II)I" } : Jvm.MethodName)) ∈ lw_all := lw_g (lw_at lw_m3 181 rfl) rfl
theorem q742 : (Jvm.Cond.code ({ cls := "ThreeStrangers", name := "person", desc := "(II)I" } : Jvm.MethodName) prog_1_method_22_code (3 : Nat) (Option.some Jvm.ClassFile.FieldType.int)) ∈ lw_all := lw_g (lw_at lw_m3 182 rfl) rfl
theorem q743 : (Jvm.Cond.methodLink "ThreeStrangers" (174 : Nat) ({ cls := "ThreeStrangers$Town", name := "adds", desc := "(II)I" } : Jvm.MethodName)) ∈ lw_all := lw_g (lw_at lw_m3 183 rfl) rfl
theorem q752 : (Jvm.Cond.instanceMethod ({ cls := "ThreeStrangers", name := "change", desc := "(III)I" } : Jvm.MethodName)) ∈ lw_all := lw_g (lw_at lw_m3 192 rfl) rfl
theorem q753 : (Jvm.Cond.selects "ThreeStrangers" ({ cls := "ThreeStrangers", name := "change", desc := "(III)I" } : Jvm.MethodName) ({ cls := "ThreeStrangers", name := "change", desc := "(III)I" } : Jvm.MethodName)) ∈ lw_all := lw_g (lw_at lw_m3 193 rfl) rfl
theorem q754 : (Jvm.Cond.code ({ cls := "ThreeStrangers", name := "change", desc := "(III)I" } : Jvm.MethodName) prog_1_method_23_code (6 : Nat) (Option.some Jvm.ClassFile.FieldType.int)) ∈ lw_all := lw_g (lw_at lw_m3 194 rfl) rfl
theorem q755 : (Jvm.Cond.methodLink "ThreeStrangers" (178 : Nat) ({ cls := "ThreeStrangers$Town", name := "isOne", desc := "(I)Z" } : Jvm.MethodName)) ∈ lw_all := lw_g (lw_at lw_m3 195 rfl) rfl
theorem q761 : (Jvm.Cond.instanceMethod ({ cls := "ThreeStrangers", name := "know", desc := "(III)I" } : Jvm.MethodName)) ∈ lw_all := lw_g (lw_at lw_m3 201 rfl) rfl
theorem q762 : (Jvm.Cond.selects "ThreeStrangers" ({ cls := "ThreeStrangers", name := "know", desc := "(III)I" } : Jvm.MethodName) ({ cls := "ThreeStrangers", name := "know", desc := "(III)I" } : Jvm.MethodName)) ∈ lw_all := lw_g (lw_at lw_m3 202 rfl) rfl
theorem q763 : (Jvm.Cond.code ({ cls := "ThreeStrangers", name := "know", desc := "(III)I" } : Jvm.MethodName) prog_1_method_25_code (5 : Nat) (Option.some Jvm.ClassFile.FieldType.int)) ∈ lw_all := lw_g (lw_at lw_m3 203 rfl) rfl
theorem q764 : (Jvm.Cond.methodLink "ThreeStrangers" (187 : Nat) ({ cls := "ThreeStrangers", name := "areTwo", desc := "(II)Z" } : Jvm.MethodName)) ∈ lw_all := lw_g (lw_at lw_m3 204 rfl) rfl
theorem q765 : (Jvm.Cond.privateMethod ({ cls := "ThreeStrangers", name := "areTwo", desc := "(II)Z" } : Jvm.MethodName)) ∈ lw_tbl := lw_at lw_m3 205 rfl
theorem q766 : (Jvm.Cond.instanceMethod ({ cls := "ThreeStrangers", name := "areTwo", desc := "(II)Z" } : Jvm.MethodName)) ∈ lw_all := lw_g (lw_at lw_m3 206 rfl) rfl
theorem q767 : (Jvm.Cond.code ({ cls := "ThreeStrangers", name := "areTwo", desc := "(II)Z" } : Jvm.MethodName) prog_1_method_24_code (3 : Nat) (Option.some Jvm.ClassFile.FieldType.boolean)) ∈ lw_all := lw_g (lw_at lw_m3 207 rfl) rfl
theorem q768 : (Jvm.Cond.methodLink "ThreeStrangers" (191 : Nat) ({ cls := "ThreeStrangers$Town", name := "since", desc := "(II)I" } : Jvm.MethodName)) ∈ lw_all := lw_g (lw_at lw_m3 208 rfl) rfl
theorem q769 : (Jvm.Cond.methodLink "ThreeStrangers" (194 : Nat) ({ cls := "ThreeStrangers$Town", name := "knows", desc := "(III)V" } : Jvm.MethodName)) ∈ lw_all := lw_g (lw_at lw_m3 209 rfl) rfl
theorem q771 : (Jvm.Cond.instanceMethod ({ cls := "ThreeStrangers", name := "ask", desc := "(II)I" } : Jvm.MethodName)) ∈ lw_all := lw_g (lw_at lw_m3 211 rfl) rfl
theorem q772 : (Jvm.Cond.selects "ThreeStrangers" ({ cls := "ThreeStrangers", name := "ask", desc := "(II)I" } : Jvm.MethodName) ({ cls := "ThreeStrangers", name := "ask", desc := "(II)I" } : Jvm.MethodName)) ∈ lw_all := lw_g (lw_at lw_m3 212 rfl) rfl
theorem q773 : (Jvm.Cond.code ({ cls := "ThreeStrangers", name := "ask", desc := "(II)I" } : Jvm.MethodName) prog_1_method_26_code (4 : Nat) (Option.some Jvm.ClassFile.FieldType.int)) ∈ lw_all := lw_g (lw_at lw_m3 213 rfl) rfl
theorem q775 : (Jvm.Cond.instanceMethod ({ cls := "ThreeStrangers", name := "feed", desc := "(I)I" } : Jvm.MethodName)) ∈ lw_all := lw_g (lw_at lw_m3 215 rfl) rfl
theorem q776 : (Jvm.Cond.selects "ThreeStrangers" ({ cls := "ThreeStrangers", name := "feed", desc := "(I)I" } : Jvm.MethodName) ({ cls := "ThreeStrangers", name := "feed", desc := "(I)I" } : Jvm.MethodName)) ∈ lw_all := lw_g (lw_at lw_m3 216 rfl) rfl
theorem q777 : (Jvm.Cond.code ({ cls := "ThreeStrangers", name := "feed", desc := "(I)I" } : Jvm.MethodName) prog_1_method_27_code (2 : Nat) (Option.some Jvm.ClassFile.FieldType.int)) ∈ lw_all := lw_g (lw_at lw_m3 217 rfl) rfl
theorem q779 : (Jvm.Cond.instanceMethod ({ cls := "ThreeStrangers", name := "wipe", desc := "()I" } : Jvm.MethodName)) ∈ lw_all := lw_g (lw_at lw_m3 219 rfl) rfl
theorem q780 : (Jvm.Cond.selects "ThreeStrangers" ({ cls := "ThreeStrangers", name := "wipe", desc := "()I" } : Jvm.MethodName) ({ cls := "ThreeStrangers", name := "wipe", desc := "()I" } : Jvm.MethodName)) ∈ lw_all := lw_g (lw_at lw_m3 220 rfl) rfl
theorem q781 : (Jvm.Cond.code ({ cls := "ThreeStrangers", name := "wipe", desc := "()I" } : Jvm.MethodName) prog_1_method_28_code (2 : Nat) (Option.some Jvm.ClassFile.FieldType.int)) ∈ lw_all := lw_g (lw_at lw_m3 221 rfl) rfl
theorem q783 : (Jvm.Cond.instanceMethod ({ cls := "ThreeStrangers", name := "town", desc := "()I" } : Jvm.MethodName)) ∈ lw_all := lw_g (lw_at lw_m3 223 rfl) rfl
theorem q784 : (Jvm.Cond.selects "ThreeStrangers" ({ cls := "ThreeStrangers", name := "town", desc := "()I" } : Jvm.MethodName) ({ cls := "ThreeStrangers", name := "town", desc := "()I" } : Jvm.MethodName)) ∈ lw_all := lw_g (lw_at lw_m3 224 rfl) rfl
theorem q785 : (Jvm.Cond.codeWith ({ cls := "ThreeStrangers", name := "town", desc := "()I" } : Jvm.MethodName) prog_1_method_29_code (5 : Nat) (Option.some Jvm.ClassFile.FieldType.int) [((0 : Nat), (38 : Nat), (45 : Nat), (222 : Nat)), ((0 : Nat), (38 : Nat), (68 : Nat), (0 : Nat)), ((45 : Nat), (61 : Nat), (68 : Nat), (0 : Nat)), ((68 : Nat), (70 : Nat), (68 : Nat), (0 : Nat))]) ∈ lw_all := lw_g (lw_at lw_m3 225 rfl) rfl
theorem q786 : (Jvm.Cond.classLink "ThreeStrangers" (222 : Nat) "ThreeStrangers$Fault") ∈ lw_all := lw_g (lw_at lw_m3 226 rfl) rfl
theorem q787 : (Jvm.Cond.classLink "ThreeStrangers" (207 : Nat) "ThreeStrangers$Reader") ∈ lw_all := lw_g (lw_at lw_m3 227 rfl) rfl
theorem q789 : (Jvm.Cond.methodLink "ThreeStrangers" (209 : Nat) ({ cls := "ThreeStrangers$Town", name := "copied", desc := "()LThreeStrangers$Town;" } : Jvm.MethodName)) ∈ lw_all := lw_g (lw_at lw_m3 229 rfl) rfl
theorem q800 : (Jvm.Cond.methodLink "ThreeStrangers" (213 : Nat) ({ cls := "ThreeStrangers$Reader", name := "<init>", desc := "([IILThreeStrangers$Town;)V" } : Jvm.MethodName)) ∈ lw_all := lw_g (lw_at lw_m4 0 rfl) rfl
theorem q807 : (Jvm.Cond.fieldLink "ThreeStrangers" (219 : Nat) "ThreeStrangers$Reader" "town" "LThreeStrangers$Town;") ∈ lw_all := lw_g (lw_at lw_m4 7 rfl) rfl
theorem q827 : (Jvm.Cond.methodLink "ThreeStrangers" (216 : Nat) ({ cls := "ThreeStrangers$Reader", name := "read", desc := "()I" } : Jvm.MethodName)) ∈ lw_all := lw_g (lw_at lw_m4 27 rfl) rfl
theorem q1048 : (Jvm.Cond.fieldLink "ThreeStrangers" (224 : Nat) "ThreeStrangers$Fault" "place" "I") ∈ lw_all := lw_g (lw_at lw_m5 8 rfl) rfl
theorem q1155 : (Jvm.Cond.instanceMethod ({ cls := "ThreeStrangers", name := "personOf", desc := "(II)I" } : Jvm.MethodName)) ∈ lw_all := lw_g (lw_at lw_m5 115 rfl) rfl
theorem q1156 : (Jvm.Cond.selects "ThreeStrangers" ({ cls := "ThreeStrangers", name := "personOf", desc := "(II)I" } : Jvm.MethodName) ({ cls := "ThreeStrangers", name := "personOf", desc := "(II)I" } : Jvm.MethodName)) ∈ lw_all := lw_g (lw_at lw_m5 116 rfl) rfl
theorem q1157 : (Jvm.Cond.code ({ cls := "ThreeStrangers", name := "personOf", desc := "(II)I" } : Jvm.MethodName) prog_1_method_30_code (3 : Nat) (Option.some Jvm.ClassFile.FieldType.int)) ∈ lw_all := lw_g (lw_at lw_m5 117 rfl) rfl
theorem q1158 : (Jvm.Cond.methodLink "ThreeStrangers" (227 : Nat) ({ cls := "ThreeStrangers$Town", name := "strangers", desc := "(I)I" } : Jvm.MethodName)) ∈ lw_all := lw_g (lw_at lw_m5 118 rfl) rfl
theorem q1159 : (Jvm.Cond.methodLink "ThreeStrangers" (230 : Nat) ({ cls := "java/lang/Integer", name := "bitCount", desc := "(I)I" } : Jvm.MethodName)) ∈ lw_all := lw_g (lw_at lw_m5 119 rfl) rfl
theorem q1161 : (Jvm.Cond.instanceMethod ({ cls := "ThreeStrangers", name := "knownOf", desc := "(II)I" } : Jvm.MethodName)) ∈ lw_all := lw_g (lw_at lw_m5 121 rfl) rfl
theorem q1162 : (Jvm.Cond.selects "ThreeStrangers" ({ cls := "ThreeStrangers", name := "knownOf", desc := "(II)I" } : Jvm.MethodName) ({ cls := "ThreeStrangers", name := "knownOf", desc := "(II)I" } : Jvm.MethodName)) ∈ lw_all := lw_g (lw_at lw_m5 122 rfl) rfl
theorem q1163 : (Jvm.Cond.code ({ cls := "ThreeStrangers", name := "knownOf", desc := "(II)I" } : Jvm.MethodName) prog_1_method_31_code (3 : Nat) (Option.some Jvm.ClassFile.FieldType.int)) ∈ lw_all := lw_g (lw_at lw_m5 123 rfl) rfl
theorem q1165 : (Jvm.Cond.instanceMethod ({ cls := "ThreeStrangers", name := "isGroup", desc := "(I)I" } : Jvm.MethodName)) ∈ lw_all := lw_g (lw_at lw_m5 125 rfl) rfl
theorem q1166 : (Jvm.Cond.selects "ThreeStrangers" ({ cls := "ThreeStrangers", name := "isGroup", desc := "(I)I" } : Jvm.MethodName) ({ cls := "ThreeStrangers", name := "isGroup", desc := "(I)I" } : Jvm.MethodName)) ∈ lw_all := lw_g (lw_at lw_m5 126 rfl) rfl
theorem q1167 : (Jvm.Cond.code ({ cls := "ThreeStrangers", name := "isGroup", desc := "(I)I" } : Jvm.MethodName) prog_1_method_32_code (2 : Nat) (Option.some Jvm.ClassFile.FieldType.int)) ∈ lw_all := lw_g (lw_at lw_m5 127 rfl) rfl
theorem q1168 : (Jvm.Cond.methodLink "ThreeStrangers" (235 : Nat) ({ cls := "ThreeStrangers$Town", name := "isSet", desc := "(I)Z" } : Jvm.MethodName)) ∈ lw_all := lw_g (lw_at lw_m5 128 rfl) rfl
theorem q1173 : (Jvm.Cond.methodLink "ThreeStrangers" (238 : Nat) ({ cls := "ThreeStrangers$Groups", name := "has1", desc := "(I)Z" } : Jvm.MethodName)) ∈ lw_all := lw_g (lw_at lw_m5 133 rfl) rfl
theorem q1178 : (Jvm.Cond.instanceMethod ({ cls := "ThreeStrangers", name := "groups", desc := "(I)I" } : Jvm.MethodName)) ∈ lw_all := lw_g (lw_at lw_m5 138 rfl) rfl
theorem q1179 : (Jvm.Cond.selects "ThreeStrangers" ({ cls := "ThreeStrangers", name := "groups", desc := "(I)I" } : Jvm.MethodName) ({ cls := "ThreeStrangers", name := "groups", desc := "(I)I" } : Jvm.MethodName)) ∈ lw_all := lw_g (lw_at lw_m5 139 rfl) rfl
theorem q1180 : (Jvm.Cond.code ({ cls := "ThreeStrangers", name := "groups", desc := "(I)I" } : Jvm.MethodName) prog_1_method_33_code (2 : Nat) (Option.some Jvm.ClassFile.FieldType.int)) ∈ lw_all := lw_g (lw_at lw_m5 140 rfl) rfl
theorem q1181 : (Jvm.Cond.methodLink "ThreeStrangers" (241 : Nat) ({ cls := "ThreeStrangers$Groups", name := "many", desc := "(I)I" } : Jvm.MethodName)) ∈ lw_all := lw_g (lw_at lw_m5 141 rfl) rfl
theorem q1186 : (Jvm.Cond.instanceMethod ({ cls := "ThreeStrangers", name := "firstOf", desc := "(I)I" } : Jvm.MethodName)) ∈ lw_all := lw_g (lw_at lw_m5 146 rfl) rfl
theorem q1187 : (Jvm.Cond.selects "ThreeStrangers" ({ cls := "ThreeStrangers", name := "firstOf", desc := "(I)I" } : Jvm.MethodName) ({ cls := "ThreeStrangers", name := "firstOf", desc := "(I)I" } : Jvm.MethodName)) ∈ lw_all := lw_g (lw_at lw_m5 147 rfl) rfl
theorem q1188 : (Jvm.Cond.code ({ cls := "ThreeStrangers", name := "firstOf", desc := "(I)I" } : Jvm.MethodName) prog_1_method_34_code (2 : Nat) (Option.some Jvm.ClassFile.FieldType.int)) ∈ lw_all := lw_g (lw_at lw_m5 148 rfl) rfl
theorem q1189 : (Jvm.Cond.methodLink "ThreeStrangers" (244 : Nat) ({ cls := "ThreeStrangers$Groups", name := "first", desc := "(I)I" } : Jvm.MethodName)) ∈ lw_all := lw_g (lw_at lw_m5 149 rfl) rfl
theorem q1191 : (Jvm.Cond.instanceMethod ({ cls := "ThreeStrangers", name := "most", desc := "(I)I" } : Jvm.MethodName)) ∈ lw_all := lw_g (lw_at lw_m5 151 rfl) rfl
theorem q1192 : (Jvm.Cond.selects "ThreeStrangers" ({ cls := "ThreeStrangers", name := "most", desc := "(I)I" } : Jvm.MethodName) ({ cls := "ThreeStrangers", name := "most", desc := "(I)I" } : Jvm.MethodName)) ∈ lw_all := lw_g (lw_at lw_m5 152 rfl) rfl
theorem q1193 : (Jvm.Cond.code ({ cls := "ThreeStrangers", name := "most", desc := "(I)I" } : Jvm.MethodName) prog_1_method_35_code (2 : Nat) (Option.some Jvm.ClassFile.FieldType.int)) ∈ lw_all := lw_g (lw_at lw_m5 153 rfl) rfl
theorem q1194 : (Jvm.Cond.methodLink "ThreeStrangers" (247 : Nat) ({ cls := "ThreeStrangers$Groups", name := "most", desc := "(I)I" } : Jvm.MethodName)) ∈ lw_all := lw_g (lw_at lw_m5 154 rfl) rfl
theorem q1199 : (Jvm.Cond.instanceMethod ({ cls := "ThreeStrangers", name := "mostOf", desc := "(II)I" } : Jvm.MethodName)) ∈ lw_all := lw_g (lw_at lw_m5 159 rfl) rfl
theorem q1200 : (Jvm.Cond.selects "ThreeStrangers" ({ cls := "ThreeStrangers", name := "mostOf", desc := "(II)I" } : Jvm.MethodName) ({ cls := "ThreeStrangers", name := "mostOf", desc := "(II)I" } : Jvm.MethodName)) ∈ lw_all := lw_g (lw_at lw_m5 160 rfl) rfl
theorem q1201 : (Jvm.Cond.code ({ cls := "ThreeStrangers", name := "mostOf", desc := "(II)I" } : Jvm.MethodName) prog_1_method_36_code (5 : Nat) (Option.some Jvm.ClassFile.FieldType.int)) ∈ lw_all := lw_g (lw_at lw_m5 161 rfl) rfl
theorem q1202 : (Jvm.Cond.methodLink "ThreeStrangers" (250 : Nat) ({ cls := "ThreeStrangers$Groups", name := "best", desc := "(I)I" } : Jvm.MethodName)) ∈ lw_all := lw_g (lw_at lw_m5 162 rfl) rfl
theorem q1204 : (Jvm.Cond.instanceMethod ({ cls := "ThreeStrangers", name := "sends", desc := "(III)I" } : Jvm.MethodName)) ∈ lw_all := lw_g (lw_at lw_m5 164 rfl) rfl
theorem q1205 : (Jvm.Cond.selects "ThreeStrangers" ({ cls := "ThreeStrangers", name := "sends", desc := "(III)I" } : Jvm.MethodName) ({ cls := "ThreeStrangers", name := "sends", desc := "(III)I" } : Jvm.MethodName)) ∈ lw_all := lw_g (lw_at lw_m5 165 rfl) rfl
theorem q1206 : (Jvm.Cond.codeWith ({ cls := "ThreeStrangers", name := "sends", desc := "(III)I" } : Jvm.MethodName) prog_1_method_37_code (5 : Nat) (Option.some Jvm.ClassFile.FieldType.int) [((0 : Nat), (44 : Nat), (45 : Nat), (111 : Nat))]) ∈ lw_all := lw_g (lw_at lw_m5 166 rfl) rfl
theorem q1207 : (Jvm.Cond.methodLink "ThreeStrangers" (253 : Nat) ({ cls := "ThreeStrangers", name := "coachmanIn", desc := "(ZI)LThreeStrangers$Coachman;" } : Jvm.MethodName)) ∈ lw_all := lw_g (lw_at lw_m5 167 rfl) rfl
theorem q1208 : (Jvm.Cond.privateMethod ({ cls := "ThreeStrangers", name := "coachmanIn", desc := "(ZI)LThreeStrangers$Coachman;" } : Jvm.MethodName)) ∈ lw_tbl := lw_at lw_m5 168 rfl
theorem q1209 : (Jvm.Cond.instanceMethod ({ cls := "ThreeStrangers", name := "coachmanIn", desc := "(ZI)LThreeStrangers$Coachman;" } : Jvm.MethodName)) ∈ lw_all := lw_g (lw_at lw_m5 169 rfl) rfl
theorem q1210 : (Jvm.Cond.code ({ cls := "ThreeStrangers", name := "coachmanIn", desc := "(ZI)LThreeStrangers$Coachman;" } : Jvm.MethodName) prog_1_method_21_code (4 : Nat) (Option.some (Jvm.ClassFile.FieldType.object "ThreeStrangers$Coachman"))) ∈ lw_all := lw_g (lw_at lw_m5 170 rfl) rfl
theorem q1211 : (Jvm.Cond.methodLink "ThreeStrangers" (257 : Nat) ({ cls := "ThreeStrangers$Coachman", name := "sends", desc := "(LThreeStrangers$Groups;II)I" } : Jvm.MethodName)) ∈ lw_all := lw_g (lw_at lw_m5 171 rfl) rfl
theorem q1221 : (Jvm.Cond.instanceMethod ({ cls := "ThreeStrangers", name := "run", desc := "(I)I" } : Jvm.MethodName)) ∈ lw_all := lw_g (lw_at lw_m5 181 rfl) rfl
theorem q1222 : (Jvm.Cond.selects "ThreeStrangers" ({ cls := "ThreeStrangers", name := "run", desc := "(I)I" } : Jvm.MethodName) ({ cls := "ThreeStrangers", name := "run", desc := "(I)I" } : Jvm.MethodName)) ∈ lw_all := lw_g (lw_at lw_m5 182 rfl) rfl
theorem q1223 : (Jvm.Cond.codeWith ({ cls := "ThreeStrangers", name := "run", desc := "(I)I" } : Jvm.MethodName) prog_1_method_39_code (3 : Nat) (Option.some Jvm.ClassFile.FieldType.int) [((0 : Nat), (9 : Nat), (10 : Nat), (111 : Nat))]) ∈ lw_all := lw_g (lw_at lw_m5 183 rfl) rfl
theorem q1224 : (Jvm.Cond.methodLink "ThreeStrangers" (263 : Nat) ({ cls := "ThreeStrangers", name := "dayBy", desc := "(IZ)LThreeStrangers$Day;" } : Jvm.MethodName)) ∈ lw_all := lw_g (lw_at lw_m5 184 rfl) rfl
theorem q1225 : (Jvm.Cond.privateMethod ({ cls := "ThreeStrangers", name := "dayBy", desc := "(IZ)LThreeStrangers$Day;" } : Jvm.MethodName)) ∈ lw_tbl := lw_at lw_m5 185 rfl
theorem q1226 : (Jvm.Cond.instanceMethod ({ cls := "ThreeStrangers", name := "dayBy", desc := "(IZ)LThreeStrangers$Day;" } : Jvm.MethodName)) ∈ lw_all := lw_g (lw_at lw_m5 186 rfl) rfl
theorem q1227 : (Jvm.Cond.code ({ cls := "ThreeStrangers", name := "dayBy", desc := "(IZ)LThreeStrangers$Day;" } : Jvm.MethodName) prog_1_method_38_code (4 : Nat) (Option.some (Jvm.ClassFile.FieldType.object "ThreeStrangers$Day"))) ∈ lw_all := lw_g (lw_at lw_m5 187 rfl) rfl
theorem q1228 : (Jvm.Cond.methodLink "ThreeStrangers" (260 : Nat) ({ cls := "ThreeStrangers$Day", name := "of", desc := "(LThreeStrangers$Town;LThreeStrangers$Groups;LThreeStrangers$Coachman;)LThreeStrangers$Day;" } : Jvm.MethodName)) ∈ lw_all := lw_g (lw_at lw_m5 188 rfl) rfl
theorem q1247 : (Jvm.Cond.instanceMethod ({ cls := "ThreeStrangers", name := "coach", desc := "(II)I" } : Jvm.MethodName)) ∈ lw_all := lw_g (lw_at lw_m5 207 rfl) rfl
theorem q1248 : (Jvm.Cond.selects "ThreeStrangers" ({ cls := "ThreeStrangers", name := "coach", desc := "(II)I" } : Jvm.MethodName) ({ cls := "ThreeStrangers", name := "coach", desc := "(II)I" } : Jvm.MethodName)) ∈ lw_all := lw_g (lw_at lw_m5 208 rfl) rfl
theorem q1249 : (Jvm.Cond.codeWith ({ cls := "ThreeStrangers", name := "coach", desc := "(II)I" } : Jvm.MethodName) prog_1_method_40_code (4 : Nat) (Option.some Jvm.ClassFile.FieldType.int) [((0 : Nat), (36 : Nat), (37 : Nat), (111 : Nat))]) ∈ lw_all := lw_g (lw_at lw_m5 209 rfl) rfl
theorem q1251 : (Jvm.Cond.instanceMethod ({ cls := "ThreeStrangers", name := "left", desc := "(I)I" } : Jvm.MethodName)) ∈ lw_all := lw_g (lw_at lw_m5 211 rfl) rfl
theorem q1252 : (Jvm.Cond.selects "ThreeStrangers" ({ cls := "ThreeStrangers", name := "left", desc := "(I)I" } : Jvm.MethodName) ({ cls := "ThreeStrangers", name := "left", desc := "(I)I" } : Jvm.MethodName)) ∈ lw_all := lw_g (lw_at lw_m5 212 rfl) rfl
theorem q1253 : (Jvm.Cond.codeWith ({ cls := "ThreeStrangers", name := "left", desc := "(I)I" } : Jvm.MethodName) prog_1_method_41_code (3 : Nat) (Option.some Jvm.ClassFile.FieldType.int) [((0 : Nat), (9 : Nat), (10 : Nat), (111 : Nat))]) ∈ lw_all := lw_g (lw_at lw_m5 213 rfl) rfl
theorem q1255 : (Jvm.Cond.instanceMethod ({ cls := "ThreeStrangers", name := "waits", desc := "(II)I" } : Jvm.MethodName)) ∈ lw_all := lw_g (lw_at lw_m5 215 rfl) rfl
theorem q1256 : (Jvm.Cond.selects "ThreeStrangers" ({ cls := "ThreeStrangers", name := "waits", desc := "(II)I" } : Jvm.MethodName) ({ cls := "ThreeStrangers", name := "waits", desc := "(II)I" } : Jvm.MethodName)) ∈ lw_all := lw_g (lw_at lw_m5 216 rfl) rfl
theorem q1257 : (Jvm.Cond.codeWith ({ cls := "ThreeStrangers", name := "waits", desc := "(II)I" } : Jvm.MethodName) prog_1_method_42_code (4 : Nat) (Option.some Jvm.ClassFile.FieldType.int) [((0 : Nat), (45 : Nat), (46 : Nat), (111 : Nat))]) ∈ lw_all := lw_g (lw_at lw_m5 217 rfl) rfl
theorem q1258 : (Jvm.Cond.methodLink "ThreeStrangers" (276 : Nat) ({ cls := "ThreeStrangers$Day", name := "waiting", desc := "()I" } : Jvm.MethodName)) ∈ lw_all := lw_g (lw_at lw_m5 218 rfl) rfl
theorem q1263 : (Jvm.Cond.instanceMethod ({ cls := "ThreeStrangers", name := "least", desc := "(I)I" } : Jvm.MethodName)) ∈ lw_all := lw_g (lw_at lw_m5 223 rfl) rfl
theorem q1264 : (Jvm.Cond.selects "ThreeStrangers" ({ cls := "ThreeStrangers", name := "least", desc := "(I)I" } : Jvm.MethodName) ({ cls := "ThreeStrangers", name := "least", desc := "(I)I" } : Jvm.MethodName)) ∈ lw_all := lw_g (lw_at lw_m5 224 rfl) rfl
theorem q1265 : (Jvm.Cond.code ({ cls := "ThreeStrangers", name := "least", desc := "(I)I" } : Jvm.MethodName) prog_1_method_45_code (6 : Nat) (Option.some Jvm.ClassFile.FieldType.int)) ∈ lw_all := lw_g (lw_at lw_m5 225 rfl) rfl
theorem q1266 : (Jvm.Cond.methodLink "ThreeStrangers" (296 : Nat) ({ cls := "ThreeStrangers$Day", name := "comes", desc := "(LThreeStrangers$Town;)[I" } : Jvm.MethodName)) ∈ lw_all := lw_g (lw_at lw_m5 226 rfl) rfl
theorem q1270 : (Jvm.Cond.methodLink "ThreeStrangers" (300 : Nat) ({ cls := "ThreeStrangers", name := "least", desc := "(II[I)V" } : Jvm.MethodName)) ∈ lw_all := lw_g (lw_at lw_m5 230 rfl) rfl
theorem q1271 : (Jvm.Cond.privateMethod ({ cls := "ThreeStrangers", name := "least", desc := "(II[I)V" } : Jvm.MethodName)) ∈ lw_tbl := lw_at lw_m5 231 rfl
theorem q1272 : (Jvm.Cond.instanceMethod ({ cls := "ThreeStrangers", name := "least", desc := "(II[I)V" } : Jvm.MethodName)) ∈ lw_all := lw_g (lw_at lw_m5 232 rfl) rfl
theorem q1273 : (Jvm.Cond.code ({ cls := "ThreeStrangers", name := "least", desc := "(II[I)V" } : Jvm.MethodName) prog_1_method_44_code (9 : Nat) (Option.none : Option Jvm.ClassFile.FieldType)) ∈ lw_all := lw_g (lw_at lw_m5 233 rfl) rfl
theorem q1274 : (Jvm.Cond.methodLink "ThreeStrangers" (285 : Nat) ({ cls := "ThreeStrangers", name := "leaving", desc := "(II)I" } : Jvm.MethodName)) ∈ lw_all := lw_g (lw_at lw_m5 234 rfl) rfl
theorem q1275 : (Jvm.Cond.privateMethod ({ cls := "ThreeStrangers", name := "leaving", desc := "(II)I" } : Jvm.MethodName)) ∈ lw_tbl := lw_at lw_m5 235 rfl
theorem q1276 : (Jvm.Cond.instanceMethod ({ cls := "ThreeStrangers", name := "leaving", desc := "(II)I" } : Jvm.MethodName)) ∈ lw_all := lw_g (lw_at lw_m5 236 rfl) rfl
theorem q1277 : (Jvm.Cond.code ({ cls := "ThreeStrangers", name := "leaving", desc := "(II)I" } : Jvm.MethodName) prog_1_method_43_code (5 : Nat) (Option.some Jvm.ClassFile.FieldType.int)) ∈ lw_all := lw_g (lw_at lw_m5 237 rfl) rfl
theorem q1278 : (Jvm.Cond.methodLink "ThreeStrangers" (282 : Nat) ({ cls := "ThreeStrangers", name := "has", desc := "(II)Z" } : Jvm.MethodName)) ∈ lw_all := lw_g (lw_at lw_m5 238 rfl) rfl
theorem q1279 : (Jvm.Cond.methodLink "ThreeStrangers" (290 : Nat) ({ cls := "ThreeStrangers$Groups", name := "isOf", desc := "(II)Z" } : Jvm.MethodName)) ∈ lw_all := lw_g (lw_at lw_m5 239 rfl) rfl
theorem q1281 : (Jvm.Cond.instanceMethod ({ cls := "ThreeStrangers", name := "head", desc := "()I" } : Jvm.MethodName)) ∈ lw_all := lw_g (lw_at lw_m6 1 rfl) rfl
theorem q1282 : (Jvm.Cond.selects "ThreeStrangers" ({ cls := "ThreeStrangers", name := "head", desc := "()I" } : Jvm.MethodName) ({ cls := "ThreeStrangers", name := "head", desc := "()I" } : Jvm.MethodName)) ∈ lw_all := lw_g (lw_at lw_m6 2 rfl) rfl
theorem q1283 : (Jvm.Cond.code ({ cls := "ThreeStrangers", name := "head", desc := "()I" } : Jvm.MethodName) prog_1_method_46_code (5 : Nat) (Option.some Jvm.ClassFile.FieldType.int)) ∈ lw_all := lw_g (lw_at lw_m6 3 rfl) rfl
theorem q1285 : (Jvm.Cond.instanceMethod ({ cls := "ThreeStrangers", name := "days", desc := "(I)I" } : Jvm.MethodName)) ∈ lw_all := lw_g (lw_at lw_m6 5 rfl) rfl
theorem q1286 : (Jvm.Cond.selects "ThreeStrangers" ({ cls := "ThreeStrangers", name := "days", desc := "(I)I" } : Jvm.MethodName) ({ cls := "ThreeStrangers", name := "days", desc := "(I)I" } : Jvm.MethodName)) ∈ lw_all := lw_g (lw_at lw_m6 6 rfl) rfl
theorem q1287 : (Jvm.Cond.codeWith ({ cls := "ThreeStrangers", name := "days", desc := "(I)I" } : Jvm.MethodName) prog_1_method_47_code (5 : Nat) (Option.some Jvm.ClassFile.FieldType.int) [((0 : Nat), (68 : Nat), (69 : Nat), (111 : Nat))]) ∈ lw_all := lw_g (lw_at lw_m6 7 rfl) rfl
theorem q1288 : (Jvm.Cond.methodLink "ThreeStrangers" (304 : Nat) ({ cls := "ThreeStrangers$Town", name := "becomes", desc := "(LThreeStrangers$Town;)LThreeStrangers$Town;" } : Jvm.MethodName)) ∈ lw_all := lw_g (lw_at lw_m6 8 rfl) rfl
theorem q1289 : (Jvm.Cond.methodLink "ThreeStrangers" (308 : Nat) ({ cls := "ThreeStrangers$Day", name := "meets", desc := "(LThreeStrangers$Town;)V" } : Jvm.MethodName)) ∈ lw_all := lw_g (lw_at lw_m6 9 rfl) rfl
theorem q1295 : (Jvm.Cond.instanceMethod ({ cls := "ThreeStrangers", name := "ever", desc := "(I)I" } : Jvm.MethodName)) ∈ lw_all := lw_g (lw_at lw_m6 15 rfl) rfl
theorem q1296 : (Jvm.Cond.selects "ThreeStrangers" ({ cls := "ThreeStrangers", name := "ever", desc := "(I)I" } : Jvm.MethodName) ({ cls := "ThreeStrangers", name := "ever", desc := "(I)I" } : Jvm.MethodName)) ∈ lw_all := lw_g (lw_at lw_m6 16 rfl) rfl
theorem q1297 : (Jvm.Cond.code ({ cls := "ThreeStrangers", name := "ever", desc := "(I)I" } : Jvm.MethodName) prog_1_method_48_code (2 : Nat) (Option.some Jvm.ClassFile.FieldType.int)) ∈ lw_all := lw_g (lw_at lw_m6 17 rfl) rfl
theorem q1298 : (Jvm.Cond.methodLink "ThreeStrangers" (312 : Nat) ({ cls := "ThreeStrangers$Groups", name := "ever", desc := "()LThreeStrangers$Groups;" } : Jvm.MethodName)) ∈ lw_all := lw_g (lw_at lw_m6 18 rfl) rfl
theorem q1308 : (Jvm.Cond.instanceMethod ({ cls := "ThreeStrangers", name := "hire", desc := "()I" } : Jvm.MethodName)) ∈ lw_all := lw_g (lw_at lw_m6 28 rfl) rfl
theorem q1309 : (Jvm.Cond.selects "ThreeStrangers" ({ cls := "ThreeStrangers", name := "hire", desc := "()I" } : Jvm.MethodName) ({ cls := "ThreeStrangers", name := "hire", desc := "()I" } : Jvm.MethodName)) ∈ lw_all := lw_g (lw_at lw_m6 29 rfl) rfl
theorem q1310 : (Jvm.Cond.code ({ cls := "ThreeStrangers", name := "hire", desc := "()I" } : Jvm.MethodName) prog_1_method_49_code (6 : Nat) (Option.some Jvm.ClassFile.FieldType.int)) ∈ lw_all := lw_g (lw_at lw_m6 30 rfl) rfl
theorem q1311 : (Jvm.Cond.methodLink "ThreeStrangers" (321 : Nat) ({ cls := "ThreeStrangers", name := "areStrangers", desc := "(I)Z" } : Jvm.MethodName)) ∈ lw_all := lw_g (lw_at lw_m6 31 rfl) rfl
theorem q1312 : (Jvm.Cond.privateMethod ({ cls := "ThreeStrangers", name := "areStrangers", desc := "(I)Z" } : Jvm.MethodName)) ∈ lw_tbl := lw_at lw_m6 32 rfl
theorem q1313 : (Jvm.Cond.instanceMethod ({ cls := "ThreeStrangers", name := "areStrangers", desc := "(I)Z" } : Jvm.MethodName)) ∈ lw_all := lw_g (lw_at lw_m6 33 rfl) rfl
theorem q1314 : (Jvm.Cond.code ({ cls := "ThreeStrangers", name := "areStrangers", desc := "(I)Z" } : Jvm.MethodName) prog_1_method_50_code (3 : Nat) (Option.some Jvm.ClassFile.FieldType.boolean)) ∈ lw_all := lw_g (lw_at lw_m6 34 rfl) rfl
theorem q1315 : (Jvm.Cond.methodLink "ThreeStrangers" (324 : Nat) ({ cls := "java/lang/Math", name := "max", desc := "(II)I" } : Jvm.MethodName)) ∈ lw_all := lw_g (lw_at lw_m6 35 rfl) rfl
theorem q1317 : (Jvm.Cond.instanceMethod ({ cls := "ThreeStrangers", name := "feast", desc := "(I)I" } : Jvm.MethodName)) ∈ lw_all := lw_g (lw_at lw_m6 37 rfl) rfl
theorem q1318 : (Jvm.Cond.selects "ThreeStrangers" ({ cls := "ThreeStrangers", name := "feast", desc := "(I)I" } : Jvm.MethodName) ({ cls := "ThreeStrangers", name := "feast", desc := "(I)I" } : Jvm.MethodName)) ∈ lw_all := lw_g (lw_at lw_m6 38 rfl) rfl
theorem q1319 : (Jvm.Cond.code ({ cls := "ThreeStrangers", name := "feast", desc := "(I)I" } : Jvm.MethodName) prog_1_method_51_code (4 : Nat) (Option.some Jvm.ClassFile.FieldType.int)) ∈ lw_all := lw_g (lw_at lw_m6 39 rfl) rfl
theorem q1320 : (Jvm.Cond.methodLink "ThreeStrangers" (329 : Nat) ({ cls := "ThreeStrangers$Town", name := "meets", desc := "(I)I" } : Jvm.MethodName)) ∈ lw_all := lw_g (lw_at lw_m6 40 rfl) rfl
theorem q1322 : (Jvm.Cond.instanceMethod ({ cls := "ThreeStrangers", name := "closes", desc := "(II)I" } : Jvm.MethodName)) ∈ lw_all := lw_g (lw_at lw_m6 42 rfl) rfl
theorem q1323 : (Jvm.Cond.selects "ThreeStrangers" ({ cls := "ThreeStrangers", name := "closes", desc := "(II)I" } : Jvm.MethodName) ({ cls := "ThreeStrangers", name := "closes", desc := "(II)I" } : Jvm.MethodName)) ∈ lw_all := lw_g (lw_at lw_m6 43 rfl) rfl
theorem q1324 : (Jvm.Cond.code ({ cls := "ThreeStrangers", name := "closes", desc := "(II)I" } : Jvm.MethodName) prog_1_method_53_code (3 : Nat) (Option.some Jvm.ClassFile.FieldType.int)) ∈ lw_all := lw_g (lw_at lw_m6 44 rfl) rfl
theorem q1325 : (Jvm.Cond.methodLink "ThreeStrangers" (331 : Nat) ({ cls := "ThreeStrangers", name := "closesOf", desc := "(II)I" } : Jvm.MethodName)) ∈ lw_all := lw_g (lw_at lw_m6 45 rfl) rfl
theorem q1326 : (Jvm.Cond.privateMethod ({ cls := "ThreeStrangers", name := "closesOf", desc := "(II)I" } : Jvm.MethodName)) ∈ lw_tbl := lw_at lw_m6 46 rfl
theorem q1327 : (Jvm.Cond.instanceMethod ({ cls := "ThreeStrangers", name := "closesOf", desc := "(II)I" } : Jvm.MethodName)) ∈ lw_all := lw_g (lw_at lw_m6 47 rfl) rfl
theorem q1328 : (Jvm.Cond.code ({ cls := "ThreeStrangers", name := "closesOf", desc := "(II)I" } : Jvm.MethodName) prog_1_method_52_code (5 : Nat) (Option.some Jvm.ClassFile.FieldType.int)) ∈ lw_all := lw_g (lw_at lw_m6 48 rfl) rfl
theorem q1330 : (Jvm.Cond.instanceMethod ({ cls := "ThreeStrangers", name := "worst", desc := "()I" } : Jvm.MethodName)) ∈ lw_all := lw_g (lw_at lw_m6 50 rfl) rfl
theorem q1331 : (Jvm.Cond.selects "ThreeStrangers" ({ cls := "ThreeStrangers", name := "worst", desc := "()I" } : Jvm.MethodName) ({ cls := "ThreeStrangers", name := "worst", desc := "()I" } : Jvm.MethodName)) ∈ lw_all := lw_g (lw_at lw_m6 51 rfl) rfl
theorem q1332 : (Jvm.Cond.code ({ cls := "ThreeStrangers", name := "worst", desc := "()I" } : Jvm.MethodName) prog_1_method_54_code (6 : Nat) (Option.some Jvm.ClassFile.FieldType.int)) ∈ lw_all := lw_g (lw_at lw_m6 52 rfl) rfl
theorem q1334 : (Jvm.Cond.instanceMethod ({ cls := "ThreeStrangers", name := "fits", desc := "(I)I" } : Jvm.MethodName)) ∈ lw_all := lw_g (lw_at lw_m6 54 rfl) rfl
theorem q1335 : (Jvm.Cond.selects "ThreeStrangers" ({ cls := "ThreeStrangers", name := "fits", desc := "(I)I" } : Jvm.MethodName) ({ cls := "ThreeStrangers", name := "fits", desc := "(I)I" } : Jvm.MethodName)) ∈ lw_all := lw_g (lw_at lw_m6 55 rfl) rfl
theorem q1336 : (Jvm.Cond.code ({ cls := "ThreeStrangers", name := "fits", desc := "(I)I" } : Jvm.MethodName) prog_1_method_58_code (2 : Nat) (Option.some Jvm.ClassFile.FieldType.int)) ∈ lw_all := lw_g (lw_at lw_m6 56 rfl) rfl
theorem q1337 : (Jvm.Cond.methodLink "ThreeStrangers" (338 : Nat) ({ cls := "ThreeStrangers", name := "isFew", desc := "(I)Z" } : Jvm.MethodName)) ∈ lw_all := lw_g (lw_at lw_m6 57 rfl) rfl
theorem q1338 : (Jvm.Cond.privateMethod ({ cls := "ThreeStrangers", name := "isFew", desc := "(I)Z" } : Jvm.MethodName)) ∈ lw_tbl := lw_at lw_m6 58 rfl
theorem q1339 : (Jvm.Cond.instanceMethod ({ cls := "ThreeStrangers", name := "isFew", desc := "(I)Z" } : Jvm.MethodName)) ∈ lw_all := lw_g (lw_at lw_m6 59 rfl) rfl
theorem q1340 : (Jvm.Cond.code ({ cls := "ThreeStrangers", name := "isFew", desc := "(I)Z" } : Jvm.MethodName) prog_1_method_57_code (2 : Nat) (Option.some Jvm.ClassFile.FieldType.boolean)) ∈ lw_all := lw_g (lw_at lw_m6 60 rfl) rfl
theorem q1341 : (Jvm.Cond.classLink "ThreeStrangers" (341 : Nat) "ThreeStrangers$Secrets") ∈ lw_all := lw_g (lw_at lw_m6 61 rfl) rfl
theorem q1343 : (Jvm.Cond.methodLink "ThreeStrangers" (343 : Nat) ({ cls := "ThreeStrangers$Secrets", name := "<init>", desc := "(LThreeStrangers;I)V" } : Jvm.MethodName)) ∈ lw_all := lw_g (lw_at lw_m6 63 rfl) rfl
theorem q1356 : (Jvm.Cond.static ({ cls := "ThreeStrangers", name := "hasGroup", desc := "(LThreeStrangers$Town;I)Z" } : Jvm.MethodName)) ∈ lw_all := lw_g (lw_at lw_m6 76 rfl) rfl
theorem q1357 : (Jvm.Cond.code ({ cls := "ThreeStrangers", name := "hasGroup", desc := "(LThreeStrangers$Town;I)Z" } : Jvm.MethodName) prog_1_method_55_code (2 : Nat) (Option.some Jvm.ClassFile.FieldType.boolean)) ∈ lw_all := lw_g (lw_at lw_m6 77 rfl) rfl
theorem q1358 : (Jvm.Cond.methodLink "ThreeStrangers" (334 : Nat) ({ cls := "ThreeStrangers", name := "grows", desc := "(LThreeStrangers$Town;III)Z" } : Jvm.MethodName)) ∈ lw_all := lw_g (lw_at lw_m6 78 rfl) rfl
theorem q1359 : (Jvm.Cond.static ({ cls := "ThreeStrangers", name := "grows", desc := "(LThreeStrangers$Town;III)Z" } : Jvm.MethodName)) ∈ lw_all := lw_g (lw_at lw_m6 79 rfl) rfl
theorem q1360 : (Jvm.Cond.code ({ cls := "ThreeStrangers", name := "grows", desc := "(LThreeStrangers$Town;III)Z" } : Jvm.MethodName) prog_1_method_56_code (5 : Nat) (Option.some Jvm.ClassFile.FieldType.boolean)) ∈ lw_all := lw_g (lw_at lw_m6 80 rfl) rfl
theorem q1366 : (Jvm.Cond.fieldLink "ThreeStrangers" (346 : Nat) "ThreeStrangers$Secrets" "ways" "I") ∈ lw_all := lw_g (lw_at lw_m6 86 rfl) rfl
theorem q1382 : (Jvm.Cond.instanceMethod ({ cls := "ThreeStrangers", name := "sure", desc := "(I)I" } : Jvm.MethodName)) ∈ lw_all := lw_g (lw_at lw_m6 102 rfl) rfl
theorem q1383 : (Jvm.Cond.selects "ThreeStrangers" ({ cls := "ThreeStrangers", name := "sure", desc := "(I)I" } : Jvm.MethodName) ({ cls := "ThreeStrangers", name := "sure", desc := "(I)I" } : Jvm.MethodName)) ∈ lw_all := lw_g (lw_at lw_m6 103 rfl) rfl
theorem q1384 : (Jvm.Cond.code ({ cls := "ThreeStrangers", name := "sure", desc := "(I)I" } : Jvm.MethodName) prog_1_method_59_code (3 : Nat) (Option.some Jvm.ClassFile.FieldType.int)) ∈ lw_all := lw_g (lw_at lw_m6 104 rfl) rfl
theorem q1385 : (Jvm.Cond.methodLink "ThreeStrangers" (349 : Nat) ({ cls := "ThreeStrangers$Secrets", name := "sure", desc := "()I" } : Jvm.MethodName)) ∈ lw_all := lw_g (lw_at lw_m6 105 rfl) rfl
theorem q1390 : (Jvm.Cond.instanceMethod ({ cls := "ThreeStrangers", name := "judge", desc := "(II)I" } : Jvm.MethodName)) ∈ lw_all := lw_g (lw_at lw_m6 110 rfl) rfl
theorem q1391 : (Jvm.Cond.selects "ThreeStrangers" ({ cls := "ThreeStrangers", name := "judge", desc := "(II)I" } : Jvm.MethodName) ({ cls := "ThreeStrangers", name := "judge", desc := "(II)I" } : Jvm.MethodName)) ∈ lw_all := lw_g (lw_at lw_m6 111 rfl) rfl
theorem q1392 : (Jvm.Cond.codeWith ({ cls := "ThreeStrangers", name := "judge", desc := "(II)I" } : Jvm.MethodName) prog_1_method_62_code (4 : Nat) (Option.some Jvm.ClassFile.FieldType.int) [((0 : Nat), (10 : Nat), (11 : Nat), (111 : Nat))]) ∈ lw_all := lw_g (lw_at lw_m6 112 rfl) rfl
theorem q1393 : (Jvm.Cond.methodLink "ThreeStrangers" (352 : Nat) ({ cls := "ThreeStrangers", name := "toldIn", desc := "(II)[J" } : Jvm.MethodName)) ∈ lw_all := lw_g (lw_at lw_m6 113 rfl) rfl
theorem q1394 : (Jvm.Cond.privateMethod ({ cls := "ThreeStrangers", name := "toldIn", desc := "(II)[J" } : Jvm.MethodName)) ∈ lw_tbl := lw_at lw_m6 114 rfl
theorem q1395 : (Jvm.Cond.instanceMethod ({ cls := "ThreeStrangers", name := "toldIn", desc := "(II)[J" } : Jvm.MethodName)) ∈ lw_all := lw_g (lw_at lw_m6 115 rfl) rfl
theorem q1396 : (Jvm.Cond.codeWith ({ cls := "ThreeStrangers", name := "toldIn", desc := "(II)[J" } : Jvm.MethodName) prog_1_method_60_code (6 : Nat) (Option.some (Jvm.ClassFile.FieldType.array Jvm.ClassFile.FieldType.long)) [((38 : Nat), (64 : Nat), (67 : Nat), (126 : Nat))]) ∈ lw_all := lw_g (lw_at lw_m6 116 rfl) rfl
theorem q1397 : (Jvm.Cond.methodLink "ThreeStrangers" (356 : Nat) ({ cls := "ThreeStrangers", name := "wrongIn", desc := "([J)I" } : Jvm.MethodName)) ∈ lw_all := lw_g (lw_at lw_m6 117 rfl) rfl
theorem q1398 : (Jvm.Cond.privateMethod ({ cls := "ThreeStrangers", name := "wrongIn", desc := "([J)I" } : Jvm.MethodName)) ∈ lw_tbl := lw_at lw_m6 118 rfl
theorem q1399 : (Jvm.Cond.instanceMethod ({ cls := "ThreeStrangers", name := "wrongIn", desc := "([J)I" } : Jvm.MethodName)) ∈ lw_all := lw_g (lw_at lw_m6 119 rfl) rfl
theorem q1400 : (Jvm.Cond.code ({ cls := "ThreeStrangers", name := "wrongIn", desc := "([J)I" } : Jvm.MethodName) prog_1_method_61_code (5 : Nat) (Option.some Jvm.ClassFile.FieldType.int)) ∈ lw_all := lw_g (lw_at lw_m6 120 rfl) rfl
theorem q1402 : (Jvm.Cond.instanceMethod ({ cls := "ThreeStrangers", name := "behind", desc := "(III)I" } : Jvm.MethodName)) ∈ lw_all := lw_g (lw_at lw_m6 122 rfl) rfl
theorem q1403 : (Jvm.Cond.selects "ThreeStrangers" ({ cls := "ThreeStrangers", name := "behind", desc := "(III)I" } : Jvm.MethodName) ({ cls := "ThreeStrangers", name := "behind", desc := "(III)I" } : Jvm.MethodName)) ∈ lw_all := lw_g (lw_at lw_m6 123 rfl) rfl
theorem q1404 : (Jvm.Cond.codeWith ({ cls := "ThreeStrangers", name := "behind", desc := "(III)I" } : Jvm.MethodName) prog_1_method_65_code (7 : Nat) (Option.some Jvm.ClassFile.FieldType.int) [((16 : Nat), (102 : Nat), (103 : Nat), (111 : Nat))]) ∈ lw_all := lw_g (lw_at lw_m6 124 rfl) rfl
theorem q1405 : (Jvm.Cond.methodLink "ThreeStrangers" (360 : Nat) ({ cls := "ThreeStrangers", name := "goodIn", desc := "(II)[J" } : Jvm.MethodName)) ∈ lw_all := lw_g (lw_at lw_m6 125 rfl) rfl
theorem q1406 : (Jvm.Cond.privateMethod ({ cls := "ThreeStrangers", name := "goodIn", desc := "(II)[J" } : Jvm.MethodName)) ∈ lw_tbl := lw_at lw_m6 126 rfl
theorem q1407 : (Jvm.Cond.instanceMethod ({ cls := "ThreeStrangers", name := "goodIn", desc := "(II)[J" } : Jvm.MethodName)) ∈ lw_all := lw_g (lw_at lw_m6 127 rfl) rfl
theorem q1408 : (Jvm.Cond.code ({ cls := "ThreeStrangers", name := "goodIn", desc := "(II)[J" } : Jvm.MethodName) prog_1_method_63_code (4 : Nat) (Option.some (Jvm.ClassFile.FieldType.array Jvm.ClassFile.FieldType.long))) ∈ lw_all := lw_g (lw_at lw_m6 128 rfl) rfl
theorem q1409 : (Jvm.Cond.methodLink "ThreeStrangers" (363 : Nat) ({ cls := "ThreeStrangers", name := "rides", desc := "(LThreeStrangers$Town;[J)V" } : Jvm.MethodName)) ∈ lw_all := lw_g (lw_at lw_m6 129 rfl) rfl
theorem q1410 : (Jvm.Cond.static ({ cls := "ThreeStrangers", name := "rides", desc := "(LThreeStrangers$Town;[J)V" } : Jvm.MethodName)) ∈ lw_all := lw_g (lw_at lw_m6 130 rfl) rfl
theorem q1411 : (Jvm.Cond.code ({ cls := "ThreeStrangers", name := "rides", desc := "(LThreeStrangers$Town;[J)V" } : Jvm.MethodName) prog_1_method_64_code (3 : Nat) (Option.none : Option Jvm.ClassFile.FieldType)) ∈ lw_all := lw_g (lw_at lw_m6 131 rfl) rfl
theorem q1413 : (Jvm.Cond.instanceMethod ({ cls := "ThreeStrangers", name := "rides", desc := "(II)I" } : Jvm.MethodName)) ∈ lw_all := lw_g (lw_at lw_m6 133 rfl) rfl
theorem q1414 : (Jvm.Cond.selects "ThreeStrangers" ({ cls := "ThreeStrangers", name := "rides", desc := "(II)I" } : Jvm.MethodName) ({ cls := "ThreeStrangers", name := "rides", desc := "(II)I" } : Jvm.MethodName)) ∈ lw_all := lw_g (lw_at lw_m6 134 rfl) rfl
theorem q1415 : (Jvm.Cond.codeWith ({ cls := "ThreeStrangers", name := "rides", desc := "(II)I" } : Jvm.MethodName) prog_1_method_66_code (4 : Nat) (Option.some Jvm.ClassFile.FieldType.int) [((0 : Nat), (40 : Nat), (41 : Nat), (111 : Nat))]) ∈ lw_all := lw_g (lw_at lw_m6 135 rfl) rfl
theorem q1417 : (Jvm.Cond.instanceMethod ({ cls := "ThreeStrangers", name := "day", desc := "(I)I" } : Jvm.MethodName)) ∈ lw_all := lw_g (lw_at lw_m6 137 rfl) rfl
theorem q1418 : (Jvm.Cond.selects "ThreeStrangers" ({ cls := "ThreeStrangers", name := "day", desc := "(I)I" } : Jvm.MethodName) ({ cls := "ThreeStrangers", name := "day", desc := "(I)I" } : Jvm.MethodName)) ∈ lw_all := lw_g (lw_at lw_m6 138 rfl) rfl
theorem q1419 : (Jvm.Cond.codeWith ({ cls := "ThreeStrangers", name := "day", desc := "(I)I" } : Jvm.MethodName) prog_1_method_67_code (3 : Nat) (Option.some Jvm.ClassFile.FieldType.int) [((0 : Nat), (48 : Nat), (49 : Nat), (111 : Nat))]) ∈ lw_all := lw_g (lw_at lw_m6 139 rfl) rfl
theorem q1421 : (Jvm.Cond.instanceMethod ({ cls := "ThreeStrangers", name := "meet", desc := "(I)I" } : Jvm.MethodName)) ∈ lw_all := lw_g (lw_at lw_m6 141 rfl) rfl
theorem q1422 : (Jvm.Cond.selects "ThreeStrangers" ({ cls := "ThreeStrangers", name := "meet", desc := "(I)I" } : Jvm.MethodName) ({ cls := "ThreeStrangers", name := "meet", desc := "(I)I" } : Jvm.MethodName)) ∈ lw_all := lw_g (lw_at lw_m6 142 rfl) rfl
theorem q1423 : (Jvm.Cond.code ({ cls := "ThreeStrangers", name := "meet", desc := "(I)I" } : Jvm.MethodName) prog_1_method_68_code (2 : Nat) (Option.some Jvm.ClassFile.FieldType.int)) ∈ lw_all := lw_g (lw_at lw_m6 143 rfl) rfl
theorem q1425 : (Jvm.Cond.instanceMethod ({ cls := "ThreeStrangers", name := "year", desc := "()I" } : Jvm.MethodName)) ∈ lw_all := lw_g (lw_at lw_m6 145 rfl) rfl
theorem q1426 : (Jvm.Cond.selects "ThreeStrangers" ({ cls := "ThreeStrangers", name := "year", desc := "()I" } : Jvm.MethodName) ({ cls := "ThreeStrangers", name := "year", desc := "()I" } : Jvm.MethodName)) ∈ lw_all := lw_g (lw_at lw_m6 146 rfl) rfl
theorem q1427 : (Jvm.Cond.code ({ cls := "ThreeStrangers", name := "year", desc := "()I" } : Jvm.MethodName) prog_1_method_69_code (1 : Nat) (Option.some Jvm.ClassFile.FieldType.int)) ∈ lw_all := lw_g (lw_at lw_m6 147 rfl) rfl
theorem q1428 : (Jvm.Cond.methodLink "ThreeStrangers" (371 : Nat) ({ cls := "ThreeStrangers$Town", name := "year", desc := "()I" } : Jvm.MethodName)) ∈ lw_all := lw_g (lw_at lw_m6 148 rfl) rfl
theorem q1434 : (Jvm.Cond.instanceMethod ({ cls := "ThreeStrangers", name := "come", desc := "(I)I" } : Jvm.MethodName)) ∈ lw_all := lw_g (lw_at lw_m6 154 rfl) rfl
theorem q1435 : (Jvm.Cond.selects "ThreeStrangers" ({ cls := "ThreeStrangers", name := "come", desc := "(I)I" } : Jvm.MethodName) ({ cls := "ThreeStrangers", name := "come", desc := "(I)I" } : Jvm.MethodName)) ∈ lw_all := lw_g (lw_at lw_m6 155 rfl) rfl
theorem q1436 : (Jvm.Cond.code ({ cls := "ThreeStrangers", name := "come", desc := "(I)I" } : Jvm.MethodName) prog_1_method_70_code (6 : Nat) (Option.some Jvm.ClassFile.FieldType.int)) ∈ lw_all := lw_g (lw_at lw_m6 156 rfl) rfl
theorem q1437 : (Jvm.Cond.methodLink "ThreeStrangers" (374 : Nat) ({ cls := "ThreeStrangers$Town", name := "draw", desc := "(I)I" } : Jvm.MethodName)) ∈ lw_all := lw_g (lw_at lw_m6 157 rfl) rfl
theorem q1443 : (Jvm.Cond.instanceMethod ({ cls := "ThreeStrangers", name := "seed", desc := "(I)I" } : Jvm.MethodName)) ∈ lw_all := lw_g (lw_at lw_m6 163 rfl) rfl
theorem q1444 : (Jvm.Cond.selects "ThreeStrangers" ({ cls := "ThreeStrangers", name := "seed", desc := "(I)I" } : Jvm.MethodName) ({ cls := "ThreeStrangers", name := "seed", desc := "(I)I" } : Jvm.MethodName)) ∈ lw_all := lw_g (lw_at lw_m6 164 rfl) rfl
theorem q1445 : (Jvm.Cond.code ({ cls := "ThreeStrangers", name := "seed", desc := "(I)I" } : Jvm.MethodName) prog_1_method_71_code (3 : Nat) (Option.some Jvm.ClassFile.FieldType.int)) ∈ lw_all := lw_g (lw_at lw_m6 165 rfl) rfl
theorem q1447 : (Jvm.Cond.instanceMethod ({ cls := "ThreeStrangers", name := "image", desc := "()I" } : Jvm.MethodName)) ∈ lw_all := lw_g (lw_at lw_m6 167 rfl) rfl
theorem q1448 : (Jvm.Cond.selects "ThreeStrangers" ({ cls := "ThreeStrangers", name := "image", desc := "()I" } : Jvm.MethodName) ({ cls := "ThreeStrangers", name := "image", desc := "()I" } : Jvm.MethodName)) ∈ lw_all := lw_g (lw_at lw_m6 168 rfl) rfl
theorem q1449 : (Jvm.Cond.code ({ cls := "ThreeStrangers", name := "image", desc := "()I" } : Jvm.MethodName) prog_1_method_72_code (1 : Nat) (Option.some Jvm.ClassFile.FieldType.int)) ∈ lw_all := lw_g (lw_at lw_m6 169 rfl) rfl
theorem q1451 : (Jvm.Cond.instanceMethod ({ cls := "ThreeStrangers", name := "back", desc := "()I" } : Jvm.MethodName)) ∈ lw_all := lw_g (lw_at lw_m6 171 rfl) rfl
theorem q1452 : (Jvm.Cond.selects "ThreeStrangers" ({ cls := "ThreeStrangers", name := "back", desc := "()I" } : Jvm.MethodName) ({ cls := "ThreeStrangers", name := "back", desc := "()I" } : Jvm.MethodName)) ∈ lw_all := lw_g (lw_at lw_m6 172 rfl) rfl
theorem q1453 : (Jvm.Cond.code ({ cls := "ThreeStrangers", name := "back", desc := "()I" } : Jvm.MethodName) prog_1_method_73_code (1 : Nat) (Option.some Jvm.ClassFile.FieldType.int)) ∈ lw_all := lw_g (lw_at lw_m6 173 rfl) rfl
theorem q1455 : (Jvm.Cond.instanceMethod ({ cls := "ThreeStrangers", name := "status", desc := "(I)I" } : Jvm.MethodName)) ∈ lw_all := lw_g (lw_at lw_m6 175 rfl) rfl
theorem q1456 : (Jvm.Cond.selects "ThreeStrangers" ({ cls := "ThreeStrangers", name := "status", desc := "(I)I" } : Jvm.MethodName) ({ cls := "ThreeStrangers", name := "status", desc := "(I)I" } : Jvm.MethodName)) ∈ lw_all := lw_g (lw_at lw_m6 176 rfl) rfl
theorem q1457 : (Jvm.Cond.code ({ cls := "ThreeStrangers", name := "status", desc := "(I)I" } : Jvm.MethodName) prog_1_method_75_code (2 : Nat) (Option.some Jvm.ClassFile.FieldType.int)) ∈ lw_all := lw_g (lw_at lw_m6 177 rfl) rfl
theorem q1458 : (Jvm.Cond.methodLink "ThreeStrangers" (383 : Nat) ({ cls := "ThreeStrangers$Town", name := "strange", desc := "()I" } : Jvm.MethodName)) ∈ lw_all := lw_g (lw_at lw_m6 178 rfl) rfl
theorem q1464 : (Jvm.Cond.methodLink "ThreeStrangers" (389 : Nat) ({ cls := "ThreeStrangers", name := "held", desc := "()I" } : Jvm.MethodName)) ∈ lw_all := lw_g (lw_at lw_m6 184 rfl) rfl
theorem q1465 : (Jvm.Cond.privateMethod ({ cls := "ThreeStrangers", name := "held", desc := "()I" } : Jvm.MethodName)) ∈ lw_tbl := lw_at lw_m6 185 rfl
theorem q1466 : (Jvm.Cond.instanceMethod ({ cls := "ThreeStrangers", name := "held", desc := "()I" } : Jvm.MethodName)) ∈ lw_all := lw_g (lw_at lw_m6 186 rfl) rfl
theorem q1467 : (Jvm.Cond.code ({ cls := "ThreeStrangers", name := "held", desc := "()I" } : Jvm.MethodName) prog_1_method_74_code (3 : Nat) (Option.some Jvm.ClassFile.FieldType.int)) ∈ lw_all := lw_g (lw_at lw_m6 187 rfl) rfl
theorem in_X0 : ∀ w ∈ wsX00, w ∈ lw_all := lw_in wsX00 [275, 277, 279, 281, 283, 285, 287, 289, 291, 293, 295] (by decide +kernel) (by decide +kernel)
/-! ThreeStrangers$Town -/
set_option maxRecDepth 100000
def RX1 : String := "ThreeStrangers$Town"
def TX1 : u_T := fun k => match k with
  | 0 => ("ThreeStrangers$Town", "hour", "[I", true)
  | 1 => ("ThreeStrangers$Town", "cost", "[I", true)
  | 2 => ("ThreeStrangers$Town", "since", "[I", true)
  | 3 => ("ThreeStrangers$Town", "people", "I", false)
  | 4 => ("ThreeStrangers$Town", "seats", "I", false)
  | 5 => ("ThreeStrangers$Town", "memory", "I", false)
  | 6 => ("ThreeStrangers$Town", "coaches", "I", false)
  | 7 => ("ThreeStrangers$Town", "days", "I", false)
  | 8 => ("ThreeStrangers$Town", "years", "I", false)
  | _ => ("ThreeStrangers$Town", "seed", "I", false)
def tyX1 : Nat → FieldType := fun k => match k with
  | 0 => .array .int
  | 1 => .array .int
  | 2 => .array .int
  | 3 => .int
  | 4 => .int
  | 5 => .int
  | 6 => .int
  | 7 => .int
  | 8 => .int
  | _ => .int
abbrev wsX10 : List Cond := u_ws RX1 TX1 10
theorem nmX1 : ∀ a, a < 10 → ∀ b, b < 10 → a ≠ b → (TX1 a).2.1 ≠ (TX1 b).2.1 := by decide +kernel
theorem tyX1_ok : ∀ k, k < 10 → parseFieldDescriptor (TX1 k).2.2.1 = some (tyX1 k) := by decide +kernel
abbrev cX1_init : ByteArray := prog_15_method_1_code
def yX1_init : MethodName := ⟨RX1, "<init>", "()V"⟩
def dkwX1_init_1 : List UInt8 := [188, 10, 181, 0, 18, 42, 6, 181, 0, 21, 42, 4, 181, 0, 25, 177]
abbrev dktX1_init_1 : List UInt8 := dkwX1_init_1 ++ []
def dkwX1_init_0 : List UInt8 := [42, 183, 0, 3, 42, 16, 7, 188, 10, 181, 0, 9, 42, 16, 7, 188, 10, 181, 0, 15, 42, 16, 49]
abbrev dktX1_init_0 : List UInt8 := dkwX1_init_0 ++ dktX1_init_1
theorem dksX1_init_0 : cX1_init.data.toList.drop 0 = dktX1_init_0 := by decide +kernel
theorem dksX1_init_1 : cX1_init.data.toList.drop 23 = dktX1_init_1 := dk_seg dksX1_init_0 23 rfl rfl
theorem dX1_init_0 : decode cX1_init 0 = .ok (.aload_n 0, 1) := dk_42 (dk_at dksX1_init_0 0 rfl rfl)
theorem dX1_init_1 : decode cX1_init 1 = .ok (.invokespecial 3, 3) := dk_183 0 3 (dk_at dksX1_init_0 1 rfl rfl)
theorem dX1_init_4 : decode cX1_init 4 = .ok (.aload_n 0, 1) := dk_42 (dk_at dksX1_init_0 4 rfl rfl)
theorem dX1_init_5 : decode cX1_init 5 = .ok (.bipush 7, 2) := dk_16 7 (dk_at dksX1_init_0 5 rfl rfl)
theorem dX1_init_7 : decode cX1_init 7 = .ok (.newarray .int, 2) := dk_188_10 (dk_at dksX1_init_0 7 rfl rfl)
theorem dX1_init_9 : decode cX1_init 9 = .ok (.putfield 9, 3) := dk_181 0 9 (dk_at dksX1_init_0 9 rfl rfl)
theorem dX1_init_12 : decode cX1_init 12 = .ok (.aload_n 0, 1) := dk_42 (dk_at dksX1_init_0 12 rfl rfl)
theorem dX1_init_13 : decode cX1_init 13 = .ok (.bipush 7, 2) := dk_16 7 (dk_at dksX1_init_0 13 rfl rfl)
theorem dX1_init_15 : decode cX1_init 15 = .ok (.newarray .int, 2) := dk_188_10 (dk_at dksX1_init_0 15 rfl rfl)
theorem dX1_init_17 : decode cX1_init 17 = .ok (.putfield 15, 3) := dk_181 0 15 (dk_at dksX1_init_0 17 rfl rfl)
theorem dX1_init_20 : decode cX1_init 20 = .ok (.aload_n 0, 1) := dk_42 (dk_at dksX1_init_0 20 rfl rfl)
theorem dX1_init_21 : decode cX1_init 21 = .ok (.bipush 49, 2) := dk_16 49 (dk_at dksX1_init_0 21 rfl rfl)
theorem dX1_init_23 : decode cX1_init 23 = .ok (.newarray .int, 2) := dk_188_10 (dk_at dksX1_init_1 0 rfl rfl)
theorem dX1_init_25 : decode cX1_init 25 = .ok (.putfield 18, 3) := dk_181 0 18 (dk_at dksX1_init_1 2 rfl rfl)
theorem dX1_init_28 : decode cX1_init 28 = .ok (.aload_n 0, 1) := dk_42 (dk_at dksX1_init_1 5 rfl rfl)
theorem dX1_init_29 : decode cX1_init 29 = .ok (.iconst 3, 1) := dk_6 (dk_at dksX1_init_1 6 rfl rfl)
theorem dX1_init_30 : decode cX1_init 30 = .ok (.putfield 21, 3) := dk_181 0 21 (dk_at dksX1_init_1 7 rfl rfl)
theorem dX1_init_33 : decode cX1_init 33 = .ok (.aload_n 0, 1) := dk_42 (dk_at dksX1_init_1 10 rfl rfl)
theorem dX1_init_34 : decode cX1_init 34 = .ok (.iconst 1, 1) := dk_4 (dk_at dksX1_init_1 11 rfl rfl)
theorem dX1_init_35 : decode cX1_init 35 = .ok (.putfield 25, 3) := dk_181 0 25 (dk_at dksX1_init_1 12 rfl rfl)
theorem dX1_init_38 : decode cX1_init 38 = .ok (.return_, 1) := dk_177 (dk_at dksX1_init_1 15 rfl rfl)
abbrev cX1_strangers : ByteArray := prog_15_method_11_code
def yX1_strangers : MethodName := ⟨RX1, "strangers", "(I)I"⟩
def dkwX1_strangers_1 : List UInt8 := [2, 160, 0, 9, 4, 29, 120, 167, 0, 4, 3, 128, 61, 132, 3, 1, 167, 255, 220, 28, 172]
abbrev dktX1_strangers_1 : List UInt8 := dkwX1_strangers_1 ++ []
def dkwX1_strangers_0 : List UInt8 := [3, 61, 3, 62, 29, 42, 180, 0, 39, 162, 0, 34, 28, 29, 27, 159, 0, 19, 42, 27, 29, 182, 0, 70]
abbrev dktX1_strangers_0 : List UInt8 := dkwX1_strangers_0 ++ dktX1_strangers_1
theorem dksX1_strangers_0 : cX1_strangers.data.toList.drop 0 = dktX1_strangers_0 := by decide +kernel
theorem dksX1_strangers_1 : cX1_strangers.data.toList.drop 24 = dktX1_strangers_1 := dk_seg dksX1_strangers_0 24 rfl rfl
theorem dX1_strangers_0 : decode cX1_strangers 0 = .ok (.iconst 0, 1) := dk_3 (dk_at dksX1_strangers_0 0 rfl rfl)
theorem dX1_strangers_1 : decode cX1_strangers 1 = .ok (.istore_n 2, 1) := dk_61 (dk_at dksX1_strangers_0 1 rfl rfl)
theorem dX1_strangers_2 : decode cX1_strangers 2 = .ok (.iconst 0, 1) := dk_3 (dk_at dksX1_strangers_0 2 rfl rfl)
theorem dX1_strangers_3 : decode cX1_strangers 3 = .ok (.istore_n 3, 1) := dk_62 (dk_at dksX1_strangers_0 3 rfl rfl)
theorem dX1_strangers_4 : decode cX1_strangers 4 = .ok (.iload_n 3, 1) := dk_29 (dk_at dksX1_strangers_0 4 rfl rfl)
theorem dX1_strangers_5 : decode cX1_strangers 5 = .ok (.aload_n 0, 1) := dk_42 (dk_at dksX1_strangers_0 5 rfl rfl)
theorem dX1_strangers_6 : decode cX1_strangers 6 = .ok (.getfield 39, 3) := dk_180 0 39 (dk_at dksX1_strangers_0 6 rfl rfl)
theorem dX1_strangers_9 : decode cX1_strangers 9 = .ok (.if_icmp .ge 34, 3) := dk_162 0 34 (dk_at dksX1_strangers_0 9 rfl rfl)
theorem dX1_strangers_12 : decode cX1_strangers 12 = .ok (.iload_n 2, 1) := dk_28 (dk_at dksX1_strangers_0 12 rfl rfl)
theorem dX1_strangers_13 : decode cX1_strangers 13 = .ok (.iload_n 3, 1) := dk_29 (dk_at dksX1_strangers_0 13 rfl rfl)
theorem dX1_strangers_14 : decode cX1_strangers 14 = .ok (.iload_n 1, 1) := dk_27 (dk_at dksX1_strangers_0 14 rfl rfl)
theorem dX1_strangers_15 : decode cX1_strangers 15 = .ok (.if_icmp .eq 19, 3) := dk_159 0 19 (dk_at dksX1_strangers_0 15 rfl rfl)
theorem dX1_strangers_18 : decode cX1_strangers 18 = .ok (.aload_n 0, 1) := dk_42 (dk_at dksX1_strangers_0 18 rfl rfl)
theorem dX1_strangers_19 : decode cX1_strangers 19 = .ok (.iload_n 1, 1) := dk_27 (dk_at dksX1_strangers_0 19 rfl rfl)
theorem dX1_strangers_20 : decode cX1_strangers 20 = .ok (.iload_n 3, 1) := dk_29 (dk_at dksX1_strangers_0 20 rfl rfl)
theorem dX1_strangers_21 : decode cX1_strangers 21 = .ok (.invokevirtual 70, 3) := dk_182 0 70 (dk_at dksX1_strangers_0 21 rfl rfl)
theorem dX1_strangers_24 : decode cX1_strangers 24 = .ok (.iconst (-1), 1) := dk_2 (dk_at dksX1_strangers_1 0 rfl rfl)
theorem dX1_strangers_25 : decode cX1_strangers 25 = .ok (.if_icmp .ne 9, 3) := dk_160 0 9 (dk_at dksX1_strangers_1 1 rfl rfl)
theorem dX1_strangers_28 : decode cX1_strangers 28 = .ok (.iconst 1, 1) := dk_4 (dk_at dksX1_strangers_1 4 rfl rfl)
theorem dX1_strangers_29 : decode cX1_strangers 29 = .ok (.iload_n 3, 1) := dk_29 (dk_at dksX1_strangers_1 5 rfl rfl)
theorem dX1_strangers_30 : decode cX1_strangers 30 = .ok (.ishl, 1) := dk_120 (dk_at dksX1_strangers_1 6 rfl rfl)
theorem dX1_strangers_31 : decode cX1_strangers 31 = .ok (.goto 4, 3) := dk_167 0 4 (dk_at dksX1_strangers_1 7 rfl rfl)
theorem dX1_strangers_34 : decode cX1_strangers 34 = .ok (.iconst 0, 1) := dk_3 (dk_at dksX1_strangers_1 10 rfl rfl)
theorem dX1_strangers_35 : decode cX1_strangers 35 = .ok (.ior, 1) := dk_128 (dk_at dksX1_strangers_1 11 rfl rfl)
theorem dX1_strangers_36 : decode cX1_strangers 36 = .ok (.istore_n 2, 1) := dk_61 (dk_at dksX1_strangers_1 12 rfl rfl)
theorem dX1_strangers_37 : decode cX1_strangers 37 = .ok (.iinc 3 1, 3) := dk_132 3 1 (dk_at dksX1_strangers_1 13 rfl rfl)
theorem dX1_strangers_40 : decode cX1_strangers 40 = .ok (.goto (-36), 3) := dk_167 255 220 (dk_at dksX1_strangers_1 16 rfl rfl)
theorem dX1_strangers_43 : decode cX1_strangers 43 = .ok (.iload_n 2, 1) := dk_28 (dk_at dksX1_strangers_1 19 rfl rfl)
theorem dX1_strangers_44 : decode cX1_strangers 44 = .ok (.ireturn, 1) := dk_172 (dk_at dksX1_strangers_1 20 rfl rfl)
abbrev cX1_since : ByteArray := prog_15_method_8_code
def yX1_since : MethodName := ⟨RX1, "since", "(II)I"⟩
def dkwX1_since_0 : List UInt8 := [42, 180, 0, 18, 16, 7, 27, 104, 28, 96, 46, 172]
abbrev dktX1_since_0 : List UInt8 := dkwX1_since_0 ++ []
theorem dksX1_since_0 : cX1_since.data.toList.drop 0 = dktX1_since_0 := by decide +kernel
theorem dX1_since_0 : decode cX1_since 0 = .ok (.aload_n 0, 1) := dk_42 (dk_at dksX1_since_0 0 rfl rfl)
theorem dX1_since_1 : decode cX1_since 1 = .ok (.getfield 18, 3) := dk_180 0 18 (dk_at dksX1_since_0 1 rfl rfl)
theorem dX1_since_4 : decode cX1_since 4 = .ok (.bipush 7, 2) := dk_16 7 (dk_at dksX1_since_0 4 rfl rfl)
theorem dX1_since_6 : decode cX1_since 6 = .ok (.iload_n 1, 1) := dk_27 (dk_at dksX1_since_0 6 rfl rfl)
theorem dX1_since_7 : decode cX1_since 7 = .ok (.imul, 1) := dk_104 (dk_at dksX1_since_0 7 rfl rfl)
theorem dX1_since_8 : decode cX1_since 8 = .ok (.iload_n 2, 1) := dk_28 (dk_at dksX1_since_0 8 rfl rfl)
theorem dX1_since_9 : decode cX1_since 9 = .ok (.iadd, 1) := dk_96 (dk_at dksX1_since_0 9 rfl rfl)
theorem dX1_since_10 : decode cX1_since 10 = .ok (.iaload, 1) := dk_46 (dk_at dksX1_since_0 10 rfl rfl)
theorem dX1_since_11 : decode cX1_since 11 = .ok (.ireturn, 1) := dk_172 (dk_at dksX1_since_0 11 rfl rfl)
abbrev cX1_all : ByteArray := prog_15_method_6_code
def yX1_all : MethodName := ⟨RX1, "all", "()I"⟩
def dkwX1_all_0 : List UInt8 := [4, 42, 180, 0, 39, 120, 4, 100, 172]
abbrev dktX1_all_0 : List UInt8 := dkwX1_all_0 ++ []
theorem dksX1_all_0 : cX1_all.data.toList.drop 0 = dktX1_all_0 := by decide +kernel
theorem dX1_all_0 : decode cX1_all 0 = .ok (.iconst 1, 1) := dk_4 (dk_at dksX1_all_0 0 rfl rfl)
theorem dX1_all_1 : decode cX1_all 1 = .ok (.aload_n 0, 1) := dk_42 (dk_at dksX1_all_0 1 rfl rfl)
theorem dX1_all_2 : decode cX1_all 2 = .ok (.getfield 39, 3) := dk_180 0 39 (dk_at dksX1_all_0 2 rfl rfl)
theorem dX1_all_5 : decode cX1_all 5 = .ok (.ishl, 1) := dk_120 (dk_at dksX1_all_0 5 rfl rfl)
theorem dX1_all_6 : decode cX1_all 6 = .ok (.iconst 1, 1) := dk_4 (dk_at dksX1_all_0 6 rfl rfl)
theorem dX1_all_7 : decode cX1_all 7 = .ok (.isub, 1) := dk_100 (dk_at dksX1_all_0 7 rfl rfl)
theorem dX1_all_8 : decode cX1_all 8 = .ok (.ireturn, 1) := dk_172 (dk_at dksX1_all_0 8 rfl rfl)
abbrev cX1_adds : ByteArray := prog_15_method_4_code
def yX1_adds : MethodName := ⟨RX1, "adds", "(II)I"⟩
def dkwX1_adds_2 : List UInt8 := [89, 180, 0, 39, 4, 96, 181, 0, 39, 42, 180, 0, 39, 4, 100, 172]
abbrev dktX1_adds_2 : List UInt8 := dkwX1_adds_2 ++ []
def dkwX1_adds_1 : List UInt8 := [167, 255, 235, 42, 180, 0, 9, 42, 180, 0, 39, 27, 79, 42, 180, 0, 15, 42, 180, 0, 39, 28, 79, 42]
abbrev dktX1_adds_1 : List UInt8 := dkwX1_adds_1 ++ dktX1_adds_2
def dkwX1_adds_0 : List UInt8 := [3, 62, 29, 42, 180, 0, 39, 162, 0, 19, 42, 29, 42, 180, 0, 39, 2, 182, 0, 54, 132, 3, 1]
abbrev dktX1_adds_0 : List UInt8 := dkwX1_adds_0 ++ dktX1_adds_1
theorem dksX1_adds_0 : cX1_adds.data.toList.drop 0 = dktX1_adds_0 := by decide +kernel
theorem dksX1_adds_1 : cX1_adds.data.toList.drop 23 = dktX1_adds_1 := dk_seg dksX1_adds_0 23 rfl rfl
theorem dksX1_adds_2 : cX1_adds.data.toList.drop 47 = dktX1_adds_2 := dk_seg dksX1_adds_1 24 rfl rfl
theorem dX1_adds_0 : decode cX1_adds 0 = .ok (.iconst 0, 1) := dk_3 (dk_at dksX1_adds_0 0 rfl rfl)
theorem dX1_adds_1 : decode cX1_adds 1 = .ok (.istore_n 3, 1) := dk_62 (dk_at dksX1_adds_0 1 rfl rfl)
theorem dX1_adds_2 : decode cX1_adds 2 = .ok (.iload_n 3, 1) := dk_29 (dk_at dksX1_adds_0 2 rfl rfl)
theorem dX1_adds_3 : decode cX1_adds 3 = .ok (.aload_n 0, 1) := dk_42 (dk_at dksX1_adds_0 3 rfl rfl)
theorem dX1_adds_4 : decode cX1_adds 4 = .ok (.getfield 39, 3) := dk_180 0 39 (dk_at dksX1_adds_0 4 rfl rfl)
theorem dX1_adds_7 : decode cX1_adds 7 = .ok (.if_icmp .ge 19, 3) := dk_162 0 19 (dk_at dksX1_adds_0 7 rfl rfl)
theorem dX1_adds_10 : decode cX1_adds 10 = .ok (.aload_n 0, 1) := dk_42 (dk_at dksX1_adds_0 10 rfl rfl)
theorem dX1_adds_11 : decode cX1_adds 11 = .ok (.iload_n 3, 1) := dk_29 (dk_at dksX1_adds_0 11 rfl rfl)
theorem dX1_adds_12 : decode cX1_adds 12 = .ok (.aload_n 0, 1) := dk_42 (dk_at dksX1_adds_0 12 rfl rfl)
theorem dX1_adds_13 : decode cX1_adds 13 = .ok (.getfield 39, 3) := dk_180 0 39 (dk_at dksX1_adds_0 13 rfl rfl)
theorem dX1_adds_16 : decode cX1_adds 16 = .ok (.iconst (-1), 1) := dk_2 (dk_at dksX1_adds_0 16 rfl rfl)
theorem dX1_adds_17 : decode cX1_adds 17 = .ok (.invokevirtual 54, 3) := dk_182 0 54 (dk_at dksX1_adds_0 17 rfl rfl)
theorem dX1_adds_20 : decode cX1_adds 20 = .ok (.iinc 3 1, 3) := dk_132 3 1 (dk_at dksX1_adds_0 20 rfl rfl)
theorem dX1_adds_23 : decode cX1_adds 23 = .ok (.goto (-21), 3) := dk_167 255 235 (dk_at dksX1_adds_1 0 rfl rfl)
theorem dX1_adds_26 : decode cX1_adds 26 = .ok (.aload_n 0, 1) := dk_42 (dk_at dksX1_adds_1 3 rfl rfl)
theorem dX1_adds_27 : decode cX1_adds 27 = .ok (.getfield 9, 3) := dk_180 0 9 (dk_at dksX1_adds_1 4 rfl rfl)
theorem dX1_adds_30 : decode cX1_adds 30 = .ok (.aload_n 0, 1) := dk_42 (dk_at dksX1_adds_1 7 rfl rfl)
theorem dX1_adds_31 : decode cX1_adds 31 = .ok (.getfield 39, 3) := dk_180 0 39 (dk_at dksX1_adds_1 8 rfl rfl)
theorem dX1_adds_34 : decode cX1_adds 34 = .ok (.iload_n 1, 1) := dk_27 (dk_at dksX1_adds_1 11 rfl rfl)
theorem dX1_adds_35 : decode cX1_adds 35 = .ok (.iastore, 1) := dk_79 (dk_at dksX1_adds_1 12 rfl rfl)
theorem dX1_adds_36 : decode cX1_adds 36 = .ok (.aload_n 0, 1) := dk_42 (dk_at dksX1_adds_1 13 rfl rfl)
theorem dX1_adds_37 : decode cX1_adds 37 = .ok (.getfield 15, 3) := dk_180 0 15 (dk_at dksX1_adds_1 14 rfl rfl)
theorem dX1_adds_40 : decode cX1_adds 40 = .ok (.aload_n 0, 1) := dk_42 (dk_at dksX1_adds_1 17 rfl rfl)
theorem dX1_adds_41 : decode cX1_adds 41 = .ok (.getfield 39, 3) := dk_180 0 39 (dk_at dksX1_adds_1 18 rfl rfl)
theorem dX1_adds_44 : decode cX1_adds 44 = .ok (.iload_n 2, 1) := dk_28 (dk_at dksX1_adds_1 21 rfl rfl)
theorem dX1_adds_45 : decode cX1_adds 45 = .ok (.iastore, 1) := dk_79 (dk_at dksX1_adds_1 22 rfl rfl)
theorem dX1_adds_46 : decode cX1_adds 46 = .ok (.aload_n 0, 1) := dk_42 (dk_at dksX1_adds_1 23 rfl rfl)
theorem dX1_adds_47 : decode cX1_adds 47 = .ok (.dup, 1) := dk_89 (dk_at dksX1_adds_2 0 rfl rfl)
theorem dX1_adds_48 : decode cX1_adds 48 = .ok (.getfield 39, 3) := dk_180 0 39 (dk_at dksX1_adds_2 1 rfl rfl)
theorem dX1_adds_51 : decode cX1_adds 51 = .ok (.iconst 1, 1) := dk_4 (dk_at dksX1_adds_2 4 rfl rfl)
theorem dX1_adds_52 : decode cX1_adds 52 = .ok (.iadd, 1) := dk_96 (dk_at dksX1_adds_2 5 rfl rfl)
theorem dX1_adds_53 : decode cX1_adds 53 = .ok (.putfield 39, 3) := dk_181 0 39 (dk_at dksX1_adds_2 6 rfl rfl)
theorem dX1_adds_56 : decode cX1_adds 56 = .ok (.aload_n 0, 1) := dk_42 (dk_at dksX1_adds_2 9 rfl rfl)
theorem dX1_adds_57 : decode cX1_adds 57 = .ok (.getfield 39, 3) := dk_180 0 39 (dk_at dksX1_adds_2 10 rfl rfl)
theorem dX1_adds_60 : decode cX1_adds 60 = .ok (.iconst 1, 1) := dk_4 (dk_at dksX1_adds_2 13 rfl rfl)
theorem dX1_adds_61 : decode cX1_adds 61 = .ok (.isub, 1) := dk_100 (dk_at dksX1_adds_2 14 rfl rfl)
theorem dX1_adds_62 : decode cX1_adds 62 = .ok (.ireturn, 1) := dk_172 (dk_at dksX1_adds_2 15 rfl rfl)
abbrev cX1_knows : ByteArray := prog_15_method_9_code
def yX1_knows : MethodName := ⟨RX1, "knows", "(III)V"⟩
def dkwX1_knows_1 : List UInt8 := [177]
abbrev dktX1_knows_1 : List UInt8 := dkwX1_knows_1 ++ []
def dkwX1_knows_0 : List UInt8 := [42, 180, 0, 18, 16, 7, 27, 104, 28, 96, 29, 79, 42, 180, 0, 18, 16, 7, 28, 104, 27, 96, 29, 79]
abbrev dktX1_knows_0 : List UInt8 := dkwX1_knows_0 ++ dktX1_knows_1
theorem dksX1_knows_0 : cX1_knows.data.toList.drop 0 = dktX1_knows_0 := by decide +kernel
theorem dksX1_knows_1 : cX1_knows.data.toList.drop 24 = dktX1_knows_1 := dk_seg dksX1_knows_0 24 rfl rfl
theorem dX1_knows_0 : decode cX1_knows 0 = .ok (.aload_n 0, 1) := dk_42 (dk_at dksX1_knows_0 0 rfl rfl)
theorem dX1_knows_1 : decode cX1_knows 1 = .ok (.getfield 18, 3) := dk_180 0 18 (dk_at dksX1_knows_0 1 rfl rfl)
theorem dX1_knows_4 : decode cX1_knows 4 = .ok (.bipush 7, 2) := dk_16 7 (dk_at dksX1_knows_0 4 rfl rfl)
theorem dX1_knows_6 : decode cX1_knows 6 = .ok (.iload_n 1, 1) := dk_27 (dk_at dksX1_knows_0 6 rfl rfl)
theorem dX1_knows_7 : decode cX1_knows 7 = .ok (.imul, 1) := dk_104 (dk_at dksX1_knows_0 7 rfl rfl)
theorem dX1_knows_8 : decode cX1_knows 8 = .ok (.iload_n 2, 1) := dk_28 (dk_at dksX1_knows_0 8 rfl rfl)
theorem dX1_knows_9 : decode cX1_knows 9 = .ok (.iadd, 1) := dk_96 (dk_at dksX1_knows_0 9 rfl rfl)
theorem dX1_knows_10 : decode cX1_knows 10 = .ok (.iload_n 3, 1) := dk_29 (dk_at dksX1_knows_0 10 rfl rfl)
theorem dX1_knows_11 : decode cX1_knows 11 = .ok (.iastore, 1) := dk_79 (dk_at dksX1_knows_0 11 rfl rfl)
theorem dX1_knows_12 : decode cX1_knows 12 = .ok (.aload_n 0, 1) := dk_42 (dk_at dksX1_knows_0 12 rfl rfl)
theorem dX1_knows_13 : decode cX1_knows 13 = .ok (.getfield 18, 3) := dk_180 0 18 (dk_at dksX1_knows_0 13 rfl rfl)
theorem dX1_knows_16 : decode cX1_knows 16 = .ok (.bipush 7, 2) := dk_16 7 (dk_at dksX1_knows_0 16 rfl rfl)
theorem dX1_knows_18 : decode cX1_knows 18 = .ok (.iload_n 2, 1) := dk_28 (dk_at dksX1_knows_0 18 rfl rfl)
theorem dX1_knows_19 : decode cX1_knows 19 = .ok (.imul, 1) := dk_104 (dk_at dksX1_knows_0 19 rfl rfl)
theorem dX1_knows_20 : decode cX1_knows 20 = .ok (.iload_n 1, 1) := dk_27 (dk_at dksX1_knows_0 20 rfl rfl)
theorem dX1_knows_21 : decode cX1_knows 21 = .ok (.iadd, 1) := dk_96 (dk_at dksX1_knows_0 21 rfl rfl)
theorem dX1_knows_22 : decode cX1_knows 22 = .ok (.iload_n 3, 1) := dk_29 (dk_at dksX1_knows_0 22 rfl rfl)
theorem dX1_knows_23 : decode cX1_knows 23 = .ok (.iastore, 1) := dk_79 (dk_at dksX1_knows_0 23 rfl rfl)
theorem dX1_knows_24 : decode cX1_knows 24 = .ok (.return_, 1) := dk_177 (dk_at dksX1_knows_1 0 rfl rfl)
abbrev cX1_isOne : ByteArray := prog_15_method_5_code
def yX1_isOne : MethodName := ⟨RX1, "isOne", "(I)Z"⟩
def dkwX1_isOne_0 : List UInt8 := [27, 3, 42, 180, 0, 39, 4, 100, 184, 0, 58, 172]
abbrev dktX1_isOne_0 : List UInt8 := dkwX1_isOne_0 ++ []
theorem dksX1_isOne_0 : cX1_isOne.data.toList.drop 0 = dktX1_isOne_0 := by decide +kernel
theorem dX1_isOne_0 : decode cX1_isOne 0 = .ok (.iload_n 1, 1) := dk_27 (dk_at dksX1_isOne_0 0 rfl rfl)
theorem dX1_isOne_1 : decode cX1_isOne 1 = .ok (.iconst 0, 1) := dk_3 (dk_at dksX1_isOne_0 1 rfl rfl)
theorem dX1_isOne_2 : decode cX1_isOne 2 = .ok (.aload_n 0, 1) := dk_42 (dk_at dksX1_isOne_0 2 rfl rfl)
theorem dX1_isOne_3 : decode cX1_isOne 3 = .ok (.getfield 39, 3) := dk_180 0 39 (dk_at dksX1_isOne_0 3 rfl rfl)
theorem dX1_isOne_6 : decode cX1_isOne 6 = .ok (.iconst 1, 1) := dk_4 (dk_at dksX1_isOne_0 6 rfl rfl)
theorem dX1_isOne_7 : decode cX1_isOne 7 = .ok (.isub, 1) := dk_100 (dk_at dksX1_isOne_0 7 rfl rfl)
theorem dX1_isOne_8 : decode cX1_isOne 8 = .ok (.invokestatic 58, 3) := dk_184 0 58 (dk_at dksX1_isOne_0 8 rfl rfl)
theorem dX1_isOne_11 : decode cX1_isOne 11 = .ok (.ireturn, 1) := dk_172 (dk_at dksX1_isOne_0 11 rfl rfl)
abbrev cX1_copied : ByteArray := prog_15_method_2_code
def yX1_copied : MethodName := ⟨RX1, "copied", "()LThreeStrangers$Town;"⟩
def dkwX1_copied_0 : List UInt8 := [187, 0, 10, 89, 183, 0, 28, 42, 182, 0, 29, 176]
abbrev dktX1_copied_0 : List UInt8 := dkwX1_copied_0 ++ []
theorem dksX1_copied_0 : cX1_copied.data.toList.drop 0 = dktX1_copied_0 := by decide +kernel
theorem dX1_copied_0 : decode cX1_copied 0 = .ok (.new 10, 3) := dk_187 0 10 (dk_at dksX1_copied_0 0 rfl rfl)
theorem dX1_copied_3 : decode cX1_copied 3 = .ok (.dup, 1) := dk_89 (dk_at dksX1_copied_0 3 rfl rfl)
theorem dX1_copied_4 : decode cX1_copied 4 = .ok (.invokespecial 28, 3) := dk_183 0 28 (dk_at dksX1_copied_0 4 rfl rfl)
theorem dX1_copied_7 : decode cX1_copied 7 = .ok (.aload_n 0, 1) := dk_42 (dk_at dksX1_copied_0 7 rfl rfl)
theorem dX1_copied_8 : decode cX1_copied 8 = .ok (.invokevirtual 29, 3) := dk_182 0 29 (dk_at dksX1_copied_0 8 rfl rfl)
theorem dX1_copied_11 : decode cX1_copied 11 = .ok (.areturn, 1) := dk_176 (dk_at dksX1_copied_0 11 rfl rfl)
abbrev cX1_becomes : ByteArray := prog_15_method_3_code
def yX1_becomes : MethodName := ⟨RX1, "becomes", "(LThreeStrangers$Town;)LThreeStrangers$Town;"⟩
def dkwX1_becomes_4 : List UInt8 := [180, 0, 25, 181, 0, 25, 42, 176]
abbrev dktX1_becomes_4 : List UInt8 := dkwX1_becomes_4 ++ []
def dkwX1_becomes_3 : List UInt8 := [180, 0, 45, 181, 0, 45, 42, 43, 180, 0, 48, 181, 0, 48, 42, 43, 180, 0, 51, 181, 0, 51, 42, 43]
abbrev dktX1_becomes_3 : List UInt8 := dkwX1_becomes_3 ++ dktX1_becomes_4
def dkwX1_becomes_2 : List UInt8 := [180, 0, 39, 181, 0, 39, 42, 43, 180, 0, 21, 181, 0, 21, 42, 43, 180, 0, 42, 181, 0, 42, 42, 43]
abbrev dktX1_becomes_2 : List UInt8 := dkwX1_becomes_2 ++ dktX1_becomes_3
def dkwX1_becomes_1 : List UInt8 := [3, 16, 7, 184, 0, 33, 43, 180, 0, 18, 3, 42, 180, 0, 18, 3, 16, 49, 184, 0, 33, 42, 43]
abbrev dktX1_becomes_1 : List UInt8 := dkwX1_becomes_1 ++ dktX1_becomes_2
def dkwX1_becomes_0 : List UInt8 := [43, 180, 0, 9, 3, 42, 180, 0, 9, 3, 16, 7, 184, 0, 33, 43, 180, 0, 15, 3, 42, 180, 0, 15]
abbrev dktX1_becomes_0 : List UInt8 := dkwX1_becomes_0 ++ dktX1_becomes_1
theorem dksX1_becomes_0 : cX1_becomes.data.toList.drop 0 = dktX1_becomes_0 := by decide +kernel
theorem dksX1_becomes_1 : cX1_becomes.data.toList.drop 24 = dktX1_becomes_1 := dk_seg dksX1_becomes_0 24 rfl rfl
theorem dksX1_becomes_2 : cX1_becomes.data.toList.drop 47 = dktX1_becomes_2 := dk_seg dksX1_becomes_1 23 rfl rfl
theorem dksX1_becomes_3 : cX1_becomes.data.toList.drop 71 = dktX1_becomes_3 := dk_seg dksX1_becomes_2 24 rfl rfl
theorem dksX1_becomes_4 : cX1_becomes.data.toList.drop 95 = dktX1_becomes_4 := dk_seg dksX1_becomes_3 24 rfl rfl
theorem dX1_becomes_0 : decode cX1_becomes 0 = .ok (.aload_n 1, 1) := dk_43 (dk_at dksX1_becomes_0 0 rfl rfl)
theorem dX1_becomes_1 : decode cX1_becomes 1 = .ok (.getfield 9, 3) := dk_180 0 9 (dk_at dksX1_becomes_0 1 rfl rfl)
theorem dX1_becomes_4 : decode cX1_becomes 4 = .ok (.iconst 0, 1) := dk_3 (dk_at dksX1_becomes_0 4 rfl rfl)
theorem dX1_becomes_5 : decode cX1_becomes 5 = .ok (.aload_n 0, 1) := dk_42 (dk_at dksX1_becomes_0 5 rfl rfl)
theorem dX1_becomes_6 : decode cX1_becomes 6 = .ok (.getfield 9, 3) := dk_180 0 9 (dk_at dksX1_becomes_0 6 rfl rfl)
theorem dX1_becomes_9 : decode cX1_becomes 9 = .ok (.iconst 0, 1) := dk_3 (dk_at dksX1_becomes_0 9 rfl rfl)
theorem dX1_becomes_10 : decode cX1_becomes 10 = .ok (.bipush 7, 2) := dk_16 7 (dk_at dksX1_becomes_0 10 rfl rfl)
theorem dX1_becomes_12 : decode cX1_becomes 12 = .ok (.invokestatic 33, 3) := dk_184 0 33 (dk_at dksX1_becomes_0 12 rfl rfl)
theorem dX1_becomes_15 : decode cX1_becomes 15 = .ok (.aload_n 1, 1) := dk_43 (dk_at dksX1_becomes_0 15 rfl rfl)
theorem dX1_becomes_16 : decode cX1_becomes 16 = .ok (.getfield 15, 3) := dk_180 0 15 (dk_at dksX1_becomes_0 16 rfl rfl)
theorem dX1_becomes_19 : decode cX1_becomes 19 = .ok (.iconst 0, 1) := dk_3 (dk_at dksX1_becomes_0 19 rfl rfl)
theorem dX1_becomes_20 : decode cX1_becomes 20 = .ok (.aload_n 0, 1) := dk_42 (dk_at dksX1_becomes_0 20 rfl rfl)
theorem dX1_becomes_21 : decode cX1_becomes 21 = .ok (.getfield 15, 3) := dk_180 0 15 (dk_at dksX1_becomes_0 21 rfl rfl)
theorem dX1_becomes_24 : decode cX1_becomes 24 = .ok (.iconst 0, 1) := dk_3 (dk_at dksX1_becomes_1 0 rfl rfl)
theorem dX1_becomes_25 : decode cX1_becomes 25 = .ok (.bipush 7, 2) := dk_16 7 (dk_at dksX1_becomes_1 1 rfl rfl)
theorem dX1_becomes_27 : decode cX1_becomes 27 = .ok (.invokestatic 33, 3) := dk_184 0 33 (dk_at dksX1_becomes_1 3 rfl rfl)
theorem dX1_becomes_30 : decode cX1_becomes 30 = .ok (.aload_n 1, 1) := dk_43 (dk_at dksX1_becomes_1 6 rfl rfl)
theorem dX1_becomes_31 : decode cX1_becomes 31 = .ok (.getfield 18, 3) := dk_180 0 18 (dk_at dksX1_becomes_1 7 rfl rfl)
theorem dX1_becomes_34 : decode cX1_becomes 34 = .ok (.iconst 0, 1) := dk_3 (dk_at dksX1_becomes_1 10 rfl rfl)
theorem dX1_becomes_35 : decode cX1_becomes 35 = .ok (.aload_n 0, 1) := dk_42 (dk_at dksX1_becomes_1 11 rfl rfl)
theorem dX1_becomes_36 : decode cX1_becomes 36 = .ok (.getfield 18, 3) := dk_180 0 18 (dk_at dksX1_becomes_1 12 rfl rfl)
theorem dX1_becomes_39 : decode cX1_becomes 39 = .ok (.iconst 0, 1) := dk_3 (dk_at dksX1_becomes_1 15 rfl rfl)
theorem dX1_becomes_40 : decode cX1_becomes 40 = .ok (.bipush 49, 2) := dk_16 49 (dk_at dksX1_becomes_1 16 rfl rfl)
theorem dX1_becomes_42 : decode cX1_becomes 42 = .ok (.invokestatic 33, 3) := dk_184 0 33 (dk_at dksX1_becomes_1 18 rfl rfl)
theorem dX1_becomes_45 : decode cX1_becomes 45 = .ok (.aload_n 0, 1) := dk_42 (dk_at dksX1_becomes_1 21 rfl rfl)
theorem dX1_becomes_46 : decode cX1_becomes 46 = .ok (.aload_n 1, 1) := dk_43 (dk_at dksX1_becomes_1 22 rfl rfl)
theorem dX1_becomes_47 : decode cX1_becomes 47 = .ok (.getfield 39, 3) := dk_180 0 39 (dk_at dksX1_becomes_2 0 rfl rfl)
theorem dX1_becomes_50 : decode cX1_becomes 50 = .ok (.putfield 39, 3) := dk_181 0 39 (dk_at dksX1_becomes_2 3 rfl rfl)
theorem dX1_becomes_53 : decode cX1_becomes 53 = .ok (.aload_n 0, 1) := dk_42 (dk_at dksX1_becomes_2 6 rfl rfl)
theorem dX1_becomes_54 : decode cX1_becomes 54 = .ok (.aload_n 1, 1) := dk_43 (dk_at dksX1_becomes_2 7 rfl rfl)
theorem dX1_becomes_55 : decode cX1_becomes 55 = .ok (.getfield 21, 3) := dk_180 0 21 (dk_at dksX1_becomes_2 8 rfl rfl)
theorem dX1_becomes_58 : decode cX1_becomes 58 = .ok (.putfield 21, 3) := dk_181 0 21 (dk_at dksX1_becomes_2 11 rfl rfl)
theorem dX1_becomes_61 : decode cX1_becomes 61 = .ok (.aload_n 0, 1) := dk_42 (dk_at dksX1_becomes_2 14 rfl rfl)
theorem dX1_becomes_62 : decode cX1_becomes 62 = .ok (.aload_n 1, 1) := dk_43 (dk_at dksX1_becomes_2 15 rfl rfl)
theorem dX1_becomes_63 : decode cX1_becomes 63 = .ok (.getfield 42, 3) := dk_180 0 42 (dk_at dksX1_becomes_2 16 rfl rfl)
theorem dX1_becomes_66 : decode cX1_becomes 66 = .ok (.putfield 42, 3) := dk_181 0 42 (dk_at dksX1_becomes_2 19 rfl rfl)
theorem dX1_becomes_69 : decode cX1_becomes 69 = .ok (.aload_n 0, 1) := dk_42 (dk_at dksX1_becomes_2 22 rfl rfl)
theorem dX1_becomes_70 : decode cX1_becomes 70 = .ok (.aload_n 1, 1) := dk_43 (dk_at dksX1_becomes_2 23 rfl rfl)
theorem dX1_becomes_71 : decode cX1_becomes 71 = .ok (.getfield 45, 3) := dk_180 0 45 (dk_at dksX1_becomes_3 0 rfl rfl)
theorem dX1_becomes_74 : decode cX1_becomes 74 = .ok (.putfield 45, 3) := dk_181 0 45 (dk_at dksX1_becomes_3 3 rfl rfl)
theorem dX1_becomes_77 : decode cX1_becomes 77 = .ok (.aload_n 0, 1) := dk_42 (dk_at dksX1_becomes_3 6 rfl rfl)
theorem dX1_becomes_78 : decode cX1_becomes 78 = .ok (.aload_n 1, 1) := dk_43 (dk_at dksX1_becomes_3 7 rfl rfl)
theorem dX1_becomes_79 : decode cX1_becomes 79 = .ok (.getfield 48, 3) := dk_180 0 48 (dk_at dksX1_becomes_3 8 rfl rfl)
theorem dX1_becomes_82 : decode cX1_becomes 82 = .ok (.putfield 48, 3) := dk_181 0 48 (dk_at dksX1_becomes_3 11 rfl rfl)
theorem dX1_becomes_85 : decode cX1_becomes 85 = .ok (.aload_n 0, 1) := dk_42 (dk_at dksX1_becomes_3 14 rfl rfl)
theorem dX1_becomes_86 : decode cX1_becomes 86 = .ok (.aload_n 1, 1) := dk_43 (dk_at dksX1_becomes_3 15 rfl rfl)
theorem dX1_becomes_87 : decode cX1_becomes 87 = .ok (.getfield 51, 3) := dk_180 0 51 (dk_at dksX1_becomes_3 16 rfl rfl)
theorem dX1_becomes_90 : decode cX1_becomes 90 = .ok (.putfield 51, 3) := dk_181 0 51 (dk_at dksX1_becomes_3 19 rfl rfl)
theorem dX1_becomes_93 : decode cX1_becomes 93 = .ok (.aload_n 0, 1) := dk_42 (dk_at dksX1_becomes_3 22 rfl rfl)
theorem dX1_becomes_94 : decode cX1_becomes 94 = .ok (.aload_n 1, 1) := dk_43 (dk_at dksX1_becomes_3 23 rfl rfl)
theorem dX1_becomes_95 : decode cX1_becomes 95 = .ok (.getfield 25, 3) := dk_180 0 25 (dk_at dksX1_becomes_4 0 rfl rfl)
theorem dX1_becomes_98 : decode cX1_becomes 98 = .ok (.putfield 25, 3) := dk_181 0 25 (dk_at dksX1_becomes_4 3 rfl rfl)
theorem dX1_becomes_101 : decode cX1_becomes 101 = .ok (.aload_n 0, 1) := dk_42 (dk_at dksX1_becomes_4 6 rfl rfl)
theorem dX1_becomes_102 : decode cX1_becomes 102 = .ok (.areturn, 1) := dk_176 (dk_at dksX1_becomes_4 7 rfl rfl)
abbrev cX1_meets : ByteArray := prog_15_method_10_code
def yX1_meets : MethodName := ⟨RX1, "meets", "(I)I"⟩
def dkwX1_meets_3 : List UInt8 := [132, 3, 1, 167, 255, 186, 28, 172]
abbrev dktX1_meets_3 : List UInt8 := dkwX1_meets_3 ++ []
def dkwX1_meets_2 : List UInt8 := [160, 0, 7, 4, 167, 0, 4, 3, 96, 61, 42, 29, 21, 4, 3, 182, 0, 54, 132, 4, 1, 167, 255, 203]
abbrev dktX1_meets_2 : List UInt8 := dkwX1_meets_2 ++ dktX1_meets_3
def dkwX1_meets_1 : List UInt8 := [184, 0, 66, 153, 0, 39, 27, 21, 4, 184, 0, 66, 153, 0, 30, 28, 42, 29, 21, 4, 182, 0, 70, 2]
abbrev dktX1_meets_1 : List UInt8 := dkwX1_meets_1 ++ dktX1_meets_2
def dkwX1_meets_0 : List UInt8 := [3, 61, 3, 62, 29, 42, 180, 0, 39, 162, 0, 68, 3, 54, 4, 21, 4, 29, 162, 0, 53, 27, 29]
abbrev dktX1_meets_0 : List UInt8 := dkwX1_meets_0 ++ dktX1_meets_1
theorem dksX1_meets_0 : cX1_meets.data.toList.drop 0 = dktX1_meets_0 := by decide +kernel
theorem dksX1_meets_1 : cX1_meets.data.toList.drop 23 = dktX1_meets_1 := dk_seg dksX1_meets_0 23 rfl rfl
theorem dksX1_meets_2 : cX1_meets.data.toList.drop 47 = dktX1_meets_2 := dk_seg dksX1_meets_1 24 rfl rfl
theorem dksX1_meets_3 : cX1_meets.data.toList.drop 71 = dktX1_meets_3 := dk_seg dksX1_meets_2 24 rfl rfl
theorem dX1_meets_0 : decode cX1_meets 0 = .ok (.iconst 0, 1) := dk_3 (dk_at dksX1_meets_0 0 rfl rfl)
theorem dX1_meets_1 : decode cX1_meets 1 = .ok (.istore_n 2, 1) := dk_61 (dk_at dksX1_meets_0 1 rfl rfl)
theorem dX1_meets_2 : decode cX1_meets 2 = .ok (.iconst 0, 1) := dk_3 (dk_at dksX1_meets_0 2 rfl rfl)
theorem dX1_meets_3 : decode cX1_meets 3 = .ok (.istore_n 3, 1) := dk_62 (dk_at dksX1_meets_0 3 rfl rfl)
theorem dX1_meets_4 : decode cX1_meets 4 = .ok (.iload_n 3, 1) := dk_29 (dk_at dksX1_meets_0 4 rfl rfl)
theorem dX1_meets_5 : decode cX1_meets 5 = .ok (.aload_n 0, 1) := dk_42 (dk_at dksX1_meets_0 5 rfl rfl)
theorem dX1_meets_6 : decode cX1_meets 6 = .ok (.getfield 39, 3) := dk_180 0 39 (dk_at dksX1_meets_0 6 rfl rfl)
theorem dX1_meets_9 : decode cX1_meets 9 = .ok (.if_icmp .ge 68, 3) := dk_162 0 68 (dk_at dksX1_meets_0 9 rfl rfl)
theorem dX1_meets_12 : decode cX1_meets 12 = .ok (.iconst 0, 1) := dk_3 (dk_at dksX1_meets_0 12 rfl rfl)
theorem dX1_meets_13 : decode cX1_meets 13 = .ok (.istore 4, 2) := dk_54 4 (dk_at dksX1_meets_0 13 rfl rfl)
theorem dX1_meets_15 : decode cX1_meets 15 = .ok (.iload 4, 2) := dk_21 4 (dk_at dksX1_meets_0 15 rfl rfl)
theorem dX1_meets_17 : decode cX1_meets 17 = .ok (.iload_n 3, 1) := dk_29 (dk_at dksX1_meets_0 17 rfl rfl)
theorem dX1_meets_18 : decode cX1_meets 18 = .ok (.if_icmp .ge 53, 3) := dk_162 0 53 (dk_at dksX1_meets_0 18 rfl rfl)
theorem dX1_meets_21 : decode cX1_meets 21 = .ok (.iload_n 1, 1) := dk_27 (dk_at dksX1_meets_0 21 rfl rfl)
theorem dX1_meets_22 : decode cX1_meets 22 = .ok (.iload_n 3, 1) := dk_29 (dk_at dksX1_meets_0 22 rfl rfl)
theorem dX1_meets_23 : decode cX1_meets 23 = .ok (.invokestatic 66, 3) := dk_184 0 66 (dk_at dksX1_meets_1 0 rfl rfl)
theorem dX1_meets_26 : decode cX1_meets 26 = .ok (.ifCond .eq 39, 3) := dk_153 0 39 (dk_at dksX1_meets_1 3 rfl rfl)
theorem dX1_meets_29 : decode cX1_meets 29 = .ok (.iload_n 1, 1) := dk_27 (dk_at dksX1_meets_1 6 rfl rfl)
theorem dX1_meets_30 : decode cX1_meets 30 = .ok (.iload 4, 2) := dk_21 4 (dk_at dksX1_meets_1 7 rfl rfl)
theorem dX1_meets_32 : decode cX1_meets 32 = .ok (.invokestatic 66, 3) := dk_184 0 66 (dk_at dksX1_meets_1 9 rfl rfl)
theorem dX1_meets_35 : decode cX1_meets 35 = .ok (.ifCond .eq 30, 3) := dk_153 0 30 (dk_at dksX1_meets_1 12 rfl rfl)
theorem dX1_meets_38 : decode cX1_meets 38 = .ok (.iload_n 2, 1) := dk_28 (dk_at dksX1_meets_1 15 rfl rfl)
theorem dX1_meets_39 : decode cX1_meets 39 = .ok (.aload_n 0, 1) := dk_42 (dk_at dksX1_meets_1 16 rfl rfl)
theorem dX1_meets_40 : decode cX1_meets 40 = .ok (.iload_n 3, 1) := dk_29 (dk_at dksX1_meets_1 17 rfl rfl)
theorem dX1_meets_41 : decode cX1_meets 41 = .ok (.iload 4, 2) := dk_21 4 (dk_at dksX1_meets_1 18 rfl rfl)
theorem dX1_meets_43 : decode cX1_meets 43 = .ok (.invokevirtual 70, 3) := dk_182 0 70 (dk_at dksX1_meets_1 20 rfl rfl)
theorem dX1_meets_46 : decode cX1_meets 46 = .ok (.iconst (-1), 1) := dk_2 (dk_at dksX1_meets_1 23 rfl rfl)
theorem dX1_meets_47 : decode cX1_meets 47 = .ok (.if_icmp .ne 7, 3) := dk_160 0 7 (dk_at dksX1_meets_2 0 rfl rfl)
theorem dX1_meets_50 : decode cX1_meets 50 = .ok (.iconst 1, 1) := dk_4 (dk_at dksX1_meets_2 3 rfl rfl)
theorem dX1_meets_51 : decode cX1_meets 51 = .ok (.goto 4, 3) := dk_167 0 4 (dk_at dksX1_meets_2 4 rfl rfl)
theorem dX1_meets_54 : decode cX1_meets 54 = .ok (.iconst 0, 1) := dk_3 (dk_at dksX1_meets_2 7 rfl rfl)
theorem dX1_meets_55 : decode cX1_meets 55 = .ok (.iadd, 1) := dk_96 (dk_at dksX1_meets_2 8 rfl rfl)
theorem dX1_meets_56 : decode cX1_meets 56 = .ok (.istore_n 2, 1) := dk_61 (dk_at dksX1_meets_2 9 rfl rfl)
theorem dX1_meets_57 : decode cX1_meets 57 = .ok (.aload_n 0, 1) := dk_42 (dk_at dksX1_meets_2 10 rfl rfl)
theorem dX1_meets_58 : decode cX1_meets 58 = .ok (.iload_n 3, 1) := dk_29 (dk_at dksX1_meets_2 11 rfl rfl)
theorem dX1_meets_59 : decode cX1_meets 59 = .ok (.iload 4, 2) := dk_21 4 (dk_at dksX1_meets_2 12 rfl rfl)
theorem dX1_meets_61 : decode cX1_meets 61 = .ok (.iconst 0, 1) := dk_3 (dk_at dksX1_meets_2 14 rfl rfl)
theorem dX1_meets_62 : decode cX1_meets 62 = .ok (.invokevirtual 54, 3) := dk_182 0 54 (dk_at dksX1_meets_2 15 rfl rfl)
theorem dX1_meets_65 : decode cX1_meets 65 = .ok (.iinc 4 1, 3) := dk_132 4 1 (dk_at dksX1_meets_2 18 rfl rfl)
theorem dX1_meets_68 : decode cX1_meets 68 = .ok (.goto (-53), 3) := dk_167 255 203 (dk_at dksX1_meets_2 21 rfl rfl)
theorem dX1_meets_71 : decode cX1_meets 71 = .ok (.iinc 3 1, 3) := dk_132 3 1 (dk_at dksX1_meets_3 0 rfl rfl)
theorem dX1_meets_74 : decode cX1_meets 74 = .ok (.goto (-70), 3) := dk_167 255 186 (dk_at dksX1_meets_3 3 rfl rfl)
theorem dX1_meets_77 : decode cX1_meets 77 = .ok (.iload_n 2, 1) := dk_28 (dk_at dksX1_meets_3 6 rfl rfl)
theorem dX1_meets_78 : decode cX1_meets 78 = .ok (.ireturn, 1) := dk_172 (dk_at dksX1_meets_3 7 rfl rfl)
abbrev cX1_isSet : ByteArray := prog_15_method_7_code
def yX1_isSet : MethodName := ⟨RX1, "isSet", "(I)Z"⟩
def dkwX1_isSet_0 : List UInt8 := [27, 3, 42, 182, 0, 62, 184, 0, 58, 172]
abbrev dktX1_isSet_0 : List UInt8 := dkwX1_isSet_0 ++ []
theorem dksX1_isSet_0 : cX1_isSet.data.toList.drop 0 = dktX1_isSet_0 := by decide +kernel
theorem dX1_isSet_0 : decode cX1_isSet 0 = .ok (.iload_n 1, 1) := dk_27 (dk_at dksX1_isSet_0 0 rfl rfl)
theorem dX1_isSet_1 : decode cX1_isSet 1 = .ok (.iconst 0, 1) := dk_3 (dk_at dksX1_isSet_0 1 rfl rfl)
theorem dX1_isSet_2 : decode cX1_isSet 2 = .ok (.aload_n 0, 1) := dk_42 (dk_at dksX1_isSet_0 2 rfl rfl)
theorem dX1_isSet_3 : decode cX1_isSet 3 = .ok (.invokevirtual 62, 3) := dk_182 0 62 (dk_at dksX1_isSet_0 3 rfl rfl)
theorem dX1_isSet_6 : decode cX1_isSet 6 = .ok (.invokestatic 58, 3) := dk_184 0 58 (dk_at dksX1_isSet_0 6 rfl rfl)
theorem dX1_isSet_9 : decode cX1_isSet 9 = .ok (.ireturn, 1) := dk_172 (dk_at dksX1_isSet_0 9 rfl rfl)
abbrev cX1_year : ByteArray := prog_15_method_13_code
def yX1_year : MethodName := ⟨RX1, "year", "()I"⟩
def dkwX1_year_5 : List UInt8 := [180, 0, 51, 4, 96, 181, 0, 51, 27, 172]
abbrev dktX1_year_5 : List UInt8 := dkwX1_year_5 ++ []
def dkwX1_year_4 : List UInt8 := [153, 0, 7, 4, 167, 0, 4, 3, 96, 60, 132, 3, 1, 167, 255, 167, 132, 2, 1, 167, 255, 151, 42, 89]
abbrev dktX1_year_4 : List UInt8 := dkwX1_year_4 ++ dktX1_year_5
def dkwX1_year_3 : List UInt8 := [54, 6, 42, 28, 29, 21, 6, 153, 0, 7, 2, 167, 0, 5, 21, 5, 182, 0, 54, 27, 21, 6]
abbrev dktX1_year_3 : List UInt8 := dkwX1_year_3 ++ dktX1_year_4
def dkwX1_year_2 : List UInt8 := [54, 5, 42, 180, 0, 42, 158, 0, 16, 21, 5, 42, 180, 0, 42, 164, 0, 7, 4, 167, 0, 4, 3]
abbrev dktX1_year_2 : List UInt8 := dkwX1_year_2 ++ dktX1_year_3
def dkwX1_year_1 : List UInt8 := [182, 0, 70, 54, 4, 21, 4, 2, 160, 0, 6, 167, 0, 67, 16, 99, 21, 4, 4, 96, 184, 0, 82]
abbrev dktX1_year_1 : List UInt8 := dkwX1_year_1 ++ dktX1_year_2
def dkwX1_year_0 : List UInt8 := [3, 60, 3, 61, 28, 42, 180, 0, 39, 162, 0, 103, 3, 62, 29, 28, 162, 0, 90, 42, 28, 29]
abbrev dktX1_year_0 : List UInt8 := dkwX1_year_0 ++ dktX1_year_1
theorem dksX1_year_0 : cX1_year.data.toList.drop 0 = dktX1_year_0 := by decide +kernel
theorem dksX1_year_1 : cX1_year.data.toList.drop 22 = dktX1_year_1 := dk_seg dksX1_year_0 22 rfl rfl
theorem dksX1_year_2 : cX1_year.data.toList.drop 45 = dktX1_year_2 := dk_seg dksX1_year_1 23 rfl rfl
theorem dksX1_year_3 : cX1_year.data.toList.drop 68 = dktX1_year_3 := dk_seg dksX1_year_2 23 rfl rfl
theorem dksX1_year_4 : cX1_year.data.toList.drop 90 = dktX1_year_4 := dk_seg dksX1_year_3 22 rfl rfl
theorem dksX1_year_5 : cX1_year.data.toList.drop 114 = dktX1_year_5 := dk_seg dksX1_year_4 24 rfl rfl
theorem dX1_year_0 : decode cX1_year 0 = .ok (.iconst 0, 1) := dk_3 (dk_at dksX1_year_0 0 rfl rfl)
theorem dX1_year_1 : decode cX1_year 1 = .ok (.istore_n 1, 1) := dk_60 (dk_at dksX1_year_0 1 rfl rfl)
theorem dX1_year_2 : decode cX1_year 2 = .ok (.iconst 0, 1) := dk_3 (dk_at dksX1_year_0 2 rfl rfl)
theorem dX1_year_3 : decode cX1_year 3 = .ok (.istore_n 2, 1) := dk_61 (dk_at dksX1_year_0 3 rfl rfl)
theorem dX1_year_4 : decode cX1_year 4 = .ok (.iload_n 2, 1) := dk_28 (dk_at dksX1_year_0 4 rfl rfl)
theorem dX1_year_5 : decode cX1_year 5 = .ok (.aload_n 0, 1) := dk_42 (dk_at dksX1_year_0 5 rfl rfl)
theorem dX1_year_6 : decode cX1_year 6 = .ok (.getfield 39, 3) := dk_180 0 39 (dk_at dksX1_year_0 6 rfl rfl)
theorem dX1_year_9 : decode cX1_year 9 = .ok (.if_icmp .ge 103, 3) := dk_162 0 103 (dk_at dksX1_year_0 9 rfl rfl)
theorem dX1_year_12 : decode cX1_year 12 = .ok (.iconst 0, 1) := dk_3 (dk_at dksX1_year_0 12 rfl rfl)
theorem dX1_year_13 : decode cX1_year 13 = .ok (.istore_n 3, 1) := dk_62 (dk_at dksX1_year_0 13 rfl rfl)
theorem dX1_year_14 : decode cX1_year 14 = .ok (.iload_n 3, 1) := dk_29 (dk_at dksX1_year_0 14 rfl rfl)
theorem dX1_year_15 : decode cX1_year 15 = .ok (.iload_n 2, 1) := dk_28 (dk_at dksX1_year_0 15 rfl rfl)
theorem dX1_year_16 : decode cX1_year 16 = .ok (.if_icmp .ge 90, 3) := dk_162 0 90 (dk_at dksX1_year_0 16 rfl rfl)
theorem dX1_year_19 : decode cX1_year 19 = .ok (.aload_n 0, 1) := dk_42 (dk_at dksX1_year_0 19 rfl rfl)
theorem dX1_year_20 : decode cX1_year 20 = .ok (.iload_n 2, 1) := dk_28 (dk_at dksX1_year_0 20 rfl rfl)
theorem dX1_year_21 : decode cX1_year 21 = .ok (.iload_n 3, 1) := dk_29 (dk_at dksX1_year_0 21 rfl rfl)
theorem dX1_year_22 : decode cX1_year 22 = .ok (.invokevirtual 70, 3) := dk_182 0 70 (dk_at dksX1_year_1 0 rfl rfl)
theorem dX1_year_25 : decode cX1_year 25 = .ok (.istore 4, 2) := dk_54 4 (dk_at dksX1_year_1 3 rfl rfl)
theorem dX1_year_27 : decode cX1_year 27 = .ok (.iload 4, 2) := dk_21 4 (dk_at dksX1_year_1 5 rfl rfl)
theorem dX1_year_29 : decode cX1_year 29 = .ok (.iconst (-1), 1) := dk_2 (dk_at dksX1_year_1 7 rfl rfl)
theorem dX1_year_30 : decode cX1_year 30 = .ok (.if_icmp .ne 6, 3) := dk_160 0 6 (dk_at dksX1_year_1 8 rfl rfl)
theorem dX1_year_33 : decode cX1_year 33 = .ok (.goto 67, 3) := dk_167 0 67 (dk_at dksX1_year_1 11 rfl rfl)
theorem dX1_year_36 : decode cX1_year 36 = .ok (.bipush 99, 2) := dk_16 99 (dk_at dksX1_year_1 14 rfl rfl)
theorem dX1_year_38 : decode cX1_year 38 = .ok (.iload 4, 2) := dk_21 4 (dk_at dksX1_year_1 16 rfl rfl)
theorem dX1_year_40 : decode cX1_year 40 = .ok (.iconst 1, 1) := dk_4 (dk_at dksX1_year_1 18 rfl rfl)
theorem dX1_year_41 : decode cX1_year 41 = .ok (.iadd, 1) := dk_96 (dk_at dksX1_year_1 19 rfl rfl)
theorem dX1_year_42 : decode cX1_year 42 = .ok (.invokestatic 82, 3) := dk_184 0 82 (dk_at dksX1_year_1 20 rfl rfl)
theorem dX1_year_45 : decode cX1_year 45 = .ok (.istore 5, 2) := dk_54 5 (dk_at dksX1_year_2 0 rfl rfl)
theorem dX1_year_47 : decode cX1_year 47 = .ok (.aload_n 0, 1) := dk_42 (dk_at dksX1_year_2 2 rfl rfl)
theorem dX1_year_48 : decode cX1_year 48 = .ok (.getfield 42, 3) := dk_180 0 42 (dk_at dksX1_year_2 3 rfl rfl)
theorem dX1_year_51 : decode cX1_year 51 = .ok (.ifCond .le 16, 3) := dk_158 0 16 (dk_at dksX1_year_2 6 rfl rfl)
theorem dX1_year_54 : decode cX1_year 54 = .ok (.iload 5, 2) := dk_21 5 (dk_at dksX1_year_2 9 rfl rfl)
theorem dX1_year_56 : decode cX1_year 56 = .ok (.aload_n 0, 1) := dk_42 (dk_at dksX1_year_2 11 rfl rfl)
theorem dX1_year_57 : decode cX1_year 57 = .ok (.getfield 42, 3) := dk_180 0 42 (dk_at dksX1_year_2 12 rfl rfl)
theorem dX1_year_60 : decode cX1_year 60 = .ok (.if_icmp .le 7, 3) := dk_164 0 7 (dk_at dksX1_year_2 15 rfl rfl)
theorem dX1_year_63 : decode cX1_year 63 = .ok (.iconst 1, 1) := dk_4 (dk_at dksX1_year_2 18 rfl rfl)
theorem dX1_year_64 : decode cX1_year 64 = .ok (.goto 4, 3) := dk_167 0 4 (dk_at dksX1_year_2 19 rfl rfl)
theorem dX1_year_67 : decode cX1_year 67 = .ok (.iconst 0, 1) := dk_3 (dk_at dksX1_year_2 22 rfl rfl)
theorem dX1_year_68 : decode cX1_year 68 = .ok (.istore 6, 2) := dk_54 6 (dk_at dksX1_year_3 0 rfl rfl)
theorem dX1_year_70 : decode cX1_year 70 = .ok (.aload_n 0, 1) := dk_42 (dk_at dksX1_year_3 2 rfl rfl)
theorem dX1_year_71 : decode cX1_year 71 = .ok (.iload_n 2, 1) := dk_28 (dk_at dksX1_year_3 3 rfl rfl)
theorem dX1_year_72 : decode cX1_year 72 = .ok (.iload_n 3, 1) := dk_29 (dk_at dksX1_year_3 4 rfl rfl)
theorem dX1_year_73 : decode cX1_year 73 = .ok (.iload 6, 2) := dk_21 6 (dk_at dksX1_year_3 5 rfl rfl)
theorem dX1_year_75 : decode cX1_year 75 = .ok (.ifCond .eq 7, 3) := dk_153 0 7 (dk_at dksX1_year_3 7 rfl rfl)
theorem dX1_year_78 : decode cX1_year 78 = .ok (.iconst (-1), 1) := dk_2 (dk_at dksX1_year_3 10 rfl rfl)
theorem dX1_year_79 : decode cX1_year 79 = .ok (.goto 5, 3) := dk_167 0 5 (dk_at dksX1_year_3 11 rfl rfl)
theorem dX1_year_82 : decode cX1_year 82 = .ok (.iload 5, 2) := dk_21 5 (dk_at dksX1_year_3 14 rfl rfl)
theorem dX1_year_84 : decode cX1_year 84 = .ok (.invokevirtual 54, 3) := dk_182 0 54 (dk_at dksX1_year_3 16 rfl rfl)
theorem dX1_year_87 : decode cX1_year 87 = .ok (.iload_n 1, 1) := dk_27 (dk_at dksX1_year_3 19 rfl rfl)
theorem dX1_year_88 : decode cX1_year 88 = .ok (.iload 6, 2) := dk_21 6 (dk_at dksX1_year_3 20 rfl rfl)
theorem dX1_year_90 : decode cX1_year 90 = .ok (.ifCond .eq 7, 3) := dk_153 0 7 (dk_at dksX1_year_4 0 rfl rfl)
theorem dX1_year_93 : decode cX1_year 93 = .ok (.iconst 1, 1) := dk_4 (dk_at dksX1_year_4 3 rfl rfl)
theorem dX1_year_94 : decode cX1_year 94 = .ok (.goto 4, 3) := dk_167 0 4 (dk_at dksX1_year_4 4 rfl rfl)
theorem dX1_year_97 : decode cX1_year 97 = .ok (.iconst 0, 1) := dk_3 (dk_at dksX1_year_4 7 rfl rfl)
theorem dX1_year_98 : decode cX1_year 98 = .ok (.iadd, 1) := dk_96 (dk_at dksX1_year_4 8 rfl rfl)
theorem dX1_year_99 : decode cX1_year 99 = .ok (.istore_n 1, 1) := dk_60 (dk_at dksX1_year_4 9 rfl rfl)
theorem dX1_year_100 : decode cX1_year 100 = .ok (.iinc 3 1, 3) := dk_132 3 1 (dk_at dksX1_year_4 10 rfl rfl)
theorem dX1_year_103 : decode cX1_year 103 = .ok (.goto (-89), 3) := dk_167 255 167 (dk_at dksX1_year_4 13 rfl rfl)
theorem dX1_year_106 : decode cX1_year 106 = .ok (.iinc 2 1, 3) := dk_132 2 1 (dk_at dksX1_year_4 16 rfl rfl)
theorem dX1_year_109 : decode cX1_year 109 = .ok (.goto (-105), 3) := dk_167 255 151 (dk_at dksX1_year_4 19 rfl rfl)
theorem dX1_year_112 : decode cX1_year 112 = .ok (.aload_n 0, 1) := dk_42 (dk_at dksX1_year_4 22 rfl rfl)
theorem dX1_year_113 : decode cX1_year 113 = .ok (.dup, 1) := dk_89 (dk_at dksX1_year_4 23 rfl rfl)
theorem dX1_year_114 : decode cX1_year 114 = .ok (.getfield 51, 3) := dk_180 0 51 (dk_at dksX1_year_5 0 rfl rfl)
theorem dX1_year_117 : decode cX1_year 117 = .ok (.iconst 1, 1) := dk_4 (dk_at dksX1_year_5 3 rfl rfl)
theorem dX1_year_118 : decode cX1_year 118 = .ok (.iadd, 1) := dk_96 (dk_at dksX1_year_5 4 rfl rfl)
theorem dX1_year_119 : decode cX1_year 119 = .ok (.putfield 51, 3) := dk_181 0 51 (dk_at dksX1_year_5 5 rfl rfl)
theorem dX1_year_122 : decode cX1_year 122 = .ok (.iload_n 1, 1) := dk_27 (dk_at dksX1_year_5 8 rfl rfl)
theorem dX1_year_123 : decode cX1_year 123 = .ok (.ireturn, 1) := dk_172 (dk_at dksX1_year_5 9 rfl rfl)
abbrev cX1_draw : ByteArray := prog_15_method_14_code
def yX1_draw : MethodName := ⟨RX1, "draw", "(I)I"⟩
def dkwX1_draw_1 : List UInt8 := [172]
abbrev dktX1_draw_1 : List UInt8 := dkwX1_draw_1 ++ []
def dkwX1_draw_0 : List UInt8 := [42, 42, 180, 0, 25, 18, 87, 104, 17, 48, 57, 96, 181, 0, 25, 42, 180, 0, 25, 16, 16, 124, 27, 112]
abbrev dktX1_draw_0 : List UInt8 := dkwX1_draw_0 ++ dktX1_draw_1
theorem dksX1_draw_0 : cX1_draw.data.toList.drop 0 = dktX1_draw_0 := by decide +kernel
theorem dksX1_draw_1 : cX1_draw.data.toList.drop 24 = dktX1_draw_1 := dk_seg dksX1_draw_0 24 rfl rfl
theorem dX1_draw_0 : decode cX1_draw 0 = .ok (.aload_n 0, 1) := dk_42 (dk_at dksX1_draw_0 0 rfl rfl)
theorem dX1_draw_1 : decode cX1_draw 1 = .ok (.aload_n 0, 1) := dk_42 (dk_at dksX1_draw_0 1 rfl rfl)
theorem dX1_draw_2 : decode cX1_draw 2 = .ok (.getfield 25, 3) := dk_180 0 25 (dk_at dksX1_draw_0 2 rfl rfl)
theorem dX1_draw_5 : decode cX1_draw 5 = .ok (.ldc 87, 2) := dk_18 87 (dk_at dksX1_draw_0 5 rfl rfl)
theorem dX1_draw_7 : decode cX1_draw 7 = .ok (.imul, 1) := dk_104 (dk_at dksX1_draw_0 7 rfl rfl)
theorem dX1_draw_8 : decode cX1_draw 8 = .ok (.sipush 12345, 3) := dk_17 48 57 (dk_at dksX1_draw_0 8 rfl rfl)
theorem dX1_draw_11 : decode cX1_draw 11 = .ok (.iadd, 1) := dk_96 (dk_at dksX1_draw_0 11 rfl rfl)
theorem dX1_draw_12 : decode cX1_draw 12 = .ok (.putfield 25, 3) := dk_181 0 25 (dk_at dksX1_draw_0 12 rfl rfl)
theorem dX1_draw_15 : decode cX1_draw 15 = .ok (.aload_n 0, 1) := dk_42 (dk_at dksX1_draw_0 15 rfl rfl)
theorem dX1_draw_16 : decode cX1_draw 16 = .ok (.getfield 25, 3) := dk_180 0 25 (dk_at dksX1_draw_0 16 rfl rfl)
theorem dX1_draw_19 : decode cX1_draw 19 = .ok (.bipush 16, 2) := dk_16 16 (dk_at dksX1_draw_0 19 rfl rfl)
theorem dX1_draw_21 : decode cX1_draw 21 = .ok (.iushr, 1) := dk_124 (dk_at dksX1_draw_0 21 rfl rfl)
theorem dX1_draw_22 : decode cX1_draw 22 = .ok (.iload_n 1, 1) := dk_27 (dk_at dksX1_draw_0 22 rfl rfl)
theorem dX1_draw_23 : decode cX1_draw 23 = .ok (.irem, 1) := dk_112 (dk_at dksX1_draw_0 23 rfl rfl)
theorem dX1_draw_24 : decode cX1_draw 24 = .ok (.ireturn, 1) := dk_172 (dk_at dksX1_draw_1 0 rfl rfl)
abbrev cX1_strange : ByteArray := prog_15_method_12_code
def yX1_strange : MethodName := ⟨RX1, "strange", "()I"⟩
def dkwX1_strange_1 : List UInt8 := [132, 2, 1, 167, 255, 234, 27, 5, 108, 172]
abbrev dktX1_strange_1 : List UInt8 := dkwX1_strange_1 ++ []
def dkwX1_strange_0 : List UInt8 := [3, 60, 3, 61, 28, 42, 180, 0, 39, 162, 0, 20, 27, 42, 28, 182, 0, 73, 184, 0, 77, 96, 60]
abbrev dktX1_strange_0 : List UInt8 := dkwX1_strange_0 ++ dktX1_strange_1
theorem dksX1_strange_0 : cX1_strange.data.toList.drop 0 = dktX1_strange_0 := by decide +kernel
theorem dksX1_strange_1 : cX1_strange.data.toList.drop 23 = dktX1_strange_1 := dk_seg dksX1_strange_0 23 rfl rfl
theorem dX1_strange_0 : decode cX1_strange 0 = .ok (.iconst 0, 1) := dk_3 (dk_at dksX1_strange_0 0 rfl rfl)
theorem dX1_strange_1 : decode cX1_strange 1 = .ok (.istore_n 1, 1) := dk_60 (dk_at dksX1_strange_0 1 rfl rfl)
theorem dX1_strange_2 : decode cX1_strange 2 = .ok (.iconst 0, 1) := dk_3 (dk_at dksX1_strange_0 2 rfl rfl)
theorem dX1_strange_3 : decode cX1_strange 3 = .ok (.istore_n 2, 1) := dk_61 (dk_at dksX1_strange_0 3 rfl rfl)
theorem dX1_strange_4 : decode cX1_strange 4 = .ok (.iload_n 2, 1) := dk_28 (dk_at dksX1_strange_0 4 rfl rfl)
theorem dX1_strange_5 : decode cX1_strange 5 = .ok (.aload_n 0, 1) := dk_42 (dk_at dksX1_strange_0 5 rfl rfl)
theorem dX1_strange_6 : decode cX1_strange 6 = .ok (.getfield 39, 3) := dk_180 0 39 (dk_at dksX1_strange_0 6 rfl rfl)
theorem dX1_strange_9 : decode cX1_strange 9 = .ok (.if_icmp .ge 20, 3) := dk_162 0 20 (dk_at dksX1_strange_0 9 rfl rfl)
theorem dX1_strange_12 : decode cX1_strange 12 = .ok (.iload_n 1, 1) := dk_27 (dk_at dksX1_strange_0 12 rfl rfl)
theorem dX1_strange_13 : decode cX1_strange 13 = .ok (.aload_n 0, 1) := dk_42 (dk_at dksX1_strange_0 13 rfl rfl)
theorem dX1_strange_14 : decode cX1_strange 14 = .ok (.iload_n 2, 1) := dk_28 (dk_at dksX1_strange_0 14 rfl rfl)
theorem dX1_strange_15 : decode cX1_strange 15 = .ok (.invokevirtual 73, 3) := dk_182 0 73 (dk_at dksX1_strange_0 15 rfl rfl)
theorem dX1_strange_18 : decode cX1_strange 18 = .ok (.invokestatic 77, 3) := dk_184 0 77 (dk_at dksX1_strange_0 18 rfl rfl)
theorem dX1_strange_21 : decode cX1_strange 21 = .ok (.iadd, 1) := dk_96 (dk_at dksX1_strange_0 21 rfl rfl)
theorem dX1_strange_22 : decode cX1_strange 22 = .ok (.istore_n 1, 1) := dk_60 (dk_at dksX1_strange_0 22 rfl rfl)
theorem dX1_strange_23 : decode cX1_strange 23 = .ok (.iinc 2 1, 3) := dk_132 2 1 (dk_at dksX1_strange_1 0 rfl rfl)
theorem dX1_strange_26 : decode cX1_strange 26 = .ok (.goto (-22), 3) := dk_167 255 234 (dk_at dksX1_strange_1 3 rfl rfl)
theorem dX1_strange_29 : decode cX1_strange 29 = .ok (.iload_n 1, 1) := dk_27 (dk_at dksX1_strange_1 6 rfl rfl)
theorem dX1_strange_30 : decode cX1_strange 30 = .ok (.iconst 2, 1) := dk_5 (dk_at dksX1_strange_1 7 rfl rfl)
theorem dX1_strange_31 : decode cX1_strange 31 = .ok (.idiv, 1) := dk_108 (dk_at dksX1_strange_1 8 rfl rfl)
theorem dX1_strange_32 : decode cX1_strange 32 = .ok (.ireturn, 1) := dk_172 (dk_at dksX1_strange_1 9 rfl rfl)
theorem q82 : (Jvm.Cond.initialized "ThreeStrangers$Town") ∈ lw_all := lw_g (lw_at lw_m1 2 rfl) rfl
theorem q126 : (Jvm.Cond.instantiable "ThreeStrangers$Town" (10 : Nat)) ∈ lw_all := lw_g (lw_at lw_m1 46 rfl) rfl
theorem q128 : (Jvm.Cond.instanceMethod ({ cls := "ThreeStrangers$Town", name := "<init>", desc := "()V" } : Jvm.MethodName)) ∈ lw_all := lw_g (lw_at lw_m1 48 rfl) rfl
theorem q129 : (Jvm.Cond.code ({ cls := "ThreeStrangers$Town", name := "<init>", desc := "()V" } : Jvm.MethodName) prog_15_method_1_code (1 : Nat) (Option.none : Option Jvm.ClassFile.FieldType)) ∈ lw_all := lw_g (lw_at lw_m1 49 rfl) rfl
theorem q130 : (Jvm.Cond.methodLink "ThreeStrangers$Town" (3 : Nat) ({ cls := "java/lang/Object", name := "<init>", desc := "()V" } : Jvm.MethodName)) ∈ lw_all := lw_g (lw_at lw_m1 50 rfl) rfl
theorem q131 : (Jvm.Cond.fieldLink "ThreeStrangers$Town" (9 : Nat) "ThreeStrangers$Town" "hour" "[I") ∈ lw_all := lw_g (lw_at lw_m1 51 rfl) rfl
theorem q134 : (Jvm.Cond.fieldLink "ThreeStrangers$Town" (15 : Nat) "ThreeStrangers$Town" "cost" "[I") ∈ lw_all := lw_g (lw_at lw_m1 54 rfl) rfl
theorem q138 : (Jvm.Cond.fieldLink "ThreeStrangers$Town" (18 : Nat) "ThreeStrangers$Town" "since" "[I") ∈ lw_all := lw_g (lw_at lw_m1 58 rfl) rfl
theorem q142 : (Jvm.Cond.fieldLink "ThreeStrangers$Town" (39 : Nat) "ThreeStrangers$Town" "people" "I") ∈ lw_all := lw_g (lw_at lw_m1 62 rfl) rfl
theorem q145 : (Jvm.Cond.fieldLink "ThreeStrangers$Town" (21 : Nat) "ThreeStrangers$Town" "seats" "I") ∈ lw_all := lw_g (lw_at lw_m1 65 rfl) rfl
theorem q149 : (Jvm.Cond.fieldLink "ThreeStrangers$Town" (42 : Nat) "ThreeStrangers$Town" "memory" "I") ∈ lw_all := lw_g (lw_at lw_m1 69 rfl) rfl
theorem q152 : (Jvm.Cond.fieldLink "ThreeStrangers$Town" (45 : Nat) "ThreeStrangers$Town" "coaches" "I") ∈ lw_all := lw_g (lw_at lw_m1 72 rfl) rfl
theorem q154 : (Jvm.Cond.fieldLink "ThreeStrangers$Town" (48 : Nat) "ThreeStrangers$Town" "days" "I") ∈ lw_all := lw_g (lw_at lw_m1 74 rfl) rfl
theorem q156 : (Jvm.Cond.fieldLink "ThreeStrangers$Town" (51 : Nat) "ThreeStrangers$Town" "years" "I") ∈ lw_all := lw_g (lw_at lw_m1 76 rfl) rfl
theorem q158 : (Jvm.Cond.fieldLink "ThreeStrangers$Town" (25 : Nat) "ThreeStrangers$Town" "seed" "I") ∈ lw_all := lw_g (lw_at lw_m1 78 rfl) rfl
theorem q160 : (Jvm.Cond.laysFinal "ThreeStrangers$Town" "ThreeStrangers$Town" "hour" "[I") ∈ lw_all := lw_g (lw_at lw_m1 80 rfl) rfl
theorem q161 : (Jvm.Cond.soleField "ThreeStrangers$Town" "hour") ∈ lw_all := lw_g (lw_at lw_m1 81 rfl) rfl
theorem q162 : (Jvm.Cond.laysFinal "ThreeStrangers$Town" "ThreeStrangers$Town" "cost" "[I") ∈ lw_all := lw_g (lw_at lw_m1 82 rfl) rfl
theorem q163 : (Jvm.Cond.soleField "ThreeStrangers$Town" "cost") ∈ lw_all := lw_g (lw_at lw_m1 83 rfl) rfl
theorem q164 : (Jvm.Cond.laysFinal "ThreeStrangers$Town" "ThreeStrangers$Town" "since" "[I") ∈ lw_all := lw_g (lw_at lw_m1 84 rfl) rfl
theorem q165 : (Jvm.Cond.soleField "ThreeStrangers$Town" "since") ∈ lw_all := lw_g (lw_at lw_m1 85 rfl) rfl
theorem q166 : (Jvm.Cond.lays "ThreeStrangers$Town" "ThreeStrangers$Town" "people" "I") ∈ lw_all := lw_g (lw_at lw_m1 86 rfl) rfl
theorem q167 : (Jvm.Cond.soleField "ThreeStrangers$Town" "people") ∈ lw_all := lw_g (lw_at lw_m1 87 rfl) rfl
theorem q168 : (Jvm.Cond.lays "ThreeStrangers$Town" "ThreeStrangers$Town" "seats" "I") ∈ lw_all := lw_g (lw_at lw_m1 88 rfl) rfl
theorem q169 : (Jvm.Cond.soleField "ThreeStrangers$Town" "seats") ∈ lw_all := lw_g (lw_at lw_m1 89 rfl) rfl
theorem q170 : (Jvm.Cond.lays "ThreeStrangers$Town" "ThreeStrangers$Town" "memory" "I") ∈ lw_all := lw_g (lw_at lw_m1 90 rfl) rfl
theorem q171 : (Jvm.Cond.soleField "ThreeStrangers$Town" "memory") ∈ lw_all := lw_g (lw_at lw_m1 91 rfl) rfl
theorem q172 : (Jvm.Cond.lays "ThreeStrangers$Town" "ThreeStrangers$Town" "coaches" "I") ∈ lw_all := lw_g (lw_at lw_m1 92 rfl) rfl
theorem q173 : (Jvm.Cond.soleField "ThreeStrangers$Town" "coaches") ∈ lw_all := lw_g (lw_at lw_m1 93 rfl) rfl
theorem q174 : (Jvm.Cond.lays "ThreeStrangers$Town" "ThreeStrangers$Town" "days" "I") ∈ lw_all := lw_g (lw_at lw_m1 94 rfl) rfl
theorem q175 : (Jvm.Cond.soleField "ThreeStrangers$Town" "days") ∈ lw_all := lw_g (lw_at lw_m1 95 rfl) rfl
theorem q176 : (Jvm.Cond.lays "ThreeStrangers$Town" "ThreeStrangers$Town" "years" "I") ∈ lw_all := lw_g (lw_at lw_m1 96 rfl) rfl
theorem q177 : (Jvm.Cond.soleField "ThreeStrangers$Town" "years") ∈ lw_all := lw_g (lw_at lw_m1 97 rfl) rfl
theorem q178 : (Jvm.Cond.lays "ThreeStrangers$Town" "ThreeStrangers$Town" "seed" "I") ∈ lw_all := lw_g (lw_at lw_m1 98 rfl) rfl
theorem q179 : (Jvm.Cond.soleField "ThreeStrangers$Town" "seed") ∈ lw_all := lw_g (lw_at lw_m1 99 rfl) rfl
theorem q180 : (Jvm.Cond.superclass "ThreeStrangers$Town" "java/lang/Object") ∈ lw_all := lw_g (lw_at lw_m1 100 rfl) rfl
theorem q635 : (Jvm.Cond.instanceMethod ({ cls := "ThreeStrangers$Town", name := "strangers", desc := "(I)I" } : Jvm.MethodName)) ∈ lw_all := lw_g (lw_at lw_m3 75 rfl) rfl
theorem q636 : (Jvm.Cond.selects "ThreeStrangers$Town" ({ cls := "ThreeStrangers$Town", name := "strangers", desc := "(I)I" } : Jvm.MethodName) ({ cls := "ThreeStrangers$Town", name := "strangers", desc := "(I)I" } : Jvm.MethodName)) ∈ lw_all := lw_g (lw_at lw_m3 76 rfl) rfl
theorem q637 : (Jvm.Cond.code ({ cls := "ThreeStrangers$Town", name := "strangers", desc := "(I)I" } : Jvm.MethodName) prog_15_method_11_code (4 : Nat) (Option.some Jvm.ClassFile.FieldType.int)) ∈ lw_all := lw_g (lw_at lw_m3 77 rfl) rfl
theorem q638 : (Jvm.Cond.methodLink "ThreeStrangers$Town" (70 : Nat) ({ cls := "ThreeStrangers$Town", name := "since", desc := "(II)I" } : Jvm.MethodName)) ∈ lw_all := lw_g (lw_at lw_m3 78 rfl) rfl
theorem q639 : (Jvm.Cond.instanceMethod ({ cls := "ThreeStrangers$Town", name := "since", desc := "(II)I" } : Jvm.MethodName)) ∈ lw_all := lw_g (lw_at lw_m3 79 rfl) rfl
theorem q640 : (Jvm.Cond.selects "ThreeStrangers$Town" ({ cls := "ThreeStrangers$Town", name := "since", desc := "(II)I" } : Jvm.MethodName) ({ cls := "ThreeStrangers$Town", name := "since", desc := "(II)I" } : Jvm.MethodName)) ∈ lw_all := lw_g (lw_at lw_m3 80 rfl) rfl
theorem q641 : (Jvm.Cond.code ({ cls := "ThreeStrangers$Town", name := "since", desc := "(II)I" } : Jvm.MethodName) prog_15_method_8_code (3 : Nat) (Option.some Jvm.ClassFile.FieldType.int)) ∈ lw_all := lw_g (lw_at lw_m3 81 rfl) rfl
theorem q643 : (Jvm.Cond.instanceMethod ({ cls := "ThreeStrangers$Town", name := "all", desc := "()I" } : Jvm.MethodName)) ∈ lw_all := lw_g (lw_at lw_m3 83 rfl) rfl
theorem q644 : (Jvm.Cond.selects "ThreeStrangers$Town" ({ cls := "ThreeStrangers$Town", name := "all", desc := "()I" } : Jvm.MethodName) ({ cls := "ThreeStrangers$Town", name := "all", desc := "()I" } : Jvm.MethodName)) ∈ lw_all := lw_g (lw_at lw_m3 84 rfl) rfl
theorem q645 : (Jvm.Cond.code ({ cls := "ThreeStrangers$Town", name := "all", desc := "()I" } : Jvm.MethodName) prog_15_method_6_code (1 : Nat) (Option.some Jvm.ClassFile.FieldType.int)) ∈ lw_all := lw_g (lw_at lw_m3 85 rfl) rfl
theorem q744 : (Jvm.Cond.instanceMethod ({ cls := "ThreeStrangers$Town", name := "adds", desc := "(II)I" } : Jvm.MethodName)) ∈ lw_all := lw_g (lw_at lw_m3 184 rfl) rfl
theorem q745 : (Jvm.Cond.selects "ThreeStrangers$Town" ({ cls := "ThreeStrangers$Town", name := "adds", desc := "(II)I" } : Jvm.MethodName) ({ cls := "ThreeStrangers$Town", name := "adds", desc := "(II)I" } : Jvm.MethodName)) ∈ lw_all := lw_g (lw_at lw_m3 185 rfl) rfl
theorem q746 : (Jvm.Cond.code ({ cls := "ThreeStrangers$Town", name := "adds", desc := "(II)I" } : Jvm.MethodName) prog_15_method_4_code (4 : Nat) (Option.some Jvm.ClassFile.FieldType.int)) ∈ lw_all := lw_g (lw_at lw_m3 186 rfl) rfl
theorem q747 : (Jvm.Cond.methodLink "ThreeStrangers$Town" (54 : Nat) ({ cls := "ThreeStrangers$Town", name := "knows", desc := "(III)V" } : Jvm.MethodName)) ∈ lw_all := lw_g (lw_at lw_m3 187 rfl) rfl
theorem q748 : (Jvm.Cond.instanceMethod ({ cls := "ThreeStrangers$Town", name := "knows", desc := "(III)V" } : Jvm.MethodName)) ∈ lw_all := lw_g (lw_at lw_m3 188 rfl) rfl
theorem q749 : (Jvm.Cond.selects "ThreeStrangers$Town" ({ cls := "ThreeStrangers$Town", name := "knows", desc := "(III)V" } : Jvm.MethodName) ({ cls := "ThreeStrangers$Town", name := "knows", desc := "(III)V" } : Jvm.MethodName)) ∈ lw_all := lw_g (lw_at lw_m3 189 rfl) rfl
theorem q750 : (Jvm.Cond.code ({ cls := "ThreeStrangers$Town", name := "knows", desc := "(III)V" } : Jvm.MethodName) prog_15_method_9_code (4 : Nat) (Option.none : Option Jvm.ClassFile.FieldType)) ∈ lw_all := lw_g (lw_at lw_m3 190 rfl) rfl
theorem q756 : (Jvm.Cond.instanceMethod ({ cls := "ThreeStrangers$Town", name := "isOne", desc := "(I)Z" } : Jvm.MethodName)) ∈ lw_all := lw_g (lw_at lw_m3 196 rfl) rfl
theorem q757 : (Jvm.Cond.selects "ThreeStrangers$Town" ({ cls := "ThreeStrangers$Town", name := "isOne", desc := "(I)Z" } : Jvm.MethodName) ({ cls := "ThreeStrangers$Town", name := "isOne", desc := "(I)Z" } : Jvm.MethodName)) ∈ lw_all := lw_g (lw_at lw_m3 197 rfl) rfl
theorem q758 : (Jvm.Cond.code ({ cls := "ThreeStrangers$Town", name := "isOne", desc := "(I)Z" } : Jvm.MethodName) prog_15_method_5_code (2 : Nat) (Option.some Jvm.ClassFile.FieldType.boolean)) ∈ lw_all := lw_g (lw_at lw_m3 198 rfl) rfl
theorem q759 : (Jvm.Cond.methodLinkNest "ThreeStrangers$Town" (58 : Nat) ({ cls := "ThreeStrangers", name := "isIn", desc := "(III)Z" } : Jvm.MethodName) "ThreeStrangers") ∈ lw_tbl := lw_at lw_m3 199 rfl
theorem q790 : (Jvm.Cond.instanceMethod ({ cls := "ThreeStrangers$Town", name := "copied", desc := "()LThreeStrangers$Town;" } : Jvm.MethodName)) ∈ lw_all := lw_g (lw_at lw_m3 230 rfl) rfl
theorem q791 : (Jvm.Cond.selects "ThreeStrangers$Town" ({ cls := "ThreeStrangers$Town", name := "copied", desc := "()LThreeStrangers$Town;" } : Jvm.MethodName) ({ cls := "ThreeStrangers$Town", name := "copied", desc := "()LThreeStrangers$Town;" } : Jvm.MethodName)) ∈ lw_all := lw_g (lw_at lw_m3 231 rfl) rfl
theorem q792 : (Jvm.Cond.code ({ cls := "ThreeStrangers$Town", name := "copied", desc := "()LThreeStrangers$Town;" } : Jvm.MethodName) prog_15_method_2_code (1 : Nat) (Option.some (Jvm.ClassFile.FieldType.object "ThreeStrangers$Town"))) ∈ lw_all := lw_g (lw_at lw_m3 232 rfl) rfl
theorem q793 : (Jvm.Cond.classLink "ThreeStrangers$Town" (10 : Nat) "ThreeStrangers$Town") ∈ lw_all := lw_g (lw_at lw_m3 233 rfl) rfl
theorem q794 : (Jvm.Cond.methodLink "ThreeStrangers$Town" (28 : Nat) ({ cls := "ThreeStrangers$Town", name := "<init>", desc := "()V" } : Jvm.MethodName)) ∈ lw_all := lw_g (lw_at lw_m3 234 rfl) rfl
theorem q795 : (Jvm.Cond.methodLink "ThreeStrangers$Town" (29 : Nat) ({ cls := "ThreeStrangers$Town", name := "becomes", desc := "(LThreeStrangers$Town;)LThreeStrangers$Town;" } : Jvm.MethodName)) ∈ lw_all := lw_g (lw_at lw_m3 235 rfl) rfl
theorem q796 : (Jvm.Cond.instanceMethod ({ cls := "ThreeStrangers$Town", name := "becomes", desc := "(LThreeStrangers$Town;)LThreeStrangers$Town;" } : Jvm.MethodName)) ∈ lw_all := lw_g (lw_at lw_m3 236 rfl) rfl
theorem q797 : (Jvm.Cond.selects "ThreeStrangers$Town" ({ cls := "ThreeStrangers$Town", name := "becomes", desc := "(LThreeStrangers$Town;)LThreeStrangers$Town;" } : Jvm.MethodName) ({ cls := "ThreeStrangers$Town", name := "becomes", desc := "(LThreeStrangers$Town;)LThreeStrangers$Town;" } : Jvm.MethodName)) ∈ lw_all := lw_g (lw_at lw_m3 237 rfl) rfl
theorem q798 : (Jvm.Cond.code ({ cls := "ThreeStrangers$Town", name := "becomes", desc := "(LThreeStrangers$Town;)LThreeStrangers$Town;" } : Jvm.MethodName) prog_15_method_3_code (2 : Nat) (Option.some (Jvm.ClassFile.FieldType.object "ThreeStrangers$Town"))) ∈ lw_all := lw_g (lw_at lw_m3 238 rfl) rfl
theorem q799 : (Jvm.Cond.methodLink "ThreeStrangers$Town" (33 : Nat) ({ cls := "java/lang/System", name := "arraycopy", desc := "(Ljava/lang/Object;ILjava/lang/Object;II)V" } : Jvm.MethodName)) ∈ lw_all := lw_g (lw_at lw_m3 239 rfl) rfl
theorem q1150 : (Jvm.Cond.instanceMethod ({ cls := "ThreeStrangers$Town", name := "meets", desc := "(I)I" } : Jvm.MethodName)) ∈ lw_all := lw_g (lw_at lw_m5 110 rfl) rfl
theorem q1151 : (Jvm.Cond.selects "ThreeStrangers$Town" ({ cls := "ThreeStrangers$Town", name := "meets", desc := "(I)I" } : Jvm.MethodName) ({ cls := "ThreeStrangers$Town", name := "meets", desc := "(I)I" } : Jvm.MethodName)) ∈ lw_all := lw_g (lw_at lw_m5 111 rfl) rfl
theorem q1152 : (Jvm.Cond.code ({ cls := "ThreeStrangers$Town", name := "meets", desc := "(I)I" } : Jvm.MethodName) prog_15_method_10_code (5 : Nat) (Option.some Jvm.ClassFile.FieldType.int)) ∈ lw_all := lw_g (lw_at lw_m5 112 rfl) rfl
theorem q1153 : (Jvm.Cond.methodLinkNest "ThreeStrangers$Town" (66 : Nat) ({ cls := "ThreeStrangers", name := "has", desc := "(II)Z" } : Jvm.MethodName) "ThreeStrangers") ∈ lw_tbl := lw_at lw_m5 113 rfl
theorem q1169 : (Jvm.Cond.instanceMethod ({ cls := "ThreeStrangers$Town", name := "isSet", desc := "(I)Z" } : Jvm.MethodName)) ∈ lw_all := lw_g (lw_at lw_m5 129 rfl) rfl
theorem q1170 : (Jvm.Cond.selects "ThreeStrangers$Town" ({ cls := "ThreeStrangers$Town", name := "isSet", desc := "(I)Z" } : Jvm.MethodName) ({ cls := "ThreeStrangers$Town", name := "isSet", desc := "(I)Z" } : Jvm.MethodName)) ∈ lw_all := lw_g (lw_at lw_m5 130 rfl) rfl
theorem q1171 : (Jvm.Cond.code ({ cls := "ThreeStrangers$Town", name := "isSet", desc := "(I)Z" } : Jvm.MethodName) prog_15_method_7_code (2 : Nat) (Option.some Jvm.ClassFile.FieldType.boolean)) ∈ lw_all := lw_g (lw_at lw_m5 131 rfl) rfl
theorem q1172 : (Jvm.Cond.methodLink "ThreeStrangers$Town" (62 : Nat) ({ cls := "ThreeStrangers$Town", name := "all", desc := "()I" } : Jvm.MethodName)) ∈ lw_all := lw_g (lw_at lw_m5 132 rfl) rfl
theorem q1429 : (Jvm.Cond.instanceMethod ({ cls := "ThreeStrangers$Town", name := "year", desc := "()I" } : Jvm.MethodName)) ∈ lw_all := lw_g (lw_at lw_m6 149 rfl) rfl
theorem q1430 : (Jvm.Cond.selects "ThreeStrangers$Town" ({ cls := "ThreeStrangers$Town", name := "year", desc := "()I" } : Jvm.MethodName) ({ cls := "ThreeStrangers$Town", name := "year", desc := "()I" } : Jvm.MethodName)) ∈ lw_all := lw_g (lw_at lw_m6 150 rfl) rfl
theorem q1431 : (Jvm.Cond.code ({ cls := "ThreeStrangers$Town", name := "year", desc := "()I" } : Jvm.MethodName) prog_15_method_13_code (7 : Nat) (Option.some Jvm.ClassFile.FieldType.int)) ∈ lw_all := lw_g (lw_at lw_m6 151 rfl) rfl
theorem q1432 : (Jvm.Cond.methodLink "ThreeStrangers$Town" (82 : Nat) ({ cls := "java/lang/Math", name := "min", desc := "(II)I" } : Jvm.MethodName)) ∈ lw_all := lw_g (lw_at lw_m6 152 rfl) rfl
theorem q1438 : (Jvm.Cond.instanceMethod ({ cls := "ThreeStrangers$Town", name := "draw", desc := "(I)I" } : Jvm.MethodName)) ∈ lw_all := lw_g (lw_at lw_m6 158 rfl) rfl
theorem q1439 : (Jvm.Cond.selects "ThreeStrangers$Town" ({ cls := "ThreeStrangers$Town", name := "draw", desc := "(I)I" } : Jvm.MethodName) ({ cls := "ThreeStrangers$Town", name := "draw", desc := "(I)I" } : Jvm.MethodName)) ∈ lw_all := lw_g (lw_at lw_m6 159 rfl) rfl
theorem q1440 : (Jvm.Cond.code ({ cls := "ThreeStrangers$Town", name := "draw", desc := "(I)I" } : Jvm.MethodName) prog_15_method_14_code (2 : Nat) (Option.some Jvm.ClassFile.FieldType.int)) ∈ lw_all := lw_g (lw_at lw_m6 160 rfl) rfl
theorem q1441 : (Jvm.Cond.constant "ThreeStrangers$Town" (87 : Nat) (1103515245 : Int32)) ∈ lw_all := lw_g (lw_at lw_m6 161 rfl) rfl
theorem q1459 : (Jvm.Cond.instanceMethod ({ cls := "ThreeStrangers$Town", name := "strange", desc := "()I" } : Jvm.MethodName)) ∈ lw_all := lw_g (lw_at lw_m6 179 rfl) rfl
theorem q1460 : (Jvm.Cond.selects "ThreeStrangers$Town" ({ cls := "ThreeStrangers$Town", name := "strange", desc := "()I" } : Jvm.MethodName) ({ cls := "ThreeStrangers$Town", name := "strange", desc := "()I" } : Jvm.MethodName)) ∈ lw_all := lw_g (lw_at lw_m6 180 rfl) rfl
theorem q1461 : (Jvm.Cond.code ({ cls := "ThreeStrangers$Town", name := "strange", desc := "()I" } : Jvm.MethodName) prog_15_method_12_code (3 : Nat) (Option.some Jvm.ClassFile.FieldType.int)) ∈ lw_all := lw_g (lw_at lw_m6 181 rfl) rfl
theorem q1462 : (Jvm.Cond.methodLink "ThreeStrangers$Town" (73 : Nat) ({ cls := "ThreeStrangers$Town", name := "strangers", desc := "(I)I" } : Jvm.MethodName)) ∈ lw_all := lw_g (lw_at lw_m6 182 rfl) rfl
theorem q1463 : (Jvm.Cond.methodLink "ThreeStrangers$Town" (77 : Nat) ({ cls := "java/lang/Integer", name := "bitCount", desc := "(I)I" } : Jvm.MethodName)) ∈ lw_all := lw_g (lw_at lw_m6 183 rfl) rfl
theorem in_X1 : ∀ w ∈ wsX10, w ∈ lw_all := lw_in wsX10 [160, 162, 164, 166, 168, 170, 172, 174, 176, 178] (by decide +kernel) (by decide +kernel)
/-! ThreeStrangers$Waits -/
set_option maxRecDepth 100000
def RX10 : String := "ThreeStrangers$Waits"
def TX10 : u_T := fun k => match k with
  | _ => ("ThreeStrangers$Coachman", "a", "I", true)
def tyX10 : Nat → FieldType := fun k => match k with
  | _ => .int
abbrev wsX100 : List Cond := u_ws RX10 TX10 1
theorem nmX10 : ∀ a, a < 1 → ∀ b, b < 1 → a ≠ b → (TX10 a).2.1 ≠ (TX10 b).2.1 := by decide +kernel
theorem tyX10_ok : ∀ k, k < 1 → parseFieldDescriptor (TX10 k).2.2.1 = some (tyX10 k) := by decide +kernel
abbrev cX10_kind : ByteArray := prog_16_method_2_code
def yX10_kind : MethodName := ⟨RX10, "kind", "()I"⟩
theorem dX10_kind_0 : decode cX10_kind 0 = .ok (.iconst 3, 1) := by decide +kernel
theorem dX10_kind_1 : decode cX10_kind 1 = .ok (.ireturn, 1) := by decide +kernel
abbrev cX10_init : ByteArray := prog_16_method_1_code
def yX10_init : MethodName := ⟨RX10, "<init>", "(I)V"⟩
def dkwX10_init_0 : List UInt8 := [42, 27, 183, 0, 1, 177]
abbrev dktX10_init_0 : List UInt8 := dkwX10_init_0 ++ []
theorem dksX10_init_0 : cX10_init.data.toList.drop 0 = dktX10_init_0 := by decide +kernel
theorem dX10_init_0 : decode cX10_init 0 = .ok (.aload_n 0, 1) := dk_42 (dk_at dksX10_init_0 0 rfl rfl)
theorem dX10_init_1 : decode cX10_init 1 = .ok (.iload_n 1, 1) := dk_27 (dk_at dksX10_init_0 1 rfl rfl)
theorem dX10_init_2 : decode cX10_init 2 = .ok (.invokespecial 1, 3) := dk_183 0 1 (dk_at dksX10_init_0 2 rfl rfl)
theorem dX10_init_5 : decode cX10_init 5 = .ok (.return_, 1) := dk_177 (dk_at dksX10_init_0 5 rfl rfl)
abbrev cX10_sends : ByteArray := prog_16_method_3_code
def yX10_sends : MethodName := ⟨RX10, "sends", "(LThreeStrangers$Groups;II)I"⟩
def dkwX10_sends_1 : List UInt8 := [167, 0, 4, 3, 172]
abbrev dktX10_sends_1 : List UInt8 := dkwX10_sends_1 ++ []
def dkwX10_sends_0 : List UInt8 := [29, 153, 0, 14, 28, 184, 0, 7, 42, 180, 0, 13, 161, 0, 13, 42, 43, 28, 29, 183, 0, 19]
abbrev dktX10_sends_0 : List UInt8 := dkwX10_sends_0 ++ dktX10_sends_1
theorem dksX10_sends_0 : cX10_sends.data.toList.drop 0 = dktX10_sends_0 := by decide +kernel
theorem dksX10_sends_1 : cX10_sends.data.toList.drop 22 = dktX10_sends_1 := dk_seg dksX10_sends_0 22 rfl rfl
theorem dX10_sends_0 : decode cX10_sends 0 = .ok (.iload_n 3, 1) := dk_29 (dk_at dksX10_sends_0 0 rfl rfl)
theorem dX10_sends_1 : decode cX10_sends 1 = .ok (.ifCond .eq 14, 3) := dk_153 0 14 (dk_at dksX10_sends_0 1 rfl rfl)
theorem dX10_sends_4 : decode cX10_sends 4 = .ok (.iload_n 2, 1) := dk_28 (dk_at dksX10_sends_0 4 rfl rfl)
theorem dX10_sends_5 : decode cX10_sends 5 = .ok (.invokestatic 7, 3) := dk_184 0 7 (dk_at dksX10_sends_0 5 rfl rfl)
theorem dX10_sends_8 : decode cX10_sends 8 = .ok (.aload_n 0, 1) := dk_42 (dk_at dksX10_sends_0 8 rfl rfl)
theorem dX10_sends_9 : decode cX10_sends 9 = .ok (.getfield 13, 3) := dk_180 0 13 (dk_at dksX10_sends_0 9 rfl rfl)
theorem dX10_sends_12 : decode cX10_sends 12 = .ok (.if_icmp .lt 13, 3) := dk_161 0 13 (dk_at dksX10_sends_0 12 rfl rfl)
theorem dX10_sends_15 : decode cX10_sends 15 = .ok (.aload_n 0, 1) := dk_42 (dk_at dksX10_sends_0 15 rfl rfl)
theorem dX10_sends_16 : decode cX10_sends 16 = .ok (.aload_n 1, 1) := dk_43 (dk_at dksX10_sends_0 16 rfl rfl)
theorem dX10_sends_17 : decode cX10_sends 17 = .ok (.iload_n 2, 1) := dk_28 (dk_at dksX10_sends_0 17 rfl rfl)
theorem dX10_sends_18 : decode cX10_sends 18 = .ok (.iload_n 3, 1) := dk_29 (dk_at dksX10_sends_0 18 rfl rfl)
theorem dX10_sends_19 : decode cX10_sends 19 = .ok (.invokespecial 19, 3) := dk_183 0 19 (dk_at dksX10_sends_0 19 rfl rfl)
theorem dX10_sends_22 : decode cX10_sends 22 = .ok (.goto 4, 3) := dk_167 0 4 (dk_at dksX10_sends_1 0 rfl rfl)
theorem dX10_sends_25 : decode cX10_sends 25 = .ok (.iconst 0, 1) := dk_3 (dk_at dksX10_sends_1 3 rfl rfl)
theorem dX10_sends_26 : decode cX10_sends 26 = .ok (.ireturn, 1) := dk_172 (dk_at dksX10_sends_1 4 rfl rfl)
theorem q101 : (Jvm.Cond.initialized "ThreeStrangers$Waits") ∈ lw_all := lw_g (lw_at lw_m1 21 rfl) rfl
theorem q545 : (Jvm.Cond.selects "ThreeStrangers$Waits" ({ cls := "ThreeStrangers$Coachman", name := "kind", desc := "()I" } : Jvm.MethodName) ({ cls := "ThreeStrangers$Waits", name := "kind", desc := "()I" } : Jvm.MethodName)) ∈ lw_all := lw_g (lw_at lw_m2 225 rfl) rfl
theorem q546 : (Jvm.Cond.instanceMethod ({ cls := "ThreeStrangers$Waits", name := "kind", desc := "()I" } : Jvm.MethodName)) ∈ lw_all := lw_g (lw_at lw_m2 226 rfl) rfl
theorem q547 : (Jvm.Cond.code ({ cls := "ThreeStrangers$Waits", name := "kind", desc := "()I" } : Jvm.MethodName) prog_16_method_2_code (1 : Nat) (Option.some Jvm.ClassFile.FieldType.int)) ∈ lw_all := lw_g (lw_at lw_m2 227 rfl) rfl
theorem q566 : (Jvm.Cond.fieldLink "ThreeStrangers$Waits" (13 : Nat) "ThreeStrangers$Waits" "a" "I") ∈ lw_all := lw_g (lw_at lw_m3 6 rfl) rfl
theorem q567 : (Jvm.Cond.sameField "ThreeStrangers$Waits" "ThreeStrangers$Coachman" "a" "I") ∈ lw_all := lw_g (lw_at lw_m3 7 rfl) rfl
theorem q581 : (Jvm.Cond.instantiable "ThreeStrangers$Waits" (1 : Nat)) ∈ lw_all := lw_g (lw_at lw_m3 21 rfl) rfl
theorem q583 : (Jvm.Cond.instanceMethod ({ cls := "ThreeStrangers$Waits", name := "<init>", desc := "(I)V" } : Jvm.MethodName)) ∈ lw_all := lw_g (lw_at lw_m3 23 rfl) rfl
theorem q584 : (Jvm.Cond.code ({ cls := "ThreeStrangers$Waits", name := "<init>", desc := "(I)V" } : Jvm.MethodName) prog_16_method_1_code (2 : Nat) (Option.none : Option Jvm.ClassFile.FieldType)) ∈ lw_all := lw_g (lw_at lw_m3 24 rfl) rfl
theorem q585 : (Jvm.Cond.methodLink "ThreeStrangers$Waits" (1 : Nat) ({ cls := "ThreeStrangers$First", name := "<init>", desc := "(I)V" } : Jvm.MethodName)) ∈ lw_all := lw_g (lw_at lw_m3 25 rfl) rfl
theorem q586 : (Jvm.Cond.laysFinal "ThreeStrangers$Waits" "ThreeStrangers$Coachman" "a" "I") ∈ lw_all := lw_g (lw_at lw_m3 26 rfl) rfl
theorem q587 : (Jvm.Cond.superclass "ThreeStrangers$Waits" "ThreeStrangers$First") ∈ lw_all := lw_g (lw_at lw_m3 27 rfl) rfl
theorem q676 : (Jvm.Cond.unhidden "ThreeStrangers$Waits" "sends" "(LThreeStrangers$Groups;I)I") ∈ lw_tbl := lw_at lw_m3 116 rfl
theorem q731 : (Jvm.Cond.castable "ThreeStrangers$Waits" "ThreeStrangers$Sends") ∈ lw_tbl := lw_at lw_m3 171 rfl
theorem q732 : (Jvm.Cond.selects "ThreeStrangers$Waits" ({ cls := "ThreeStrangers$Sends", name := "sends", desc := "(LThreeStrangers$Groups;II)I" } : Jvm.MethodName) ({ cls := "ThreeStrangers$Waits", name := "sends", desc := "(LThreeStrangers$Groups;II)I" } : Jvm.MethodName)) ∈ lw_all := lw_g (lw_at lw_m3 172 rfl) rfl
theorem q733 : (Jvm.Cond.unhidden "ThreeStrangers$Waits" "sends" "(LThreeStrangers$Groups;II)I") ∈ lw_tbl := lw_at lw_m3 173 rfl
theorem q734 : (Jvm.Cond.instanceMethod ({ cls := "ThreeStrangers$Waits", name := "sends", desc := "(LThreeStrangers$Groups;II)I" } : Jvm.MethodName)) ∈ lw_all := lw_g (lw_at lw_m3 174 rfl) rfl
theorem q735 : (Jvm.Cond.publicMethod ({ cls := "ThreeStrangers$Waits", name := "sends", desc := "(LThreeStrangers$Groups;II)I" } : Jvm.MethodName)) ∈ lw_tbl := lw_at lw_m3 175 rfl
theorem q736 : (Jvm.Cond.code ({ cls := "ThreeStrangers$Waits", name := "sends", desc := "(LThreeStrangers$Groups;II)I" } : Jvm.MethodName) prog_16_method_3_code (4 : Nat) (Option.some Jvm.ClassFile.FieldType.int)) ∈ lw_all := lw_g (lw_at lw_m3 176 rfl) rfl
theorem q737 : (Jvm.Cond.methodLink "ThreeStrangers$Waits" (7 : Nat) ({ cls := "java/lang/Integer", name := "bitCount", desc := "(I)I" } : Jvm.MethodName)) ∈ lw_all := lw_g (lw_at lw_m3 177 rfl) rfl
theorem q738 : (Jvm.Cond.methodLink "ThreeStrangers$Waits" (19 : Nat) ({ cls := "ThreeStrangers$First", name := "sends", desc := "(LThreeStrangers$Groups;II)I" } : Jvm.MethodName)) ∈ lw_all := lw_g (lw_at lw_m3 178 rfl) rfl
theorem q1218 : (Jvm.Cond.selects "ThreeStrangers$Waits" ({ cls := "ThreeStrangers$Coachman", name := "sends", desc := "(LThreeStrangers$Groups;II)I" } : Jvm.MethodName) ({ cls := "ThreeStrangers$Waits", name := "sends", desc := "(LThreeStrangers$Groups;II)I" } : Jvm.MethodName)) ∈ lw_all := lw_g (lw_at lw_m5 178 rfl) rfl
theorem q2070 : (Jvm.Cond.castable "ThreeStrangers$Waits" "ThreeStrangers$Coachman") ∈ lw_tbl := lw_at lw_m9 70 rfl
theorem q2071 : (Jvm.Cond.castable "ThreeStrangers$Waits" "ThreeStrangers$First") ∈ lw_tbl := lw_at lw_m9 71 rfl
theorem in_X10 : ∀ w ∈ wsX100, w ∈ lw_all := lw_in wsX100 [586] (by decide +kernel) (by decide +kernel)
/-! ThreeStrangers$Spares -/
set_option maxRecDepth 100000
def RX11 : String := "ThreeStrangers$Spares"
def TX11 : u_T := fun k => match k with
  | _ => ("ThreeStrangers$Coachman", "a", "I", true)
def tyX11 : Nat → FieldType := fun k => match k with
  | _ => .int
abbrev wsX110 : List Cond := u_ws RX11 TX11 1
theorem nmX11 : ∀ a, a < 1 → ∀ b, b < 1 → a ≠ b → (TX11 a).2.1 ≠ (TX11 b).2.1 := by decide +kernel
theorem tyX11_ok : ∀ k, k < 1 → parseFieldDescriptor (TX11 k).2.2.1 = some (tyX11 k) := by decide +kernel
abbrev cX11_kind : ByteArray := prog_14_method_2_code
def yX11_kind : MethodName := ⟨RX11, "kind", "()I"⟩
theorem dX11_kind_0 : decode cX11_kind 0 = .ok (.iconst 4, 1) := by decide +kernel
theorem dX11_kind_1 : decode cX11_kind 1 = .ok (.ireturn, 1) := by decide +kernel
abbrev cX11_init : ByteArray := prog_14_method_1_code
def yX11_init : MethodName := ⟨RX11, "<init>", "(I)V"⟩
def dkwX11_init_0 : List UInt8 := [42, 27, 183, 0, 1, 177]
abbrev dktX11_init_0 : List UInt8 := dkwX11_init_0 ++ []
theorem dksX11_init_0 : cX11_init.data.toList.drop 0 = dktX11_init_0 := by decide +kernel
theorem dX11_init_0 : decode cX11_init 0 = .ok (.aload_n 0, 1) := dk_42 (dk_at dksX11_init_0 0 rfl rfl)
theorem dX11_init_1 : decode cX11_init 1 = .ok (.iload_n 1, 1) := dk_27 (dk_at dksX11_init_0 1 rfl rfl)
theorem dX11_init_2 : decode cX11_init 2 = .ok (.invokespecial 1, 3) := dk_183 0 1 (dk_at dksX11_init_0 2 rfl rfl)
theorem dX11_init_5 : decode cX11_init 5 = .ok (.return_, 1) := dk_177 (dk_at dksX11_init_0 5 rfl rfl)
abbrev cX11_worth : ByteArray := prog_14_method_3_code
def yX11_worth : MethodName := ⟨RX11, "worth", "(LThreeStrangers$Groups;I)I"⟩
def dkwX11_worth_0 : List UInt8 := [43, 28, 182, 0, 7, 116, 172]
abbrev dktX11_worth_0 : List UInt8 := dkwX11_worth_0 ++ []
theorem dksX11_worth_0 : cX11_worth.data.toList.drop 0 = dktX11_worth_0 := by decide +kernel
theorem dX11_worth_0 : decode cX11_worth 0 = .ok (.aload_n 1, 1) := dk_43 (dk_at dksX11_worth_0 0 rfl rfl)
theorem dX11_worth_1 : decode cX11_worth 1 = .ok (.iload_n 2, 1) := dk_28 (dk_at dksX11_worth_0 1 rfl rfl)
theorem dX11_worth_2 : decode cX11_worth 2 = .ok (.invokevirtual 7, 3) := dk_182 0 7 (dk_at dksX11_worth_0 2 rfl rfl)
theorem dX11_worth_5 : decode cX11_worth 5 = .ok (.ineg, 1) := dk_116 (dk_at dksX11_worth_0 5 rfl rfl)
theorem dX11_worth_6 : decode cX11_worth 6 = .ok (.ireturn, 1) := dk_172 (dk_at dksX11_worth_0 6 rfl rfl)
theorem q102 : (Jvm.Cond.initialized "ThreeStrangers$Spares") ∈ lw_all := lw_g (lw_at lw_m1 22 rfl) rfl
theorem q542 : (Jvm.Cond.selects "ThreeStrangers$Spares" ({ cls := "ThreeStrangers$Coachman", name := "kind", desc := "()I" } : Jvm.MethodName) ({ cls := "ThreeStrangers$Spares", name := "kind", desc := "()I" } : Jvm.MethodName)) ∈ lw_all := lw_g (lw_at lw_m2 222 rfl) rfl
theorem q543 : (Jvm.Cond.instanceMethod ({ cls := "ThreeStrangers$Spares", name := "kind", desc := "()I" } : Jvm.MethodName)) ∈ lw_all := lw_g (lw_at lw_m2 223 rfl) rfl
theorem q544 : (Jvm.Cond.code ({ cls := "ThreeStrangers$Spares", name := "kind", desc := "()I" } : Jvm.MethodName) prog_14_method_2_code (1 : Nat) (Option.some Jvm.ClassFile.FieldType.int)) ∈ lw_all := lw_g (lw_at lw_m2 224 rfl) rfl
theorem q589 : (Jvm.Cond.instantiable "ThreeStrangers$Spares" (1 : Nat)) ∈ lw_all := lw_g (lw_at lw_m3 29 rfl) rfl
theorem q591 : (Jvm.Cond.instanceMethod ({ cls := "ThreeStrangers$Spares", name := "<init>", desc := "(I)V" } : Jvm.MethodName)) ∈ lw_all := lw_g (lw_at lw_m3 31 rfl) rfl
theorem q592 : (Jvm.Cond.code ({ cls := "ThreeStrangers$Spares", name := "<init>", desc := "(I)V" } : Jvm.MethodName) prog_14_method_1_code (2 : Nat) (Option.none : Option Jvm.ClassFile.FieldType)) ∈ lw_all := lw_g (lw_at lw_m3 32 rfl) rfl
theorem q593 : (Jvm.Cond.methodLink "ThreeStrangers$Spares" (1 : Nat) ({ cls := "ThreeStrangers$Choose", name := "<init>", desc := "(I)V" } : Jvm.MethodName)) ∈ lw_all := lw_g (lw_at lw_m3 33 rfl) rfl
theorem q594 : (Jvm.Cond.laysFinal "ThreeStrangers$Spares" "ThreeStrangers$Coachman" "a" "I") ∈ lw_all := lw_g (lw_at lw_m3 34 rfl) rfl
theorem q595 : (Jvm.Cond.superclass "ThreeStrangers$Spares" "ThreeStrangers$Choose") ∈ lw_all := lw_g (lw_at lw_m3 35 rfl) rfl
theorem q675 : (Jvm.Cond.unhidden "ThreeStrangers$Spares" "sends" "(LThreeStrangers$Groups;I)I") ∈ lw_tbl := lw_at lw_m3 115 rfl
theorem q706 : (Jvm.Cond.selects "ThreeStrangers$Spares" ({ cls := "ThreeStrangers$Choose", name := "worth", desc := "(LThreeStrangers$Groups;I)I" } : Jvm.MethodName) ({ cls := "ThreeStrangers$Spares", name := "worth", desc := "(LThreeStrangers$Groups;I)I" } : Jvm.MethodName)) ∈ lw_all := lw_g (lw_at lw_m3 146 rfl) rfl
theorem q707 : (Jvm.Cond.instanceMethod ({ cls := "ThreeStrangers$Spares", name := "worth", desc := "(LThreeStrangers$Groups;I)I" } : Jvm.MethodName)) ∈ lw_all := lw_g (lw_at lw_m3 147 rfl) rfl
theorem q708 : (Jvm.Cond.code ({ cls := "ThreeStrangers$Spares", name := "worth", desc := "(LThreeStrangers$Groups;I)I" } : Jvm.MethodName) prog_14_method_3_code (3 : Nat) (Option.some Jvm.ClassFile.FieldType.int)) ∈ lw_all := lw_g (lw_at lw_m3 148 rfl) rfl
theorem q709 : (Jvm.Cond.methodLink "ThreeStrangers$Spares" (7 : Nat) ({ cls := "ThreeStrangers$Groups", name := "strangersOf", desc := "(I)I" } : Jvm.MethodName)) ∈ lw_all := lw_g (lw_at lw_m3 149 rfl) rfl
theorem q728 : (Jvm.Cond.castable "ThreeStrangers$Spares" "ThreeStrangers$Sends") ∈ lw_tbl := lw_at lw_m3 168 rfl
theorem q729 : (Jvm.Cond.selects "ThreeStrangers$Spares" ({ cls := "ThreeStrangers$Sends", name := "sends", desc := "(LThreeStrangers$Groups;II)I" } : Jvm.MethodName) ({ cls := "ThreeStrangers$Choose", name := "sends", desc := "(LThreeStrangers$Groups;II)I" } : Jvm.MethodName)) ∈ lw_all := lw_g (lw_at lw_m3 169 rfl) rfl
theorem q730 : (Jvm.Cond.unhidden "ThreeStrangers$Spares" "sends" "(LThreeStrangers$Groups;II)I") ∈ lw_tbl := lw_at lw_m3 170 rfl
theorem q1217 : (Jvm.Cond.selects "ThreeStrangers$Spares" ({ cls := "ThreeStrangers$Coachman", name := "sends", desc := "(LThreeStrangers$Groups;II)I" } : Jvm.MethodName) ({ cls := "ThreeStrangers$Choose", name := "sends", desc := "(LThreeStrangers$Groups;II)I" } : Jvm.MethodName)) ∈ lw_all := lw_g (lw_at lw_m5 177 rfl) rfl
theorem q2069 : (Jvm.Cond.castable "ThreeStrangers$Spares" "ThreeStrangers$Coachman") ∈ lw_tbl := lw_at lw_m9 69 rfl
theorem q2073 : (Jvm.Cond.castable "ThreeStrangers$Spares" "ThreeStrangers$Choose") ∈ lw_tbl := lw_at lw_m9 73 rfl
theorem in_X11 : ∀ w ∈ wsX110, w ∈ lw_all := lw_in wsX110 [594] (by decide +kernel) (by decide +kernel)
/-! ThreeStrangers$Best -/
set_option maxRecDepth 100000
def RX12 : String := "ThreeStrangers$Best"
def TX12 : u_T := fun k => match k with
  | _ => ("ThreeStrangers$Coachman", "a", "I", true)
def tyX12 : Nat → FieldType := fun k => match k with
  | _ => .int
abbrev wsX120 : List Cond := u_ws RX12 TX12 1
theorem nmX12 : ∀ a, a < 1 → ∀ b, b < 1 → a ≠ b → (TX12 a).2.1 ≠ (TX12 b).2.1 := by decide +kernel
theorem tyX12_ok : ∀ k, k < 1 → parseFieldDescriptor (TX12 k).2.2.1 = some (tyX12 k) := by decide +kernel
abbrev cX12_kind : ByteArray := prog_2_method_2_code
def yX12_kind : MethodName := ⟨RX12, "kind", "()I"⟩
theorem dX12_kind_0 : decode cX12_kind 0 = .ok (.iconst 5, 1) := by decide +kernel
theorem dX12_kind_1 : decode cX12_kind 1 = .ok (.ireturn, 1) := by decide +kernel
abbrev cX12_init : ByteArray := prog_2_method_1_code
def yX12_init : MethodName := ⟨RX12, "<init>", "(I)V"⟩
def dkwX12_init_0 : List UInt8 := [42, 27, 183, 0, 1, 177]
abbrev dktX12_init_0 : List UInt8 := dkwX12_init_0 ++ []
theorem dksX12_init_0 : cX12_init.data.toList.drop 0 = dktX12_init_0 := by decide +kernel
theorem dX12_init_0 : decode cX12_init 0 = .ok (.aload_n 0, 1) := dk_42 (dk_at dksX12_init_0 0 rfl rfl)
theorem dX12_init_1 : decode cX12_init 1 = .ok (.iload_n 1, 1) := dk_27 (dk_at dksX12_init_0 1 rfl rfl)
theorem dX12_init_2 : decode cX12_init 2 = .ok (.invokespecial 1, 3) := dk_183 0 1 (dk_at dksX12_init_0 2 rfl rfl)
theorem dX12_init_5 : decode cX12_init 5 = .ok (.return_, 1) := dk_177 (dk_at dksX12_init_0 5 rfl rfl)
abbrev cX12_sends : ByteArray := prog_2_method_3_code
def yX12_sends : MethodName := ⟨RX12, "sends", "(LThreeStrangers$Groups;II)I"⟩
def dkwX12_sends_0 : List UInt8 := [43, 28, 182, 0, 7, 172]
abbrev dktX12_sends_0 : List UInt8 := dkwX12_sends_0 ++ []
theorem dksX12_sends_0 : cX12_sends.data.toList.drop 0 = dktX12_sends_0 := by decide +kernel
theorem dX12_sends_0 : decode cX12_sends 0 = .ok (.aload_n 1, 1) := dk_43 (dk_at dksX12_sends_0 0 rfl rfl)
theorem dX12_sends_1 : decode cX12_sends 1 = .ok (.iload_n 2, 1) := dk_28 (dk_at dksX12_sends_0 1 rfl rfl)
theorem dX12_sends_2 : decode cX12_sends 2 = .ok (.invokevirtual 7, 3) := dk_182 0 7 (dk_at dksX12_sends_0 2 rfl rfl)
theorem dX12_sends_5 : decode cX12_sends 5 = .ok (.ireturn, 1) := dk_172 (dk_at dksX12_sends_0 5 rfl rfl)
theorem q103 : (Jvm.Cond.initialized "ThreeStrangers$Best") ∈ lw_all := lw_g (lw_at lw_m1 23 rfl) rfl
theorem q533 : (Jvm.Cond.selects "ThreeStrangers$Best" ({ cls := "ThreeStrangers$Coachman", name := "kind", desc := "()I" } : Jvm.MethodName) ({ cls := "ThreeStrangers$Best", name := "kind", desc := "()I" } : Jvm.MethodName)) ∈ lw_all := lw_g (lw_at lw_m2 213 rfl) rfl
theorem q534 : (Jvm.Cond.instanceMethod ({ cls := "ThreeStrangers$Best", name := "kind", desc := "()I" } : Jvm.MethodName)) ∈ lw_all := lw_g (lw_at lw_m2 214 rfl) rfl
theorem q535 : (Jvm.Cond.code ({ cls := "ThreeStrangers$Best", name := "kind", desc := "()I" } : Jvm.MethodName) prog_2_method_2_code (1 : Nat) (Option.some Jvm.ClassFile.FieldType.int)) ∈ lw_all := lw_g (lw_at lw_m2 215 rfl) rfl
theorem q597 : (Jvm.Cond.instantiable "ThreeStrangers$Best" (1 : Nat)) ∈ lw_all := lw_g (lw_at lw_m3 37 rfl) rfl
theorem q599 : (Jvm.Cond.instanceMethod ({ cls := "ThreeStrangers$Best", name := "<init>", desc := "(I)V" } : Jvm.MethodName)) ∈ lw_all := lw_g (lw_at lw_m3 39 rfl) rfl
theorem q600 : (Jvm.Cond.code ({ cls := "ThreeStrangers$Best", name := "<init>", desc := "(I)V" } : Jvm.MethodName) prog_2_method_1_code (2 : Nat) (Option.none : Option Jvm.ClassFile.FieldType)) ∈ lw_all := lw_g (lw_at lw_m3 40 rfl) rfl
theorem q601 : (Jvm.Cond.methodLink "ThreeStrangers$Best" (1 : Nat) ({ cls := "ThreeStrangers$Choose", name := "<init>", desc := "(I)V" } : Jvm.MethodName)) ∈ lw_all := lw_g (lw_at lw_m3 41 rfl) rfl
theorem q602 : (Jvm.Cond.laysFinal "ThreeStrangers$Best" "ThreeStrangers$Coachman" "a" "I") ∈ lw_all := lw_g (lw_at lw_m3 42 rfl) rfl
theorem q603 : (Jvm.Cond.superclass "ThreeStrangers$Best" "ThreeStrangers$Choose") ∈ lw_all := lw_g (lw_at lw_m3 43 rfl) rfl
theorem q672 : (Jvm.Cond.unhidden "ThreeStrangers$Best" "sends" "(LThreeStrangers$Groups;I)I") ∈ lw_tbl := lw_at lw_m3 112 rfl
theorem q684 : (Jvm.Cond.castable "ThreeStrangers$Best" "ThreeStrangers$Sends") ∈ lw_tbl := lw_at lw_m3 124 rfl
theorem q685 : (Jvm.Cond.selects "ThreeStrangers$Best" ({ cls := "ThreeStrangers$Sends", name := "sends", desc := "(LThreeStrangers$Groups;II)I" } : Jvm.MethodName) ({ cls := "ThreeStrangers$Best", name := "sends", desc := "(LThreeStrangers$Groups;II)I" } : Jvm.MethodName)) ∈ lw_all := lw_g (lw_at lw_m3 125 rfl) rfl
theorem q686 : (Jvm.Cond.unhidden "ThreeStrangers$Best" "sends" "(LThreeStrangers$Groups;II)I") ∈ lw_tbl := lw_at lw_m3 126 rfl
theorem q687 : (Jvm.Cond.instanceMethod ({ cls := "ThreeStrangers$Best", name := "sends", desc := "(LThreeStrangers$Groups;II)I" } : Jvm.MethodName)) ∈ lw_all := lw_g (lw_at lw_m3 127 rfl) rfl
theorem q688 : (Jvm.Cond.publicMethod ({ cls := "ThreeStrangers$Best", name := "sends", desc := "(LThreeStrangers$Groups;II)I" } : Jvm.MethodName)) ∈ lw_tbl := lw_at lw_m3 128 rfl
theorem q689 : (Jvm.Cond.code ({ cls := "ThreeStrangers$Best", name := "sends", desc := "(LThreeStrangers$Groups;II)I" } : Jvm.MethodName) prog_2_method_3_code (4 : Nat) (Option.some Jvm.ClassFile.FieldType.int)) ∈ lw_all := lw_g (lw_at lw_m3 129 rfl) rfl
theorem q690 : (Jvm.Cond.methodLink "ThreeStrangers$Best" (7 : Nat) ({ cls := "ThreeStrangers$Groups", name := "best", desc := "(I)I" } : Jvm.MethodName)) ∈ lw_all := lw_g (lw_at lw_m3 130 rfl) rfl
theorem q705 : (Jvm.Cond.selects "ThreeStrangers$Best" ({ cls := "ThreeStrangers$Choose", name := "worth", desc := "(LThreeStrangers$Groups;I)I" } : Jvm.MethodName) ({ cls := "ThreeStrangers$Choose", name := "worth", desc := "(LThreeStrangers$Groups;I)I" } : Jvm.MethodName)) ∈ lw_all := lw_g (lw_at lw_m3 145 rfl) rfl
theorem q1214 : (Jvm.Cond.selects "ThreeStrangers$Best" ({ cls := "ThreeStrangers$Coachman", name := "sends", desc := "(LThreeStrangers$Groups;II)I" } : Jvm.MethodName) ({ cls := "ThreeStrangers$Best", name := "sends", desc := "(LThreeStrangers$Groups;II)I" } : Jvm.MethodName)) ∈ lw_all := lw_g (lw_at lw_m5 174 rfl) rfl
theorem q2066 : (Jvm.Cond.castable "ThreeStrangers$Best" "ThreeStrangers$Coachman") ∈ lw_tbl := lw_at lw_m9 66 rfl
theorem q2072 : (Jvm.Cond.castable "ThreeStrangers$Best" "ThreeStrangers$Choose") ∈ lw_tbl := lw_at lw_m9 72 rfl
theorem in_X12 : ∀ w ∈ wsX120, w ∈ lw_all := lw_in wsX120 [602] (by decide +kernel) (by decide +kernel)
/-! ThreeStrangers$Reader -/
set_option maxRecDepth 100000
def RX13 : String := "ThreeStrangers$Reader"
def TX13 : u_T := fun k => match k with
  | 0 => ("ThreeStrangers$Reader", "tape", "[I", true)
  | 1 => ("ThreeStrangers$Reader", "size", "I", true)
  | 2 => ("ThreeStrangers$Reader", "town", "LThreeStrangers$Town;", true)
  | 3 => ("ThreeStrangers$Reader", "at", "I", false)
  | 4 => ("ThreeStrangers$Reader", "from", "I", false)
  | 5 => ("ThreeStrangers$Reader", "word", "Ljava/lang/String;", false)
  | _ => ("ThreeStrangers$Reader", "number", "I", false)
def tyX13 : Nat → FieldType := fun k => match k with
  | 0 => .array .int
  | 1 => .int
  | 2 => .object "ThreeStrangers$Town"
  | 3 => .int
  | 4 => .int
  | 5 => .object "java/lang/String"
  | _ => .int
abbrev wsX130 : List Cond := u_ws RX13 TX13 7
theorem nmX13 : ∀ a, a < 7 → ∀ b, b < 7 → a ≠ b → (TX13 a).2.1 ≠ (TX13 b).2.1 := by decide +kernel
theorem tyX13_ok : ∀ k, k < 7 → parseFieldDescriptor (TX13 k).2.2.1 = some (tyX13 k) := by decide +kernel
abbrev cX13_init : ByteArray := prog_9_method_1_code
def yX13_init : MethodName := ⟨RX13, "<init>", "([IILThreeStrangers$Town;)V"⟩
def dkwX13_init_0 : List UInt8 := [42, 183, 0, 3, 42, 43, 181, 0, 9, 42, 28, 181, 0, 15, 42, 45, 181, 0, 19, 177]
abbrev dktX13_init_0 : List UInt8 := dkwX13_init_0 ++ []
theorem dksX13_init_0 : cX13_init.data.toList.drop 0 = dktX13_init_0 := by decide +kernel
theorem dX13_init_0 : decode cX13_init 0 = .ok (.aload_n 0, 1) := dk_42 (dk_at dksX13_init_0 0 rfl rfl)
theorem dX13_init_1 : decode cX13_init 1 = .ok (.invokespecial 3, 3) := dk_183 0 3 (dk_at dksX13_init_0 1 rfl rfl)
theorem dX13_init_4 : decode cX13_init 4 = .ok (.aload_n 0, 1) := dk_42 (dk_at dksX13_init_0 4 rfl rfl)
theorem dX13_init_5 : decode cX13_init 5 = .ok (.aload_n 1, 1) := dk_43 (dk_at dksX13_init_0 5 rfl rfl)
theorem dX13_init_6 : decode cX13_init 6 = .ok (.putfield 9, 3) := dk_181 0 9 (dk_at dksX13_init_0 6 rfl rfl)
theorem dX13_init_9 : decode cX13_init 9 = .ok (.aload_n 0, 1) := dk_42 (dk_at dksX13_init_0 9 rfl rfl)
theorem dX13_init_10 : decode cX13_init 10 = .ok (.iload_n 2, 1) := dk_28 (dk_at dksX13_init_0 10 rfl rfl)
theorem dX13_init_11 : decode cX13_init 11 = .ok (.putfield 15, 3) := dk_181 0 15 (dk_at dksX13_init_0 11 rfl rfl)
theorem dX13_init_14 : decode cX13_init 14 = .ok (.aload_n 0, 1) := dk_42 (dk_at dksX13_init_0 14 rfl rfl)
theorem dX13_init_15 : decode cX13_init 15 = .ok (.aload_n 3, 1) := dk_45 (dk_at dksX13_init_0 15 rfl rfl)
theorem dX13_init_16 : decode cX13_init 16 = .ok (.putfield 19, 3) := dk_181 0 19 (dk_at dksX13_init_0 16 rfl rfl)
theorem dX13_init_19 : decode cX13_init 19 = .ok (.return_, 1) := dk_177 (dk_at dksX13_init_0 19 rfl rfl)
abbrev cX13_read : ByteArray := prog_9_method_12_code
def yX13_read : MethodName := ⟨RX13, "read", "()I"⟩
def dkwX13_read_1 : List UInt8 := [182, 0, 124, 154, 0, 8, 42, 182, 0, 73, 191, 42, 182, 0, 138, 132, 1, 1, 167, 255, 224, 27, 172]
abbrev dktX13_read_1 : List UInt8 := dkwX13_read_1 ++ []
def dkwX13_read_0 : List UInt8 := [4, 60, 42, 182, 0, 70, 42, 182, 0, 138, 42, 180, 0, 30, 42, 180, 0, 15, 162, 0, 27, 42, 18, 57]
abbrev dktX13_read_0 : List UInt8 := dkwX13_read_0 ++ dktX13_read_1
theorem dksX13_read_0 : cX13_read.data.toList.drop 0 = dktX13_read_0 := by decide +kernel
theorem dksX13_read_1 : cX13_read.data.toList.drop 24 = dktX13_read_1 := dk_seg dksX13_read_0 24 rfl rfl
theorem dX13_read_0 : decode cX13_read 0 = .ok (.iconst 1, 1) := dk_4 (dk_at dksX13_read_0 0 rfl rfl)
theorem dX13_read_1 : decode cX13_read 1 = .ok (.istore_n 1, 1) := dk_60 (dk_at dksX13_read_0 1 rfl rfl)
theorem dX13_read_2 : decode cX13_read 2 = .ok (.aload_n 0, 1) := dk_42 (dk_at dksX13_read_0 2 rfl rfl)
theorem dX13_read_3 : decode cX13_read 3 = .ok (.invokevirtual 70, 3) := dk_182 0 70 (dk_at dksX13_read_0 3 rfl rfl)
theorem dX13_read_6 : decode cX13_read 6 = .ok (.aload_n 0, 1) := dk_42 (dk_at dksX13_read_0 6 rfl rfl)
theorem dX13_read_7 : decode cX13_read 7 = .ok (.invokevirtual 138, 3) := dk_182 0 138 (dk_at dksX13_read_0 7 rfl rfl)
theorem dX13_read_10 : decode cX13_read 10 = .ok (.aload_n 0, 1) := dk_42 (dk_at dksX13_read_0 10 rfl rfl)
theorem dX13_read_11 : decode cX13_read 11 = .ok (.getfield 30, 3) := dk_180 0 30 (dk_at dksX13_read_0 11 rfl rfl)
theorem dX13_read_14 : decode cX13_read 14 = .ok (.aload_n 0, 1) := dk_42 (dk_at dksX13_read_0 14 rfl rfl)
theorem dX13_read_15 : decode cX13_read 15 = .ok (.getfield 15, 3) := dk_180 0 15 (dk_at dksX13_read_0 15 rfl rfl)
theorem dX13_read_18 : decode cX13_read 18 = .ok (.if_icmp .ge 27, 3) := dk_162 0 27 (dk_at dksX13_read_0 18 rfl rfl)
theorem dX13_read_21 : decode cX13_read 21 = .ok (.aload_n 0, 1) := dk_42 (dk_at dksX13_read_0 21 rfl rfl)
theorem dX13_read_22 : decode cX13_read 22 = .ok (.ldc 57, 2) := dk_18 57 (dk_at dksX13_read_0 22 rfl rfl)
theorem dX13_read_24 : decode cX13_read 24 = .ok (.invokevirtual 124, 3) := dk_182 0 124 (dk_at dksX13_read_1 0 rfl rfl)
theorem dX13_read_27 : decode cX13_read 27 = .ok (.ifCond .ne 8, 3) := dk_154 0 8 (dk_at dksX13_read_1 3 rfl rfl)
theorem dX13_read_30 : decode cX13_read 30 = .ok (.aload_n 0, 1) := dk_42 (dk_at dksX13_read_1 6 rfl rfl)
theorem dX13_read_31 : decode cX13_read 31 = .ok (.invokevirtual 73, 3) := dk_182 0 73 (dk_at dksX13_read_1 7 rfl rfl)
theorem dX13_read_34 : decode cX13_read 34 = .ok (.athrow, 1) := dk_191 (dk_at dksX13_read_1 10 rfl rfl)
theorem dX13_read_35 : decode cX13_read 35 = .ok (.aload_n 0, 1) := dk_42 (dk_at dksX13_read_1 11 rfl rfl)
theorem dX13_read_36 : decode cX13_read 36 = .ok (.invokevirtual 138, 3) := dk_182 0 138 (dk_at dksX13_read_1 12 rfl rfl)
theorem dX13_read_39 : decode cX13_read 39 = .ok (.iinc 1 1, 3) := dk_132 1 1 (dk_at dksX13_read_1 15 rfl rfl)
theorem dX13_read_42 : decode cX13_read 42 = .ok (.goto (-32), 3) := dk_167 255 224 (dk_at dksX13_read_1 18 rfl rfl)
theorem dX13_read_45 : decode cX13_read 45 = .ok (.iload_n 1, 1) := dk_27 (dk_at dksX13_read_1 21 rfl rfl)
theorem dX13_read_46 : decode cX13_read 46 = .ok (.ireturn, 1) := dk_172 (dk_at dksX13_read_1 22 rfl rfl)
abbrev cX13_next : ByteArray := prog_9_method_3_code
def yX13_next : MethodName := ⟨RX13, "next", "()V"⟩
def dkwX13_next_9 : List UInt8 := [181, 0, 33, 42, 89, 180, 0, 23, 4, 96, 181, 0, 23, 177]
abbrev dktX13_next_9 : List UInt8 := dkwX13_next_9 ++ []
def dkwX13_next_8 : List UInt8 := [167, 0, 4, 27, 181, 0, 37, 167, 0, 30, 42, 16, 59, 16, 59, 182, 0, 26, 153, 0, 19, 42, 18, 57]
abbrev dktX13_next_8 : List UInt8 := dkwX13_next_8 ++ dktX13_next_9
def dkwX13_next_7 : List UInt8 := [96, 181, 0, 23, 167, 255, 212, 42, 42, 180, 0, 23, 42, 180, 0, 30, 100, 5, 164, 0, 8, 16, 100]
abbrev dktX13_next_7 : List UInt8 := dkwX13_next_7 ++ dktX13_next_8
def dkwX13_next_6 : List UInt8 := [104, 42, 180, 0, 9, 42, 180, 0, 23, 46, 96, 16, 48, 100, 184, 0, 51, 60, 42, 89, 180, 0, 23, 4]
abbrev dktX13_next_6 : List UInt8 := dkwX13_next_6 ++ dktX13_next_7
def dkwX13_next_5 : List UInt8 := [182, 0, 26, 153, 0, 78, 3, 60, 42, 16, 48, 16, 57, 182, 0, 26, 153, 0, 39, 16, 100, 16, 10, 27]
abbrev dktX13_next_5 : List UInt8 := dkwX13_next_5 ++ dktX13_next_6
def dkwX13_next_4 : List UInt8 := [96, 181, 0, 23, 167, 255, 220, 42, 43, 182, 0, 47, 181, 0, 33, 167, 0, 116, 42, 16, 48, 16, 57]
abbrev dktX13_next_4 : List UInt8 := dkwX13_next_4 ++ dktX13_next_5
def dkwX13_next_3 : List UInt8 := [153, 0, 31, 43, 42, 180, 0, 9, 42, 180, 0, 23, 46, 146, 182, 0, 43, 87, 42, 89, 180, 0, 23, 4]
abbrev dktX13_next_3 : List UInt8 := dkwX13_next_3 ++ dktX13_next_4
def dkwX13_next_2 : List UInt8 := [182, 0, 26, 153, 0, 61, 187, 0, 40, 89, 183, 0, 42, 76, 42, 16, 97, 16, 122, 182, 0, 26]
abbrev dktX13_next_2 : List UInt8 := dkwX13_next_2 ++ dktX13_next_3
def dkwX13_next_1 : List UInt8 := [42, 42, 180, 0, 23, 181, 0, 30, 42, 1, 181, 0, 33, 42, 2, 181, 0, 37, 42, 16, 97, 16, 122]
abbrev dktX13_next_1 : List UInt8 := dkwX13_next_1 ++ dktX13_next_2
def dkwX13_next_0 : List UInt8 := [42, 16, 32, 16, 32, 182, 0, 26, 153, 0, 16, 42, 89, 180, 0, 23, 4, 96, 181, 0, 23, 167, 255, 235]
abbrev dktX13_next_0 : List UInt8 := dkwX13_next_0 ++ dktX13_next_1
theorem dksX13_next_0 : cX13_next.data.toList.drop 0 = dktX13_next_0 := by decide +kernel
theorem dksX13_next_1 : cX13_next.data.toList.drop 24 = dktX13_next_1 := dk_seg dksX13_next_0 24 rfl rfl
theorem dksX13_next_2 : cX13_next.data.toList.drop 47 = dktX13_next_2 := dk_seg dksX13_next_1 23 rfl rfl
theorem dksX13_next_3 : cX13_next.data.toList.drop 69 = dktX13_next_3 := dk_seg dksX13_next_2 22 rfl rfl
theorem dksX13_next_4 : cX13_next.data.toList.drop 93 = dktX13_next_4 := dk_seg dksX13_next_3 24 rfl rfl
theorem dksX13_next_5 : cX13_next.data.toList.drop 116 = dktX13_next_5 := dk_seg dksX13_next_4 23 rfl rfl
theorem dksX13_next_6 : cX13_next.data.toList.drop 140 = dktX13_next_6 := dk_seg dksX13_next_5 24 rfl rfl
theorem dksX13_next_7 : cX13_next.data.toList.drop 164 = dktX13_next_7 := dk_seg dksX13_next_6 24 rfl rfl
theorem dksX13_next_8 : cX13_next.data.toList.drop 187 = dktX13_next_8 := dk_seg dksX13_next_7 23 rfl rfl
theorem dksX13_next_9 : cX13_next.data.toList.drop 211 = dktX13_next_9 := dk_seg dksX13_next_8 24 rfl rfl
theorem dX13_next_0 : decode cX13_next 0 = .ok (.aload_n 0, 1) := dk_42 (dk_at dksX13_next_0 0 rfl rfl)
theorem dX13_next_1 : decode cX13_next 1 = .ok (.bipush 32, 2) := dk_16 32 (dk_at dksX13_next_0 1 rfl rfl)
theorem dX13_next_3 : decode cX13_next 3 = .ok (.bipush 32, 2) := dk_16 32 (dk_at dksX13_next_0 3 rfl rfl)
theorem dX13_next_5 : decode cX13_next 5 = .ok (.invokevirtual 26, 3) := dk_182 0 26 (dk_at dksX13_next_0 5 rfl rfl)
theorem dX13_next_8 : decode cX13_next 8 = .ok (.ifCond .eq 16, 3) := dk_153 0 16 (dk_at dksX13_next_0 8 rfl rfl)
theorem dX13_next_11 : decode cX13_next 11 = .ok (.aload_n 0, 1) := dk_42 (dk_at dksX13_next_0 11 rfl rfl)
theorem dX13_next_12 : decode cX13_next 12 = .ok (.dup, 1) := dk_89 (dk_at dksX13_next_0 12 rfl rfl)
theorem dX13_next_13 : decode cX13_next 13 = .ok (.getfield 23, 3) := dk_180 0 23 (dk_at dksX13_next_0 13 rfl rfl)
theorem dX13_next_16 : decode cX13_next 16 = .ok (.iconst 1, 1) := dk_4 (dk_at dksX13_next_0 16 rfl rfl)
theorem dX13_next_17 : decode cX13_next 17 = .ok (.iadd, 1) := dk_96 (dk_at dksX13_next_0 17 rfl rfl)
theorem dX13_next_18 : decode cX13_next 18 = .ok (.putfield 23, 3) := dk_181 0 23 (dk_at dksX13_next_0 18 rfl rfl)
theorem dX13_next_21 : decode cX13_next 21 = .ok (.goto (-21), 3) := dk_167 255 235 (dk_at dksX13_next_0 21 rfl rfl)
theorem dX13_next_24 : decode cX13_next 24 = .ok (.aload_n 0, 1) := dk_42 (dk_at dksX13_next_1 0 rfl rfl)
theorem dX13_next_25 : decode cX13_next 25 = .ok (.aload_n 0, 1) := dk_42 (dk_at dksX13_next_1 1 rfl rfl)
theorem dX13_next_26 : decode cX13_next 26 = .ok (.getfield 23, 3) := dk_180 0 23 (dk_at dksX13_next_1 2 rfl rfl)
theorem dX13_next_29 : decode cX13_next 29 = .ok (.putfield 30, 3) := dk_181 0 30 (dk_at dksX13_next_1 5 rfl rfl)
theorem dX13_next_32 : decode cX13_next 32 = .ok (.aload_n 0, 1) := dk_42 (dk_at dksX13_next_1 8 rfl rfl)
theorem dX13_next_33 : decode cX13_next 33 = .ok (.aconst_null, 1) := dk_1 (dk_at dksX13_next_1 9 rfl rfl)
theorem dX13_next_34 : decode cX13_next 34 = .ok (.putfield 33, 3) := dk_181 0 33 (dk_at dksX13_next_1 10 rfl rfl)
theorem dX13_next_37 : decode cX13_next 37 = .ok (.aload_n 0, 1) := dk_42 (dk_at dksX13_next_1 13 rfl rfl)
theorem dX13_next_38 : decode cX13_next 38 = .ok (.iconst (-1), 1) := dk_2 (dk_at dksX13_next_1 14 rfl rfl)
theorem dX13_next_39 : decode cX13_next 39 = .ok (.putfield 37, 3) := dk_181 0 37 (dk_at dksX13_next_1 15 rfl rfl)
theorem dX13_next_42 : decode cX13_next 42 = .ok (.aload_n 0, 1) := dk_42 (dk_at dksX13_next_1 18 rfl rfl)
theorem dX13_next_43 : decode cX13_next 43 = .ok (.bipush 97, 2) := dk_16 97 (dk_at dksX13_next_1 19 rfl rfl)
theorem dX13_next_45 : decode cX13_next 45 = .ok (.bipush 122, 2) := dk_16 122 (dk_at dksX13_next_1 21 rfl rfl)
theorem dX13_next_47 : decode cX13_next 47 = .ok (.invokevirtual 26, 3) := dk_182 0 26 (dk_at dksX13_next_2 0 rfl rfl)
theorem dX13_next_50 : decode cX13_next 50 = .ok (.ifCond .eq 61, 3) := dk_153 0 61 (dk_at dksX13_next_2 3 rfl rfl)
theorem dX13_next_53 : decode cX13_next 53 = .ok (.new 40, 3) := dk_187 0 40 (dk_at dksX13_next_2 6 rfl rfl)
theorem dX13_next_56 : decode cX13_next 56 = .ok (.dup, 1) := dk_89 (dk_at dksX13_next_2 9 rfl rfl)
theorem dX13_next_57 : decode cX13_next 57 = .ok (.invokespecial 42, 3) := dk_183 0 42 (dk_at dksX13_next_2 10 rfl rfl)
theorem dX13_next_60 : decode cX13_next 60 = .ok (.astore_n 1, 1) := dk_76 (dk_at dksX13_next_2 13 rfl rfl)
theorem dX13_next_61 : decode cX13_next 61 = .ok (.aload_n 0, 1) := dk_42 (dk_at dksX13_next_2 14 rfl rfl)
theorem dX13_next_62 : decode cX13_next 62 = .ok (.bipush 97, 2) := dk_16 97 (dk_at dksX13_next_2 15 rfl rfl)
theorem dX13_next_64 : decode cX13_next 64 = .ok (.bipush 122, 2) := dk_16 122 (dk_at dksX13_next_2 17 rfl rfl)
theorem dX13_next_66 : decode cX13_next 66 = .ok (.invokevirtual 26, 3) := dk_182 0 26 (dk_at dksX13_next_2 19 rfl rfl)
theorem dX13_next_69 : decode cX13_next 69 = .ok (.ifCond .eq 31, 3) := dk_153 0 31 (dk_at dksX13_next_3 0 rfl rfl)
theorem dX13_next_72 : decode cX13_next 72 = .ok (.aload_n 1, 1) := dk_43 (dk_at dksX13_next_3 3 rfl rfl)
theorem dX13_next_73 : decode cX13_next 73 = .ok (.aload_n 0, 1) := dk_42 (dk_at dksX13_next_3 4 rfl rfl)
theorem dX13_next_74 : decode cX13_next 74 = .ok (.getfield 9, 3) := dk_180 0 9 (dk_at dksX13_next_3 5 rfl rfl)
theorem dX13_next_77 : decode cX13_next 77 = .ok (.aload_n 0, 1) := dk_42 (dk_at dksX13_next_3 8 rfl rfl)
theorem dX13_next_78 : decode cX13_next 78 = .ok (.getfield 23, 3) := dk_180 0 23 (dk_at dksX13_next_3 9 rfl rfl)
theorem dX13_next_81 : decode cX13_next 81 = .ok (.iaload, 1) := dk_46 (dk_at dksX13_next_3 12 rfl rfl)
theorem dX13_next_82 : decode cX13_next 82 = .ok (.i2c, 1) := dk_146 (dk_at dksX13_next_3 13 rfl rfl)
theorem dX13_next_83 : decode cX13_next 83 = .ok (.invokevirtual 43, 3) := dk_182 0 43 (dk_at dksX13_next_3 14 rfl rfl)
theorem dX13_next_86 : decode cX13_next 86 = .ok (.pop, 1) := dk_87 (dk_at dksX13_next_3 17 rfl rfl)
theorem dX13_next_87 : decode cX13_next 87 = .ok (.aload_n 0, 1) := dk_42 (dk_at dksX13_next_3 18 rfl rfl)
theorem dX13_next_88 : decode cX13_next 88 = .ok (.dup, 1) := dk_89 (dk_at dksX13_next_3 19 rfl rfl)
theorem dX13_next_89 : decode cX13_next 89 = .ok (.getfield 23, 3) := dk_180 0 23 (dk_at dksX13_next_3 20 rfl rfl)
theorem dX13_next_92 : decode cX13_next 92 = .ok (.iconst 1, 1) := dk_4 (dk_at dksX13_next_3 23 rfl rfl)
theorem dX13_next_93 : decode cX13_next 93 = .ok (.iadd, 1) := dk_96 (dk_at dksX13_next_4 0 rfl rfl)
theorem dX13_next_94 : decode cX13_next 94 = .ok (.putfield 23, 3) := dk_181 0 23 (dk_at dksX13_next_4 1 rfl rfl)
theorem dX13_next_97 : decode cX13_next 97 = .ok (.goto (-36), 3) := dk_167 255 220 (dk_at dksX13_next_4 4 rfl rfl)
theorem dX13_next_100 : decode cX13_next 100 = .ok (.aload_n 0, 1) := dk_42 (dk_at dksX13_next_4 7 rfl rfl)
theorem dX13_next_101 : decode cX13_next 101 = .ok (.aload_n 1, 1) := dk_43 (dk_at dksX13_next_4 8 rfl rfl)
theorem dX13_next_102 : decode cX13_next 102 = .ok (.invokevirtual 47, 3) := dk_182 0 47 (dk_at dksX13_next_4 9 rfl rfl)
theorem dX13_next_105 : decode cX13_next 105 = .ok (.putfield 33, 3) := dk_181 0 33 (dk_at dksX13_next_4 12 rfl rfl)
theorem dX13_next_108 : decode cX13_next 108 = .ok (.goto 116, 3) := dk_167 0 116 (dk_at dksX13_next_4 15 rfl rfl)
theorem dX13_next_111 : decode cX13_next 111 = .ok (.aload_n 0, 1) := dk_42 (dk_at dksX13_next_4 18 rfl rfl)
theorem dX13_next_112 : decode cX13_next 112 = .ok (.bipush 48, 2) := dk_16 48 (dk_at dksX13_next_4 19 rfl rfl)
theorem dX13_next_114 : decode cX13_next 114 = .ok (.bipush 57, 2) := dk_16 57 (dk_at dksX13_next_4 21 rfl rfl)
theorem dX13_next_116 : decode cX13_next 116 = .ok (.invokevirtual 26, 3) := dk_182 0 26 (dk_at dksX13_next_5 0 rfl rfl)
theorem dX13_next_119 : decode cX13_next 119 = .ok (.ifCond .eq 78, 3) := dk_153 0 78 (dk_at dksX13_next_5 3 rfl rfl)
theorem dX13_next_122 : decode cX13_next 122 = .ok (.iconst 0, 1) := dk_3 (dk_at dksX13_next_5 6 rfl rfl)
theorem dX13_next_123 : decode cX13_next 123 = .ok (.istore_n 1, 1) := dk_60 (dk_at dksX13_next_5 7 rfl rfl)
theorem dX13_next_124 : decode cX13_next 124 = .ok (.aload_n 0, 1) := dk_42 (dk_at dksX13_next_5 8 rfl rfl)
theorem dX13_next_125 : decode cX13_next 125 = .ok (.bipush 48, 2) := dk_16 48 (dk_at dksX13_next_5 9 rfl rfl)
theorem dX13_next_127 : decode cX13_next 127 = .ok (.bipush 57, 2) := dk_16 57 (dk_at dksX13_next_5 11 rfl rfl)
theorem dX13_next_129 : decode cX13_next 129 = .ok (.invokevirtual 26, 3) := dk_182 0 26 (dk_at dksX13_next_5 13 rfl rfl)
theorem dX13_next_132 : decode cX13_next 132 = .ok (.ifCond .eq 39, 3) := dk_153 0 39 (dk_at dksX13_next_5 16 rfl rfl)
theorem dX13_next_135 : decode cX13_next 135 = .ok (.bipush 100, 2) := dk_16 100 (dk_at dksX13_next_5 19 rfl rfl)
theorem dX13_next_137 : decode cX13_next 137 = .ok (.bipush 10, 2) := dk_16 10 (dk_at dksX13_next_5 21 rfl rfl)
theorem dX13_next_139 : decode cX13_next 139 = .ok (.iload_n 1, 1) := dk_27 (dk_at dksX13_next_5 23 rfl rfl)
theorem dX13_next_140 : decode cX13_next 140 = .ok (.imul, 1) := dk_104 (dk_at dksX13_next_6 0 rfl rfl)
theorem dX13_next_141 : decode cX13_next 141 = .ok (.aload_n 0, 1) := dk_42 (dk_at dksX13_next_6 1 rfl rfl)
theorem dX13_next_142 : decode cX13_next 142 = .ok (.getfield 9, 3) := dk_180 0 9 (dk_at dksX13_next_6 2 rfl rfl)
theorem dX13_next_145 : decode cX13_next 145 = .ok (.aload_n 0, 1) := dk_42 (dk_at dksX13_next_6 5 rfl rfl)
theorem dX13_next_146 : decode cX13_next 146 = .ok (.getfield 23, 3) := dk_180 0 23 (dk_at dksX13_next_6 6 rfl rfl)
theorem dX13_next_149 : decode cX13_next 149 = .ok (.iaload, 1) := dk_46 (dk_at dksX13_next_6 9 rfl rfl)
theorem dX13_next_150 : decode cX13_next 150 = .ok (.iadd, 1) := dk_96 (dk_at dksX13_next_6 10 rfl rfl)
theorem dX13_next_151 : decode cX13_next 151 = .ok (.bipush 48, 2) := dk_16 48 (dk_at dksX13_next_6 11 rfl rfl)
theorem dX13_next_153 : decode cX13_next 153 = .ok (.isub, 1) := dk_100 (dk_at dksX13_next_6 13 rfl rfl)
theorem dX13_next_154 : decode cX13_next 154 = .ok (.invokestatic 51, 3) := dk_184 0 51 (dk_at dksX13_next_6 14 rfl rfl)
theorem dX13_next_157 : decode cX13_next 157 = .ok (.istore_n 1, 1) := dk_60 (dk_at dksX13_next_6 17 rfl rfl)
theorem dX13_next_158 : decode cX13_next 158 = .ok (.aload_n 0, 1) := dk_42 (dk_at dksX13_next_6 18 rfl rfl)
theorem dX13_next_159 : decode cX13_next 159 = .ok (.dup, 1) := dk_89 (dk_at dksX13_next_6 19 rfl rfl)
theorem dX13_next_160 : decode cX13_next 160 = .ok (.getfield 23, 3) := dk_180 0 23 (dk_at dksX13_next_6 20 rfl rfl)
theorem dX13_next_163 : decode cX13_next 163 = .ok (.iconst 1, 1) := dk_4 (dk_at dksX13_next_6 23 rfl rfl)
theorem dX13_next_164 : decode cX13_next 164 = .ok (.iadd, 1) := dk_96 (dk_at dksX13_next_7 0 rfl rfl)
theorem dX13_next_165 : decode cX13_next 165 = .ok (.putfield 23, 3) := dk_181 0 23 (dk_at dksX13_next_7 1 rfl rfl)
theorem dX13_next_168 : decode cX13_next 168 = .ok (.goto (-44), 3) := dk_167 255 212 (dk_at dksX13_next_7 4 rfl rfl)
theorem dX13_next_171 : decode cX13_next 171 = .ok (.aload_n 0, 1) := dk_42 (dk_at dksX13_next_7 7 rfl rfl)
theorem dX13_next_172 : decode cX13_next 172 = .ok (.aload_n 0, 1) := dk_42 (dk_at dksX13_next_7 8 rfl rfl)
theorem dX13_next_173 : decode cX13_next 173 = .ok (.getfield 23, 3) := dk_180 0 23 (dk_at dksX13_next_7 9 rfl rfl)
theorem dX13_next_176 : decode cX13_next 176 = .ok (.aload_n 0, 1) := dk_42 (dk_at dksX13_next_7 12 rfl rfl)
theorem dX13_next_177 : decode cX13_next 177 = .ok (.getfield 30, 3) := dk_180 0 30 (dk_at dksX13_next_7 13 rfl rfl)
theorem dX13_next_180 : decode cX13_next 180 = .ok (.isub, 1) := dk_100 (dk_at dksX13_next_7 16 rfl rfl)
theorem dX13_next_181 : decode cX13_next 181 = .ok (.iconst 2, 1) := dk_5 (dk_at dksX13_next_7 17 rfl rfl)
theorem dX13_next_182 : decode cX13_next 182 = .ok (.if_icmp .le 8, 3) := dk_164 0 8 (dk_at dksX13_next_7 18 rfl rfl)
theorem dX13_next_185 : decode cX13_next 185 = .ok (.bipush 100, 2) := dk_16 100 (dk_at dksX13_next_7 21 rfl rfl)
theorem dX13_next_187 : decode cX13_next 187 = .ok (.goto 4, 3) := dk_167 0 4 (dk_at dksX13_next_8 0 rfl rfl)
theorem dX13_next_190 : decode cX13_next 190 = .ok (.iload_n 1, 1) := dk_27 (dk_at dksX13_next_8 3 rfl rfl)
theorem dX13_next_191 : decode cX13_next 191 = .ok (.putfield 37, 3) := dk_181 0 37 (dk_at dksX13_next_8 4 rfl rfl)
theorem dX13_next_194 : decode cX13_next 194 = .ok (.goto 30, 3) := dk_167 0 30 (dk_at dksX13_next_8 7 rfl rfl)
theorem dX13_next_197 : decode cX13_next 197 = .ok (.aload_n 0, 1) := dk_42 (dk_at dksX13_next_8 10 rfl rfl)
theorem dX13_next_198 : decode cX13_next 198 = .ok (.bipush 59, 2) := dk_16 59 (dk_at dksX13_next_8 11 rfl rfl)
theorem dX13_next_200 : decode cX13_next 200 = .ok (.bipush 59, 2) := dk_16 59 (dk_at dksX13_next_8 13 rfl rfl)
theorem dX13_next_202 : decode cX13_next 202 = .ok (.invokevirtual 26, 3) := dk_182 0 26 (dk_at dksX13_next_8 15 rfl rfl)
theorem dX13_next_205 : decode cX13_next 205 = .ok (.ifCond .eq 19, 3) := dk_153 0 19 (dk_at dksX13_next_8 18 rfl rfl)
theorem dX13_next_208 : decode cX13_next 208 = .ok (.aload_n 0, 1) := dk_42 (dk_at dksX13_next_8 21 rfl rfl)
theorem dX13_next_209 : decode cX13_next 209 = .ok (.ldc 57, 2) := dk_18 57 (dk_at dksX13_next_8 22 rfl rfl)
theorem dX13_next_211 : decode cX13_next 211 = .ok (.putfield 33, 3) := dk_181 0 33 (dk_at dksX13_next_9 0 rfl rfl)
theorem dX13_next_214 : decode cX13_next 214 = .ok (.aload_n 0, 1) := dk_42 (dk_at dksX13_next_9 3 rfl rfl)
theorem dX13_next_215 : decode cX13_next 215 = .ok (.dup, 1) := dk_89 (dk_at dksX13_next_9 4 rfl rfl)
theorem dX13_next_216 : decode cX13_next 216 = .ok (.getfield 23, 3) := dk_180 0 23 (dk_at dksX13_next_9 5 rfl rfl)
theorem dX13_next_219 : decode cX13_next 219 = .ok (.iconst 1, 1) := dk_4 (dk_at dksX13_next_9 8 rfl rfl)
theorem dX13_next_220 : decode cX13_next 220 = .ok (.iadd, 1) := dk_96 (dk_at dksX13_next_9 9 rfl rfl)
theorem dX13_next_221 : decode cX13_next 221 = .ok (.putfield 23, 3) := dk_181 0 23 (dk_at dksX13_next_9 10 rfl rfl)
theorem dX13_next_224 : decode cX13_next 224 = .ok (.return_, 1) := dk_177 (dk_at dksX13_next_9 13 rfl rfl)
abbrev cX13_isIn : ByteArray := prog_9_method_2_code
def yX13_isIn : MethodName := ⟨RX13, "isIn", "(II)Z"⟩
def dkwX13_isIn_1 : List UInt8 := [42, 180, 0, 9, 42, 180, 0, 23, 46, 28, 163, 0, 7, 4, 167, 0, 4, 3, 172]
abbrev dktX13_isIn_1 : List UInt8 := dkwX13_isIn_1 ++ []
def dkwX13_isIn_0 : List UInt8 := [42, 180, 0, 23, 42, 180, 0, 15, 162, 0, 33, 42, 180, 0, 9, 42, 180, 0, 23, 46, 27, 161, 0, 20]
abbrev dktX13_isIn_0 : List UInt8 := dkwX13_isIn_0 ++ dktX13_isIn_1
theorem dksX13_isIn_0 : cX13_isIn.data.toList.drop 0 = dktX13_isIn_0 := by decide +kernel
theorem dksX13_isIn_1 : cX13_isIn.data.toList.drop 24 = dktX13_isIn_1 := dk_seg dksX13_isIn_0 24 rfl rfl
theorem dX13_isIn_0 : decode cX13_isIn 0 = .ok (.aload_n 0, 1) := dk_42 (dk_at dksX13_isIn_0 0 rfl rfl)
theorem dX13_isIn_1 : decode cX13_isIn 1 = .ok (.getfield 23, 3) := dk_180 0 23 (dk_at dksX13_isIn_0 1 rfl rfl)
theorem dX13_isIn_4 : decode cX13_isIn 4 = .ok (.aload_n 0, 1) := dk_42 (dk_at dksX13_isIn_0 4 rfl rfl)
theorem dX13_isIn_5 : decode cX13_isIn 5 = .ok (.getfield 15, 3) := dk_180 0 15 (dk_at dksX13_isIn_0 5 rfl rfl)
theorem dX13_isIn_8 : decode cX13_isIn 8 = .ok (.if_icmp .ge 33, 3) := dk_162 0 33 (dk_at dksX13_isIn_0 8 rfl rfl)
theorem dX13_isIn_11 : decode cX13_isIn 11 = .ok (.aload_n 0, 1) := dk_42 (dk_at dksX13_isIn_0 11 rfl rfl)
theorem dX13_isIn_12 : decode cX13_isIn 12 = .ok (.getfield 9, 3) := dk_180 0 9 (dk_at dksX13_isIn_0 12 rfl rfl)
theorem dX13_isIn_15 : decode cX13_isIn 15 = .ok (.aload_n 0, 1) := dk_42 (dk_at dksX13_isIn_0 15 rfl rfl)
theorem dX13_isIn_16 : decode cX13_isIn 16 = .ok (.getfield 23, 3) := dk_180 0 23 (dk_at dksX13_isIn_0 16 rfl rfl)
theorem dX13_isIn_19 : decode cX13_isIn 19 = .ok (.iaload, 1) := dk_46 (dk_at dksX13_isIn_0 19 rfl rfl)
theorem dX13_isIn_20 : decode cX13_isIn 20 = .ok (.iload_n 1, 1) := dk_27 (dk_at dksX13_isIn_0 20 rfl rfl)
theorem dX13_isIn_21 : decode cX13_isIn 21 = .ok (.if_icmp .lt 20, 3) := dk_161 0 20 (dk_at dksX13_isIn_0 21 rfl rfl)
theorem dX13_isIn_24 : decode cX13_isIn 24 = .ok (.aload_n 0, 1) := dk_42 (dk_at dksX13_isIn_1 0 rfl rfl)
theorem dX13_isIn_25 : decode cX13_isIn 25 = .ok (.getfield 9, 3) := dk_180 0 9 (dk_at dksX13_isIn_1 1 rfl rfl)
theorem dX13_isIn_28 : decode cX13_isIn 28 = .ok (.aload_n 0, 1) := dk_42 (dk_at dksX13_isIn_1 4 rfl rfl)
theorem dX13_isIn_29 : decode cX13_isIn 29 = .ok (.getfield 23, 3) := dk_180 0 23 (dk_at dksX13_isIn_1 5 rfl rfl)
theorem dX13_isIn_32 : decode cX13_isIn 32 = .ok (.iaload, 1) := dk_46 (dk_at dksX13_isIn_1 8 rfl rfl)
theorem dX13_isIn_33 : decode cX13_isIn 33 = .ok (.iload_n 2, 1) := dk_28 (dk_at dksX13_isIn_1 9 rfl rfl)
theorem dX13_isIn_34 : decode cX13_isIn 34 = .ok (.if_icmp .gt 7, 3) := dk_163 0 7 (dk_at dksX13_isIn_1 10 rfl rfl)
theorem dX13_isIn_37 : decode cX13_isIn 37 = .ok (.iconst 1, 1) := dk_4 (dk_at dksX13_isIn_1 13 rfl rfl)
theorem dX13_isIn_38 : decode cX13_isIn 38 = .ok (.goto 4, 3) := dk_167 0 4 (dk_at dksX13_isIn_1 14 rfl rfl)
theorem dX13_isIn_41 : decode cX13_isIn 41 = .ok (.iconst 0, 1) := dk_3 (dk_at dksX13_isIn_1 17 rfl rfl)
theorem dX13_isIn_42 : decode cX13_isIn 42 = .ok (.ireturn, 1) := dk_172 (dk_at dksX13_isIn_1 18 rfl rfl)
abbrev cX13_item : ByteArray := prog_9_method_11_code
def yX13_item : MethodName := ⟨RX13, "item", "()V"⟩
def dkwX13_item_12 : List UInt8 := [181, 0, 134, 167, 0, 15, 42, 182, 0, 136, 167, 0, 8, 42, 182, 0, 73, 191, 177]
abbrev dktX13_item_12 : List UInt8 := dkwX13_item_12 ++ []
def dkwX13_item_11 : List UInt8 := [182, 0, 82, 181, 0, 132, 167, 0, 36, 42, 182, 0, 70, 42, 180, 0, 19, 42, 3, 16, 99, 182, 0, 82]
abbrev dktX13_item_11 : List UInt8 := dkwX13_item_11 ++ dktX13_item_12
def dkwX13_item_10 : List UInt8 := [42, 29, 182, 0, 119, 2, 182, 0, 128, 167, 0, 56, 42, 182, 0, 70, 42, 180, 0, 19, 42, 5, 7]
abbrev dktX13_item_10 : List UInt8 := dkwX13_item_10 ++ dktX13_item_11
def dkwX13_item_9 : List UInt8 := [167, 0, 4, 3, 182, 0, 128, 167, 0, 82, 42, 182, 0, 70, 42, 182, 0, 84, 62, 42, 180, 0, 19, 29]
abbrev dktX13_item_9 : List UInt8 := dkwX13_item_9 ++ dktX13_item_10
def dkwX13_item_8 : List UInt8 := [180, 0, 19, 29, 21, 4, 42, 18, 122, 182, 0, 124, 153, 0, 13, 42, 3, 16, 99, 182, 0, 82]
abbrev dktX13_item_8 : List UInt8 := dkwX13_item_8 ++ dktX13_item_9
def dkwX13_item_7 : List UInt8 := [42, 182, 0, 117, 167, 0, 131, 42, 182, 0, 70, 42, 182, 0, 84, 62, 42, 29, 182, 0, 119, 54, 4, 42]
abbrev dktX13_item_7 : List UInt8 := dkwX13_item_7 ++ dktX13_item_8
def dkwX13_item_6 : List UInt8 := [170, 0, 0, 0, 0, 168, 0, 0, 0, 0, 0, 0, 0, 5, 0, 0, 0, 38, 0, 0, 0, 45, 0, 0, 0, 94, 0, 0, 0, 120, 0, 0, 0, 140, 0, 0, 0, 161]
abbrev dktX13_item_6 : List UInt8 := dkwX13_item_6 ++ dktX13_item_7
def dkwX13_item_5 : List UInt8 := [18, 115, 182, 0, 64, 153, 0, 5, 8, 61, 28]
abbrev dktX13_item_5 : List UInt8 := dkwX13_item_5 ++ dktX13_item_6
def dkwX13_item_4 : List UInt8 := [153, 0, 33, 6, 61, 167, 0, 28, 43, 18, 113, 182, 0, 64, 153, 0, 19, 7, 61, 167, 0, 14, 43]
abbrev dktX13_item_4 : List UInt8 := dkwX13_item_4 ++ dktX13_item_5
def dkwX13_item_3 : List UInt8 := [61, 167, 0, 56, 43, 18, 109, 182, 0, 64, 153, 0, 47, 5, 61, 167, 0, 42, 43, 18, 111, 182, 0, 64]
abbrev dktX13_item_3 : List UInt8 := dkwX13_item_3 ++ dktX13_item_4
def dkwX13_item_2 : List UInt8 := [43, 18, 105, 182, 0, 64, 153, 0, 75, 3, 61, 167, 0, 70, 43, 18, 107, 182, 0, 64, 153, 0, 61, 4]
abbrev dktX13_item_2 : List UInt8 := dkwX13_item_2 ++ dktX13_item_3
def dkwX13_item_1 : List UInt8 := [171, 0, 0, 0, 138, 0, 0, 0, 6, 143, 210, 255, 124, 0, 0, 0, 85, 191, 194, 189, 1, 0, 0, 0, 113, 196, 227, 155, 85, 0, 0, 0, 57, 0, 1, 165, 220, 0, 0, 0, 127, 0, 50, 78, 139, 0, 0, 0, 71, 6, 131, 243, 14, 0, 0, 0, 99]
abbrev dktX13_item_1 : List UInt8 := dkwX13_item_1 ++ dktX13_item_2
def dkwX13_item_0 : List UInt8 := [42, 180, 0, 33, 199, 0, 8, 42, 182, 0, 73, 191, 42, 180, 0, 33, 76, 2, 61, 43, 182, 0, 102]
abbrev dktX13_item_0 : List UInt8 := dkwX13_item_0 ++ dktX13_item_1
theorem dksX13_item_0 : cX13_item.data.toList.drop 0 = dktX13_item_0 := by decide +kernel
theorem dksX13_item_1 : cX13_item.data.toList.drop 23 = dktX13_item_1 := dk_seg dksX13_item_0 23 rfl rfl
theorem dksX13_item_2 : cX13_item.data.toList.drop 80 = dktX13_item_2 := dk_seg dksX13_item_1 57 rfl rfl
theorem dksX13_item_3 : cX13_item.data.toList.drop 104 = dktX13_item_3 := dk_seg dksX13_item_2 24 rfl rfl
theorem dksX13_item_4 : cX13_item.data.toList.drop 128 = dktX13_item_4 := dk_seg dksX13_item_3 24 rfl rfl
theorem dksX13_item_5 : cX13_item.data.toList.drop 151 = dktX13_item_5 := dk_seg dksX13_item_4 23 rfl rfl
theorem dksX13_item_6 : cX13_item.data.toList.drop 162 = dktX13_item_6 := dk_seg dksX13_item_5 11 rfl rfl
theorem dksX13_item_7 : cX13_item.data.toList.drop 200 = dktX13_item_7 := dk_seg dksX13_item_6 38 rfl rfl
theorem dksX13_item_8 : cX13_item.data.toList.drop 224 = dktX13_item_8 := dk_seg dksX13_item_7 24 rfl rfl
theorem dksX13_item_9 : cX13_item.data.toList.drop 246 = dktX13_item_9 := dk_seg dksX13_item_8 22 rfl rfl
theorem dksX13_item_10 : cX13_item.data.toList.drop 270 = dktX13_item_10 := dk_seg dksX13_item_9 24 rfl rfl
theorem dksX13_item_11 : cX13_item.data.toList.drop 293 = dktX13_item_11 := dk_seg dksX13_item_10 23 rfl rfl
theorem dksX13_item_12 : cX13_item.data.toList.drop 317 = dktX13_item_12 := dk_seg dksX13_item_11 24 rfl rfl
theorem dX13_item_0 : decode cX13_item 0 = .ok (.aload_n 0, 1) := dk_42 (dk_at dksX13_item_0 0 rfl rfl)
theorem dX13_item_1 : decode cX13_item 1 = .ok (.getfield 33, 3) := dk_180 0 33 (dk_at dksX13_item_0 1 rfl rfl)
theorem dX13_item_4 : decode cX13_item 4 = .ok (.ifnonnull 8, 3) := dk_199 0 8 (dk_at dksX13_item_0 4 rfl rfl)
theorem dX13_item_7 : decode cX13_item 7 = .ok (.aload_n 0, 1) := dk_42 (dk_at dksX13_item_0 7 rfl rfl)
theorem dX13_item_8 : decode cX13_item 8 = .ok (.invokevirtual 73, 3) := dk_182 0 73 (dk_at dksX13_item_0 8 rfl rfl)
theorem dX13_item_11 : decode cX13_item 11 = .ok (.athrow, 1) := dk_191 (dk_at dksX13_item_0 11 rfl rfl)
theorem dX13_item_12 : decode cX13_item 12 = .ok (.aload_n 0, 1) := dk_42 (dk_at dksX13_item_0 12 rfl rfl)
theorem dX13_item_13 : decode cX13_item 13 = .ok (.getfield 33, 3) := dk_180 0 33 (dk_at dksX13_item_0 13 rfl rfl)
theorem dX13_item_16 : decode cX13_item 16 = .ok (.astore_n 1, 1) := dk_76 (dk_at dksX13_item_0 16 rfl rfl)
theorem dX13_item_17 : decode cX13_item 17 = .ok (.iconst (-1), 1) := dk_2 (dk_at dksX13_item_0 17 rfl rfl)
theorem dX13_item_18 : decode cX13_item 18 = .ok (.istore_n 2, 1) := dk_61 (dk_at dksX13_item_0 18 rfl rfl)
theorem dX13_item_19 : decode cX13_item 19 = .ok (.aload_n 1, 1) := dk_43 (dk_at dksX13_item_0 19 rfl rfl)
theorem dX13_item_20 : decode cX13_item 20 = .ok (.invokevirtual 102, 3) := dk_182 0 102 (dk_at dksX13_item_0 20 rfl rfl)
theorem dX13_item_23 : decode cX13_item 23 = .ok (.lookupswitch 138 #[(-1881997444, 85), (-1077756671, 113), (-991716523, 57), (107996, 127), (3296907, 71), (109310734, 99)], 57) := by decide +kernel
theorem dX13_item_80 : decode cX13_item 80 = .ok (.aload_n 1, 1) := dk_43 (dk_at dksX13_item_2 0 rfl rfl)
theorem dX13_item_81 : decode cX13_item 81 = .ok (.ldc 105, 2) := dk_18 105 (dk_at dksX13_item_2 1 rfl rfl)
theorem dX13_item_83 : decode cX13_item 83 = .ok (.invokevirtual 64, 3) := dk_182 0 64 (dk_at dksX13_item_2 3 rfl rfl)
theorem dX13_item_86 : decode cX13_item 86 = .ok (.ifCond .eq 75, 3) := dk_153 0 75 (dk_at dksX13_item_2 6 rfl rfl)
theorem dX13_item_89 : decode cX13_item 89 = .ok (.iconst 0, 1) := dk_3 (dk_at dksX13_item_2 9 rfl rfl)
theorem dX13_item_90 : decode cX13_item 90 = .ok (.istore_n 2, 1) := dk_61 (dk_at dksX13_item_2 10 rfl rfl)
theorem dX13_item_91 : decode cX13_item 91 = .ok (.goto 70, 3) := dk_167 0 70 (dk_at dksX13_item_2 11 rfl rfl)
theorem dX13_item_94 : decode cX13_item 94 = .ok (.aload_n 1, 1) := dk_43 (dk_at dksX13_item_2 14 rfl rfl)
theorem dX13_item_95 : decode cX13_item 95 = .ok (.ldc 107, 2) := dk_18 107 (dk_at dksX13_item_2 15 rfl rfl)
theorem dX13_item_97 : decode cX13_item 97 = .ok (.invokevirtual 64, 3) := dk_182 0 64 (dk_at dksX13_item_2 17 rfl rfl)
theorem dX13_item_100 : decode cX13_item 100 = .ok (.ifCond .eq 61, 3) := dk_153 0 61 (dk_at dksX13_item_2 20 rfl rfl)
theorem dX13_item_103 : decode cX13_item 103 = .ok (.iconst 1, 1) := dk_4 (dk_at dksX13_item_2 23 rfl rfl)
theorem dX13_item_104 : decode cX13_item 104 = .ok (.istore_n 2, 1) := dk_61 (dk_at dksX13_item_3 0 rfl rfl)
theorem dX13_item_105 : decode cX13_item 105 = .ok (.goto 56, 3) := dk_167 0 56 (dk_at dksX13_item_3 1 rfl rfl)
theorem dX13_item_108 : decode cX13_item 108 = .ok (.aload_n 1, 1) := dk_43 (dk_at dksX13_item_3 4 rfl rfl)
theorem dX13_item_109 : decode cX13_item 109 = .ok (.ldc 109, 2) := dk_18 109 (dk_at dksX13_item_3 5 rfl rfl)
theorem dX13_item_111 : decode cX13_item 111 = .ok (.invokevirtual 64, 3) := dk_182 0 64 (dk_at dksX13_item_3 7 rfl rfl)
theorem dX13_item_114 : decode cX13_item 114 = .ok (.ifCond .eq 47, 3) := dk_153 0 47 (dk_at dksX13_item_3 10 rfl rfl)
theorem dX13_item_117 : decode cX13_item 117 = .ok (.iconst 2, 1) := dk_5 (dk_at dksX13_item_3 13 rfl rfl)
theorem dX13_item_118 : decode cX13_item 118 = .ok (.istore_n 2, 1) := dk_61 (dk_at dksX13_item_3 14 rfl rfl)
theorem dX13_item_119 : decode cX13_item 119 = .ok (.goto 42, 3) := dk_167 0 42 (dk_at dksX13_item_3 15 rfl rfl)
theorem dX13_item_122 : decode cX13_item 122 = .ok (.aload_n 1, 1) := dk_43 (dk_at dksX13_item_3 18 rfl rfl)
theorem dX13_item_123 : decode cX13_item 123 = .ok (.ldc 111, 2) := dk_18 111 (dk_at dksX13_item_3 19 rfl rfl)
theorem dX13_item_125 : decode cX13_item 125 = .ok (.invokevirtual 64, 3) := dk_182 0 64 (dk_at dksX13_item_3 21 rfl rfl)
theorem dX13_item_128 : decode cX13_item 128 = .ok (.ifCond .eq 33, 3) := dk_153 0 33 (dk_at dksX13_item_4 0 rfl rfl)
theorem dX13_item_131 : decode cX13_item 131 = .ok (.iconst 3, 1) := dk_6 (dk_at dksX13_item_4 3 rfl rfl)
theorem dX13_item_132 : decode cX13_item 132 = .ok (.istore_n 2, 1) := dk_61 (dk_at dksX13_item_4 4 rfl rfl)
theorem dX13_item_133 : decode cX13_item 133 = .ok (.goto 28, 3) := dk_167 0 28 (dk_at dksX13_item_4 5 rfl rfl)
theorem dX13_item_136 : decode cX13_item 136 = .ok (.aload_n 1, 1) := dk_43 (dk_at dksX13_item_4 8 rfl rfl)
theorem dX13_item_137 : decode cX13_item 137 = .ok (.ldc 113, 2) := dk_18 113 (dk_at dksX13_item_4 9 rfl rfl)
theorem dX13_item_139 : decode cX13_item 139 = .ok (.invokevirtual 64, 3) := dk_182 0 64 (dk_at dksX13_item_4 11 rfl rfl)
theorem dX13_item_142 : decode cX13_item 142 = .ok (.ifCond .eq 19, 3) := dk_153 0 19 (dk_at dksX13_item_4 14 rfl rfl)
theorem dX13_item_145 : decode cX13_item 145 = .ok (.iconst 4, 1) := dk_7 (dk_at dksX13_item_4 17 rfl rfl)
theorem dX13_item_146 : decode cX13_item 146 = .ok (.istore_n 2, 1) := dk_61 (dk_at dksX13_item_4 18 rfl rfl)
theorem dX13_item_147 : decode cX13_item 147 = .ok (.goto 14, 3) := dk_167 0 14 (dk_at dksX13_item_4 19 rfl rfl)
theorem dX13_item_150 : decode cX13_item 150 = .ok (.aload_n 1, 1) := dk_43 (dk_at dksX13_item_4 22 rfl rfl)
theorem dX13_item_151 : decode cX13_item 151 = .ok (.ldc 115, 2) := dk_18 115 (dk_at dksX13_item_5 0 rfl rfl)
theorem dX13_item_153 : decode cX13_item 153 = .ok (.invokevirtual 64, 3) := dk_182 0 64 (dk_at dksX13_item_5 2 rfl rfl)
theorem dX13_item_156 : decode cX13_item 156 = .ok (.ifCond .eq 5, 3) := dk_153 0 5 (dk_at dksX13_item_5 5 rfl rfl)
theorem dX13_item_159 : decode cX13_item 159 = .ok (.iconst 5, 1) := dk_8 (dk_at dksX13_item_5 8 rfl rfl)
theorem dX13_item_160 : decode cX13_item 160 = .ok (.istore_n 2, 1) := dk_61 (dk_at dksX13_item_5 9 rfl rfl)
theorem dX13_item_161 : decode cX13_item 161 = .ok (.iload_n 2, 1) := dk_28 (dk_at dksX13_item_5 10 rfl rfl)
theorem dX13_item_162 : decode cX13_item 162 = .ok (.tableswitch 168 0 5 #[38, 45, 94, 120, 140, 161], 38) := by decide +kernel
theorem dX13_item_200 : decode cX13_item 200 = .ok (.aload_n 0, 1) := dk_42 (dk_at dksX13_item_7 0 rfl rfl)
theorem dX13_item_201 : decode cX13_item 201 = .ok (.invokevirtual 117, 3) := dk_182 0 117 (dk_at dksX13_item_7 1 rfl rfl)
theorem dX13_item_204 : decode cX13_item 204 = .ok (.goto 131, 3) := dk_167 0 131 (dk_at dksX13_item_7 4 rfl rfl)
theorem dX13_item_207 : decode cX13_item 207 = .ok (.aload_n 0, 1) := dk_42 (dk_at dksX13_item_7 7 rfl rfl)
theorem dX13_item_208 : decode cX13_item 208 = .ok (.invokevirtual 70, 3) := dk_182 0 70 (dk_at dksX13_item_7 8 rfl rfl)
theorem dX13_item_211 : decode cX13_item 211 = .ok (.aload_n 0, 1) := dk_42 (dk_at dksX13_item_7 11 rfl rfl)
theorem dX13_item_212 : decode cX13_item 212 = .ok (.invokevirtual 84, 3) := dk_182 0 84 (dk_at dksX13_item_7 12 rfl rfl)
theorem dX13_item_215 : decode cX13_item 215 = .ok (.istore_n 3, 1) := dk_62 (dk_at dksX13_item_7 15 rfl rfl)
theorem dX13_item_216 : decode cX13_item 216 = .ok (.aload_n 0, 1) := dk_42 (dk_at dksX13_item_7 16 rfl rfl)
theorem dX13_item_217 : decode cX13_item 217 = .ok (.iload_n 3, 1) := dk_29 (dk_at dksX13_item_7 17 rfl rfl)
theorem dX13_item_218 : decode cX13_item 218 = .ok (.invokevirtual 119, 3) := dk_182 0 119 (dk_at dksX13_item_7 18 rfl rfl)
theorem dX13_item_221 : decode cX13_item 221 = .ok (.istore 4, 2) := dk_54 4 (dk_at dksX13_item_7 21 rfl rfl)
theorem dX13_item_223 : decode cX13_item 223 = .ok (.aload_n 0, 1) := dk_42 (dk_at dksX13_item_7 23 rfl rfl)
theorem dX13_item_224 : decode cX13_item 224 = .ok (.getfield 19, 3) := dk_180 0 19 (dk_at dksX13_item_8 0 rfl rfl)
theorem dX13_item_227 : decode cX13_item 227 = .ok (.iload_n 3, 1) := dk_29 (dk_at dksX13_item_8 3 rfl rfl)
theorem dX13_item_228 : decode cX13_item 228 = .ok (.iload 4, 2) := dk_21 4 (dk_at dksX13_item_8 4 rfl rfl)
theorem dX13_item_230 : decode cX13_item 230 = .ok (.aload_n 0, 1) := dk_42 (dk_at dksX13_item_8 6 rfl rfl)
theorem dX13_item_231 : decode cX13_item 231 = .ok (.ldc 122, 2) := dk_18 122 (dk_at dksX13_item_8 7 rfl rfl)
theorem dX13_item_233 : decode cX13_item 233 = .ok (.invokevirtual 124, 3) := dk_182 0 124 (dk_at dksX13_item_8 9 rfl rfl)
theorem dX13_item_236 : decode cX13_item 236 = .ok (.ifCond .eq 13, 3) := dk_153 0 13 (dk_at dksX13_item_8 12 rfl rfl)
theorem dX13_item_239 : decode cX13_item 239 = .ok (.aload_n 0, 1) := dk_42 (dk_at dksX13_item_8 15 rfl rfl)
theorem dX13_item_240 : decode cX13_item 240 = .ok (.iconst 0, 1) := dk_3 (dk_at dksX13_item_8 16 rfl rfl)
theorem dX13_item_241 : decode cX13_item 241 = .ok (.bipush 99, 2) := dk_16 99 (dk_at dksX13_item_8 17 rfl rfl)
theorem dX13_item_243 : decode cX13_item 243 = .ok (.invokevirtual 82, 3) := dk_182 0 82 (dk_at dksX13_item_8 19 rfl rfl)
theorem dX13_item_246 : decode cX13_item 246 = .ok (.goto 4, 3) := dk_167 0 4 (dk_at dksX13_item_9 0 rfl rfl)
theorem dX13_item_249 : decode cX13_item 249 = .ok (.iconst 0, 1) := dk_3 (dk_at dksX13_item_9 3 rfl rfl)
theorem dX13_item_250 : decode cX13_item 250 = .ok (.invokevirtual 128, 3) := dk_182 0 128 (dk_at dksX13_item_9 4 rfl rfl)
theorem dX13_item_253 : decode cX13_item 253 = .ok (.goto 82, 3) := dk_167 0 82 (dk_at dksX13_item_9 7 rfl rfl)
theorem dX13_item_256 : decode cX13_item 256 = .ok (.aload_n 0, 1) := dk_42 (dk_at dksX13_item_9 10 rfl rfl)
theorem dX13_item_257 : decode cX13_item 257 = .ok (.invokevirtual 70, 3) := dk_182 0 70 (dk_at dksX13_item_9 11 rfl rfl)
theorem dX13_item_260 : decode cX13_item 260 = .ok (.aload_n 0, 1) := dk_42 (dk_at dksX13_item_9 14 rfl rfl)
theorem dX13_item_261 : decode cX13_item 261 = .ok (.invokevirtual 84, 3) := dk_182 0 84 (dk_at dksX13_item_9 15 rfl rfl)
theorem dX13_item_264 : decode cX13_item 264 = .ok (.istore_n 3, 1) := dk_62 (dk_at dksX13_item_9 18 rfl rfl)
theorem dX13_item_265 : decode cX13_item 265 = .ok (.aload_n 0, 1) := dk_42 (dk_at dksX13_item_9 19 rfl rfl)
theorem dX13_item_266 : decode cX13_item 266 = .ok (.getfield 19, 3) := dk_180 0 19 (dk_at dksX13_item_9 20 rfl rfl)
theorem dX13_item_269 : decode cX13_item 269 = .ok (.iload_n 3, 1) := dk_29 (dk_at dksX13_item_9 23 rfl rfl)
theorem dX13_item_270 : decode cX13_item 270 = .ok (.aload_n 0, 1) := dk_42 (dk_at dksX13_item_10 0 rfl rfl)
theorem dX13_item_271 : decode cX13_item 271 = .ok (.iload_n 3, 1) := dk_29 (dk_at dksX13_item_10 1 rfl rfl)
theorem dX13_item_272 : decode cX13_item 272 = .ok (.invokevirtual 119, 3) := dk_182 0 119 (dk_at dksX13_item_10 2 rfl rfl)
theorem dX13_item_275 : decode cX13_item 275 = .ok (.iconst (-1), 1) := dk_2 (dk_at dksX13_item_10 5 rfl rfl)
theorem dX13_item_276 : decode cX13_item 276 = .ok (.invokevirtual 128, 3) := dk_182 0 128 (dk_at dksX13_item_10 6 rfl rfl)
theorem dX13_item_279 : decode cX13_item 279 = .ok (.goto 56, 3) := dk_167 0 56 (dk_at dksX13_item_10 9 rfl rfl)
theorem dX13_item_282 : decode cX13_item 282 = .ok (.aload_n 0, 1) := dk_42 (dk_at dksX13_item_10 12 rfl rfl)
theorem dX13_item_283 : decode cX13_item 283 = .ok (.invokevirtual 70, 3) := dk_182 0 70 (dk_at dksX13_item_10 13 rfl rfl)
theorem dX13_item_286 : decode cX13_item 286 = .ok (.aload_n 0, 1) := dk_42 (dk_at dksX13_item_10 16 rfl rfl)
theorem dX13_item_287 : decode cX13_item 287 = .ok (.getfield 19, 3) := dk_180 0 19 (dk_at dksX13_item_10 17 rfl rfl)
theorem dX13_item_290 : decode cX13_item 290 = .ok (.aload_n 0, 1) := dk_42 (dk_at dksX13_item_10 20 rfl rfl)
theorem dX13_item_291 : decode cX13_item 291 = .ok (.iconst 2, 1) := dk_5 (dk_at dksX13_item_10 21 rfl rfl)
theorem dX13_item_292 : decode cX13_item 292 = .ok (.iconst 4, 1) := dk_7 (dk_at dksX13_item_10 22 rfl rfl)
theorem dX13_item_293 : decode cX13_item 293 = .ok (.invokevirtual 82, 3) := dk_182 0 82 (dk_at dksX13_item_11 0 rfl rfl)
theorem dX13_item_296 : decode cX13_item 296 = .ok (.putfield 132, 3) := dk_181 0 132 (dk_at dksX13_item_11 3 rfl rfl)
theorem dX13_item_299 : decode cX13_item 299 = .ok (.goto 36, 3) := dk_167 0 36 (dk_at dksX13_item_11 6 rfl rfl)
theorem dX13_item_302 : decode cX13_item 302 = .ok (.aload_n 0, 1) := dk_42 (dk_at dksX13_item_11 9 rfl rfl)
theorem dX13_item_303 : decode cX13_item 303 = .ok (.invokevirtual 70, 3) := dk_182 0 70 (dk_at dksX13_item_11 10 rfl rfl)
theorem dX13_item_306 : decode cX13_item 306 = .ok (.aload_n 0, 1) := dk_42 (dk_at dksX13_item_11 13 rfl rfl)
theorem dX13_item_307 : decode cX13_item 307 = .ok (.getfield 19, 3) := dk_180 0 19 (dk_at dksX13_item_11 14 rfl rfl)
theorem dX13_item_310 : decode cX13_item 310 = .ok (.aload_n 0, 1) := dk_42 (dk_at dksX13_item_11 17 rfl rfl)
theorem dX13_item_311 : decode cX13_item 311 = .ok (.iconst 0, 1) := dk_3 (dk_at dksX13_item_11 18 rfl rfl)
theorem dX13_item_312 : decode cX13_item 312 = .ok (.bipush 99, 2) := dk_16 99 (dk_at dksX13_item_11 19 rfl rfl)
theorem dX13_item_314 : decode cX13_item 314 = .ok (.invokevirtual 82, 3) := dk_182 0 82 (dk_at dksX13_item_11 21 rfl rfl)
theorem dX13_item_317 : decode cX13_item 317 = .ok (.putfield 134, 3) := dk_181 0 134 (dk_at dksX13_item_12 0 rfl rfl)
theorem dX13_item_320 : decode cX13_item 320 = .ok (.goto 15, 3) := dk_167 0 15 (dk_at dksX13_item_12 3 rfl rfl)
theorem dX13_item_323 : decode cX13_item 323 = .ok (.aload_n 0, 1) := dk_42 (dk_at dksX13_item_12 6 rfl rfl)
theorem dX13_item_324 : decode cX13_item 324 = .ok (.invokevirtual 136, 3) := dk_182 0 136 (dk_at dksX13_item_12 7 rfl rfl)
theorem dX13_item_327 : decode cX13_item 327 = .ok (.goto 8, 3) := dk_167 0 8 (dk_at dksX13_item_12 10 rfl rfl)
theorem dX13_item_330 : decode cX13_item 330 = .ok (.aload_n 0, 1) := dk_42 (dk_at dksX13_item_12 13 rfl rfl)
theorem dX13_item_331 : decode cX13_item 331 = .ok (.invokevirtual 73, 3) := dk_182 0 73 (dk_at dksX13_item_12 14 rfl rfl)
theorem dX13_item_334 : decode cX13_item 334 = .ok (.athrow, 1) := dk_191 (dk_at dksX13_item_12 17 rfl rfl)
theorem dX13_item_335 : decode cX13_item 335 = .ok (.return_, 1) := dk_177 (dk_at dksX13_item_12 18 rfl rfl)
abbrev cX13_wrong : ByteArray := prog_9_method_4_code
def yX13_wrong : MethodName := ⟨RX13, "wrong", "()LThreeStrangers$Fault;"⟩
def dkwX13_wrong_0 : List UInt8 := [187, 0, 59, 89, 42, 180, 0, 30, 183, 0, 61, 176]
abbrev dktX13_wrong_0 : List UInt8 := dkwX13_wrong_0 ++ []
theorem dksX13_wrong_0 : cX13_wrong.data.toList.drop 0 = dktX13_wrong_0 := by decide +kernel
theorem dX13_wrong_0 : decode cX13_wrong 0 = .ok (.new 59, 3) := dk_187 0 59 (dk_at dksX13_wrong_0 0 rfl rfl)
theorem dX13_wrong_3 : decode cX13_wrong 3 = .ok (.dup, 1) := dk_89 (dk_at dksX13_wrong_0 3 rfl rfl)
theorem dX13_wrong_4 : decode cX13_wrong 4 = .ok (.aload_n 0, 1) := dk_42 (dk_at dksX13_wrong_0 4 rfl rfl)
theorem dX13_wrong_5 : decode cX13_wrong 5 = .ok (.getfield 30, 3) := dk_180 0 30 (dk_at dksX13_wrong_0 5 rfl rfl)
theorem dX13_wrong_8 : decode cX13_wrong 8 = .ok (.invokespecial 61, 3) := dk_183 0 61 (dk_at dksX13_wrong_0 8 rfl rfl)
theorem dX13_wrong_11 : decode cX13_wrong 11 = .ok (.areturn, 1) := dk_176 (dk_at dksX13_wrong_0 11 rfl rfl)
abbrev cX13_person : ByteArray := prog_9_method_9_code
def yX13_person : MethodName := ⟨RX13, "person", "()V"⟩
def dkwX13_person_1 : List UInt8 := [16, 23, 182, 0, 82, 60, 42, 180, 0, 19, 27, 42, 3, 16, 9, 182, 0, 82, 182, 0, 88, 87, 177]
abbrev dktX13_person_1 : List UInt8 := dkwX13_person_1 ++ []
def dkwX13_person_0 : List UInt8 := [42, 180, 0, 19, 180, 0, 77, 16, 7, 160, 0, 8, 42, 182, 0, 73, 191, 42, 182, 0, 70, 42, 3]
abbrev dktX13_person_0 : List UInt8 := dkwX13_person_0 ++ dktX13_person_1
theorem dksX13_person_0 : cX13_person.data.toList.drop 0 = dktX13_person_0 := by decide +kernel
theorem dksX13_person_1 : cX13_person.data.toList.drop 23 = dktX13_person_1 := dk_seg dksX13_person_0 23 rfl rfl
theorem dX13_person_0 : decode cX13_person 0 = .ok (.aload_n 0, 1) := dk_42 (dk_at dksX13_person_0 0 rfl rfl)
theorem dX13_person_1 : decode cX13_person 1 = .ok (.getfield 19, 3) := dk_180 0 19 (dk_at dksX13_person_0 1 rfl rfl)
theorem dX13_person_4 : decode cX13_person 4 = .ok (.getfield 77, 3) := dk_180 0 77 (dk_at dksX13_person_0 4 rfl rfl)
theorem dX13_person_7 : decode cX13_person 7 = .ok (.bipush 7, 2) := dk_16 7 (dk_at dksX13_person_0 7 rfl rfl)
theorem dX13_person_9 : decode cX13_person 9 = .ok (.if_icmp .ne 8, 3) := dk_160 0 8 (dk_at dksX13_person_0 9 rfl rfl)
theorem dX13_person_12 : decode cX13_person 12 = .ok (.aload_n 0, 1) := dk_42 (dk_at dksX13_person_0 12 rfl rfl)
theorem dX13_person_13 : decode cX13_person 13 = .ok (.invokevirtual 73, 3) := dk_182 0 73 (dk_at dksX13_person_0 13 rfl rfl)
theorem dX13_person_16 : decode cX13_person 16 = .ok (.athrow, 1) := dk_191 (dk_at dksX13_person_0 16 rfl rfl)
theorem dX13_person_17 : decode cX13_person 17 = .ok (.aload_n 0, 1) := dk_42 (dk_at dksX13_person_0 17 rfl rfl)
theorem dX13_person_18 : decode cX13_person 18 = .ok (.invokevirtual 70, 3) := dk_182 0 70 (dk_at dksX13_person_0 18 rfl rfl)
theorem dX13_person_21 : decode cX13_person 21 = .ok (.aload_n 0, 1) := dk_42 (dk_at dksX13_person_0 21 rfl rfl)
theorem dX13_person_22 : decode cX13_person 22 = .ok (.iconst 0, 1) := dk_3 (dk_at dksX13_person_0 22 rfl rfl)
theorem dX13_person_23 : decode cX13_person 23 = .ok (.bipush 23, 2) := dk_16 23 (dk_at dksX13_person_1 0 rfl rfl)
theorem dX13_person_25 : decode cX13_person 25 = .ok (.invokevirtual 82, 3) := dk_182 0 82 (dk_at dksX13_person_1 2 rfl rfl)
theorem dX13_person_28 : decode cX13_person 28 = .ok (.istore_n 1, 1) := dk_60 (dk_at dksX13_person_1 5 rfl rfl)
theorem dX13_person_29 : decode cX13_person 29 = .ok (.aload_n 0, 1) := dk_42 (dk_at dksX13_person_1 6 rfl rfl)
theorem dX13_person_30 : decode cX13_person 30 = .ok (.getfield 19, 3) := dk_180 0 19 (dk_at dksX13_person_1 7 rfl rfl)
theorem dX13_person_33 : decode cX13_person 33 = .ok (.iload_n 1, 1) := dk_27 (dk_at dksX13_person_1 10 rfl rfl)
theorem dX13_person_34 : decode cX13_person 34 = .ok (.aload_n 0, 1) := dk_42 (dk_at dksX13_person_1 11 rfl rfl)
theorem dX13_person_35 : decode cX13_person 35 = .ok (.iconst 0, 1) := dk_3 (dk_at dksX13_person_1 12 rfl rfl)
theorem dX13_person_36 : decode cX13_person 36 = .ok (.bipush 9, 2) := dk_16 9 (dk_at dksX13_person_1 13 rfl rfl)
theorem dX13_person_38 : decode cX13_person 38 = .ok (.invokevirtual 82, 3) := dk_182 0 82 (dk_at dksX13_person_1 15 rfl rfl)
theorem dX13_person_41 : decode cX13_person 41 = .ok (.invokevirtual 88, 3) := dk_182 0 88 (dk_at dksX13_person_1 18 rfl rfl)
theorem dX13_person_44 : decode cX13_person 44 = .ok (.pop, 1) := dk_87 (dk_at dksX13_person_1 21 rfl rfl)
theorem dX13_person_45 : decode cX13_person 45 = .ok (.return_, 1) := dk_177 (dk_at dksX13_person_1 22 rfl rfl)
abbrev cX13_number : ByteArray := prog_9_method_6_code
def yX13_number : MethodName := ⟨RX13, "number", "(II)I"⟩
def dkwX13_number_1 : List UInt8 := [180, 0, 37, 62, 42, 182, 0, 70, 29, 172]
abbrev dktX13_number_1 : List UInt8 := dkwX13_number_1 ++ []
def dkwX13_number_0 : List UInt8 := [42, 180, 0, 37, 27, 161, 0, 11, 42, 180, 0, 37, 28, 164, 0, 8, 42, 182, 0, 73, 191, 42]
abbrev dktX13_number_0 : List UInt8 := dkwX13_number_0 ++ dktX13_number_1
theorem dksX13_number_0 : cX13_number.data.toList.drop 0 = dktX13_number_0 := by decide +kernel
theorem dksX13_number_1 : cX13_number.data.toList.drop 22 = dktX13_number_1 := dk_seg dksX13_number_0 22 rfl rfl
theorem dX13_number_0 : decode cX13_number 0 = .ok (.aload_n 0, 1) := dk_42 (dk_at dksX13_number_0 0 rfl rfl)
theorem dX13_number_1 : decode cX13_number 1 = .ok (.getfield 37, 3) := dk_180 0 37 (dk_at dksX13_number_0 1 rfl rfl)
theorem dX13_number_4 : decode cX13_number 4 = .ok (.iload_n 1, 1) := dk_27 (dk_at dksX13_number_0 4 rfl rfl)
theorem dX13_number_5 : decode cX13_number 5 = .ok (.if_icmp .lt 11, 3) := dk_161 0 11 (dk_at dksX13_number_0 5 rfl rfl)
theorem dX13_number_8 : decode cX13_number 8 = .ok (.aload_n 0, 1) := dk_42 (dk_at dksX13_number_0 8 rfl rfl)
theorem dX13_number_9 : decode cX13_number 9 = .ok (.getfield 37, 3) := dk_180 0 37 (dk_at dksX13_number_0 9 rfl rfl)
theorem dX13_number_12 : decode cX13_number 12 = .ok (.iload_n 2, 1) := dk_28 (dk_at dksX13_number_0 12 rfl rfl)
theorem dX13_number_13 : decode cX13_number 13 = .ok (.if_icmp .le 8, 3) := dk_164 0 8 (dk_at dksX13_number_0 13 rfl rfl)
theorem dX13_number_16 : decode cX13_number 16 = .ok (.aload_n 0, 1) := dk_42 (dk_at dksX13_number_0 16 rfl rfl)
theorem dX13_number_17 : decode cX13_number 17 = .ok (.invokevirtual 73, 3) := dk_182 0 73 (dk_at dksX13_number_0 17 rfl rfl)
theorem dX13_number_20 : decode cX13_number 20 = .ok (.athrow, 1) := dk_191 (dk_at dksX13_number_0 20 rfl rfl)
theorem dX13_number_21 : decode cX13_number 21 = .ok (.aload_n 0, 1) := dk_42 (dk_at dksX13_number_0 21 rfl rfl)
theorem dX13_number_22 : decode cX13_number 22 = .ok (.getfield 37, 3) := dk_180 0 37 (dk_at dksX13_number_1 0 rfl rfl)
theorem dX13_number_25 : decode cX13_number 25 = .ok (.istore_n 3, 1) := dk_62 (dk_at dksX13_number_1 3 rfl rfl)
theorem dX13_number_26 : decode cX13_number 26 = .ok (.aload_n 0, 1) := dk_42 (dk_at dksX13_number_1 4 rfl rfl)
theorem dX13_number_27 : decode cX13_number 27 = .ok (.invokevirtual 70, 3) := dk_182 0 70 (dk_at dksX13_number_1 5 rfl rfl)
theorem dX13_number_30 : decode cX13_number 30 = .ok (.iload_n 3, 1) := dk_29 (dk_at dksX13_number_1 8 rfl rfl)
theorem dX13_number_31 : decode cX13_number 31 = .ok (.ireturn, 1) := dk_172 (dk_at dksX13_number_1 9 rfl rfl)
abbrev cX13_one : ByteArray := prog_9_method_7_code
def yX13_one : MethodName := ⟨RX13, "one", "()I"⟩
def dkwX13_one_0 : List UInt8 := [42, 3, 42, 180, 0, 19, 180, 0, 77, 4, 100, 182, 0, 82, 172]
abbrev dktX13_one_0 : List UInt8 := dkwX13_one_0 ++ []
theorem dksX13_one_0 : cX13_one.data.toList.drop 0 = dktX13_one_0 := by decide +kernel
theorem dX13_one_0 : decode cX13_one 0 = .ok (.aload_n 0, 1) := dk_42 (dk_at dksX13_one_0 0 rfl rfl)
theorem dX13_one_1 : decode cX13_one 1 = .ok (.iconst 0, 1) := dk_3 (dk_at dksX13_one_0 1 rfl rfl)
theorem dX13_one_2 : decode cX13_one 2 = .ok (.aload_n 0, 1) := dk_42 (dk_at dksX13_one_0 2 rfl rfl)
theorem dX13_one_3 : decode cX13_one 3 = .ok (.getfield 19, 3) := dk_180 0 19 (dk_at dksX13_one_0 3 rfl rfl)
theorem dX13_one_6 : decode cX13_one 6 = .ok (.getfield 77, 3) := dk_180 0 77 (dk_at dksX13_one_0 6 rfl rfl)
theorem dX13_one_9 : decode cX13_one 9 = .ok (.iconst 1, 1) := dk_4 (dk_at dksX13_one_0 9 rfl rfl)
theorem dX13_one_10 : decode cX13_one 10 = .ok (.isub, 1) := dk_100 (dk_at dksX13_one_0 10 rfl rfl)
theorem dX13_one_11 : decode cX13_one 11 = .ok (.invokevirtual 82, 3) := dk_182 0 82 (dk_at dksX13_one_0 11 rfl rfl)
theorem dX13_one_14 : decode cX13_one 14 = .ok (.ireturn, 1) := dk_172 (dk_at dksX13_one_0 14 rfl rfl)
abbrev cX13_other : ByteArray := prog_9_method_8_code
def yX13_other : MethodName := ⟨RX13, "other", "(I)I"⟩
def dkwX13_other_0 : List UInt8 := [42, 180, 0, 37, 27, 160, 0, 8, 42, 182, 0, 73, 191, 42, 182, 0, 84, 172]
abbrev dktX13_other_0 : List UInt8 := dkwX13_other_0 ++ []
theorem dksX13_other_0 : cX13_other.data.toList.drop 0 = dktX13_other_0 := by decide +kernel
theorem dX13_other_0 : decode cX13_other 0 = .ok (.aload_n 0, 1) := dk_42 (dk_at dksX13_other_0 0 rfl rfl)
theorem dX13_other_1 : decode cX13_other 1 = .ok (.getfield 37, 3) := dk_180 0 37 (dk_at dksX13_other_0 1 rfl rfl)
theorem dX13_other_4 : decode cX13_other 4 = .ok (.iload_n 1, 1) := dk_27 (dk_at dksX13_other_0 4 rfl rfl)
theorem dX13_other_5 : decode cX13_other 5 = .ok (.if_icmp .ne 8, 3) := dk_160 0 8 (dk_at dksX13_other_0 5 rfl rfl)
theorem dX13_other_8 : decode cX13_other 8 = .ok (.aload_n 0, 1) := dk_42 (dk_at dksX13_other_0 8 rfl rfl)
theorem dX13_other_9 : decode cX13_other 9 = .ok (.invokevirtual 73, 3) := dk_182 0 73 (dk_at dksX13_other_0 9 rfl rfl)
theorem dX13_other_12 : decode cX13_other 12 = .ok (.athrow, 1) := dk_191 (dk_at dksX13_other_0 12 rfl rfl)
theorem dX13_other_13 : decode cX13_other 13 = .ok (.aload_n 0, 1) := dk_42 (dk_at dksX13_other_0 13 rfl rfl)
theorem dX13_other_14 : decode cX13_other 14 = .ok (.invokevirtual 84, 3) := dk_182 0 84 (dk_at dksX13_other_0 14 rfl rfl)
theorem dX13_other_17 : decode cX13_other 17 = .ok (.ireturn, 1) := dk_172 (dk_at dksX13_other_0 17 rfl rfl)
abbrev cX13_takes : ByteArray := prog_9_method_5_code
def yX13_takes : MethodName := ⟨RX13, "takes", "(Ljava/lang/String;)Z"⟩
def dkwX13_takes_1 : List UInt8 := [4, 172]
abbrev dktX13_takes_1 : List UInt8 := dkwX13_takes_1 ++ []
def dkwX13_takes_0 : List UInt8 := [42, 180, 0, 33, 198, 0, 14, 42, 180, 0, 33, 43, 182, 0, 64, 154, 0, 5, 3, 172, 42, 182, 0, 70]
abbrev dktX13_takes_0 : List UInt8 := dkwX13_takes_0 ++ dktX13_takes_1
theorem dksX13_takes_0 : cX13_takes.data.toList.drop 0 = dktX13_takes_0 := by decide +kernel
theorem dksX13_takes_1 : cX13_takes.data.toList.drop 24 = dktX13_takes_1 := dk_seg dksX13_takes_0 24 rfl rfl
theorem dX13_takes_0 : decode cX13_takes 0 = .ok (.aload_n 0, 1) := dk_42 (dk_at dksX13_takes_0 0 rfl rfl)
theorem dX13_takes_1 : decode cX13_takes 1 = .ok (.getfield 33, 3) := dk_180 0 33 (dk_at dksX13_takes_0 1 rfl rfl)
theorem dX13_takes_4 : decode cX13_takes 4 = .ok (.ifnull 14, 3) := dk_198 0 14 (dk_at dksX13_takes_0 4 rfl rfl)
theorem dX13_takes_7 : decode cX13_takes 7 = .ok (.aload_n 0, 1) := dk_42 (dk_at dksX13_takes_0 7 rfl rfl)
theorem dX13_takes_8 : decode cX13_takes 8 = .ok (.getfield 33, 3) := dk_180 0 33 (dk_at dksX13_takes_0 8 rfl rfl)
theorem dX13_takes_11 : decode cX13_takes 11 = .ok (.aload_n 1, 1) := dk_43 (dk_at dksX13_takes_0 11 rfl rfl)
theorem dX13_takes_12 : decode cX13_takes 12 = .ok (.invokevirtual 64, 3) := dk_182 0 64 (dk_at dksX13_takes_0 12 rfl rfl)
theorem dX13_takes_15 : decode cX13_takes 15 = .ok (.ifCond .ne 5, 3) := dk_154 0 5 (dk_at dksX13_takes_0 15 rfl rfl)
theorem dX13_takes_18 : decode cX13_takes 18 = .ok (.iconst 0, 1) := dk_3 (dk_at dksX13_takes_0 18 rfl rfl)
theorem dX13_takes_19 : decode cX13_takes 19 = .ok (.ireturn, 1) := dk_172 (dk_at dksX13_takes_0 19 rfl rfl)
theorem dX13_takes_20 : decode cX13_takes 20 = .ok (.aload_n 0, 1) := dk_42 (dk_at dksX13_takes_0 20 rfl rfl)
theorem dX13_takes_21 : decode cX13_takes 21 = .ok (.invokevirtual 70, 3) := dk_182 0 70 (dk_at dksX13_takes_0 21 rfl rfl)
theorem dX13_takes_24 : decode cX13_takes 24 = .ok (.iconst 1, 1) := dk_4 (dk_at dksX13_takes_1 0 rfl rfl)
theorem dX13_takes_25 : decode cX13_takes 25 = .ok (.ireturn, 1) := dk_172 (dk_at dksX13_takes_1 1 rfl rfl)
abbrev cX13_met : ByteArray := prog_9_method_10_code
def yX13_met : MethodName := ⟨RX13, "met", "()V"⟩
def dkwX13_met_2 : List UInt8 := [182, 0, 70, 42, 180, 0, 37, 2, 160, 255, 208, 42, 180, 0, 19, 27, 182, 0, 98, 87, 177]
abbrev dktX13_met_2 : List UInt8 := dkwX13_met_2 ++ []
def dkwX13_met_1 : List UInt8 := [180, 0, 37, 184, 0, 95, 153, 0, 8, 42, 182, 0, 73, 191, 27, 4, 42, 180, 0, 37, 120, 128, 60, 42]
abbrev dktX13_met_1 : List UInt8 := dkwX13_met_1 ++ dktX13_met_2
def dkwX13_met_0 : List UInt8 := [42, 182, 0, 70, 3, 60, 42, 180, 0, 19, 42, 180, 0, 37, 182, 0, 91, 153, 0, 14, 27, 42]
abbrev dktX13_met_0 : List UInt8 := dkwX13_met_0 ++ dktX13_met_1
theorem dksX13_met_0 : cX13_met.data.toList.drop 0 = dktX13_met_0 := by decide +kernel
theorem dksX13_met_1 : cX13_met.data.toList.drop 22 = dktX13_met_1 := dk_seg dksX13_met_0 22 rfl rfl
theorem dksX13_met_2 : cX13_met.data.toList.drop 46 = dktX13_met_2 := dk_seg dksX13_met_1 24 rfl rfl
theorem dX13_met_0 : decode cX13_met 0 = .ok (.aload_n 0, 1) := dk_42 (dk_at dksX13_met_0 0 rfl rfl)
theorem dX13_met_1 : decode cX13_met 1 = .ok (.invokevirtual 70, 3) := dk_182 0 70 (dk_at dksX13_met_0 1 rfl rfl)
theorem dX13_met_4 : decode cX13_met 4 = .ok (.iconst 0, 1) := dk_3 (dk_at dksX13_met_0 4 rfl rfl)
theorem dX13_met_5 : decode cX13_met 5 = .ok (.istore_n 1, 1) := dk_60 (dk_at dksX13_met_0 5 rfl rfl)
theorem dX13_met_6 : decode cX13_met 6 = .ok (.aload_n 0, 1) := dk_42 (dk_at dksX13_met_0 6 rfl rfl)
theorem dX13_met_7 : decode cX13_met 7 = .ok (.getfield 19, 3) := dk_180 0 19 (dk_at dksX13_met_0 7 rfl rfl)
theorem dX13_met_10 : decode cX13_met 10 = .ok (.aload_n 0, 1) := dk_42 (dk_at dksX13_met_0 10 rfl rfl)
theorem dX13_met_11 : decode cX13_met 11 = .ok (.getfield 37, 3) := dk_180 0 37 (dk_at dksX13_met_0 11 rfl rfl)
theorem dX13_met_14 : decode cX13_met 14 = .ok (.invokevirtual 91, 3) := dk_182 0 91 (dk_at dksX13_met_0 14 rfl rfl)
theorem dX13_met_17 : decode cX13_met 17 = .ok (.ifCond .eq 14, 3) := dk_153 0 14 (dk_at dksX13_met_0 17 rfl rfl)
theorem dX13_met_20 : decode cX13_met 20 = .ok (.iload_n 1, 1) := dk_27 (dk_at dksX13_met_0 20 rfl rfl)
theorem dX13_met_21 : decode cX13_met 21 = .ok (.aload_n 0, 1) := dk_42 (dk_at dksX13_met_0 21 rfl rfl)
theorem dX13_met_22 : decode cX13_met 22 = .ok (.getfield 37, 3) := dk_180 0 37 (dk_at dksX13_met_1 0 rfl rfl)
theorem dX13_met_25 : decode cX13_met 25 = .ok (.invokestatic 95, 3) := dk_184 0 95 (dk_at dksX13_met_1 3 rfl rfl)
theorem dX13_met_28 : decode cX13_met 28 = .ok (.ifCond .eq 8, 3) := dk_153 0 8 (dk_at dksX13_met_1 6 rfl rfl)
theorem dX13_met_31 : decode cX13_met 31 = .ok (.aload_n 0, 1) := dk_42 (dk_at dksX13_met_1 9 rfl rfl)
theorem dX13_met_32 : decode cX13_met 32 = .ok (.invokevirtual 73, 3) := dk_182 0 73 (dk_at dksX13_met_1 10 rfl rfl)
theorem dX13_met_35 : decode cX13_met 35 = .ok (.athrow, 1) := dk_191 (dk_at dksX13_met_1 13 rfl rfl)
theorem dX13_met_36 : decode cX13_met 36 = .ok (.iload_n 1, 1) := dk_27 (dk_at dksX13_met_1 14 rfl rfl)
theorem dX13_met_37 : decode cX13_met 37 = .ok (.iconst 1, 1) := dk_4 (dk_at dksX13_met_1 15 rfl rfl)
theorem dX13_met_38 : decode cX13_met 38 = .ok (.aload_n 0, 1) := dk_42 (dk_at dksX13_met_1 16 rfl rfl)
theorem dX13_met_39 : decode cX13_met 39 = .ok (.getfield 37, 3) := dk_180 0 37 (dk_at dksX13_met_1 17 rfl rfl)
theorem dX13_met_42 : decode cX13_met 42 = .ok (.ishl, 1) := dk_120 (dk_at dksX13_met_1 20 rfl rfl)
theorem dX13_met_43 : decode cX13_met 43 = .ok (.ior, 1) := dk_128 (dk_at dksX13_met_1 21 rfl rfl)
theorem dX13_met_44 : decode cX13_met 44 = .ok (.istore_n 1, 1) := dk_60 (dk_at dksX13_met_1 22 rfl rfl)
theorem dX13_met_45 : decode cX13_met 45 = .ok (.aload_n 0, 1) := dk_42 (dk_at dksX13_met_1 23 rfl rfl)
theorem dX13_met_46 : decode cX13_met 46 = .ok (.invokevirtual 70, 3) := dk_182 0 70 (dk_at dksX13_met_2 0 rfl rfl)
theorem dX13_met_49 : decode cX13_met 49 = .ok (.aload_n 0, 1) := dk_42 (dk_at dksX13_met_2 3 rfl rfl)
theorem dX13_met_50 : decode cX13_met 50 = .ok (.getfield 37, 3) := dk_180 0 37 (dk_at dksX13_met_2 4 rfl rfl)
theorem dX13_met_53 : decode cX13_met 53 = .ok (.iconst (-1), 1) := dk_2 (dk_at dksX13_met_2 7 rfl rfl)
theorem dX13_met_54 : decode cX13_met 54 = .ok (.if_icmp .ne (-48), 3) := dk_160 255 208 (dk_at dksX13_met_2 8 rfl rfl)
theorem dX13_met_57 : decode cX13_met 57 = .ok (.aload_n 0, 1) := dk_42 (dk_at dksX13_met_2 11 rfl rfl)
theorem dX13_met_58 : decode cX13_met 58 = .ok (.getfield 19, 3) := dk_180 0 19 (dk_at dksX13_met_2 12 rfl rfl)
theorem dX13_met_61 : decode cX13_met 61 = .ok (.iload_n 1, 1) := dk_27 (dk_at dksX13_met_2 15 rfl rfl)
theorem dX13_met_62 : decode cX13_met 62 = .ok (.invokevirtual 98, 3) := dk_182 0 98 (dk_at dksX13_met_2 16 rfl rfl)
theorem dX13_met_65 : decode cX13_met 65 = .ok (.pop, 1) := dk_87 (dk_at dksX13_met_2 19 rfl rfl)
theorem dX13_met_66 : decode cX13_met 66 = .ok (.return_, 1) := dk_177 (dk_at dksX13_met_2 20 rfl rfl)
theorem q107 : (Jvm.Cond.initialized "ThreeStrangers$Reader") ∈ lw_all := lw_g (lw_at lw_m1 27 rfl) rfl
theorem q143 : (Jvm.Cond.fieldLink "ThreeStrangers$Reader" (77 : Nat) "ThreeStrangers$Town" "people" "I") ∈ lw_all := lw_g (lw_at lw_m1 63 rfl) rfl
theorem q147 : (Jvm.Cond.fieldLink "ThreeStrangers$Reader" (132 : Nat) "ThreeStrangers$Town" "seats" "I") ∈ lw_all := lw_g (lw_at lw_m1 67 rfl) rfl
theorem q150 : (Jvm.Cond.fieldLink "ThreeStrangers$Reader" (134 : Nat) "ThreeStrangers$Town" "memory" "I") ∈ lw_all := lw_g (lw_at lw_m1 70 rfl) rfl
theorem q788 : (Jvm.Cond.instantiable "ThreeStrangers$Reader" (7 : Nat)) ∈ lw_all := lw_g (lw_at lw_m3 228 rfl) rfl
theorem q801 : (Jvm.Cond.instanceMethod ({ cls := "ThreeStrangers$Reader", name := "<init>", desc := "([IILThreeStrangers$Town;)V" } : Jvm.MethodName)) ∈ lw_all := lw_g (lw_at lw_m4 1 rfl) rfl
theorem q802 : (Jvm.Cond.code ({ cls := "ThreeStrangers$Reader", name := "<init>", desc := "([IILThreeStrangers$Town;)V" } : Jvm.MethodName) prog_9_method_1_code (4 : Nat) (Option.none : Option Jvm.ClassFile.FieldType)) ∈ lw_all := lw_g (lw_at lw_m4 2 rfl) rfl
theorem q803 : (Jvm.Cond.methodLink "ThreeStrangers$Reader" (3 : Nat) ({ cls := "java/lang/Object", name := "<init>", desc := "()V" } : Jvm.MethodName)) ∈ lw_all := lw_g (lw_at lw_m4 3 rfl) rfl
theorem q804 : (Jvm.Cond.fieldLink "ThreeStrangers$Reader" (9 : Nat) "ThreeStrangers$Reader" "tape" "[I") ∈ lw_all := lw_g (lw_at lw_m4 4 rfl) rfl
theorem q805 : (Jvm.Cond.fieldLink "ThreeStrangers$Reader" (15 : Nat) "ThreeStrangers$Reader" "size" "I") ∈ lw_all := lw_g (lw_at lw_m4 5 rfl) rfl
theorem q806 : (Jvm.Cond.fieldLink "ThreeStrangers$Reader" (19 : Nat) "ThreeStrangers$Reader" "town" "LThreeStrangers$Town;") ∈ lw_all := lw_g (lw_at lw_m4 6 rfl) rfl
theorem q808 : (Jvm.Cond.fieldLink "ThreeStrangers$Reader" (23 : Nat) "ThreeStrangers$Reader" "at" "I") ∈ lw_all := lw_g (lw_at lw_m4 8 rfl) rfl
theorem q809 : (Jvm.Cond.fieldLink "ThreeStrangers$Reader" (30 : Nat) "ThreeStrangers$Reader" "from" "I") ∈ lw_all := lw_g (lw_at lw_m4 9 rfl) rfl
theorem q810 : (Jvm.Cond.fieldLink "ThreeStrangers$Reader" (33 : Nat) "ThreeStrangers$Reader" "word" "Ljava/lang/String;") ∈ lw_all := lw_g (lw_at lw_m4 10 rfl) rfl
theorem q811 : (Jvm.Cond.fieldLink "ThreeStrangers$Reader" (37 : Nat) "ThreeStrangers$Reader" "number" "I") ∈ lw_all := lw_g (lw_at lw_m4 11 rfl) rfl
theorem q812 : (Jvm.Cond.laysFinal "ThreeStrangers$Reader" "ThreeStrangers$Reader" "tape" "[I") ∈ lw_all := lw_g (lw_at lw_m4 12 rfl) rfl
theorem q813 : (Jvm.Cond.soleField "ThreeStrangers$Reader" "tape") ∈ lw_all := lw_g (lw_at lw_m4 13 rfl) rfl
theorem q814 : (Jvm.Cond.laysFinal "ThreeStrangers$Reader" "ThreeStrangers$Reader" "size" "I") ∈ lw_all := lw_g (lw_at lw_m4 14 rfl) rfl
theorem q815 : (Jvm.Cond.soleField "ThreeStrangers$Reader" "size") ∈ lw_all := lw_g (lw_at lw_m4 15 rfl) rfl
theorem q816 : (Jvm.Cond.laysFinal "ThreeStrangers$Reader" "ThreeStrangers$Reader" "town" "LThreeStrangers$Town;") ∈ lw_all := lw_g (lw_at lw_m4 16 rfl) rfl
theorem q817 : (Jvm.Cond.soleField "ThreeStrangers$Reader" "town") ∈ lw_all := lw_g (lw_at lw_m4 17 rfl) rfl
theorem q818 : (Jvm.Cond.lays "ThreeStrangers$Reader" "ThreeStrangers$Reader" "at" "I") ∈ lw_all := lw_g (lw_at lw_m4 18 rfl) rfl
theorem q819 : (Jvm.Cond.soleField "ThreeStrangers$Reader" "at") ∈ lw_all := lw_g (lw_at lw_m4 19 rfl) rfl
theorem q820 : (Jvm.Cond.lays "ThreeStrangers$Reader" "ThreeStrangers$Reader" "from" "I") ∈ lw_all := lw_g (lw_at lw_m4 20 rfl) rfl
theorem q821 : (Jvm.Cond.soleField "ThreeStrangers$Reader" "from") ∈ lw_all := lw_g (lw_at lw_m4 21 rfl) rfl
theorem q822 : (Jvm.Cond.lays "ThreeStrangers$Reader" "ThreeStrangers$Reader" "word" "Ljava/lang/String;") ∈ lw_all := lw_g (lw_at lw_m4 22 rfl) rfl
theorem q823 : (Jvm.Cond.soleField "ThreeStrangers$Reader" "word") ∈ lw_all := lw_g (lw_at lw_m4 23 rfl) rfl
theorem q824 : (Jvm.Cond.lays "ThreeStrangers$Reader" "ThreeStrangers$Reader" "number" "I") ∈ lw_all := lw_g (lw_at lw_m4 24 rfl) rfl
theorem q825 : (Jvm.Cond.soleField "ThreeStrangers$Reader" "number") ∈ lw_all := lw_g (lw_at lw_m4 25 rfl) rfl
theorem q826 : (Jvm.Cond.superclass "ThreeStrangers$Reader" "java/lang/Object") ∈ lw_all := lw_g (lw_at lw_m4 26 rfl) rfl
theorem q828 : (Jvm.Cond.instanceMethod ({ cls := "ThreeStrangers$Reader", name := "read", desc := "()I" } : Jvm.MethodName)) ∈ lw_all := lw_g (lw_at lw_m4 28 rfl) rfl
theorem q829 : (Jvm.Cond.selects "ThreeStrangers$Reader" ({ cls := "ThreeStrangers$Reader", name := "read", desc := "()I" } : Jvm.MethodName) ({ cls := "ThreeStrangers$Reader", name := "read", desc := "()I" } : Jvm.MethodName)) ∈ lw_all := lw_g (lw_at lw_m4 29 rfl) rfl
theorem q830 : (Jvm.Cond.code ({ cls := "ThreeStrangers$Reader", name := "read", desc := "()I" } : Jvm.MethodName) prog_9_method_12_code (2 : Nat) (Option.some Jvm.ClassFile.FieldType.int)) ∈ lw_all := lw_g (lw_at lw_m4 30 rfl) rfl
theorem q831 : (Jvm.Cond.methodLink "ThreeStrangers$Reader" (70 : Nat) ({ cls := "ThreeStrangers$Reader", name := "next", desc := "()V" } : Jvm.MethodName)) ∈ lw_all := lw_g (lw_at lw_m4 31 rfl) rfl
theorem q832 : (Jvm.Cond.privateMethod ({ cls := "ThreeStrangers$Reader", name := "next", desc := "()V" } : Jvm.MethodName)) ∈ lw_tbl := lw_at lw_m4 32 rfl
theorem q833 : (Jvm.Cond.instanceMethod ({ cls := "ThreeStrangers$Reader", name := "next", desc := "()V" } : Jvm.MethodName)) ∈ lw_all := lw_g (lw_at lw_m4 33 rfl) rfl
theorem q834 : (Jvm.Cond.code ({ cls := "ThreeStrangers$Reader", name := "next", desc := "()V" } : Jvm.MethodName) prog_9_method_3_code (2 : Nat) (Option.none : Option Jvm.ClassFile.FieldType)) ∈ lw_all := lw_g (lw_at lw_m4 34 rfl) rfl
theorem q835 : (Jvm.Cond.methodLink "ThreeStrangers$Reader" (26 : Nat) ({ cls := "ThreeStrangers$Reader", name := "isIn", desc := "(II)Z" } : Jvm.MethodName)) ∈ lw_all := lw_g (lw_at lw_m4 35 rfl) rfl
theorem q836 : (Jvm.Cond.privateMethod ({ cls := "ThreeStrangers$Reader", name := "isIn", desc := "(II)Z" } : Jvm.MethodName)) ∈ lw_tbl := lw_at lw_m4 36 rfl
theorem q837 : (Jvm.Cond.instanceMethod ({ cls := "ThreeStrangers$Reader", name := "isIn", desc := "(II)Z" } : Jvm.MethodName)) ∈ lw_all := lw_g (lw_at lw_m4 37 rfl) rfl
theorem q838 : (Jvm.Cond.code ({ cls := "ThreeStrangers$Reader", name := "isIn", desc := "(II)Z" } : Jvm.MethodName) prog_9_method_2_code (3 : Nat) (Option.some Jvm.ClassFile.FieldType.boolean)) ∈ lw_all := lw_g (lw_at lw_m4 38 rfl) rfl
theorem q839 : (Jvm.Cond.classLink "ThreeStrangers$Reader" (40 : Nat) "java/lang/StringBuilder") ∈ lw_all := lw_g (lw_at lw_m4 39 rfl) rfl
theorem q841 : (Jvm.Cond.methodLink "ThreeStrangers$Reader" (42 : Nat) ({ cls := "java/lang/StringBuilder", name := "<init>", desc := "()V" } : Jvm.MethodName)) ∈ lw_all := lw_g (lw_at lw_m4 41 rfl) rfl
theorem q875 : (Jvm.Cond.methodLink "ThreeStrangers$Reader" (43 : Nat) ({ cls := "java/lang/StringBuilder", name := "append", desc := "(C)Ljava/lang/StringBuilder;" } : Jvm.MethodName)) ∈ lw_all := lw_g (lw_at lw_m4 75 rfl) rfl
theorem q966 : (Jvm.Cond.methodLink "ThreeStrangers$Reader" (47 : Nat) ({ cls := "java/lang/StringBuilder", name := "toString", desc := "()Ljava/lang/String;" } : Jvm.MethodName)) ∈ lw_all := lw_g (lw_at lw_m4 166 rfl) rfl
theorem q1024 : (Jvm.Cond.methodLink "ThreeStrangers$Reader" (51 : Nat) ({ cls := "java/lang/Math", name := "min", desc := "(II)I" } : Jvm.MethodName)) ∈ lw_all := lw_g (lw_at lw_m4 224 rfl) rfl
theorem q1025 : (Jvm.Cond.stringRef "ThreeStrangers$Reader" (57 : Nat) ";") ∈ lw_tbl := lw_at lw_m4 225 rfl
theorem q1026 : (Jvm.Cond.methodLink "ThreeStrangers$Reader" (138 : Nat) ({ cls := "ThreeStrangers$Reader", name := "item", desc := "()V" } : Jvm.MethodName)) ∈ lw_all := lw_g (lw_at lw_m4 226 rfl) rfl
theorem q1027 : (Jvm.Cond.privateMethod ({ cls := "ThreeStrangers$Reader", name := "item", desc := "()V" } : Jvm.MethodName)) ∈ lw_tbl := lw_at lw_m4 227 rfl
theorem q1028 : (Jvm.Cond.instanceMethod ({ cls := "ThreeStrangers$Reader", name := "item", desc := "()V" } : Jvm.MethodName)) ∈ lw_all := lw_g (lw_at lw_m4 228 rfl) rfl
theorem q1029 : (Jvm.Cond.code ({ cls := "ThreeStrangers$Reader", name := "item", desc := "()V" } : Jvm.MethodName) prog_9_method_11_code (5 : Nat) (Option.none : Option Jvm.ClassFile.FieldType)) ∈ lw_all := lw_g (lw_at lw_m4 229 rfl) rfl
theorem q1030 : (Jvm.Cond.methodLink "ThreeStrangers$Reader" (73 : Nat) ({ cls := "ThreeStrangers$Reader", name := "wrong", desc := "()LThreeStrangers$Fault;" } : Jvm.MethodName)) ∈ lw_all := lw_g (lw_at lw_m4 230 rfl) rfl
theorem q1031 : (Jvm.Cond.privateMethod ({ cls := "ThreeStrangers$Reader", name := "wrong", desc := "()LThreeStrangers$Fault;" } : Jvm.MethodName)) ∈ lw_tbl := lw_at lw_m4 231 rfl
theorem q1032 : (Jvm.Cond.instanceMethod ({ cls := "ThreeStrangers$Reader", name := "wrong", desc := "()LThreeStrangers$Fault;" } : Jvm.MethodName)) ∈ lw_all := lw_g (lw_at lw_m4 232 rfl) rfl
theorem q1033 : (Jvm.Cond.code ({ cls := "ThreeStrangers$Reader", name := "wrong", desc := "()LThreeStrangers$Fault;" } : Jvm.MethodName) prog_9_method_4_code (1 : Nat) (Option.some (Jvm.ClassFile.FieldType.object "ThreeStrangers$Fault"))) ∈ lw_all := lw_g (lw_at lw_m4 233 rfl) rfl
theorem q1034 : (Jvm.Cond.classLink "ThreeStrangers$Reader" (59 : Nat) "ThreeStrangers$Fault") ∈ lw_all := lw_g (lw_at lw_m4 234 rfl) rfl
theorem q1043 : (Jvm.Cond.methodLink "ThreeStrangers$Reader" (61 : Nat) ({ cls := "ThreeStrangers$Fault", name := "<init>", desc := "(I)V" } : Jvm.MethodName)) ∈ lw_all := lw_g (lw_at lw_m5 3 rfl) rfl
theorem q1053 : (Jvm.Cond.methodLink "ThreeStrangers$Reader" (102 : Nat) ({ cls := "java/lang/String", name := "hashCode", desc := "()I" } : Jvm.MethodName)) ∈ lw_all := lw_g (lw_at lw_m5 13 rfl) rfl
theorem q1106 : (Jvm.Cond.stringRef "ThreeStrangers$Reader" (105 : Nat) "person") ∈ lw_tbl := lw_at lw_m5 66 rfl
theorem q1107 : (Jvm.Cond.methodLink "ThreeStrangers$Reader" (64 : Nat) ({ cls := "java/lang/String", name := "equals", desc := "(Ljava/lang/Object;)Z" } : Jvm.MethodName)) ∈ lw_all := lw_g (lw_at lw_m5 67 rfl) rfl
theorem q1115 : (Jvm.Cond.stringRef "ThreeStrangers$Reader" (107 : Nat) "know") ∈ lw_tbl := lw_at lw_m5 75 rfl
theorem q1116 : (Jvm.Cond.stringRef "ThreeStrangers$Reader" (109 : Nat) "strange") ∈ lw_tbl := lw_at lw_m5 76 rfl
theorem q1117 : (Jvm.Cond.stringRef "ThreeStrangers$Reader" (111 : Nat) "seats") ∈ lw_tbl := lw_at lw_m5 77 rfl
theorem q1118 : (Jvm.Cond.stringRef "ThreeStrangers$Reader" (113 : Nat) "memory") ∈ lw_tbl := lw_at lw_m5 78 rfl
theorem q1119 : (Jvm.Cond.stringRef "ThreeStrangers$Reader" (115 : Nat) "met") ∈ lw_tbl := lw_at lw_m5 79 rfl
theorem q1120 : (Jvm.Cond.methodLink "ThreeStrangers$Reader" (117 : Nat) ({ cls := "ThreeStrangers$Reader", name := "person", desc := "()V" } : Jvm.MethodName)) ∈ lw_all := lw_g (lw_at lw_m5 80 rfl) rfl
theorem q1121 : (Jvm.Cond.privateMethod ({ cls := "ThreeStrangers$Reader", name := "person", desc := "()V" } : Jvm.MethodName)) ∈ lw_tbl := lw_at lw_m5 81 rfl
theorem q1122 : (Jvm.Cond.instanceMethod ({ cls := "ThreeStrangers$Reader", name := "person", desc := "()V" } : Jvm.MethodName)) ∈ lw_all := lw_g (lw_at lw_m5 82 rfl) rfl
theorem q1123 : (Jvm.Cond.code ({ cls := "ThreeStrangers$Reader", name := "person", desc := "()V" } : Jvm.MethodName) prog_9_method_9_code (2 : Nat) (Option.none : Option Jvm.ClassFile.FieldType)) ∈ lw_all := lw_g (lw_at lw_m5 83 rfl) rfl
theorem q1124 : (Jvm.Cond.methodLink "ThreeStrangers$Reader" (82 : Nat) ({ cls := "ThreeStrangers$Reader", name := "number", desc := "(II)I" } : Jvm.MethodName)) ∈ lw_all := lw_g (lw_at lw_m5 84 rfl) rfl
theorem q1125 : (Jvm.Cond.privateMethod ({ cls := "ThreeStrangers$Reader", name := "number", desc := "(II)I" } : Jvm.MethodName)) ∈ lw_tbl := lw_at lw_m5 85 rfl
theorem q1126 : (Jvm.Cond.instanceMethod ({ cls := "ThreeStrangers$Reader", name := "number", desc := "(II)I" } : Jvm.MethodName)) ∈ lw_all := lw_g (lw_at lw_m5 86 rfl) rfl
theorem q1127 : (Jvm.Cond.code ({ cls := "ThreeStrangers$Reader", name := "number", desc := "(II)I" } : Jvm.MethodName) prog_9_method_6_code (4 : Nat) (Option.some Jvm.ClassFile.FieldType.int)) ∈ lw_all := lw_g (lw_at lw_m5 87 rfl) rfl
theorem q1128 : (Jvm.Cond.methodLink "ThreeStrangers$Reader" (88 : Nat) ({ cls := "ThreeStrangers$Town", name := "adds", desc := "(II)I" } : Jvm.MethodName)) ∈ lw_all := lw_g (lw_at lw_m5 88 rfl) rfl
theorem q1129 : (Jvm.Cond.methodLink "ThreeStrangers$Reader" (84 : Nat) ({ cls := "ThreeStrangers$Reader", name := "one", desc := "()I" } : Jvm.MethodName)) ∈ lw_all := lw_g (lw_at lw_m5 89 rfl) rfl
theorem q1130 : (Jvm.Cond.privateMethod ({ cls := "ThreeStrangers$Reader", name := "one", desc := "()I" } : Jvm.MethodName)) ∈ lw_tbl := lw_at lw_m5 90 rfl
theorem q1131 : (Jvm.Cond.instanceMethod ({ cls := "ThreeStrangers$Reader", name := "one", desc := "()I" } : Jvm.MethodName)) ∈ lw_all := lw_g (lw_at lw_m5 91 rfl) rfl
theorem q1132 : (Jvm.Cond.code ({ cls := "ThreeStrangers$Reader", name := "one", desc := "()I" } : Jvm.MethodName) prog_9_method_7_code (1 : Nat) (Option.some Jvm.ClassFile.FieldType.int)) ∈ lw_all := lw_g (lw_at lw_m5 92 rfl) rfl
theorem q1133 : (Jvm.Cond.methodLink "ThreeStrangers$Reader" (119 : Nat) ({ cls := "ThreeStrangers$Reader", name := "other", desc := "(I)I" } : Jvm.MethodName)) ∈ lw_all := lw_g (lw_at lw_m5 93 rfl) rfl
theorem q1134 : (Jvm.Cond.privateMethod ({ cls := "ThreeStrangers$Reader", name := "other", desc := "(I)I" } : Jvm.MethodName)) ∈ lw_tbl := lw_at lw_m5 94 rfl
theorem q1135 : (Jvm.Cond.instanceMethod ({ cls := "ThreeStrangers$Reader", name := "other", desc := "(I)I" } : Jvm.MethodName)) ∈ lw_all := lw_g (lw_at lw_m5 95 rfl) rfl
theorem q1136 : (Jvm.Cond.code ({ cls := "ThreeStrangers$Reader", name := "other", desc := "(I)I" } : Jvm.MethodName) prog_9_method_8_code (2 : Nat) (Option.some Jvm.ClassFile.FieldType.int)) ∈ lw_all := lw_g (lw_at lw_m5 96 rfl) rfl
theorem q1137 : (Jvm.Cond.stringRef "ThreeStrangers$Reader" (122 : Nat) "since") ∈ lw_tbl := lw_at lw_m5 97 rfl
theorem q1138 : (Jvm.Cond.methodLink "ThreeStrangers$Reader" (124 : Nat) ({ cls := "ThreeStrangers$Reader", name := "takes", desc := "(Ljava/lang/String;)Z" } : Jvm.MethodName)) ∈ lw_all := lw_g (lw_at lw_m5 98 rfl) rfl
theorem q1139 : (Jvm.Cond.privateMethod ({ cls := "ThreeStrangers$Reader", name := "takes", desc := "(Ljava/lang/String;)Z" } : Jvm.MethodName)) ∈ lw_tbl := lw_at lw_m5 99 rfl
theorem q1140 : (Jvm.Cond.instanceMethod ({ cls := "ThreeStrangers$Reader", name := "takes", desc := "(Ljava/lang/String;)Z" } : Jvm.MethodName)) ∈ lw_all := lw_g (lw_at lw_m5 100 rfl) rfl
theorem q1141 : (Jvm.Cond.code ({ cls := "ThreeStrangers$Reader", name := "takes", desc := "(Ljava/lang/String;)Z" } : Jvm.MethodName) prog_9_method_5_code (2 : Nat) (Option.some Jvm.ClassFile.FieldType.boolean)) ∈ lw_all := lw_g (lw_at lw_m5 101 rfl) rfl
theorem q1142 : (Jvm.Cond.methodLink "ThreeStrangers$Reader" (128 : Nat) ({ cls := "ThreeStrangers$Town", name := "knows", desc := "(III)V" } : Jvm.MethodName)) ∈ lw_all := lw_g (lw_at lw_m5 102 rfl) rfl
theorem q1143 : (Jvm.Cond.methodLink "ThreeStrangers$Reader" (136 : Nat) ({ cls := "ThreeStrangers$Reader", name := "met", desc := "()V" } : Jvm.MethodName)) ∈ lw_all := lw_g (lw_at lw_m5 103 rfl) rfl
theorem q1144 : (Jvm.Cond.privateMethod ({ cls := "ThreeStrangers$Reader", name := "met", desc := "()V" } : Jvm.MethodName)) ∈ lw_tbl := lw_at lw_m5 104 rfl
theorem q1145 : (Jvm.Cond.instanceMethod ({ cls := "ThreeStrangers$Reader", name := "met", desc := "()V" } : Jvm.MethodName)) ∈ lw_all := lw_g (lw_at lw_m5 105 rfl) rfl
theorem q1146 : (Jvm.Cond.code ({ cls := "ThreeStrangers$Reader", name := "met", desc := "()V" } : Jvm.MethodName) prog_9_method_10_code (2 : Nat) (Option.none : Option Jvm.ClassFile.FieldType)) ∈ lw_all := lw_g (lw_at lw_m5 106 rfl) rfl
theorem q1147 : (Jvm.Cond.methodLink "ThreeStrangers$Reader" (91 : Nat) ({ cls := "ThreeStrangers$Town", name := "isOne", desc := "(I)Z" } : Jvm.MethodName)) ∈ lw_all := lw_g (lw_at lw_m5 107 rfl) rfl
theorem q1148 : (Jvm.Cond.methodLinkNest "ThreeStrangers$Reader" (95 : Nat) ({ cls := "ThreeStrangers", name := "has", desc := "(II)Z" } : Jvm.MethodName) "ThreeStrangers") ∈ lw_tbl := lw_at lw_m5 108 rfl
theorem q1149 : (Jvm.Cond.methodLink "ThreeStrangers$Reader" (98 : Nat) ({ cls := "ThreeStrangers$Town", name := "meets", desc := "(I)I" } : Jvm.MethodName)) ∈ lw_all := lw_g (lw_at lw_m5 109 rfl) rfl
theorem in_X13 : ∀ w ∈ wsX130, w ∈ lw_all := lw_in wsX130 [812, 814, 816, 818, 820, 822, 824] (by decide +kernel) (by decide +kernel)
/-! ThreeStrangers$Fault -/
set_option maxRecDepth 100000
def RX14 : String := "ThreeStrangers$Fault"
def TX14 : u_T := fun k => match k with
  | 0 => ("java/lang/Throwable", "cause", "Ljava/lang/Throwable;", false)
  | 1 => ("java/lang/Throwable", "stackTrace", "[Ljava/lang/StackTraceElement;", false)
  | 2 => ("java/lang/Throwable", "suppressedExceptions", "Ljava/util/List;", false)
  | 3 => ("java/lang/Throwable", "detailMessage", "Ljava/lang/String;", false)
  | 4 => ("java/lang/Throwable", "backtrace", "Ljava/lang/Object;", false)
  | 5 => ("java/lang/Throwable", "depth", "I", false)
  | _ => ("ThreeStrangers$Fault", "place", "I", true)
def tyX14 : Nat → FieldType := fun k => match k with
  | 0 => .object "java/lang/Throwable"
  | 1 => .array (.object "java/lang/StackTraceElement")
  | 2 => .object "java/util/List"
  | 3 => .object "java/lang/String"
  | 4 => .object "java/lang/Object"
  | 5 => .int
  | _ => .int
abbrev wsX140 : List Cond := u_ws RX14 TX14 7
theorem nmX14 : ∀ a, a < 7 → ∀ b, b < 7 → a ≠ b → (TX14 a).2.1 ≠ (TX14 b).2.1 := by decide +kernel
theorem tyX14_ok : ∀ k, k < 7 → parseFieldDescriptor (TX14 k).2.2.1 = some (tyX14 k) := by decide +kernel
abbrev cX14_init : ByteArray := prog_6_method_1_code
def yX14_init : MethodName := ⟨RX14, "<init>", "(I)V"⟩
def dkwX14_init_0 : List UInt8 := [42, 1, 1, 3, 3, 183, 0, 1, 42, 27, 181, 0, 7, 177]
abbrev dktX14_init_0 : List UInt8 := dkwX14_init_0 ++ []
theorem dksX14_init_0 : cX14_init.data.toList.drop 0 = dktX14_init_0 := by decide +kernel
theorem dX14_init_0 : decode cX14_init 0 = .ok (.aload_n 0, 1) := dk_42 (dk_at dksX14_init_0 0 rfl rfl)
theorem dX14_init_1 : decode cX14_init 1 = .ok (.aconst_null, 1) := dk_1 (dk_at dksX14_init_0 1 rfl rfl)
theorem dX14_init_2 : decode cX14_init 2 = .ok (.aconst_null, 1) := dk_1 (dk_at dksX14_init_0 2 rfl rfl)
theorem dX14_init_3 : decode cX14_init 3 = .ok (.iconst 0, 1) := dk_3 (dk_at dksX14_init_0 3 rfl rfl)
theorem dX14_init_4 : decode cX14_init 4 = .ok (.iconst 0, 1) := dk_3 (dk_at dksX14_init_0 4 rfl rfl)
theorem dX14_init_5 : decode cX14_init 5 = .ok (.invokespecial 1, 3) := dk_183 0 1 (dk_at dksX14_init_0 5 rfl rfl)
theorem dX14_init_8 : decode cX14_init 8 = .ok (.aload_n 0, 1) := dk_42 (dk_at dksX14_init_0 8 rfl rfl)
theorem dX14_init_9 : decode cX14_init 9 = .ok (.iload_n 1, 1) := dk_27 (dk_at dksX14_init_0 9 rfl rfl)
theorem dX14_init_10 : decode cX14_init 10 = .ok (.putfield 7, 3) := dk_181 0 7 (dk_at dksX14_init_0 10 rfl rfl)
theorem dX14_init_13 : decode cX14_init 13 = .ok (.return_, 1) := dk_177 (dk_at dksX14_init_0 13 rfl rfl)
theorem q115 : (Jvm.Cond.initialized "ThreeStrangers$Fault") ∈ lw_all := lw_g (lw_at lw_m1 35 rfl) rfl
theorem q323 : (Jvm.Cond.selects "ThreeStrangers$Fault" ({ cls := "java/lang/Throwable", name := "fillInStackTrace", desc := "()Ljava/lang/Throwable;" } : Jvm.MethodName) ({ cls := "java/lang/Throwable", name := "fillInStackTrace", desc := "()Ljava/lang/Throwable;" } : Jvm.MethodName)) ∈ lw_all := lw_g (lw_at lw_m2 3 rfl) rfl
theorem q1035 : (Jvm.Cond.instantiable "ThreeStrangers$Fault" (7 : Nat)) ∈ lw_all := lw_g (lw_at lw_m4 235 rfl) rfl
theorem q1036 : (Jvm.Cond.castable "ThreeStrangers$Fault" "ThreeStrangers$Fault") ∈ lw_tbl := lw_at lw_m4 236 rfl
theorem q1037 : (Jvm.Cond.selects "ThreeStrangers$Fault" ({ cls := "java/lang/Throwable", name := "fillInStackTrace", desc := "(I)Ljava/lang/Throwable;" } : Jvm.MethodName) ({ cls := "java/lang/Throwable", name := "fillInStackTrace", desc := "(I)Ljava/lang/Throwable;" } : Jvm.MethodName)) ∈ lw_all := lw_g (lw_at lw_m4 237 rfl) rfl
theorem q1038 : (Jvm.Cond.lays "ThreeStrangers$Fault" "java/lang/Throwable" "cause" "Ljava/lang/Throwable;") ∈ lw_all := lw_g (lw_at lw_m4 238 rfl) rfl
theorem q1039 : (Jvm.Cond.lays "ThreeStrangers$Fault" "java/lang/Throwable" "stackTrace" "[Ljava/lang/StackTraceElement;") ∈ lw_all := lw_g (lw_at lw_m4 239 rfl) rfl
theorem q1040 : (Jvm.Cond.lays "ThreeStrangers$Fault" "java/lang/Throwable" "suppressedExceptions" "Ljava/util/List;") ∈ lw_all := lw_g (lw_at lw_m5 0 rfl) rfl
theorem q1041 : (Jvm.Cond.lays "ThreeStrangers$Fault" "java/lang/Throwable" "detailMessage" "Ljava/lang/String;") ∈ lw_all := lw_g (lw_at lw_m5 1 rfl) rfl
theorem q1042 : (Jvm.Cond.lays "ThreeStrangers$Fault" "java/lang/Throwable" "backtrace" "Ljava/lang/Object;") ∈ lw_all := lw_g (lw_at lw_m5 2 rfl) rfl
theorem q1044 : (Jvm.Cond.instanceMethod ({ cls := "ThreeStrangers$Fault", name := "<init>", desc := "(I)V" } : Jvm.MethodName)) ∈ lw_all := lw_g (lw_at lw_m5 4 rfl) rfl
theorem q1045 : (Jvm.Cond.code ({ cls := "ThreeStrangers$Fault", name := "<init>", desc := "(I)V" } : Jvm.MethodName) prog_6_method_1_code (2 : Nat) (Option.none : Option Jvm.ClassFile.FieldType)) ∈ lw_all := lw_g (lw_at lw_m5 5 rfl) rfl
theorem q1046 : (Jvm.Cond.methodLink "ThreeStrangers$Fault" (1 : Nat) ({ cls := "java/lang/Exception", name := "<init>", desc := "(Ljava/lang/String;Ljava/lang/Throwable;ZZ)V" } : Jvm.MethodName)) ∈ lw_all := lw_g (lw_at lw_m5 6 rfl) rfl
theorem q1047 : (Jvm.Cond.fieldLink "ThreeStrangers$Fault" (7 : Nat) "ThreeStrangers$Fault" "place" "I") ∈ lw_all := lw_g (lw_at lw_m5 7 rfl) rfl
theorem q1049 : (Jvm.Cond.laysFinal "ThreeStrangers$Fault" "ThreeStrangers$Fault" "place" "I") ∈ lw_all := lw_g (lw_at lw_m5 9 rfl) rfl
theorem q1050 : (Jvm.Cond.soleField "ThreeStrangers$Fault" "place") ∈ lw_all := lw_g (lw_at lw_m5 10 rfl) rfl
theorem q1051 : (Jvm.Cond.lays "ThreeStrangers$Fault" "java/lang/Throwable" "depth" "I") ∈ lw_all := lw_g (lw_at lw_m5 11 rfl) rfl
theorem q1052 : (Jvm.Cond.superclass "ThreeStrangers$Fault" "java/lang/Exception") ∈ lw_all := lw_g (lw_at lw_m5 12 rfl) rfl
theorem in_X14 : ∀ w ∈ wsX140, w ∈ lw_all := lw_in wsX140 [1038, 1039, 1040, 1041, 1042, 1051, 1049] (by decide +kernel) (by decide +kernel)
/-! ThreeStrangers$Secrets -/
set_option maxRecDepth 100000
def RX15 : String := "ThreeStrangers$Secrets"
def TX15 : u_T := fun k => match k with
  | 0 => ("ThreeStrangers$Secrets", "one", "[I", true)
  | 1 => ("ThreeStrangers$Secrets", "two", "[I", true)
  | 2 => ("ThreeStrangers$Secrets", "often", "[I", true)
  | 3 => ("ThreeStrangers$Secrets", "pairs", "I", false)
  | 4 => ("ThreeStrangers$Secrets", "ways", "I", false)
  | _ => ("ThreeStrangers$Secrets", "this$0", "LThreeStrangers;", true)
def tyX15 : Nat → FieldType := fun k => match k with
  | 0 => .array .int
  | 1 => .array .int
  | 2 => .array .int
  | 3 => .int
  | 4 => .int
  | _ => .object "ThreeStrangers"
abbrev wsX150 : List Cond := u_ws RX15 TX15 6
theorem nmX15 : ∀ a, a < 6 → ∀ b, b < 6 → a ≠ b → (TX15 a).2.1 ≠ (TX15 b).2.1 := by decide +kernel
theorem tyX15_ok : ∀ k, k < 6 → parseFieldDescriptor (TX15 k).2.2.1 = some (tyX15 k) := by decide +kernel
abbrev cX15_init : ByteArray := prog_11_method_1_code
def yX15_init : MethodName := ⟨RX15, "<init>", "(LThreeStrangers;I)V"⟩
def dkwX15_init_6 : List UInt8 := [29, 4, 42, 180, 0, 43, 120, 162, 0, 15, 42, 29, 28, 182, 0, 46, 132, 3, 1, 167, 255, 237, 177]
abbrev dktX15_init_6 : List UInt8 := dkwX15_init_6 ++ []
def dkwX15_init_5 : List UInt8 := [42, 89, 180, 0, 43, 4, 96, 181, 0, 43, 132, 4, 1, 167, 255, 179, 132, 3, 1, 167, 255, 157, 3, 62]
abbrev dktX15_init_5 : List UInt8 := dkwX15_init_5 ++ dktX15_init_6
def dkwX15_init_4 : List UInt8 := [160, 0, 34, 42, 180, 0, 15, 42, 180, 0, 43, 29, 79, 42, 180, 0, 19, 42, 180, 0, 43, 21, 4, 79]
abbrev dktX15_init_4 : List UInt8 := dkwX15_init_4 ++ dktX15_init_5
def dkwX15_init_3 : List UInt8 := [153, 0, 57, 28, 21, 4, 184, 0, 35, 153, 0, 48, 43, 180, 0, 25, 29, 21, 4, 182, 0, 39, 2]
abbrev dktX15_init_3 : List UInt8 := dkwX15_init_3 ++ dktX15_init_4
def dkwX15_init_2 : List UInt8 := [29, 4, 96, 54, 4, 21, 4, 43, 180, 0, 25, 180, 0, 29, 162, 0, 71, 28, 29, 184, 0, 35]
abbrev dktX15_init_2 : List UInt8 := dkwX15_init_2 ++ dktX15_init_3
def dkwX15_init_1 : List UInt8 := [181, 0, 19, 42, 16, 10, 188, 10, 181, 0, 22, 3, 62, 29, 43, 180, 0, 25, 180, 0, 29, 162, 0, 94]
abbrev dktX15_init_1 : List UInt8 := dkwX15_init_1 ++ dktX15_init_2
def dkwX15_init_0 : List UInt8 := [42, 43, 181, 0, 3, 42, 183, 0, 9, 42, 16, 10, 188, 10, 181, 0, 15, 42, 16, 10, 188, 10]
abbrev dktX15_init_0 : List UInt8 := dkwX15_init_0 ++ dktX15_init_1
theorem dksX15_init_0 : cX15_init.data.toList.drop 0 = dktX15_init_0 := by decide +kernel
theorem dksX15_init_1 : cX15_init.data.toList.drop 22 = dktX15_init_1 := dk_seg dksX15_init_0 22 rfl rfl
theorem dksX15_init_2 : cX15_init.data.toList.drop 46 = dktX15_init_2 := dk_seg dksX15_init_1 24 rfl rfl
theorem dksX15_init_3 : cX15_init.data.toList.drop 68 = dktX15_init_3 := dk_seg dksX15_init_2 22 rfl rfl
theorem dksX15_init_4 : cX15_init.data.toList.drop 91 = dktX15_init_4 := dk_seg dksX15_init_3 23 rfl rfl
theorem dksX15_init_5 : cX15_init.data.toList.drop 115 = dktX15_init_5 := dk_seg dksX15_init_4 24 rfl rfl
theorem dksX15_init_6 : cX15_init.data.toList.drop 139 = dktX15_init_6 := dk_seg dksX15_init_5 24 rfl rfl
theorem dX15_init_0 : decode cX15_init 0 = .ok (.aload_n 0, 1) := dk_42 (dk_at dksX15_init_0 0 rfl rfl)
theorem dX15_init_1 : decode cX15_init 1 = .ok (.aload_n 1, 1) := dk_43 (dk_at dksX15_init_0 1 rfl rfl)
theorem dX15_init_2 : decode cX15_init 2 = .ok (.putfield 3, 3) := dk_181 0 3 (dk_at dksX15_init_0 2 rfl rfl)
theorem dX15_init_5 : decode cX15_init 5 = .ok (.aload_n 0, 1) := dk_42 (dk_at dksX15_init_0 5 rfl rfl)
theorem dX15_init_6 : decode cX15_init 6 = .ok (.invokespecial 9, 3) := dk_183 0 9 (dk_at dksX15_init_0 6 rfl rfl)
theorem dX15_init_9 : decode cX15_init 9 = .ok (.aload_n 0, 1) := dk_42 (dk_at dksX15_init_0 9 rfl rfl)
theorem dX15_init_10 : decode cX15_init 10 = .ok (.bipush 10, 2) := dk_16 10 (dk_at dksX15_init_0 10 rfl rfl)
theorem dX15_init_12 : decode cX15_init 12 = .ok (.newarray .int, 2) := dk_188_10 (dk_at dksX15_init_0 12 rfl rfl)
theorem dX15_init_14 : decode cX15_init 14 = .ok (.putfield 15, 3) := dk_181 0 15 (dk_at dksX15_init_0 14 rfl rfl)
theorem dX15_init_17 : decode cX15_init 17 = .ok (.aload_n 0, 1) := dk_42 (dk_at dksX15_init_0 17 rfl rfl)
theorem dX15_init_18 : decode cX15_init 18 = .ok (.bipush 10, 2) := dk_16 10 (dk_at dksX15_init_0 18 rfl rfl)
theorem dX15_init_20 : decode cX15_init 20 = .ok (.newarray .int, 2) := dk_188_10 (dk_at dksX15_init_0 20 rfl rfl)
theorem dX15_init_22 : decode cX15_init 22 = .ok (.putfield 19, 3) := dk_181 0 19 (dk_at dksX15_init_1 0 rfl rfl)
theorem dX15_init_25 : decode cX15_init 25 = .ok (.aload_n 0, 1) := dk_42 (dk_at dksX15_init_1 3 rfl rfl)
theorem dX15_init_26 : decode cX15_init 26 = .ok (.bipush 10, 2) := dk_16 10 (dk_at dksX15_init_1 4 rfl rfl)
theorem dX15_init_28 : decode cX15_init 28 = .ok (.newarray .int, 2) := dk_188_10 (dk_at dksX15_init_1 6 rfl rfl)
theorem dX15_init_30 : decode cX15_init 30 = .ok (.putfield 22, 3) := dk_181 0 22 (dk_at dksX15_init_1 8 rfl rfl)
theorem dX15_init_33 : decode cX15_init 33 = .ok (.iconst 0, 1) := dk_3 (dk_at dksX15_init_1 11 rfl rfl)
theorem dX15_init_34 : decode cX15_init 34 = .ok (.istore_n 3, 1) := dk_62 (dk_at dksX15_init_1 12 rfl rfl)
theorem dX15_init_35 : decode cX15_init 35 = .ok (.iload_n 3, 1) := dk_29 (dk_at dksX15_init_1 13 rfl rfl)
theorem dX15_init_36 : decode cX15_init 36 = .ok (.aload_n 1, 1) := dk_43 (dk_at dksX15_init_1 14 rfl rfl)
theorem dX15_init_37 : decode cX15_init 37 = .ok (.getfield 25, 3) := dk_180 0 25 (dk_at dksX15_init_1 15 rfl rfl)
theorem dX15_init_40 : decode cX15_init 40 = .ok (.getfield 29, 3) := dk_180 0 29 (dk_at dksX15_init_1 18 rfl rfl)
theorem dX15_init_43 : decode cX15_init 43 = .ok (.if_icmp .ge 94, 3) := dk_162 0 94 (dk_at dksX15_init_1 21 rfl rfl)
theorem dX15_init_46 : decode cX15_init 46 = .ok (.iload_n 3, 1) := dk_29 (dk_at dksX15_init_2 0 rfl rfl)
theorem dX15_init_47 : decode cX15_init 47 = .ok (.iconst 1, 1) := dk_4 (dk_at dksX15_init_2 1 rfl rfl)
theorem dX15_init_48 : decode cX15_init 48 = .ok (.iadd, 1) := dk_96 (dk_at dksX15_init_2 2 rfl rfl)
theorem dX15_init_49 : decode cX15_init 49 = .ok (.istore 4, 2) := dk_54 4 (dk_at dksX15_init_2 3 rfl rfl)
theorem dX15_init_51 : decode cX15_init 51 = .ok (.iload 4, 2) := dk_21 4 (dk_at dksX15_init_2 5 rfl rfl)
theorem dX15_init_53 : decode cX15_init 53 = .ok (.aload_n 1, 1) := dk_43 (dk_at dksX15_init_2 7 rfl rfl)
theorem dX15_init_54 : decode cX15_init 54 = .ok (.getfield 25, 3) := dk_180 0 25 (dk_at dksX15_init_2 8 rfl rfl)
theorem dX15_init_57 : decode cX15_init 57 = .ok (.getfield 29, 3) := dk_180 0 29 (dk_at dksX15_init_2 11 rfl rfl)
theorem dX15_init_60 : decode cX15_init 60 = .ok (.if_icmp .ge 71, 3) := dk_162 0 71 (dk_at dksX15_init_2 14 rfl rfl)
theorem dX15_init_63 : decode cX15_init 63 = .ok (.iload_n 2, 1) := dk_28 (dk_at dksX15_init_2 17 rfl rfl)
theorem dX15_init_64 : decode cX15_init 64 = .ok (.iload_n 3, 1) := dk_29 (dk_at dksX15_init_2 18 rfl rfl)
theorem dX15_init_65 : decode cX15_init 65 = .ok (.invokestatic 35, 3) := dk_184 0 35 (dk_at dksX15_init_2 19 rfl rfl)
theorem dX15_init_68 : decode cX15_init 68 = .ok (.ifCond .eq 57, 3) := dk_153 0 57 (dk_at dksX15_init_3 0 rfl rfl)
theorem dX15_init_71 : decode cX15_init 71 = .ok (.iload_n 2, 1) := dk_28 (dk_at dksX15_init_3 3 rfl rfl)
theorem dX15_init_72 : decode cX15_init 72 = .ok (.iload 4, 2) := dk_21 4 (dk_at dksX15_init_3 4 rfl rfl)
theorem dX15_init_74 : decode cX15_init 74 = .ok (.invokestatic 35, 3) := dk_184 0 35 (dk_at dksX15_init_3 6 rfl rfl)
theorem dX15_init_77 : decode cX15_init 77 = .ok (.ifCond .eq 48, 3) := dk_153 0 48 (dk_at dksX15_init_3 9 rfl rfl)
theorem dX15_init_80 : decode cX15_init 80 = .ok (.aload_n 1, 1) := dk_43 (dk_at dksX15_init_3 12 rfl rfl)
theorem dX15_init_81 : decode cX15_init 81 = .ok (.getfield 25, 3) := dk_180 0 25 (dk_at dksX15_init_3 13 rfl rfl)
theorem dX15_init_84 : decode cX15_init 84 = .ok (.iload_n 3, 1) := dk_29 (dk_at dksX15_init_3 16 rfl rfl)
theorem dX15_init_85 : decode cX15_init 85 = .ok (.iload 4, 2) := dk_21 4 (dk_at dksX15_init_3 17 rfl rfl)
theorem dX15_init_87 : decode cX15_init 87 = .ok (.invokevirtual 39, 3) := dk_182 0 39 (dk_at dksX15_init_3 19 rfl rfl)
theorem dX15_init_90 : decode cX15_init 90 = .ok (.iconst (-1), 1) := dk_2 (dk_at dksX15_init_3 22 rfl rfl)
theorem dX15_init_91 : decode cX15_init 91 = .ok (.if_icmp .ne 34, 3) := dk_160 0 34 (dk_at dksX15_init_4 0 rfl rfl)
theorem dX15_init_94 : decode cX15_init 94 = .ok (.aload_n 0, 1) := dk_42 (dk_at dksX15_init_4 3 rfl rfl)
theorem dX15_init_95 : decode cX15_init 95 = .ok (.getfield 15, 3) := dk_180 0 15 (dk_at dksX15_init_4 4 rfl rfl)
theorem dX15_init_98 : decode cX15_init 98 = .ok (.aload_n 0, 1) := dk_42 (dk_at dksX15_init_4 7 rfl rfl)
theorem dX15_init_99 : decode cX15_init 99 = .ok (.getfield 43, 3) := dk_180 0 43 (dk_at dksX15_init_4 8 rfl rfl)
theorem dX15_init_102 : decode cX15_init 102 = .ok (.iload_n 3, 1) := dk_29 (dk_at dksX15_init_4 11 rfl rfl)
theorem dX15_init_103 : decode cX15_init 103 = .ok (.iastore, 1) := dk_79 (dk_at dksX15_init_4 12 rfl rfl)
theorem dX15_init_104 : decode cX15_init 104 = .ok (.aload_n 0, 1) := dk_42 (dk_at dksX15_init_4 13 rfl rfl)
theorem dX15_init_105 : decode cX15_init 105 = .ok (.getfield 19, 3) := dk_180 0 19 (dk_at dksX15_init_4 14 rfl rfl)
theorem dX15_init_108 : decode cX15_init 108 = .ok (.aload_n 0, 1) := dk_42 (dk_at dksX15_init_4 17 rfl rfl)
theorem dX15_init_109 : decode cX15_init 109 = .ok (.getfield 43, 3) := dk_180 0 43 (dk_at dksX15_init_4 18 rfl rfl)
theorem dX15_init_112 : decode cX15_init 112 = .ok (.iload 4, 2) := dk_21 4 (dk_at dksX15_init_4 21 rfl rfl)
theorem dX15_init_114 : decode cX15_init 114 = .ok (.iastore, 1) := dk_79 (dk_at dksX15_init_4 23 rfl rfl)
theorem dX15_init_115 : decode cX15_init 115 = .ok (.aload_n 0, 1) := dk_42 (dk_at dksX15_init_5 0 rfl rfl)
theorem dX15_init_116 : decode cX15_init 116 = .ok (.dup, 1) := dk_89 (dk_at dksX15_init_5 1 rfl rfl)
theorem dX15_init_117 : decode cX15_init 117 = .ok (.getfield 43, 3) := dk_180 0 43 (dk_at dksX15_init_5 2 rfl rfl)
theorem dX15_init_120 : decode cX15_init 120 = .ok (.iconst 1, 1) := dk_4 (dk_at dksX15_init_5 5 rfl rfl)
theorem dX15_init_121 : decode cX15_init 121 = .ok (.iadd, 1) := dk_96 (dk_at dksX15_init_5 6 rfl rfl)
theorem dX15_init_122 : decode cX15_init 122 = .ok (.putfield 43, 3) := dk_181 0 43 (dk_at dksX15_init_5 7 rfl rfl)
theorem dX15_init_125 : decode cX15_init 125 = .ok (.iinc 4 1, 3) := dk_132 4 1 (dk_at dksX15_init_5 10 rfl rfl)
theorem dX15_init_128 : decode cX15_init 128 = .ok (.goto (-77), 3) := dk_167 255 179 (dk_at dksX15_init_5 13 rfl rfl)
theorem dX15_init_131 : decode cX15_init 131 = .ok (.iinc 3 1, 3) := dk_132 3 1 (dk_at dksX15_init_5 16 rfl rfl)
theorem dX15_init_134 : decode cX15_init 134 = .ok (.goto (-99), 3) := dk_167 255 157 (dk_at dksX15_init_5 19 rfl rfl)
theorem dX15_init_137 : decode cX15_init 137 = .ok (.iconst 0, 1) := dk_3 (dk_at dksX15_init_5 22 rfl rfl)
theorem dX15_init_138 : decode cX15_init 138 = .ok (.istore_n 3, 1) := dk_62 (dk_at dksX15_init_5 23 rfl rfl)
theorem dX15_init_139 : decode cX15_init 139 = .ok (.iload_n 3, 1) := dk_29 (dk_at dksX15_init_6 0 rfl rfl)
theorem dX15_init_140 : decode cX15_init 140 = .ok (.iconst 1, 1) := dk_4 (dk_at dksX15_init_6 1 rfl rfl)
theorem dX15_init_141 : decode cX15_init 141 = .ok (.aload_n 0, 1) := dk_42 (dk_at dksX15_init_6 2 rfl rfl)
theorem dX15_init_142 : decode cX15_init 142 = .ok (.getfield 43, 3) := dk_180 0 43 (dk_at dksX15_init_6 3 rfl rfl)
theorem dX15_init_145 : decode cX15_init 145 = .ok (.ishl, 1) := dk_120 (dk_at dksX15_init_6 6 rfl rfl)
theorem dX15_init_146 : decode cX15_init 146 = .ok (.if_icmp .ge 15, 3) := dk_162 0 15 (dk_at dksX15_init_6 7 rfl rfl)
theorem dX15_init_149 : decode cX15_init 149 = .ok (.aload_n 0, 1) := dk_42 (dk_at dksX15_init_6 10 rfl rfl)
theorem dX15_init_150 : decode cX15_init 150 = .ok (.iload_n 3, 1) := dk_29 (dk_at dksX15_init_6 11 rfl rfl)
theorem dX15_init_151 : decode cX15_init 151 = .ok (.iload_n 2, 1) := dk_28 (dk_at dksX15_init_6 12 rfl rfl)
theorem dX15_init_152 : decode cX15_init 152 = .ok (.invokevirtual 46, 3) := dk_182 0 46 (dk_at dksX15_init_6 13 rfl rfl)
theorem dX15_init_155 : decode cX15_init 155 = .ok (.iinc 3 1, 3) := dk_132 3 1 (dk_at dksX15_init_6 16 rfl rfl)
theorem dX15_init_158 : decode cX15_init 158 = .ok (.goto (-19), 3) := dk_167 255 237 (dk_at dksX15_init_6 19 rfl rfl)
theorem dX15_init_161 : decode cX15_init 161 = .ok (.return_, 1) := dk_177 (dk_at dksX15_init_6 22 rfl rfl)
abbrev cX15_tries : ByteArray := prog_11_method_2_code
def yX15_tries : MethodName := ⟨RX15, "tries", "(II)V"⟩
def dkwX15_tries_5 : List UInt8 := [132, 4, 1, 167, 255, 220, 177]
abbrev dktX15_tries_5 : List UInt8 := dkwX15_tries_5 ++ []
def dkwX15_tries_4 : List UInt8 := [180, 0, 22, 21, 4, 92, 46, 27, 21, 4, 184, 0, 35, 153, 0, 7, 4, 167, 0, 4, 3, 96, 79]
abbrev dktX15_tries_4 : List UInt8 := dkwX15_tries_4 ++ dktX15_tries_5
def dkwX15_tries_3 : List UInt8 := [177, 42, 89, 180, 0, 65, 4, 96, 181, 0, 65, 3, 54, 4, 21, 4, 42, 180, 0, 43, 162, 0, 33, 42]
abbrev dktX15_tries_3 : List UInt8 := dkwX15_tries_3 ++ dktX15_tries_4
def dkwX15_tries_2 : List UInt8 := [180, 0, 19, 21, 4, 46, 3, 182, 0, 57, 132, 4, 1, 167, 255, 216, 45, 28, 184, 0, 61, 153, 0, 4]
abbrev dktX15_tries_2 : List UInt8 := dkwX15_tries_2 ++ dktX15_tries_3
def dkwX15_tries_1 : List UInt8 := [180, 0, 43, 162, 0, 37, 27, 21, 4, 184, 0, 35, 153, 0, 22, 45, 42, 180, 0, 15, 21, 4, 46, 42]
abbrev dktX15_tries_1 : List UInt8 := dkwX15_tries_1 ++ dktX15_tries_2
def dkwX15_tries_0 : List UInt8 := [42, 180, 0, 3, 180, 0, 50, 42, 180, 0, 3, 180, 0, 25, 182, 0, 53, 78, 3, 54, 4, 21, 4, 42]
abbrev dktX15_tries_0 : List UInt8 := dkwX15_tries_0 ++ dktX15_tries_1
theorem dksX15_tries_0 : cX15_tries.data.toList.drop 0 = dktX15_tries_0 := by decide +kernel
theorem dksX15_tries_1 : cX15_tries.data.toList.drop 24 = dktX15_tries_1 := dk_seg dksX15_tries_0 24 rfl rfl
theorem dksX15_tries_2 : cX15_tries.data.toList.drop 48 = dktX15_tries_2 := dk_seg dksX15_tries_1 24 rfl rfl
theorem dksX15_tries_3 : cX15_tries.data.toList.drop 72 = dktX15_tries_3 := dk_seg dksX15_tries_2 24 rfl rfl
theorem dksX15_tries_4 : cX15_tries.data.toList.drop 96 = dktX15_tries_4 := dk_seg dksX15_tries_3 24 rfl rfl
theorem dksX15_tries_5 : cX15_tries.data.toList.drop 119 = dktX15_tries_5 := dk_seg dksX15_tries_4 23 rfl rfl
theorem dX15_tries_0 : decode cX15_tries 0 = .ok (.aload_n 0, 1) := dk_42 (dk_at dksX15_tries_0 0 rfl rfl)
theorem dX15_tries_1 : decode cX15_tries 1 = .ok (.getfield 3, 3) := dk_180 0 3 (dk_at dksX15_tries_0 1 rfl rfl)
theorem dX15_tries_4 : decode cX15_tries 4 = .ok (.getfield 50, 3) := dk_180 0 50 (dk_at dksX15_tries_0 4 rfl rfl)
theorem dX15_tries_7 : decode cX15_tries 7 = .ok (.aload_n 0, 1) := dk_42 (dk_at dksX15_tries_0 7 rfl rfl)
theorem dX15_tries_8 : decode cX15_tries 8 = .ok (.getfield 3, 3) := dk_180 0 3 (dk_at dksX15_tries_0 8 rfl rfl)
theorem dX15_tries_11 : decode cX15_tries 11 = .ok (.getfield 25, 3) := dk_180 0 25 (dk_at dksX15_tries_0 11 rfl rfl)
theorem dX15_tries_14 : decode cX15_tries 14 = .ok (.invokevirtual 53, 3) := dk_182 0 53 (dk_at dksX15_tries_0 14 rfl rfl)
theorem dX15_tries_17 : decode cX15_tries 17 = .ok (.astore_n 3, 1) := dk_78 (dk_at dksX15_tries_0 17 rfl rfl)
theorem dX15_tries_18 : decode cX15_tries 18 = .ok (.iconst 0, 1) := dk_3 (dk_at dksX15_tries_0 18 rfl rfl)
theorem dX15_tries_19 : decode cX15_tries 19 = .ok (.istore 4, 2) := dk_54 4 (dk_at dksX15_tries_0 19 rfl rfl)
theorem dX15_tries_21 : decode cX15_tries 21 = .ok (.iload 4, 2) := dk_21 4 (dk_at dksX15_tries_0 21 rfl rfl)
theorem dX15_tries_23 : decode cX15_tries 23 = .ok (.aload_n 0, 1) := dk_42 (dk_at dksX15_tries_0 23 rfl rfl)
theorem dX15_tries_24 : decode cX15_tries 24 = .ok (.getfield 43, 3) := dk_180 0 43 (dk_at dksX15_tries_1 0 rfl rfl)
theorem dX15_tries_27 : decode cX15_tries 27 = .ok (.if_icmp .ge 37, 3) := dk_162 0 37 (dk_at dksX15_tries_1 3 rfl rfl)
theorem dX15_tries_30 : decode cX15_tries 30 = .ok (.iload_n 1, 1) := dk_27 (dk_at dksX15_tries_1 6 rfl rfl)
theorem dX15_tries_31 : decode cX15_tries 31 = .ok (.iload 4, 2) := dk_21 4 (dk_at dksX15_tries_1 7 rfl rfl)
theorem dX15_tries_33 : decode cX15_tries 33 = .ok (.invokestatic 35, 3) := dk_184 0 35 (dk_at dksX15_tries_1 9 rfl rfl)
theorem dX15_tries_36 : decode cX15_tries 36 = .ok (.ifCond .eq 22, 3) := dk_153 0 22 (dk_at dksX15_tries_1 12 rfl rfl)
theorem dX15_tries_39 : decode cX15_tries 39 = .ok (.aload_n 3, 1) := dk_45 (dk_at dksX15_tries_1 15 rfl rfl)
theorem dX15_tries_40 : decode cX15_tries 40 = .ok (.aload_n 0, 1) := dk_42 (dk_at dksX15_tries_1 16 rfl rfl)
theorem dX15_tries_41 : decode cX15_tries 41 = .ok (.getfield 15, 3) := dk_180 0 15 (dk_at dksX15_tries_1 17 rfl rfl)
theorem dX15_tries_44 : decode cX15_tries 44 = .ok (.iload 4, 2) := dk_21 4 (dk_at dksX15_tries_1 20 rfl rfl)
theorem dX15_tries_46 : decode cX15_tries 46 = .ok (.iaload, 1) := dk_46 (dk_at dksX15_tries_1 22 rfl rfl)
theorem dX15_tries_47 : decode cX15_tries 47 = .ok (.aload_n 0, 1) := dk_42 (dk_at dksX15_tries_1 23 rfl rfl)
theorem dX15_tries_48 : decode cX15_tries 48 = .ok (.getfield 19, 3) := dk_180 0 19 (dk_at dksX15_tries_2 0 rfl rfl)
theorem dX15_tries_51 : decode cX15_tries 51 = .ok (.iload 4, 2) := dk_21 4 (dk_at dksX15_tries_2 3 rfl rfl)
theorem dX15_tries_53 : decode cX15_tries 53 = .ok (.iaload, 1) := dk_46 (dk_at dksX15_tries_2 5 rfl rfl)
theorem dX15_tries_54 : decode cX15_tries 54 = .ok (.iconst 0, 1) := dk_3 (dk_at dksX15_tries_2 6 rfl rfl)
theorem dX15_tries_55 : decode cX15_tries 55 = .ok (.invokevirtual 57, 3) := dk_182 0 57 (dk_at dksX15_tries_2 7 rfl rfl)
theorem dX15_tries_58 : decode cX15_tries 58 = .ok (.iinc 4 1, 3) := dk_132 4 1 (dk_at dksX15_tries_2 10 rfl rfl)
theorem dX15_tries_61 : decode cX15_tries 61 = .ok (.goto (-40), 3) := dk_167 255 216 (dk_at dksX15_tries_2 13 rfl rfl)
theorem dX15_tries_64 : decode cX15_tries 64 = .ok (.aload_n 3, 1) := dk_45 (dk_at dksX15_tries_2 16 rfl rfl)
theorem dX15_tries_65 : decode cX15_tries 65 = .ok (.iload_n 2, 1) := dk_28 (dk_at dksX15_tries_2 17 rfl rfl)
theorem dX15_tries_66 : decode cX15_tries 66 = .ok (.invokestatic 61, 3) := dk_184 0 61 (dk_at dksX15_tries_2 18 rfl rfl)
theorem dX15_tries_69 : decode cX15_tries 69 = .ok (.ifCond .eq 4, 3) := dk_153 0 4 (dk_at dksX15_tries_2 21 rfl rfl)
theorem dX15_tries_72 : decode cX15_tries 72 = .ok (.return_, 1) := dk_177 (dk_at dksX15_tries_3 0 rfl rfl)
theorem dX15_tries_73 : decode cX15_tries 73 = .ok (.aload_n 0, 1) := dk_42 (dk_at dksX15_tries_3 1 rfl rfl)
theorem dX15_tries_74 : decode cX15_tries 74 = .ok (.dup, 1) := dk_89 (dk_at dksX15_tries_3 2 rfl rfl)
theorem dX15_tries_75 : decode cX15_tries 75 = .ok (.getfield 65, 3) := dk_180 0 65 (dk_at dksX15_tries_3 3 rfl rfl)
theorem dX15_tries_78 : decode cX15_tries 78 = .ok (.iconst 1, 1) := dk_4 (dk_at dksX15_tries_3 6 rfl rfl)
theorem dX15_tries_79 : decode cX15_tries 79 = .ok (.iadd, 1) := dk_96 (dk_at dksX15_tries_3 7 rfl rfl)
theorem dX15_tries_80 : decode cX15_tries 80 = .ok (.putfield 65, 3) := dk_181 0 65 (dk_at dksX15_tries_3 8 rfl rfl)
theorem dX15_tries_83 : decode cX15_tries 83 = .ok (.iconst 0, 1) := dk_3 (dk_at dksX15_tries_3 11 rfl rfl)
theorem dX15_tries_84 : decode cX15_tries 84 = .ok (.istore 4, 2) := dk_54 4 (dk_at dksX15_tries_3 12 rfl rfl)
theorem dX15_tries_86 : decode cX15_tries 86 = .ok (.iload 4, 2) := dk_21 4 (dk_at dksX15_tries_3 14 rfl rfl)
theorem dX15_tries_88 : decode cX15_tries 88 = .ok (.aload_n 0, 1) := dk_42 (dk_at dksX15_tries_3 16 rfl rfl)
theorem dX15_tries_89 : decode cX15_tries 89 = .ok (.getfield 43, 3) := dk_180 0 43 (dk_at dksX15_tries_3 17 rfl rfl)
theorem dX15_tries_92 : decode cX15_tries 92 = .ok (.if_icmp .ge 33, 3) := dk_162 0 33 (dk_at dksX15_tries_3 20 rfl rfl)
theorem dX15_tries_95 : decode cX15_tries 95 = .ok (.aload_n 0, 1) := dk_42 (dk_at dksX15_tries_3 23 rfl rfl)
theorem dX15_tries_96 : decode cX15_tries 96 = .ok (.getfield 22, 3) := dk_180 0 22 (dk_at dksX15_tries_4 0 rfl rfl)
theorem dX15_tries_99 : decode cX15_tries 99 = .ok (.iload 4, 2) := dk_21 4 (dk_at dksX15_tries_4 3 rfl rfl)
theorem dX15_tries_101 : decode cX15_tries 101 = .ok (.dup2, 1) := dk_92 (dk_at dksX15_tries_4 5 rfl rfl)
theorem dX15_tries_102 : decode cX15_tries 102 = .ok (.iaload, 1) := dk_46 (dk_at dksX15_tries_4 6 rfl rfl)
theorem dX15_tries_103 : decode cX15_tries 103 = .ok (.iload_n 1, 1) := dk_27 (dk_at dksX15_tries_4 7 rfl rfl)
theorem dX15_tries_104 : decode cX15_tries 104 = .ok (.iload 4, 2) := dk_21 4 (dk_at dksX15_tries_4 8 rfl rfl)
theorem dX15_tries_106 : decode cX15_tries 106 = .ok (.invokestatic 35, 3) := dk_184 0 35 (dk_at dksX15_tries_4 10 rfl rfl)
theorem dX15_tries_109 : decode cX15_tries 109 = .ok (.ifCond .eq 7, 3) := dk_153 0 7 (dk_at dksX15_tries_4 13 rfl rfl)
theorem dX15_tries_112 : decode cX15_tries 112 = .ok (.iconst 1, 1) := dk_4 (dk_at dksX15_tries_4 16 rfl rfl)
theorem dX15_tries_113 : decode cX15_tries 113 = .ok (.goto 4, 3) := dk_167 0 4 (dk_at dksX15_tries_4 17 rfl rfl)
theorem dX15_tries_116 : decode cX15_tries 116 = .ok (.iconst 0, 1) := dk_3 (dk_at dksX15_tries_4 20 rfl rfl)
theorem dX15_tries_117 : decode cX15_tries 117 = .ok (.iadd, 1) := dk_96 (dk_at dksX15_tries_4 21 rfl rfl)
theorem dX15_tries_118 : decode cX15_tries 118 = .ok (.iastore, 1) := dk_79 (dk_at dksX15_tries_4 22 rfl rfl)
theorem dX15_tries_119 : decode cX15_tries 119 = .ok (.iinc 4 1, 3) := dk_132 4 1 (dk_at dksX15_tries_5 0 rfl rfl)
theorem dX15_tries_122 : decode cX15_tries 122 = .ok (.goto (-36), 3) := dk_167 255 220 (dk_at dksX15_tries_5 3 rfl rfl)
theorem dX15_tries_125 : decode cX15_tries 125 = .ok (.return_, 1) := dk_177 (dk_at dksX15_tries_5 6 rfl rfl)
abbrev cX15_sure : ByteArray := prog_11_method_3_code
def yX15_sure : MethodName := ⟨RX15, "sure", "()I"⟩
def dkwX15_sure_2 : List UInt8 := [167, 0, 19, 16, 10, 42, 180, 0, 15, 27, 46, 104, 42, 180, 0, 19, 27, 46, 96, 172]
abbrev dktX15_sure_2 : List UInt8 := dkwX15_sure_2 ++ []
def dkwX15_sure_1 : List UInt8 := [164, 0, 7, 28, 167, 0, 4, 27, 60, 132, 2, 1, 167, 255, 224, 42, 180, 0, 43, 154, 0, 7, 2]
abbrev dktX15_sure_1 : List UInt8 := dkwX15_sure_1 ++ dktX15_sure_2
def dkwX15_sure_0 : List UInt8 := [3, 60, 4, 61, 28, 42, 180, 0, 43, 162, 0, 30, 42, 180, 0, 22, 28, 46, 42, 180, 0, 22, 27, 46]
abbrev dktX15_sure_0 : List UInt8 := dkwX15_sure_0 ++ dktX15_sure_1
theorem dksX15_sure_0 : cX15_sure.data.toList.drop 0 = dktX15_sure_0 := by decide +kernel
theorem dksX15_sure_1 : cX15_sure.data.toList.drop 24 = dktX15_sure_1 := dk_seg dksX15_sure_0 24 rfl rfl
theorem dksX15_sure_2 : cX15_sure.data.toList.drop 47 = dktX15_sure_2 := dk_seg dksX15_sure_1 23 rfl rfl
theorem dX15_sure_0 : decode cX15_sure 0 = .ok (.iconst 0, 1) := dk_3 (dk_at dksX15_sure_0 0 rfl rfl)
theorem dX15_sure_1 : decode cX15_sure 1 = .ok (.istore_n 1, 1) := dk_60 (dk_at dksX15_sure_0 1 rfl rfl)
theorem dX15_sure_2 : decode cX15_sure 2 = .ok (.iconst 1, 1) := dk_4 (dk_at dksX15_sure_0 2 rfl rfl)
theorem dX15_sure_3 : decode cX15_sure 3 = .ok (.istore_n 2, 1) := dk_61 (dk_at dksX15_sure_0 3 rfl rfl)
theorem dX15_sure_4 : decode cX15_sure 4 = .ok (.iload_n 2, 1) := dk_28 (dk_at dksX15_sure_0 4 rfl rfl)
theorem dX15_sure_5 : decode cX15_sure 5 = .ok (.aload_n 0, 1) := dk_42 (dk_at dksX15_sure_0 5 rfl rfl)
theorem dX15_sure_6 : decode cX15_sure 6 = .ok (.getfield 43, 3) := dk_180 0 43 (dk_at dksX15_sure_0 6 rfl rfl)
theorem dX15_sure_9 : decode cX15_sure 9 = .ok (.if_icmp .ge 30, 3) := dk_162 0 30 (dk_at dksX15_sure_0 9 rfl rfl)
theorem dX15_sure_12 : decode cX15_sure 12 = .ok (.aload_n 0, 1) := dk_42 (dk_at dksX15_sure_0 12 rfl rfl)
theorem dX15_sure_13 : decode cX15_sure 13 = .ok (.getfield 22, 3) := dk_180 0 22 (dk_at dksX15_sure_0 13 rfl rfl)
theorem dX15_sure_16 : decode cX15_sure 16 = .ok (.iload_n 2, 1) := dk_28 (dk_at dksX15_sure_0 16 rfl rfl)
theorem dX15_sure_17 : decode cX15_sure 17 = .ok (.iaload, 1) := dk_46 (dk_at dksX15_sure_0 17 rfl rfl)
theorem dX15_sure_18 : decode cX15_sure 18 = .ok (.aload_n 0, 1) := dk_42 (dk_at dksX15_sure_0 18 rfl rfl)
theorem dX15_sure_19 : decode cX15_sure 19 = .ok (.getfield 22, 3) := dk_180 0 22 (dk_at dksX15_sure_0 19 rfl rfl)
theorem dX15_sure_22 : decode cX15_sure 22 = .ok (.iload_n 1, 1) := dk_27 (dk_at dksX15_sure_0 22 rfl rfl)
theorem dX15_sure_23 : decode cX15_sure 23 = .ok (.iaload, 1) := dk_46 (dk_at dksX15_sure_0 23 rfl rfl)
theorem dX15_sure_24 : decode cX15_sure 24 = .ok (.if_icmp .le 7, 3) := dk_164 0 7 (dk_at dksX15_sure_1 0 rfl rfl)
theorem dX15_sure_27 : decode cX15_sure 27 = .ok (.iload_n 2, 1) := dk_28 (dk_at dksX15_sure_1 3 rfl rfl)
theorem dX15_sure_28 : decode cX15_sure 28 = .ok (.goto 4, 3) := dk_167 0 4 (dk_at dksX15_sure_1 4 rfl rfl)
theorem dX15_sure_31 : decode cX15_sure 31 = .ok (.iload_n 1, 1) := dk_27 (dk_at dksX15_sure_1 7 rfl rfl)
theorem dX15_sure_32 : decode cX15_sure 32 = .ok (.istore_n 1, 1) := dk_60 (dk_at dksX15_sure_1 8 rfl rfl)
theorem dX15_sure_33 : decode cX15_sure 33 = .ok (.iinc 2 1, 3) := dk_132 2 1 (dk_at dksX15_sure_1 9 rfl rfl)
theorem dX15_sure_36 : decode cX15_sure 36 = .ok (.goto (-32), 3) := dk_167 255 224 (dk_at dksX15_sure_1 12 rfl rfl)
theorem dX15_sure_39 : decode cX15_sure 39 = .ok (.aload_n 0, 1) := dk_42 (dk_at dksX15_sure_1 15 rfl rfl)
theorem dX15_sure_40 : decode cX15_sure 40 = .ok (.getfield 43, 3) := dk_180 0 43 (dk_at dksX15_sure_1 16 rfl rfl)
theorem dX15_sure_43 : decode cX15_sure 43 = .ok (.ifCond .ne 7, 3) := dk_154 0 7 (dk_at dksX15_sure_1 19 rfl rfl)
theorem dX15_sure_46 : decode cX15_sure 46 = .ok (.iconst (-1), 1) := dk_2 (dk_at dksX15_sure_1 22 rfl rfl)
theorem dX15_sure_47 : decode cX15_sure 47 = .ok (.goto 19, 3) := dk_167 0 19 (dk_at dksX15_sure_2 0 rfl rfl)
theorem dX15_sure_50 : decode cX15_sure 50 = .ok (.bipush 10, 2) := dk_16 10 (dk_at dksX15_sure_2 3 rfl rfl)
theorem dX15_sure_52 : decode cX15_sure 52 = .ok (.aload_n 0, 1) := dk_42 (dk_at dksX15_sure_2 5 rfl rfl)
theorem dX15_sure_53 : decode cX15_sure 53 = .ok (.getfield 15, 3) := dk_180 0 15 (dk_at dksX15_sure_2 6 rfl rfl)
theorem dX15_sure_56 : decode cX15_sure 56 = .ok (.iload_n 1, 1) := dk_27 (dk_at dksX15_sure_2 9 rfl rfl)
theorem dX15_sure_57 : decode cX15_sure 57 = .ok (.iaload, 1) := dk_46 (dk_at dksX15_sure_2 10 rfl rfl)
theorem dX15_sure_58 : decode cX15_sure 58 = .ok (.imul, 1) := dk_104 (dk_at dksX15_sure_2 11 rfl rfl)
theorem dX15_sure_59 : decode cX15_sure 59 = .ok (.aload_n 0, 1) := dk_42 (dk_at dksX15_sure_2 12 rfl rfl)
theorem dX15_sure_60 : decode cX15_sure 60 = .ok (.getfield 19, 3) := dk_180 0 19 (dk_at dksX15_sure_2 13 rfl rfl)
theorem dX15_sure_63 : decode cX15_sure 63 = .ok (.iload_n 1, 1) := dk_27 (dk_at dksX15_sure_2 16 rfl rfl)
theorem dX15_sure_64 : decode cX15_sure 64 = .ok (.iaload, 1) := dk_46 (dk_at dksX15_sure_2 17 rfl rfl)
theorem dX15_sure_65 : decode cX15_sure 65 = .ok (.iadd, 1) := dk_96 (dk_at dksX15_sure_2 18 rfl rfl)
theorem dX15_sure_66 : decode cX15_sure 66 = .ok (.ireturn, 1) := dk_172 (dk_at dksX15_sure_2 19 rfl rfl)
theorem q116 : (Jvm.Cond.initialized "ThreeStrangers$Secrets") ∈ lw_all := lw_g (lw_at lw_m1 36 rfl) rfl
theorem q139 : (Jvm.Cond.fieldLink "ThreeStrangers$Secrets" (29 : Nat) "ThreeStrangers$Town" "people" "I") ∈ lw_all := lw_g (lw_at lw_m1 59 rfl) rfl
theorem q262 : (Jvm.Cond.fieldLinkNest "ThreeStrangers$Secrets" (25 : Nat) "ThreeStrangers" "now" "LThreeStrangers$Town;" "ThreeStrangers") ∈ lw_tbl := lw_at lw_m1 182 rfl
theorem q265 : (Jvm.Cond.fieldLinkNest "ThreeStrangers$Secrets" (50 : Nat) "ThreeStrangers" "tried" "LThreeStrangers$Town;" "ThreeStrangers") ∈ lw_tbl := lw_at lw_m1 185 rfl
theorem q1342 : (Jvm.Cond.instantiable "ThreeStrangers$Secrets" (6 : Nat)) ∈ lw_all := lw_g (lw_at lw_m6 62 rfl) rfl
theorem q1344 : (Jvm.Cond.instanceMethod ({ cls := "ThreeStrangers$Secrets", name := "<init>", desc := "(LThreeStrangers;I)V" } : Jvm.MethodName)) ∈ lw_all := lw_g (lw_at lw_m6 64 rfl) rfl
theorem q1345 : (Jvm.Cond.code ({ cls := "ThreeStrangers$Secrets", name := "<init>", desc := "(LThreeStrangers;I)V" } : Jvm.MethodName) prog_11_method_1_code (5 : Nat) (Option.none : Option Jvm.ClassFile.FieldType)) ∈ lw_all := lw_g (lw_at lw_m6 65 rfl) rfl
theorem q1346 : (Jvm.Cond.methodLink "ThreeStrangers$Secrets" (9 : Nat) ({ cls := "java/lang/Object", name := "<init>", desc := "()V" } : Jvm.MethodName)) ∈ lw_all := lw_g (lw_at lw_m6 66 rfl) rfl
theorem q1347 : (Jvm.Cond.methodLinkNest "ThreeStrangers$Secrets" (35 : Nat) ({ cls := "ThreeStrangers", name := "has", desc := "(II)Z" } : Jvm.MethodName) "ThreeStrangers") ∈ lw_tbl := lw_at lw_m6 67 rfl
theorem q1348 : (Jvm.Cond.methodLink "ThreeStrangers$Secrets" (39 : Nat) ({ cls := "ThreeStrangers$Town", name := "since", desc := "(II)I" } : Jvm.MethodName)) ∈ lw_all := lw_g (lw_at lw_m6 68 rfl) rfl
theorem q1349 : (Jvm.Cond.methodLink "ThreeStrangers$Secrets" (46 : Nat) ({ cls := "ThreeStrangers$Secrets", name := "tries", desc := "(II)V" } : Jvm.MethodName)) ∈ lw_all := lw_g (lw_at lw_m6 69 rfl) rfl
theorem q1350 : (Jvm.Cond.privateMethod ({ cls := "ThreeStrangers$Secrets", name := "tries", desc := "(II)V" } : Jvm.MethodName)) ∈ lw_tbl := lw_at lw_m6 70 rfl
theorem q1351 : (Jvm.Cond.instanceMethod ({ cls := "ThreeStrangers$Secrets", name := "tries", desc := "(II)V" } : Jvm.MethodName)) ∈ lw_all := lw_g (lw_at lw_m6 71 rfl) rfl
theorem q1352 : (Jvm.Cond.code ({ cls := "ThreeStrangers$Secrets", name := "tries", desc := "(II)V" } : Jvm.MethodName) prog_11_method_2_code (5 : Nat) (Option.none : Option Jvm.ClassFile.FieldType)) ∈ lw_all := lw_g (lw_at lw_m6 72 rfl) rfl
theorem q1353 : (Jvm.Cond.methodLink "ThreeStrangers$Secrets" (53 : Nat) ({ cls := "ThreeStrangers$Town", name := "becomes", desc := "(LThreeStrangers$Town;)LThreeStrangers$Town;" } : Jvm.MethodName)) ∈ lw_all := lw_g (lw_at lw_m6 73 rfl) rfl
theorem q1354 : (Jvm.Cond.methodLink "ThreeStrangers$Secrets" (57 : Nat) ({ cls := "ThreeStrangers$Town", name := "knows", desc := "(III)V" } : Jvm.MethodName)) ∈ lw_all := lw_g (lw_at lw_m6 74 rfl) rfl
theorem q1355 : (Jvm.Cond.methodLinkNest "ThreeStrangers$Secrets" (61 : Nat) ({ cls := "ThreeStrangers", name := "hasGroup", desc := "(LThreeStrangers$Town;I)Z" } : Jvm.MethodName) "ThreeStrangers") ∈ lw_tbl := lw_at lw_m6 75 rfl
theorem q1361 : (Jvm.Cond.fieldLink "ThreeStrangers$Secrets" (15 : Nat) "ThreeStrangers$Secrets" "one" "[I") ∈ lw_all := lw_g (lw_at lw_m6 81 rfl) rfl
theorem q1362 : (Jvm.Cond.fieldLink "ThreeStrangers$Secrets" (19 : Nat) "ThreeStrangers$Secrets" "two" "[I") ∈ lw_all := lw_g (lw_at lw_m6 82 rfl) rfl
theorem q1363 : (Jvm.Cond.fieldLink "ThreeStrangers$Secrets" (22 : Nat) "ThreeStrangers$Secrets" "often" "[I") ∈ lw_all := lw_g (lw_at lw_m6 83 rfl) rfl
theorem q1364 : (Jvm.Cond.fieldLink "ThreeStrangers$Secrets" (43 : Nat) "ThreeStrangers$Secrets" "pairs" "I") ∈ lw_all := lw_g (lw_at lw_m6 84 rfl) rfl
theorem q1365 : (Jvm.Cond.fieldLink "ThreeStrangers$Secrets" (65 : Nat) "ThreeStrangers$Secrets" "ways" "I") ∈ lw_all := lw_g (lw_at lw_m6 85 rfl) rfl
theorem q1367 : (Jvm.Cond.fieldLink "ThreeStrangers$Secrets" (3 : Nat) "ThreeStrangers$Secrets" "this$0" "LThreeStrangers;") ∈ lw_all := lw_g (lw_at lw_m6 87 rfl) rfl
theorem q1368 : (Jvm.Cond.laysFinal "ThreeStrangers$Secrets" "ThreeStrangers$Secrets" "one" "[I") ∈ lw_all := lw_g (lw_at lw_m6 88 rfl) rfl
theorem q1369 : (Jvm.Cond.soleField "ThreeStrangers$Secrets" "one") ∈ lw_all := lw_g (lw_at lw_m6 89 rfl) rfl
theorem q1370 : (Jvm.Cond.laysFinal "ThreeStrangers$Secrets" "ThreeStrangers$Secrets" "two" "[I") ∈ lw_all := lw_g (lw_at lw_m6 90 rfl) rfl
theorem q1371 : (Jvm.Cond.soleField "ThreeStrangers$Secrets" "two") ∈ lw_all := lw_g (lw_at lw_m6 91 rfl) rfl
theorem q1372 : (Jvm.Cond.laysFinal "ThreeStrangers$Secrets" "ThreeStrangers$Secrets" "often" "[I") ∈ lw_all := lw_g (lw_at lw_m6 92 rfl) rfl
theorem q1373 : (Jvm.Cond.soleField "ThreeStrangers$Secrets" "often") ∈ lw_all := lw_g (lw_at lw_m6 93 rfl) rfl
theorem q1374 : (Jvm.Cond.lays "ThreeStrangers$Secrets" "ThreeStrangers$Secrets" "pairs" "I") ∈ lw_all := lw_g (lw_at lw_m6 94 rfl) rfl
theorem q1375 : (Jvm.Cond.soleField "ThreeStrangers$Secrets" "pairs") ∈ lw_all := lw_g (lw_at lw_m6 95 rfl) rfl
theorem q1376 : (Jvm.Cond.lays "ThreeStrangers$Secrets" "ThreeStrangers$Secrets" "ways" "I") ∈ lw_all := lw_g (lw_at lw_m6 96 rfl) rfl
theorem q1377 : (Jvm.Cond.soleField "ThreeStrangers$Secrets" "ways") ∈ lw_all := lw_g (lw_at lw_m6 97 rfl) rfl
theorem q1378 : (Jvm.Cond.laysFinal "ThreeStrangers$Secrets" "ThreeStrangers$Secrets" "this$0" "LThreeStrangers;") ∈ lw_all := lw_g (lw_at lw_m6 98 rfl) rfl
theorem q1379 : (Jvm.Cond.soleField "ThreeStrangers$Secrets" "this$0") ∈ lw_all := lw_g (lw_at lw_m6 99 rfl) rfl
theorem q1380 : (Jvm.Cond.superclass "ThreeStrangers$Secrets" "java/lang/Object") ∈ lw_all := lw_g (lw_at lw_m6 100 rfl) rfl
theorem q1386 : (Jvm.Cond.instanceMethod ({ cls := "ThreeStrangers$Secrets", name := "sure", desc := "()I" } : Jvm.MethodName)) ∈ lw_all := lw_g (lw_at lw_m6 106 rfl) rfl
theorem q1387 : (Jvm.Cond.selects "ThreeStrangers$Secrets" ({ cls := "ThreeStrangers$Secrets", name := "sure", desc := "()I" } : Jvm.MethodName) ({ cls := "ThreeStrangers$Secrets", name := "sure", desc := "()I" } : Jvm.MethodName)) ∈ lw_all := lw_g (lw_at lw_m6 107 rfl) rfl
theorem q1388 : (Jvm.Cond.code ({ cls := "ThreeStrangers$Secrets", name := "sure", desc := "()I" } : Jvm.MethodName) prog_11_method_3_code (3 : Nat) (Option.some Jvm.ClassFile.FieldType.int)) ∈ lw_all := lw_g (lw_at lw_m6 108 rfl) rfl
theorem in_X15 : ∀ w ∈ wsX150, w ∈ lw_all := lw_in wsX150 [1368, 1370, 1372, 1374, 1376, 1378] (by decide +kernel) (by decide +kernel)
/-! ThreeStrangers$Sends -/
set_option maxRecDepth 100000
def RX16 : String := "ThreeStrangers$Sends"
abbrev cX16_sends : ByteArray := prog_12_method_2_code
def yX16_sends : MethodName := ⟨RX16, "sends", "(LThreeStrangers$Groups;I)I"⟩
def dkwX16_sends_0 : List UInt8 := [42, 43, 28, 3, 185, 0, 1, 4, 0, 172]
abbrev dktX16_sends_0 : List UInt8 := dkwX16_sends_0 ++ []
theorem dksX16_sends_0 : cX16_sends.data.toList.drop 0 = dktX16_sends_0 := by decide +kernel
theorem dX16_sends_0 : decode cX16_sends 0 = .ok (.aload_n 0, 1) := dk_42 (dk_at dksX16_sends_0 0 rfl rfl)
theorem dX16_sends_1 : decode cX16_sends 1 = .ok (.aload_n 1, 1) := dk_43 (dk_at dksX16_sends_0 1 rfl rfl)
theorem dX16_sends_2 : decode cX16_sends 2 = .ok (.iload_n 2, 1) := dk_28 (dk_at dksX16_sends_0 2 rfl rfl)
theorem dX16_sends_3 : decode cX16_sends 3 = .ok (.iconst 0, 1) := dk_3 (dk_at dksX16_sends_0 3 rfl rfl)
theorem dX16_sends_4 : decode cX16_sends 4 = .ok (.invokeinterface 1 4, 5) := by decide +kernel
theorem dX16_sends_9 : decode cX16_sends 9 = .ok (.ireturn, 1) := dk_172 (dk_at dksX16_sends_0 9 rfl rfl)
theorem q671 : (Jvm.Cond.declares ({ cls := "ThreeStrangers$Sends", name := "sends", desc := "(LThreeStrangers$Groups;I)I" } : Jvm.MethodName)) ∈ lw_tbl := lw_at lw_m3 111 rfl
theorem q677 : (Jvm.Cond.instanceMethod ({ cls := "ThreeStrangers$Sends", name := "sends", desc := "(LThreeStrangers$Groups;I)I" } : Jvm.MethodName)) ∈ lw_all := lw_g (lw_at lw_m3 117 rfl) rfl
theorem q678 : (Jvm.Cond.publicMethod ({ cls := "ThreeStrangers$Sends", name := "sends", desc := "(LThreeStrangers$Groups;I)I" } : Jvm.MethodName)) ∈ lw_tbl := lw_at lw_m3 118 rfl
theorem q679 : (Jvm.Cond.code ({ cls := "ThreeStrangers$Sends", name := "sends", desc := "(LThreeStrangers$Groups;I)I" } : Jvm.MethodName) prog_12_method_2_code (3 : Nat) (Option.some Jvm.ClassFile.FieldType.int)) ∈ lw_all := lw_g (lw_at lw_m3 119 rfl) rfl
theorem q680 : (Jvm.Cond.interfaceEntry "ThreeStrangers$Sends" (1 : Nat)) ∈ lw_tbl := lw_at lw_m3 120 rfl
theorem q681 : (Jvm.Cond.methodLink "ThreeStrangers$Sends" (1 : Nat) ({ cls := "ThreeStrangers$Sends", name := "sends", desc := "(LThreeStrangers$Groups;II)I" } : Jvm.MethodName)) ∈ lw_all := lw_g (lw_at lw_m3 121 rfl) rfl
theorem q682 : (Jvm.Cond.interfaceMethod "ThreeStrangers$Sends" "ThreeStrangers$Sends" "sends" "(LThreeStrangers$Groups;II)I") ∈ lw_tbl := lw_at lw_m3 122 rfl
theorem q683 : (Jvm.Cond.declares ({ cls := "ThreeStrangers$Sends", name := "sends", desc := "(LThreeStrangers$Groups;II)I" } : Jvm.MethodName)) ∈ lw_tbl := lw_at lw_m3 123 rfl
theorem q2064 : (Jvm.Cond.initialized "ThreeStrangers$Sends") ∈ lw_all := lw_g (lw_at lw_m9 64 rfl) rfl
/-! ThreeStrangers$Groups -/
set_option maxRecDepth 100000
def RX2 : String := "ThreeStrangers$Groups"
def TX2 : u_T := fun k => match k with
  | 0 => ("ThreeStrangers$Groups", "group", "[I", true)
  | 1 => ("ThreeStrangers$Groups", "pairs", "[I", true)
  | 2 => ("ThreeStrangers$Groups", "most", "[I", true)
  | 3 => ("ThreeStrangers$Groups", "strangers", "[I", true)
  | 4 => ("ThreeStrangers$Groups", "town", "LThreeStrangers$Town;", false)
  | 5 => ("ThreeStrangers$Groups", "many", "I", false)
  | 6 => ("ThreeStrangers$Groups", "longest", "I", false)
  | _ => ("ThreeStrangers$Groups", "soonest", "I", false)
def tyX2 : Nat → FieldType := fun k => match k with
  | 0 => .array .int
  | 1 => .array .int
  | 2 => .array .int
  | 3 => .array .int
  | 4 => .object "ThreeStrangers$Town"
  | 5 => .int
  | 6 => .int
  | _ => .int
abbrev wsX20 : List Cond := u_ws RX2 TX2 8
theorem nmX2 : ∀ a, a < 8 → ∀ b, b < 8 → a ≠ b → (TX2 a).2.1 ≠ (TX2 b).2.1 := by decide +kernel
theorem tyX2_ok : ∀ k, k < 8 → parseFieldDescriptor (TX2 k).2.2.1 = some (tyX2 k) := by decide +kernel
abbrev cX2_init : ByteArray := prog_8_method_1_code
def yX2_init : MethodName := ⟨RX2, "<init>", "()V"⟩
def dkwX2_init_1 : List UInt8 := [188, 10, 181, 0, 18, 42, 16, 7, 188, 10, 181, 0, 21, 177]
abbrev dktX2_init_1 : List UInt8 := dkwX2_init_1 ++ []
def dkwX2_init_0 : List UInt8 := [42, 183, 0, 3, 42, 16, 35, 188, 10, 181, 0, 9, 42, 16, 35, 188, 10, 181, 0, 15, 42, 17, 0, 128]
abbrev dktX2_init_0 : List UInt8 := dkwX2_init_0 ++ dktX2_init_1
theorem dksX2_init_0 : cX2_init.data.toList.drop 0 = dktX2_init_0 := by decide +kernel
theorem dksX2_init_1 : cX2_init.data.toList.drop 24 = dktX2_init_1 := dk_seg dksX2_init_0 24 rfl rfl
theorem dX2_init_0 : decode cX2_init 0 = .ok (.aload_n 0, 1) := dk_42 (dk_at dksX2_init_0 0 rfl rfl)
theorem dX2_init_1 : decode cX2_init 1 = .ok (.invokespecial 3, 3) := dk_183 0 3 (dk_at dksX2_init_0 1 rfl rfl)
theorem dX2_init_4 : decode cX2_init 4 = .ok (.aload_n 0, 1) := dk_42 (dk_at dksX2_init_0 4 rfl rfl)
theorem dX2_init_5 : decode cX2_init 5 = .ok (.bipush 35, 2) := dk_16 35 (dk_at dksX2_init_0 5 rfl rfl)
theorem dX2_init_7 : decode cX2_init 7 = .ok (.newarray .int, 2) := dk_188_10 (dk_at dksX2_init_0 7 rfl rfl)
theorem dX2_init_9 : decode cX2_init 9 = .ok (.putfield 9, 3) := dk_181 0 9 (dk_at dksX2_init_0 9 rfl rfl)
theorem dX2_init_12 : decode cX2_init 12 = .ok (.aload_n 0, 1) := dk_42 (dk_at dksX2_init_0 12 rfl rfl)
theorem dX2_init_13 : decode cX2_init 13 = .ok (.bipush 35, 2) := dk_16 35 (dk_at dksX2_init_0 13 rfl rfl)
theorem dX2_init_15 : decode cX2_init 15 = .ok (.newarray .int, 2) := dk_188_10 (dk_at dksX2_init_0 15 rfl rfl)
theorem dX2_init_17 : decode cX2_init 17 = .ok (.putfield 15, 3) := dk_181 0 15 (dk_at dksX2_init_0 17 rfl rfl)
theorem dX2_init_20 : decode cX2_init 20 = .ok (.aload_n 0, 1) := dk_42 (dk_at dksX2_init_0 20 rfl rfl)
theorem dX2_init_21 : decode cX2_init 21 = .ok (.sipush 128, 3) := dk_17 0 128 (dk_at dksX2_init_0 21 rfl rfl)
theorem dX2_init_24 : decode cX2_init 24 = .ok (.newarray .int, 2) := dk_188_10 (dk_at dksX2_init_1 0 rfl rfl)
theorem dX2_init_26 : decode cX2_init 26 = .ok (.putfield 18, 3) := dk_181 0 18 (dk_at dksX2_init_1 2 rfl rfl)
theorem dX2_init_29 : decode cX2_init 29 = .ok (.aload_n 0, 1) := dk_42 (dk_at dksX2_init_1 5 rfl rfl)
theorem dX2_init_30 : decode cX2_init 30 = .ok (.bipush 7, 2) := dk_16 7 (dk_at dksX2_init_1 6 rfl rfl)
theorem dX2_init_32 : decode cX2_init 32 = .ok (.newarray .int, 2) := dk_188_10 (dk_at dksX2_init_1 8 rfl rfl)
theorem dX2_init_34 : decode cX2_init 34 = .ok (.putfield 21, 3) := dk_181 0 21 (dk_at dksX2_init_1 10 rfl rfl)
theorem dX2_init_37 : decode cX2_init 37 = .ok (.return_, 1) := dk_177 (dk_at dksX2_init_1 13 rfl rfl)
abbrev cX2_of : ByteArray := prog_8_method_2_code
def yX2_of : MethodName := ⟨RX2, "of", "(LThreeStrangers$Town;)LThreeStrangers$Groups;"⟩
def dkwX2_of_5 : List UInt8 := [62, 132, 4, 1, 167, 255, 207, 42, 180, 0, 18, 28, 29, 79, 132, 2, 1, 167, 255, 178, 42, 176]
abbrev dktX2_of_5 : List UInt8 := dkwX2_of_5 ++ []
def dkwX2_of_4 : List UInt8 := [42, 180, 0, 18, 28, 42, 180, 0, 9, 21, 4, 46, 2, 130, 126, 46, 96, 184, 0, 52, 167, 0, 4, 29]
abbrev dktX2_of_4 : List UInt8 := dkwX2_of_4 ++ dktX2_of_5
def dkwX2_of_3 : List UInt8 := [3, 54, 4, 21, 4, 42, 180, 0, 28, 162, 0, 46, 42, 21, 4, 28, 182, 0, 48, 153, 0, 28, 29, 4]
abbrev dktX2_of_3 : List UInt8 := dkwX2_of_3 ++ dktX2_of_4
def dkwX2_of_2 : List UInt8 := [180, 0, 24, 182, 0, 40, 182, 0, 44, 3, 61, 28, 42, 180, 0, 24, 182, 0, 40, 163, 0, 73, 3, 62]
abbrev dktX2_of_2 : List UInt8 := dkwX2_of_2 ++ dktX2_of_3
def dkwX2_of_1 : List UInt8 := [180, 0, 21, 28, 42, 180, 0, 24, 28, 182, 0, 37, 79, 132, 2, 1, 167, 255, 228, 42, 3, 3, 42]
abbrev dktX2_of_1 : List UInt8 := dkwX2_of_1 ++ dktX2_of_2
def dkwX2_of_0 : List UInt8 := [42, 43, 181, 0, 24, 42, 3, 181, 0, 28, 3, 61, 28, 42, 180, 0, 24, 180, 0, 32, 162, 0, 23, 42]
abbrev dktX2_of_0 : List UInt8 := dkwX2_of_0 ++ dktX2_of_1
theorem dksX2_of_0 : cX2_of.data.toList.drop 0 = dktX2_of_0 := by decide +kernel
theorem dksX2_of_1 : cX2_of.data.toList.drop 24 = dktX2_of_1 := dk_seg dksX2_of_0 24 rfl rfl
theorem dksX2_of_2 : cX2_of.data.toList.drop 47 = dktX2_of_2 := dk_seg dksX2_of_1 23 rfl rfl
theorem dksX2_of_3 : cX2_of.data.toList.drop 71 = dktX2_of_3 := dk_seg dksX2_of_2 24 rfl rfl
theorem dksX2_of_4 : cX2_of.data.toList.drop 95 = dktX2_of_4 := dk_seg dksX2_of_3 24 rfl rfl
theorem dksX2_of_5 : cX2_of.data.toList.drop 119 = dktX2_of_5 := dk_seg dksX2_of_4 24 rfl rfl
theorem dX2_of_0 : decode cX2_of 0 = .ok (.aload_n 0, 1) := dk_42 (dk_at dksX2_of_0 0 rfl rfl)
theorem dX2_of_1 : decode cX2_of 1 = .ok (.aload_n 1, 1) := dk_43 (dk_at dksX2_of_0 1 rfl rfl)
theorem dX2_of_2 : decode cX2_of 2 = .ok (.putfield 24, 3) := dk_181 0 24 (dk_at dksX2_of_0 2 rfl rfl)
theorem dX2_of_5 : decode cX2_of 5 = .ok (.aload_n 0, 1) := dk_42 (dk_at dksX2_of_0 5 rfl rfl)
theorem dX2_of_6 : decode cX2_of 6 = .ok (.iconst 0, 1) := dk_3 (dk_at dksX2_of_0 6 rfl rfl)
theorem dX2_of_7 : decode cX2_of 7 = .ok (.putfield 28, 3) := dk_181 0 28 (dk_at dksX2_of_0 7 rfl rfl)
theorem dX2_of_10 : decode cX2_of 10 = .ok (.iconst 0, 1) := dk_3 (dk_at dksX2_of_0 10 rfl rfl)
theorem dX2_of_11 : decode cX2_of 11 = .ok (.istore_n 2, 1) := dk_61 (dk_at dksX2_of_0 11 rfl rfl)
theorem dX2_of_12 : decode cX2_of 12 = .ok (.iload_n 2, 1) := dk_28 (dk_at dksX2_of_0 12 rfl rfl)
theorem dX2_of_13 : decode cX2_of 13 = .ok (.aload_n 0, 1) := dk_42 (dk_at dksX2_of_0 13 rfl rfl)
theorem dX2_of_14 : decode cX2_of 14 = .ok (.getfield 24, 3) := dk_180 0 24 (dk_at dksX2_of_0 14 rfl rfl)
theorem dX2_of_17 : decode cX2_of 17 = .ok (.getfield 32, 3) := dk_180 0 32 (dk_at dksX2_of_0 17 rfl rfl)
theorem dX2_of_20 : decode cX2_of 20 = .ok (.if_icmp .ge 23, 3) := dk_162 0 23 (dk_at dksX2_of_0 20 rfl rfl)
theorem dX2_of_23 : decode cX2_of 23 = .ok (.aload_n 0, 1) := dk_42 (dk_at dksX2_of_0 23 rfl rfl)
theorem dX2_of_24 : decode cX2_of 24 = .ok (.getfield 21, 3) := dk_180 0 21 (dk_at dksX2_of_1 0 rfl rfl)
theorem dX2_of_27 : decode cX2_of 27 = .ok (.iload_n 2, 1) := dk_28 (dk_at dksX2_of_1 3 rfl rfl)
theorem dX2_of_28 : decode cX2_of 28 = .ok (.aload_n 0, 1) := dk_42 (dk_at dksX2_of_1 4 rfl rfl)
theorem dX2_of_29 : decode cX2_of 29 = .ok (.getfield 24, 3) := dk_180 0 24 (dk_at dksX2_of_1 5 rfl rfl)
theorem dX2_of_32 : decode cX2_of 32 = .ok (.iload_n 2, 1) := dk_28 (dk_at dksX2_of_1 8 rfl rfl)
theorem dX2_of_33 : decode cX2_of 33 = .ok (.invokevirtual 37, 3) := dk_182 0 37 (dk_at dksX2_of_1 9 rfl rfl)
theorem dX2_of_36 : decode cX2_of 36 = .ok (.iastore, 1) := dk_79 (dk_at dksX2_of_1 12 rfl rfl)
theorem dX2_of_37 : decode cX2_of 37 = .ok (.iinc 2 1, 3) := dk_132 2 1 (dk_at dksX2_of_1 13 rfl rfl)
theorem dX2_of_40 : decode cX2_of 40 = .ok (.goto (-28), 3) := dk_167 255 228 (dk_at dksX2_of_1 16 rfl rfl)
theorem dX2_of_43 : decode cX2_of 43 = .ok (.aload_n 0, 1) := dk_42 (dk_at dksX2_of_1 19 rfl rfl)
theorem dX2_of_44 : decode cX2_of 44 = .ok (.iconst 0, 1) := dk_3 (dk_at dksX2_of_1 20 rfl rfl)
theorem dX2_of_45 : decode cX2_of 45 = .ok (.iconst 0, 1) := dk_3 (dk_at dksX2_of_1 21 rfl rfl)
theorem dX2_of_46 : decode cX2_of 46 = .ok (.aload_n 0, 1) := dk_42 (dk_at dksX2_of_1 22 rfl rfl)
theorem dX2_of_47 : decode cX2_of 47 = .ok (.getfield 24, 3) := dk_180 0 24 (dk_at dksX2_of_2 0 rfl rfl)
theorem dX2_of_50 : decode cX2_of 50 = .ok (.invokevirtual 40, 3) := dk_182 0 40 (dk_at dksX2_of_2 3 rfl rfl)
theorem dX2_of_53 : decode cX2_of 53 = .ok (.invokevirtual 44, 3) := dk_182 0 44 (dk_at dksX2_of_2 6 rfl rfl)
theorem dX2_of_56 : decode cX2_of 56 = .ok (.iconst 0, 1) := dk_3 (dk_at dksX2_of_2 9 rfl rfl)
theorem dX2_of_57 : decode cX2_of 57 = .ok (.istore_n 2, 1) := dk_61 (dk_at dksX2_of_2 10 rfl rfl)
theorem dX2_of_58 : decode cX2_of 58 = .ok (.iload_n 2, 1) := dk_28 (dk_at dksX2_of_2 11 rfl rfl)
theorem dX2_of_59 : decode cX2_of 59 = .ok (.aload_n 0, 1) := dk_42 (dk_at dksX2_of_2 12 rfl rfl)
theorem dX2_of_60 : decode cX2_of 60 = .ok (.getfield 24, 3) := dk_180 0 24 (dk_at dksX2_of_2 13 rfl rfl)
theorem dX2_of_63 : decode cX2_of 63 = .ok (.invokevirtual 40, 3) := dk_182 0 40 (dk_at dksX2_of_2 16 rfl rfl)
theorem dX2_of_66 : decode cX2_of 66 = .ok (.if_icmp .gt 73, 3) := dk_163 0 73 (dk_at dksX2_of_2 19 rfl rfl)
theorem dX2_of_69 : decode cX2_of 69 = .ok (.iconst 0, 1) := dk_3 (dk_at dksX2_of_2 22 rfl rfl)
theorem dX2_of_70 : decode cX2_of 70 = .ok (.istore_n 3, 1) := dk_62 (dk_at dksX2_of_2 23 rfl rfl)
theorem dX2_of_71 : decode cX2_of 71 = .ok (.iconst 0, 1) := dk_3 (dk_at dksX2_of_3 0 rfl rfl)
theorem dX2_of_72 : decode cX2_of 72 = .ok (.istore 4, 2) := dk_54 4 (dk_at dksX2_of_3 1 rfl rfl)
theorem dX2_of_74 : decode cX2_of 74 = .ok (.iload 4, 2) := dk_21 4 (dk_at dksX2_of_3 3 rfl rfl)
theorem dX2_of_76 : decode cX2_of 76 = .ok (.aload_n 0, 1) := dk_42 (dk_at dksX2_of_3 5 rfl rfl)
theorem dX2_of_77 : decode cX2_of 77 = .ok (.getfield 28, 3) := dk_180 0 28 (dk_at dksX2_of_3 6 rfl rfl)
theorem dX2_of_80 : decode cX2_of 80 = .ok (.if_icmp .ge 46, 3) := dk_162 0 46 (dk_at dksX2_of_3 9 rfl rfl)
theorem dX2_of_83 : decode cX2_of 83 = .ok (.aload_n 0, 1) := dk_42 (dk_at dksX2_of_3 12 rfl rfl)
theorem dX2_of_84 : decode cX2_of 84 = .ok (.iload 4, 2) := dk_21 4 (dk_at dksX2_of_3 13 rfl rfl)
theorem dX2_of_86 : decode cX2_of 86 = .ok (.iload_n 2, 1) := dk_28 (dk_at dksX2_of_3 15 rfl rfl)
theorem dX2_of_87 : decode cX2_of 87 = .ok (.invokevirtual 48, 3) := dk_182 0 48 (dk_at dksX2_of_3 16 rfl rfl)
theorem dX2_of_90 : decode cX2_of 90 = .ok (.ifCond .eq 28, 3) := dk_153 0 28 (dk_at dksX2_of_3 19 rfl rfl)
theorem dX2_of_93 : decode cX2_of 93 = .ok (.iload_n 3, 1) := dk_29 (dk_at dksX2_of_3 22 rfl rfl)
theorem dX2_of_94 : decode cX2_of 94 = .ok (.iconst 1, 1) := dk_4 (dk_at dksX2_of_3 23 rfl rfl)
theorem dX2_of_95 : decode cX2_of 95 = .ok (.aload_n 0, 1) := dk_42 (dk_at dksX2_of_4 0 rfl rfl)
theorem dX2_of_96 : decode cX2_of 96 = .ok (.getfield 18, 3) := dk_180 0 18 (dk_at dksX2_of_4 1 rfl rfl)
theorem dX2_of_99 : decode cX2_of 99 = .ok (.iload_n 2, 1) := dk_28 (dk_at dksX2_of_4 4 rfl rfl)
theorem dX2_of_100 : decode cX2_of 100 = .ok (.aload_n 0, 1) := dk_42 (dk_at dksX2_of_4 5 rfl rfl)
theorem dX2_of_101 : decode cX2_of 101 = .ok (.getfield 9, 3) := dk_180 0 9 (dk_at dksX2_of_4 6 rfl rfl)
theorem dX2_of_104 : decode cX2_of 104 = .ok (.iload 4, 2) := dk_21 4 (dk_at dksX2_of_4 9 rfl rfl)
theorem dX2_of_106 : decode cX2_of 106 = .ok (.iaload, 1) := dk_46 (dk_at dksX2_of_4 11 rfl rfl)
theorem dX2_of_107 : decode cX2_of 107 = .ok (.iconst (-1), 1) := dk_2 (dk_at dksX2_of_4 12 rfl rfl)
theorem dX2_of_108 : decode cX2_of 108 = .ok (.ixor, 1) := dk_130 (dk_at dksX2_of_4 13 rfl rfl)
theorem dX2_of_109 : decode cX2_of 109 = .ok (.iand, 1) := dk_126 (dk_at dksX2_of_4 14 rfl rfl)
theorem dX2_of_110 : decode cX2_of 110 = .ok (.iaload, 1) := dk_46 (dk_at dksX2_of_4 15 rfl rfl)
theorem dX2_of_111 : decode cX2_of 111 = .ok (.iadd, 1) := dk_96 (dk_at dksX2_of_4 16 rfl rfl)
theorem dX2_of_112 : decode cX2_of 112 = .ok (.invokestatic 52, 3) := dk_184 0 52 (dk_at dksX2_of_4 17 rfl rfl)
theorem dX2_of_115 : decode cX2_of 115 = .ok (.goto 4, 3) := dk_167 0 4 (dk_at dksX2_of_4 20 rfl rfl)
theorem dX2_of_118 : decode cX2_of 118 = .ok (.iload_n 3, 1) := dk_29 (dk_at dksX2_of_4 23 rfl rfl)
theorem dX2_of_119 : decode cX2_of 119 = .ok (.istore_n 3, 1) := dk_62 (dk_at dksX2_of_5 0 rfl rfl)
theorem dX2_of_120 : decode cX2_of 120 = .ok (.iinc 4 1, 3) := dk_132 4 1 (dk_at dksX2_of_5 1 rfl rfl)
theorem dX2_of_123 : decode cX2_of 123 = .ok (.goto (-49), 3) := dk_167 255 207 (dk_at dksX2_of_5 4 rfl rfl)
theorem dX2_of_126 : decode cX2_of 126 = .ok (.aload_n 0, 1) := dk_42 (dk_at dksX2_of_5 7 rfl rfl)
theorem dX2_of_127 : decode cX2_of 127 = .ok (.getfield 18, 3) := dk_180 0 18 (dk_at dksX2_of_5 8 rfl rfl)
theorem dX2_of_130 : decode cX2_of 130 = .ok (.iload_n 2, 1) := dk_28 (dk_at dksX2_of_5 11 rfl rfl)
theorem dX2_of_131 : decode cX2_of 131 = .ok (.iload_n 3, 1) := dk_29 (dk_at dksX2_of_5 12 rfl rfl)
theorem dX2_of_132 : decode cX2_of 132 = .ok (.iastore, 1) := dk_79 (dk_at dksX2_of_5 13 rfl rfl)
theorem dX2_of_133 : decode cX2_of 133 = .ok (.iinc 2 1, 3) := dk_132 2 1 (dk_at dksX2_of_5 14 rfl rfl)
theorem dX2_of_136 : decode cX2_of 136 = .ok (.goto (-78), 3) := dk_167 255 178 (dk_at dksX2_of_5 17 rfl rfl)
theorem dX2_of_139 : decode cX2_of 139 = .ok (.aload_n 0, 1) := dk_42 (dk_at dksX2_of_5 20 rfl rfl)
theorem dX2_of_140 : decode cX2_of 140 = .ok (.areturn, 1) := dk_176 (dk_at dksX2_of_5 21 rfl rfl)
abbrev cX2_adds : ByteArray := prog_8_method_3_code
def yX2_adds : MethodName := ⟨RX2, "adds", "(III)V"⟩
def dkwX2_adds_4 : List UInt8 := [132, 4, 1, 167, 255, 209, 177]
abbrev dktX2_adds_4 : List UInt8 := dkwX2_adds_4 ++ []
def dkwX2_adds_3 : List UInt8 := [42, 27, 4, 21, 4, 120, 128, 21, 4, 4, 96, 29, 42, 180, 0, 21, 21, 4, 46, 126, 182, 0, 44]
abbrev dktX2_adds_3 : List UInt8 := dkwX2_adds_3 ++ dktX2_adds_4
def dkwX2_adds_2 : List UInt8 := [28, 54, 4, 21, 4, 42, 180, 0, 24, 180, 0, 32, 162, 0, 41, 29, 21, 4, 184, 0, 69, 153, 0, 26]
abbrev dktX2_adds_2 : List UInt8 := dkwX2_adds_2 ++ dktX2_adds_3
def dkwX2_adds_1 : List UInt8 := [42, 180, 0, 15, 42, 180, 0, 28, 27, 184, 0, 66, 79, 42, 89, 180, 0, 28, 4, 96, 181, 0, 28, 177]
abbrev dktX2_adds_1 : List UInt8 := dkwX2_adds_1 ++ dktX2_adds_2
def dkwX2_adds_0 : List UInt8 := [27, 184, 0, 58, 42, 180, 0, 24, 180, 0, 63, 160, 0, 37, 42, 180, 0, 9, 42, 180, 0, 28, 27, 79]
abbrev dktX2_adds_0 : List UInt8 := dkwX2_adds_0 ++ dktX2_adds_1
theorem dksX2_adds_0 : cX2_adds.data.toList.drop 0 = dktX2_adds_0 := by decide +kernel
theorem dksX2_adds_1 : cX2_adds.data.toList.drop 24 = dktX2_adds_1 := dk_seg dksX2_adds_0 24 rfl rfl
theorem dksX2_adds_2 : cX2_adds.data.toList.drop 48 = dktX2_adds_2 := dk_seg dksX2_adds_1 24 rfl rfl
theorem dksX2_adds_3 : cX2_adds.data.toList.drop 72 = dktX2_adds_3 := dk_seg dksX2_adds_2 24 rfl rfl
theorem dksX2_adds_4 : cX2_adds.data.toList.drop 95 = dktX2_adds_4 := dk_seg dksX2_adds_3 23 rfl rfl
theorem dX2_adds_0 : decode cX2_adds 0 = .ok (.iload_n 1, 1) := dk_27 (dk_at dksX2_adds_0 0 rfl rfl)
theorem dX2_adds_1 : decode cX2_adds 1 = .ok (.invokestatic 58, 3) := dk_184 0 58 (dk_at dksX2_adds_0 1 rfl rfl)
theorem dX2_adds_4 : decode cX2_adds 4 = .ok (.aload_n 0, 1) := dk_42 (dk_at dksX2_adds_0 4 rfl rfl)
theorem dX2_adds_5 : decode cX2_adds 5 = .ok (.getfield 24, 3) := dk_180 0 24 (dk_at dksX2_adds_0 5 rfl rfl)
theorem dX2_adds_8 : decode cX2_adds 8 = .ok (.getfield 63, 3) := dk_180 0 63 (dk_at dksX2_adds_0 8 rfl rfl)
theorem dX2_adds_11 : decode cX2_adds 11 = .ok (.if_icmp .ne 37, 3) := dk_160 0 37 (dk_at dksX2_adds_0 11 rfl rfl)
theorem dX2_adds_14 : decode cX2_adds 14 = .ok (.aload_n 0, 1) := dk_42 (dk_at dksX2_adds_0 14 rfl rfl)
theorem dX2_adds_15 : decode cX2_adds 15 = .ok (.getfield 9, 3) := dk_180 0 9 (dk_at dksX2_adds_0 15 rfl rfl)
theorem dX2_adds_18 : decode cX2_adds 18 = .ok (.aload_n 0, 1) := dk_42 (dk_at dksX2_adds_0 18 rfl rfl)
theorem dX2_adds_19 : decode cX2_adds 19 = .ok (.getfield 28, 3) := dk_180 0 28 (dk_at dksX2_adds_0 19 rfl rfl)
theorem dX2_adds_22 : decode cX2_adds 22 = .ok (.iload_n 1, 1) := dk_27 (dk_at dksX2_adds_0 22 rfl rfl)
theorem dX2_adds_23 : decode cX2_adds 23 = .ok (.iastore, 1) := dk_79 (dk_at dksX2_adds_0 23 rfl rfl)
theorem dX2_adds_24 : decode cX2_adds 24 = .ok (.aload_n 0, 1) := dk_42 (dk_at dksX2_adds_1 0 rfl rfl)
theorem dX2_adds_25 : decode cX2_adds 25 = .ok (.getfield 15, 3) := dk_180 0 15 (dk_at dksX2_adds_1 1 rfl rfl)
theorem dX2_adds_28 : decode cX2_adds 28 = .ok (.aload_n 0, 1) := dk_42 (dk_at dksX2_adds_1 4 rfl rfl)
theorem dX2_adds_29 : decode cX2_adds 29 = .ok (.getfield 28, 3) := dk_180 0 28 (dk_at dksX2_adds_1 5 rfl rfl)
theorem dX2_adds_32 : decode cX2_adds 32 = .ok (.iload_n 1, 1) := dk_27 (dk_at dksX2_adds_1 8 rfl rfl)
theorem dX2_adds_33 : decode cX2_adds 33 = .ok (.invokestatic 66, 3) := dk_184 0 66 (dk_at dksX2_adds_1 9 rfl rfl)
theorem dX2_adds_36 : decode cX2_adds 36 = .ok (.iastore, 1) := dk_79 (dk_at dksX2_adds_1 12 rfl rfl)
theorem dX2_adds_37 : decode cX2_adds 37 = .ok (.aload_n 0, 1) := dk_42 (dk_at dksX2_adds_1 13 rfl rfl)
theorem dX2_adds_38 : decode cX2_adds 38 = .ok (.dup, 1) := dk_89 (dk_at dksX2_adds_1 14 rfl rfl)
theorem dX2_adds_39 : decode cX2_adds 39 = .ok (.getfield 28, 3) := dk_180 0 28 (dk_at dksX2_adds_1 15 rfl rfl)
theorem dX2_adds_42 : decode cX2_adds 42 = .ok (.iconst 1, 1) := dk_4 (dk_at dksX2_adds_1 18 rfl rfl)
theorem dX2_adds_43 : decode cX2_adds 43 = .ok (.iadd, 1) := dk_96 (dk_at dksX2_adds_1 19 rfl rfl)
theorem dX2_adds_44 : decode cX2_adds 44 = .ok (.putfield 28, 3) := dk_181 0 28 (dk_at dksX2_adds_1 20 rfl rfl)
theorem dX2_adds_47 : decode cX2_adds 47 = .ok (.return_, 1) := dk_177 (dk_at dksX2_adds_1 23 rfl rfl)
theorem dX2_adds_48 : decode cX2_adds 48 = .ok (.iload_n 2, 1) := dk_28 (dk_at dksX2_adds_2 0 rfl rfl)
theorem dX2_adds_49 : decode cX2_adds 49 = .ok (.istore 4, 2) := dk_54 4 (dk_at dksX2_adds_2 1 rfl rfl)
theorem dX2_adds_51 : decode cX2_adds 51 = .ok (.iload 4, 2) := dk_21 4 (dk_at dksX2_adds_2 3 rfl rfl)
theorem dX2_adds_53 : decode cX2_adds 53 = .ok (.aload_n 0, 1) := dk_42 (dk_at dksX2_adds_2 5 rfl rfl)
theorem dX2_adds_54 : decode cX2_adds 54 = .ok (.getfield 24, 3) := dk_180 0 24 (dk_at dksX2_adds_2 6 rfl rfl)
theorem dX2_adds_57 : decode cX2_adds 57 = .ok (.getfield 32, 3) := dk_180 0 32 (dk_at dksX2_adds_2 9 rfl rfl)
theorem dX2_adds_60 : decode cX2_adds 60 = .ok (.if_icmp .ge 41, 3) := dk_162 0 41 (dk_at dksX2_adds_2 12 rfl rfl)
theorem dX2_adds_63 : decode cX2_adds 63 = .ok (.iload_n 3, 1) := dk_29 (dk_at dksX2_adds_2 15 rfl rfl)
theorem dX2_adds_64 : decode cX2_adds 64 = .ok (.iload 4, 2) := dk_21 4 (dk_at dksX2_adds_2 16 rfl rfl)
theorem dX2_adds_66 : decode cX2_adds 66 = .ok (.invokestatic 69, 3) := dk_184 0 69 (dk_at dksX2_adds_2 18 rfl rfl)
theorem dX2_adds_69 : decode cX2_adds 69 = .ok (.ifCond .eq 26, 3) := dk_153 0 26 (dk_at dksX2_adds_2 21 rfl rfl)
theorem dX2_adds_72 : decode cX2_adds 72 = .ok (.aload_n 0, 1) := dk_42 (dk_at dksX2_adds_3 0 rfl rfl)
theorem dX2_adds_73 : decode cX2_adds 73 = .ok (.iload_n 1, 1) := dk_27 (dk_at dksX2_adds_3 1 rfl rfl)
theorem dX2_adds_74 : decode cX2_adds 74 = .ok (.iconst 1, 1) := dk_4 (dk_at dksX2_adds_3 2 rfl rfl)
theorem dX2_adds_75 : decode cX2_adds 75 = .ok (.iload 4, 2) := dk_21 4 (dk_at dksX2_adds_3 3 rfl rfl)
theorem dX2_adds_77 : decode cX2_adds 77 = .ok (.ishl, 1) := dk_120 (dk_at dksX2_adds_3 5 rfl rfl)
theorem dX2_adds_78 : decode cX2_adds 78 = .ok (.ior, 1) := dk_128 (dk_at dksX2_adds_3 6 rfl rfl)
theorem dX2_adds_79 : decode cX2_adds 79 = .ok (.iload 4, 2) := dk_21 4 (dk_at dksX2_adds_3 7 rfl rfl)
theorem dX2_adds_81 : decode cX2_adds 81 = .ok (.iconst 1, 1) := dk_4 (dk_at dksX2_adds_3 9 rfl rfl)
theorem dX2_adds_82 : decode cX2_adds 82 = .ok (.iadd, 1) := dk_96 (dk_at dksX2_adds_3 10 rfl rfl)
theorem dX2_adds_83 : decode cX2_adds 83 = .ok (.iload_n 3, 1) := dk_29 (dk_at dksX2_adds_3 11 rfl rfl)
theorem dX2_adds_84 : decode cX2_adds 84 = .ok (.aload_n 0, 1) := dk_42 (dk_at dksX2_adds_3 12 rfl rfl)
theorem dX2_adds_85 : decode cX2_adds 85 = .ok (.getfield 21, 3) := dk_180 0 21 (dk_at dksX2_adds_3 13 rfl rfl)
theorem dX2_adds_88 : decode cX2_adds 88 = .ok (.iload 4, 2) := dk_21 4 (dk_at dksX2_adds_3 16 rfl rfl)
theorem dX2_adds_90 : decode cX2_adds 90 = .ok (.iaload, 1) := dk_46 (dk_at dksX2_adds_3 18 rfl rfl)
theorem dX2_adds_91 : decode cX2_adds 91 = .ok (.iand, 1) := dk_126 (dk_at dksX2_adds_3 19 rfl rfl)
theorem dX2_adds_92 : decode cX2_adds 92 = .ok (.invokevirtual 44, 3) := dk_182 0 44 (dk_at dksX2_adds_3 20 rfl rfl)
theorem dX2_adds_95 : decode cX2_adds 95 = .ok (.iinc 4 1, 3) := dk_132 4 1 (dk_at dksX2_adds_4 0 rfl rfl)
theorem dX2_adds_98 : decode cX2_adds 98 = .ok (.goto (-47), 3) := dk_167 255 209 (dk_at dksX2_adds_4 3 rfl rfl)
theorem dX2_adds_101 : decode cX2_adds 101 = .ok (.return_, 1) := dk_177 (dk_at dksX2_adds_4 6 rfl rfl)
abbrev cX2_pairsOf : ByteArray := prog_8_method_4_code
def yX2_pairsOf : MethodName := ⟨RX2, "pairsOf", "(I)I"⟩
def dkwX2_pairsOf_2 : List UInt8 := [167, 0, 4, 3, 128, 60, 132, 3, 1, 167, 255, 214, 132, 2, 1, 167, 255, 200, 27, 172]
abbrev dktX2_pairsOf_2 : List UInt8 := dkwX2_pairsOf_2 ++ []
def dkwX2_pairsOf_1 : List UInt8 := [153, 0, 25, 26, 29, 184, 0, 69, 153, 0, 17, 4, 28, 28, 4, 100, 104, 5, 108, 29, 96, 120]
abbrev dktX2_pairsOf_1 : List UInt8 := dkwX2_pairsOf_1 ++ dktX2_pairsOf_2
def dkwX2_pairsOf_0 : List UInt8 := [3, 60, 3, 61, 28, 16, 7, 162, 0, 56, 3, 62, 29, 28, 162, 0, 43, 27, 26, 28, 184, 0, 69]
abbrev dktX2_pairsOf_0 : List UInt8 := dkwX2_pairsOf_0 ++ dktX2_pairsOf_1
theorem dksX2_pairsOf_0 : cX2_pairsOf.data.toList.drop 0 = dktX2_pairsOf_0 := by decide +kernel
theorem dksX2_pairsOf_1 : cX2_pairsOf.data.toList.drop 23 = dktX2_pairsOf_1 := dk_seg dksX2_pairsOf_0 23 rfl rfl
theorem dksX2_pairsOf_2 : cX2_pairsOf.data.toList.drop 45 = dktX2_pairsOf_2 := dk_seg dksX2_pairsOf_1 22 rfl rfl
theorem dX2_pairsOf_0 : decode cX2_pairsOf 0 = .ok (.iconst 0, 1) := dk_3 (dk_at dksX2_pairsOf_0 0 rfl rfl)
theorem dX2_pairsOf_1 : decode cX2_pairsOf 1 = .ok (.istore_n 1, 1) := dk_60 (dk_at dksX2_pairsOf_0 1 rfl rfl)
theorem dX2_pairsOf_2 : decode cX2_pairsOf 2 = .ok (.iconst 0, 1) := dk_3 (dk_at dksX2_pairsOf_0 2 rfl rfl)
theorem dX2_pairsOf_3 : decode cX2_pairsOf 3 = .ok (.istore_n 2, 1) := dk_61 (dk_at dksX2_pairsOf_0 3 rfl rfl)
theorem dX2_pairsOf_4 : decode cX2_pairsOf 4 = .ok (.iload_n 2, 1) := dk_28 (dk_at dksX2_pairsOf_0 4 rfl rfl)
theorem dX2_pairsOf_5 : decode cX2_pairsOf 5 = .ok (.bipush 7, 2) := dk_16 7 (dk_at dksX2_pairsOf_0 5 rfl rfl)
theorem dX2_pairsOf_7 : decode cX2_pairsOf 7 = .ok (.if_icmp .ge 56, 3) := dk_162 0 56 (dk_at dksX2_pairsOf_0 7 rfl rfl)
theorem dX2_pairsOf_10 : decode cX2_pairsOf 10 = .ok (.iconst 0, 1) := dk_3 (dk_at dksX2_pairsOf_0 10 rfl rfl)
theorem dX2_pairsOf_11 : decode cX2_pairsOf 11 = .ok (.istore_n 3, 1) := dk_62 (dk_at dksX2_pairsOf_0 11 rfl rfl)
theorem dX2_pairsOf_12 : decode cX2_pairsOf 12 = .ok (.iload_n 3, 1) := dk_29 (dk_at dksX2_pairsOf_0 12 rfl rfl)
theorem dX2_pairsOf_13 : decode cX2_pairsOf 13 = .ok (.iload_n 2, 1) := dk_28 (dk_at dksX2_pairsOf_0 13 rfl rfl)
theorem dX2_pairsOf_14 : decode cX2_pairsOf 14 = .ok (.if_icmp .ge 43, 3) := dk_162 0 43 (dk_at dksX2_pairsOf_0 14 rfl rfl)
theorem dX2_pairsOf_17 : decode cX2_pairsOf 17 = .ok (.iload_n 1, 1) := dk_27 (dk_at dksX2_pairsOf_0 17 rfl rfl)
theorem dX2_pairsOf_18 : decode cX2_pairsOf 18 = .ok (.iload_n 0, 1) := dk_26 (dk_at dksX2_pairsOf_0 18 rfl rfl)
theorem dX2_pairsOf_19 : decode cX2_pairsOf 19 = .ok (.iload_n 2, 1) := dk_28 (dk_at dksX2_pairsOf_0 19 rfl rfl)
theorem dX2_pairsOf_20 : decode cX2_pairsOf 20 = .ok (.invokestatic 69, 3) := dk_184 0 69 (dk_at dksX2_pairsOf_0 20 rfl rfl)
theorem dX2_pairsOf_23 : decode cX2_pairsOf 23 = .ok (.ifCond .eq 25, 3) := dk_153 0 25 (dk_at dksX2_pairsOf_1 0 rfl rfl)
theorem dX2_pairsOf_26 : decode cX2_pairsOf 26 = .ok (.iload_n 0, 1) := dk_26 (dk_at dksX2_pairsOf_1 3 rfl rfl)
theorem dX2_pairsOf_27 : decode cX2_pairsOf 27 = .ok (.iload_n 3, 1) := dk_29 (dk_at dksX2_pairsOf_1 4 rfl rfl)
theorem dX2_pairsOf_28 : decode cX2_pairsOf 28 = .ok (.invokestatic 69, 3) := dk_184 0 69 (dk_at dksX2_pairsOf_1 5 rfl rfl)
theorem dX2_pairsOf_31 : decode cX2_pairsOf 31 = .ok (.ifCond .eq 17, 3) := dk_153 0 17 (dk_at dksX2_pairsOf_1 8 rfl rfl)
theorem dX2_pairsOf_34 : decode cX2_pairsOf 34 = .ok (.iconst 1, 1) := dk_4 (dk_at dksX2_pairsOf_1 11 rfl rfl)
theorem dX2_pairsOf_35 : decode cX2_pairsOf 35 = .ok (.iload_n 2, 1) := dk_28 (dk_at dksX2_pairsOf_1 12 rfl rfl)
theorem dX2_pairsOf_36 : decode cX2_pairsOf 36 = .ok (.iload_n 2, 1) := dk_28 (dk_at dksX2_pairsOf_1 13 rfl rfl)
theorem dX2_pairsOf_37 : decode cX2_pairsOf 37 = .ok (.iconst 1, 1) := dk_4 (dk_at dksX2_pairsOf_1 14 rfl rfl)
theorem dX2_pairsOf_38 : decode cX2_pairsOf 38 = .ok (.isub, 1) := dk_100 (dk_at dksX2_pairsOf_1 15 rfl rfl)
theorem dX2_pairsOf_39 : decode cX2_pairsOf 39 = .ok (.imul, 1) := dk_104 (dk_at dksX2_pairsOf_1 16 rfl rfl)
theorem dX2_pairsOf_40 : decode cX2_pairsOf 40 = .ok (.iconst 2, 1) := dk_5 (dk_at dksX2_pairsOf_1 17 rfl rfl)
theorem dX2_pairsOf_41 : decode cX2_pairsOf 41 = .ok (.idiv, 1) := dk_108 (dk_at dksX2_pairsOf_1 18 rfl rfl)
theorem dX2_pairsOf_42 : decode cX2_pairsOf 42 = .ok (.iload_n 3, 1) := dk_29 (dk_at dksX2_pairsOf_1 19 rfl rfl)
theorem dX2_pairsOf_43 : decode cX2_pairsOf 43 = .ok (.iadd, 1) := dk_96 (dk_at dksX2_pairsOf_1 20 rfl rfl)
theorem dX2_pairsOf_44 : decode cX2_pairsOf 44 = .ok (.ishl, 1) := dk_120 (dk_at dksX2_pairsOf_1 21 rfl rfl)
theorem dX2_pairsOf_45 : decode cX2_pairsOf 45 = .ok (.goto 4, 3) := dk_167 0 4 (dk_at dksX2_pairsOf_2 0 rfl rfl)
theorem dX2_pairsOf_48 : decode cX2_pairsOf 48 = .ok (.iconst 0, 1) := dk_3 (dk_at dksX2_pairsOf_2 3 rfl rfl)
theorem dX2_pairsOf_49 : decode cX2_pairsOf 49 = .ok (.ior, 1) := dk_128 (dk_at dksX2_pairsOf_2 4 rfl rfl)
theorem dX2_pairsOf_50 : decode cX2_pairsOf 50 = .ok (.istore_n 1, 1) := dk_60 (dk_at dksX2_pairsOf_2 5 rfl rfl)
theorem dX2_pairsOf_51 : decode cX2_pairsOf 51 = .ok (.iinc 3 1, 3) := dk_132 3 1 (dk_at dksX2_pairsOf_2 6 rfl rfl)
theorem dX2_pairsOf_54 : decode cX2_pairsOf 54 = .ok (.goto (-42), 3) := dk_167 255 214 (dk_at dksX2_pairsOf_2 9 rfl rfl)
theorem dX2_pairsOf_57 : decode cX2_pairsOf 57 = .ok (.iinc 2 1, 3) := dk_132 2 1 (dk_at dksX2_pairsOf_2 12 rfl rfl)
theorem dX2_pairsOf_60 : decode cX2_pairsOf 60 = .ok (.goto (-56), 3) := dk_167 255 200 (dk_at dksX2_pairsOf_2 15 rfl rfl)
theorem dX2_pairsOf_63 : decode cX2_pairsOf 63 = .ok (.iload_n 1, 1) := dk_27 (dk_at dksX2_pairsOf_2 18 rfl rfl)
theorem dX2_pairsOf_64 : decode cX2_pairsOf 64 = .ok (.ireturn, 1) := dk_172 (dk_at dksX2_pairsOf_2 19 rfl rfl)
abbrev cX2_isOf : ByteArray := prog_8_method_5_code
def yX2_isOf : MethodName := ⟨RX2, "isOf", "(II)Z"⟩
def dkwX2_isOf_0 : List UInt8 := [42, 180, 0, 9, 27, 46, 28, 2, 130, 126, 154, 0, 7, 4, 167, 0, 4, 3, 172]
abbrev dktX2_isOf_0 : List UInt8 := dkwX2_isOf_0 ++ []
theorem dksX2_isOf_0 : cX2_isOf.data.toList.drop 0 = dktX2_isOf_0 := by decide +kernel
theorem dX2_isOf_0 : decode cX2_isOf 0 = .ok (.aload_n 0, 1) := dk_42 (dk_at dksX2_isOf_0 0 rfl rfl)
theorem dX2_isOf_1 : decode cX2_isOf 1 = .ok (.getfield 9, 3) := dk_180 0 9 (dk_at dksX2_isOf_0 1 rfl rfl)
theorem dX2_isOf_4 : decode cX2_isOf 4 = .ok (.iload_n 1, 1) := dk_27 (dk_at dksX2_isOf_0 4 rfl rfl)
theorem dX2_isOf_5 : decode cX2_isOf 5 = .ok (.iaload, 1) := dk_46 (dk_at dksX2_isOf_0 5 rfl rfl)
theorem dX2_isOf_6 : decode cX2_isOf 6 = .ok (.iload_n 2, 1) := dk_28 (dk_at dksX2_isOf_0 6 rfl rfl)
theorem dX2_isOf_7 : decode cX2_isOf 7 = .ok (.iconst (-1), 1) := dk_2 (dk_at dksX2_isOf_0 7 rfl rfl)
theorem dX2_isOf_8 : decode cX2_isOf 8 = .ok (.ixor, 1) := dk_130 (dk_at dksX2_isOf_0 8 rfl rfl)
theorem dX2_isOf_9 : decode cX2_isOf 9 = .ok (.iand, 1) := dk_126 (dk_at dksX2_isOf_0 9 rfl rfl)
theorem dX2_isOf_10 : decode cX2_isOf 10 = .ok (.ifCond .ne 7, 3) := dk_154 0 7 (dk_at dksX2_isOf_0 10 rfl rfl)
theorem dX2_isOf_13 : decode cX2_isOf 13 = .ok (.iconst 1, 1) := dk_4 (dk_at dksX2_isOf_0 13 rfl rfl)
theorem dX2_isOf_14 : decode cX2_isOf 14 = .ok (.goto 4, 3) := dk_167 0 4 (dk_at dksX2_isOf_0 14 rfl rfl)
theorem dX2_isOf_17 : decode cX2_isOf 17 = .ok (.iconst 0, 1) := dk_3 (dk_at dksX2_isOf_0 17 rfl rfl)
theorem dX2_isOf_18 : decode cX2_isOf 18 = .ok (.ireturn, 1) := dk_172 (dk_at dksX2_isOf_0 18 rfl rfl)
abbrev cX2_best : ByteArray := prog_8_method_10_code
def yX2_best : MethodName := ⟨RX2, "best", "(I)I"⟩
def dkwX2_best_2 : List UInt8 := [180, 0, 9, 28, 46, 172, 132, 2, 1, 167, 255, 203, 3, 172]
abbrev dktX2_best_2 : List UInt8 := dkwX2_best_2 ++ []
def dkwX2_best_1 : List UInt8 := [27, 42, 180, 0, 9, 28, 46, 2, 130, 126, 46, 96, 42, 180, 0, 18, 27, 46, 160, 0, 10, 42]
abbrev dktX2_best_1 : List UInt8 := dkwX2_best_1 ++ dktX2_best_2
def dkwX2_best_0 : List UInt8 := [3, 61, 28, 42, 180, 0, 28, 162, 0, 51, 42, 28, 27, 182, 0, 48, 153, 0, 36, 4, 42, 180, 0, 18]
abbrev dktX2_best_0 : List UInt8 := dkwX2_best_0 ++ dktX2_best_1
theorem dksX2_best_0 : cX2_best.data.toList.drop 0 = dktX2_best_0 := by decide +kernel
theorem dksX2_best_1 : cX2_best.data.toList.drop 24 = dktX2_best_1 := dk_seg dksX2_best_0 24 rfl rfl
theorem dksX2_best_2 : cX2_best.data.toList.drop 46 = dktX2_best_2 := dk_seg dksX2_best_1 22 rfl rfl
theorem dX2_best_0 : decode cX2_best 0 = .ok (.iconst 0, 1) := dk_3 (dk_at dksX2_best_0 0 rfl rfl)
theorem dX2_best_1 : decode cX2_best 1 = .ok (.istore_n 2, 1) := dk_61 (dk_at dksX2_best_0 1 rfl rfl)
theorem dX2_best_2 : decode cX2_best 2 = .ok (.iload_n 2, 1) := dk_28 (dk_at dksX2_best_0 2 rfl rfl)
theorem dX2_best_3 : decode cX2_best 3 = .ok (.aload_n 0, 1) := dk_42 (dk_at dksX2_best_0 3 rfl rfl)
theorem dX2_best_4 : decode cX2_best 4 = .ok (.getfield 28, 3) := dk_180 0 28 (dk_at dksX2_best_0 4 rfl rfl)
theorem dX2_best_7 : decode cX2_best 7 = .ok (.if_icmp .ge 51, 3) := dk_162 0 51 (dk_at dksX2_best_0 7 rfl rfl)
theorem dX2_best_10 : decode cX2_best 10 = .ok (.aload_n 0, 1) := dk_42 (dk_at dksX2_best_0 10 rfl rfl)
theorem dX2_best_11 : decode cX2_best 11 = .ok (.iload_n 2, 1) := dk_28 (dk_at dksX2_best_0 11 rfl rfl)
theorem dX2_best_12 : decode cX2_best 12 = .ok (.iload_n 1, 1) := dk_27 (dk_at dksX2_best_0 12 rfl rfl)
theorem dX2_best_13 : decode cX2_best 13 = .ok (.invokevirtual 48, 3) := dk_182 0 48 (dk_at dksX2_best_0 13 rfl rfl)
theorem dX2_best_16 : decode cX2_best 16 = .ok (.ifCond .eq 36, 3) := dk_153 0 36 (dk_at dksX2_best_0 16 rfl rfl)
theorem dX2_best_19 : decode cX2_best 19 = .ok (.iconst 1, 1) := dk_4 (dk_at dksX2_best_0 19 rfl rfl)
theorem dX2_best_20 : decode cX2_best 20 = .ok (.aload_n 0, 1) := dk_42 (dk_at dksX2_best_0 20 rfl rfl)
theorem dX2_best_21 : decode cX2_best 21 = .ok (.getfield 18, 3) := dk_180 0 18 (dk_at dksX2_best_0 21 rfl rfl)
theorem dX2_best_24 : decode cX2_best 24 = .ok (.iload_n 1, 1) := dk_27 (dk_at dksX2_best_1 0 rfl rfl)
theorem dX2_best_25 : decode cX2_best 25 = .ok (.aload_n 0, 1) := dk_42 (dk_at dksX2_best_1 1 rfl rfl)
theorem dX2_best_26 : decode cX2_best 26 = .ok (.getfield 9, 3) := dk_180 0 9 (dk_at dksX2_best_1 2 rfl rfl)
theorem dX2_best_29 : decode cX2_best 29 = .ok (.iload_n 2, 1) := dk_28 (dk_at dksX2_best_1 5 rfl rfl)
theorem dX2_best_30 : decode cX2_best 30 = .ok (.iaload, 1) := dk_46 (dk_at dksX2_best_1 6 rfl rfl)
theorem dX2_best_31 : decode cX2_best 31 = .ok (.iconst (-1), 1) := dk_2 (dk_at dksX2_best_1 7 rfl rfl)
theorem dX2_best_32 : decode cX2_best 32 = .ok (.ixor, 1) := dk_130 (dk_at dksX2_best_1 8 rfl rfl)
theorem dX2_best_33 : decode cX2_best 33 = .ok (.iand, 1) := dk_126 (dk_at dksX2_best_1 9 rfl rfl)
theorem dX2_best_34 : decode cX2_best 34 = .ok (.iaload, 1) := dk_46 (dk_at dksX2_best_1 10 rfl rfl)
theorem dX2_best_35 : decode cX2_best 35 = .ok (.iadd, 1) := dk_96 (dk_at dksX2_best_1 11 rfl rfl)
theorem dX2_best_36 : decode cX2_best 36 = .ok (.aload_n 0, 1) := dk_42 (dk_at dksX2_best_1 12 rfl rfl)
theorem dX2_best_37 : decode cX2_best 37 = .ok (.getfield 18, 3) := dk_180 0 18 (dk_at dksX2_best_1 13 rfl rfl)
theorem dX2_best_40 : decode cX2_best 40 = .ok (.iload_n 1, 1) := dk_27 (dk_at dksX2_best_1 16 rfl rfl)
theorem dX2_best_41 : decode cX2_best 41 = .ok (.iaload, 1) := dk_46 (dk_at dksX2_best_1 17 rfl rfl)
theorem dX2_best_42 : decode cX2_best 42 = .ok (.if_icmp .ne 10, 3) := dk_160 0 10 (dk_at dksX2_best_1 18 rfl rfl)
theorem dX2_best_45 : decode cX2_best 45 = .ok (.aload_n 0, 1) := dk_42 (dk_at dksX2_best_1 21 rfl rfl)
theorem dX2_best_46 : decode cX2_best 46 = .ok (.getfield 9, 3) := dk_180 0 9 (dk_at dksX2_best_2 0 rfl rfl)
theorem dX2_best_49 : decode cX2_best 49 = .ok (.iload_n 2, 1) := dk_28 (dk_at dksX2_best_2 3 rfl rfl)
theorem dX2_best_50 : decode cX2_best 50 = .ok (.iaload, 1) := dk_46 (dk_at dksX2_best_2 4 rfl rfl)
theorem dX2_best_51 : decode cX2_best 51 = .ok (.ireturn, 1) := dk_172 (dk_at dksX2_best_2 5 rfl rfl)
theorem dX2_best_52 : decode cX2_best 52 = .ok (.iinc 2 1, 3) := dk_132 2 1 (dk_at dksX2_best_2 6 rfl rfl)
theorem dX2_best_55 : decode cX2_best 55 = .ok (.goto (-53), 3) := dk_167 255 203 (dk_at dksX2_best_2 9 rfl rfl)
theorem dX2_best_58 : decode cX2_best 58 = .ok (.iconst 0, 1) := dk_3 (dk_at dksX2_best_2 12 rfl rfl)
theorem dX2_best_59 : decode cX2_best 59 = .ok (.ireturn, 1) := dk_172 (dk_at dksX2_best_2 13 rfl rfl)
abbrev cX2_strangersOf : ByteArray := prog_8_method_14_code
def yX2_strangersOf : MethodName := ⟨RX2, "strangersOf", "(I)I"⟩
def dkwX2_strangersOf_1 : List UInt8 := [42, 180, 0, 21, 29, 46, 184, 0, 58, 167, 0, 4, 3, 96, 61, 132, 3, 1, 167, 255, 218, 28, 172]
abbrev dktX2_strangersOf_1 : List UInt8 := dkwX2_strangersOf_1 ++ []
def dkwX2_strangersOf_0 : List UInt8 := [3, 61, 3, 62, 29, 42, 180, 0, 24, 180, 0, 32, 162, 0, 33, 28, 27, 29, 184, 0, 69, 153, 0, 15]
abbrev dktX2_strangersOf_0 : List UInt8 := dkwX2_strangersOf_0 ++ dktX2_strangersOf_1
theorem dksX2_strangersOf_0 : cX2_strangersOf.data.toList.drop 0 = dktX2_strangersOf_0 := by decide +kernel
theorem dksX2_strangersOf_1 : cX2_strangersOf.data.toList.drop 24 = dktX2_strangersOf_1 := dk_seg dksX2_strangersOf_0 24 rfl rfl
theorem dX2_strangersOf_0 : decode cX2_strangersOf 0 = .ok (.iconst 0, 1) := dk_3 (dk_at dksX2_strangersOf_0 0 rfl rfl)
theorem dX2_strangersOf_1 : decode cX2_strangersOf 1 = .ok (.istore_n 2, 1) := dk_61 (dk_at dksX2_strangersOf_0 1 rfl rfl)
theorem dX2_strangersOf_2 : decode cX2_strangersOf 2 = .ok (.iconst 0, 1) := dk_3 (dk_at dksX2_strangersOf_0 2 rfl rfl)
theorem dX2_strangersOf_3 : decode cX2_strangersOf 3 = .ok (.istore_n 3, 1) := dk_62 (dk_at dksX2_strangersOf_0 3 rfl rfl)
theorem dX2_strangersOf_4 : decode cX2_strangersOf 4 = .ok (.iload_n 3, 1) := dk_29 (dk_at dksX2_strangersOf_0 4 rfl rfl)
theorem dX2_strangersOf_5 : decode cX2_strangersOf 5 = .ok (.aload_n 0, 1) := dk_42 (dk_at dksX2_strangersOf_0 5 rfl rfl)
theorem dX2_strangersOf_6 : decode cX2_strangersOf 6 = .ok (.getfield 24, 3) := dk_180 0 24 (dk_at dksX2_strangersOf_0 6 rfl rfl)
theorem dX2_strangersOf_9 : decode cX2_strangersOf 9 = .ok (.getfield 32, 3) := dk_180 0 32 (dk_at dksX2_strangersOf_0 9 rfl rfl)
theorem dX2_strangersOf_12 : decode cX2_strangersOf 12 = .ok (.if_icmp .ge 33, 3) := dk_162 0 33 (dk_at dksX2_strangersOf_0 12 rfl rfl)
theorem dX2_strangersOf_15 : decode cX2_strangersOf 15 = .ok (.iload_n 2, 1) := dk_28 (dk_at dksX2_strangersOf_0 15 rfl rfl)
theorem dX2_strangersOf_16 : decode cX2_strangersOf 16 = .ok (.iload_n 1, 1) := dk_27 (dk_at dksX2_strangersOf_0 16 rfl rfl)
theorem dX2_strangersOf_17 : decode cX2_strangersOf 17 = .ok (.iload_n 3, 1) := dk_29 (dk_at dksX2_strangersOf_0 17 rfl rfl)
theorem dX2_strangersOf_18 : decode cX2_strangersOf 18 = .ok (.invokestatic 69, 3) := dk_184 0 69 (dk_at dksX2_strangersOf_0 18 rfl rfl)
theorem dX2_strangersOf_21 : decode cX2_strangersOf 21 = .ok (.ifCond .eq 15, 3) := dk_153 0 15 (dk_at dksX2_strangersOf_0 21 rfl rfl)
theorem dX2_strangersOf_24 : decode cX2_strangersOf 24 = .ok (.aload_n 0, 1) := dk_42 (dk_at dksX2_strangersOf_1 0 rfl rfl)
theorem dX2_strangersOf_25 : decode cX2_strangersOf 25 = .ok (.getfield 21, 3) := dk_180 0 21 (dk_at dksX2_strangersOf_1 1 rfl rfl)
theorem dX2_strangersOf_28 : decode cX2_strangersOf 28 = .ok (.iload_n 3, 1) := dk_29 (dk_at dksX2_strangersOf_1 4 rfl rfl)
theorem dX2_strangersOf_29 : decode cX2_strangersOf 29 = .ok (.iaload, 1) := dk_46 (dk_at dksX2_strangersOf_1 5 rfl rfl)
theorem dX2_strangersOf_30 : decode cX2_strangersOf 30 = .ok (.invokestatic 58, 3) := dk_184 0 58 (dk_at dksX2_strangersOf_1 6 rfl rfl)
theorem dX2_strangersOf_33 : decode cX2_strangersOf 33 = .ok (.goto 4, 3) := dk_167 0 4 (dk_at dksX2_strangersOf_1 9 rfl rfl)
theorem dX2_strangersOf_36 : decode cX2_strangersOf 36 = .ok (.iconst 0, 1) := dk_3 (dk_at dksX2_strangersOf_1 12 rfl rfl)
theorem dX2_strangersOf_37 : decode cX2_strangersOf 37 = .ok (.iadd, 1) := dk_96 (dk_at dksX2_strangersOf_1 13 rfl rfl)
theorem dX2_strangersOf_38 : decode cX2_strangersOf 38 = .ok (.istore_n 2, 1) := dk_61 (dk_at dksX2_strangersOf_1 14 rfl rfl)
theorem dX2_strangersOf_39 : decode cX2_strangersOf 39 = .ok (.iinc 3 1, 3) := dk_132 3 1 (dk_at dksX2_strangersOf_1 15 rfl rfl)
theorem dX2_strangersOf_42 : decode cX2_strangersOf 42 = .ok (.goto (-38), 3) := dk_167 255 218 (dk_at dksX2_strangersOf_1 18 rfl rfl)
theorem dX2_strangersOf_45 : decode cX2_strangersOf 45 = .ok (.iload_n 2, 1) := dk_28 (dk_at dksX2_strangersOf_1 21 rfl rfl)
theorem dX2_strangersOf_46 : decode cX2_strangersOf 46 = .ok (.ireturn, 1) := dk_172 (dk_at dksX2_strangersOf_1 22 rfl rfl)
abbrev cX2_costOf : ByteArray := prog_8_method_13_code
def yX2_costOf : MethodName := ⟨RX2, "costOf", "(I)I"⟩
def dkwX2_costOf_1 : List UInt8 := [42, 180, 0, 24, 180, 0, 85, 29, 46, 167, 0, 4, 3, 96, 61, 132, 3, 1, 167, 255, 218, 28, 172]
abbrev dktX2_costOf_1 : List UInt8 := dkwX2_costOf_1 ++ []
def dkwX2_costOf_0 : List UInt8 := [3, 61, 3, 62, 29, 42, 180, 0, 24, 180, 0, 32, 162, 0, 33, 28, 27, 29, 184, 0, 69, 153, 0, 15]
abbrev dktX2_costOf_0 : List UInt8 := dkwX2_costOf_0 ++ dktX2_costOf_1
theorem dksX2_costOf_0 : cX2_costOf.data.toList.drop 0 = dktX2_costOf_0 := by decide +kernel
theorem dksX2_costOf_1 : cX2_costOf.data.toList.drop 24 = dktX2_costOf_1 := dk_seg dksX2_costOf_0 24 rfl rfl
theorem dX2_costOf_0 : decode cX2_costOf 0 = .ok (.iconst 0, 1) := dk_3 (dk_at dksX2_costOf_0 0 rfl rfl)
theorem dX2_costOf_1 : decode cX2_costOf 1 = .ok (.istore_n 2, 1) := dk_61 (dk_at dksX2_costOf_0 1 rfl rfl)
theorem dX2_costOf_2 : decode cX2_costOf 2 = .ok (.iconst 0, 1) := dk_3 (dk_at dksX2_costOf_0 2 rfl rfl)
theorem dX2_costOf_3 : decode cX2_costOf 3 = .ok (.istore_n 3, 1) := dk_62 (dk_at dksX2_costOf_0 3 rfl rfl)
theorem dX2_costOf_4 : decode cX2_costOf 4 = .ok (.iload_n 3, 1) := dk_29 (dk_at dksX2_costOf_0 4 rfl rfl)
theorem dX2_costOf_5 : decode cX2_costOf 5 = .ok (.aload_n 0, 1) := dk_42 (dk_at dksX2_costOf_0 5 rfl rfl)
theorem dX2_costOf_6 : decode cX2_costOf 6 = .ok (.getfield 24, 3) := dk_180 0 24 (dk_at dksX2_costOf_0 6 rfl rfl)
theorem dX2_costOf_9 : decode cX2_costOf 9 = .ok (.getfield 32, 3) := dk_180 0 32 (dk_at dksX2_costOf_0 9 rfl rfl)
theorem dX2_costOf_12 : decode cX2_costOf 12 = .ok (.if_icmp .ge 33, 3) := dk_162 0 33 (dk_at dksX2_costOf_0 12 rfl rfl)
theorem dX2_costOf_15 : decode cX2_costOf 15 = .ok (.iload_n 2, 1) := dk_28 (dk_at dksX2_costOf_0 15 rfl rfl)
theorem dX2_costOf_16 : decode cX2_costOf 16 = .ok (.iload_n 1, 1) := dk_27 (dk_at dksX2_costOf_0 16 rfl rfl)
theorem dX2_costOf_17 : decode cX2_costOf 17 = .ok (.iload_n 3, 1) := dk_29 (dk_at dksX2_costOf_0 17 rfl rfl)
theorem dX2_costOf_18 : decode cX2_costOf 18 = .ok (.invokestatic 69, 3) := dk_184 0 69 (dk_at dksX2_costOf_0 18 rfl rfl)
theorem dX2_costOf_21 : decode cX2_costOf 21 = .ok (.ifCond .eq 15, 3) := dk_153 0 15 (dk_at dksX2_costOf_0 21 rfl rfl)
theorem dX2_costOf_24 : decode cX2_costOf 24 = .ok (.aload_n 0, 1) := dk_42 (dk_at dksX2_costOf_1 0 rfl rfl)
theorem dX2_costOf_25 : decode cX2_costOf 25 = .ok (.getfield 24, 3) := dk_180 0 24 (dk_at dksX2_costOf_1 1 rfl rfl)
theorem dX2_costOf_28 : decode cX2_costOf 28 = .ok (.getfield 85, 3) := dk_180 0 85 (dk_at dksX2_costOf_1 4 rfl rfl)
theorem dX2_costOf_31 : decode cX2_costOf 31 = .ok (.iload_n 3, 1) := dk_29 (dk_at dksX2_costOf_1 7 rfl rfl)
theorem dX2_costOf_32 : decode cX2_costOf 32 = .ok (.iaload, 1) := dk_46 (dk_at dksX2_costOf_1 8 rfl rfl)
theorem dX2_costOf_33 : decode cX2_costOf 33 = .ok (.goto 4, 3) := dk_167 0 4 (dk_at dksX2_costOf_1 9 rfl rfl)
theorem dX2_costOf_36 : decode cX2_costOf 36 = .ok (.iconst 0, 1) := dk_3 (dk_at dksX2_costOf_1 12 rfl rfl)
theorem dX2_costOf_37 : decode cX2_costOf 37 = .ok (.iadd, 1) := dk_96 (dk_at dksX2_costOf_1 13 rfl rfl)
theorem dX2_costOf_38 : decode cX2_costOf 38 = .ok (.istore_n 2, 1) := dk_61 (dk_at dksX2_costOf_1 14 rfl rfl)
theorem dX2_costOf_39 : decode cX2_costOf 39 = .ok (.iinc 3 1, 3) := dk_132 3 1 (dk_at dksX2_costOf_1 15 rfl rfl)
theorem dX2_costOf_42 : decode cX2_costOf 42 = .ok (.goto (-38), 3) := dk_167 255 218 (dk_at dksX2_costOf_1 18 rfl rfl)
theorem dX2_costOf_45 : decode cX2_costOf 45 = .ok (.iload_n 2, 1) := dk_28 (dk_at dksX2_costOf_1 21 rfl rfl)
theorem dX2_costOf_46 : decode cX2_costOf 46 = .ok (.ireturn, 1) := dk_172 (dk_at dksX2_costOf_1 22 rfl rfl)
abbrev cX2_first : ByteArray := prog_8_method_9_code
def yX2_first : MethodName := ⟨RX2, "first", "(I)I"⟩
def dkwX2_first_1 : List UInt8 := [46, 172, 132, 2, 1, 167, 255, 229, 3, 172]
abbrev dktX2_first_1 : List UInt8 := dkwX2_first_1 ++ []
def dkwX2_first_0 : List UInt8 := [3, 61, 28, 42, 180, 0, 28, 162, 0, 25, 42, 28, 27, 182, 0, 48, 153, 0, 10, 42, 180, 0, 9, 28]
abbrev dktX2_first_0 : List UInt8 := dkwX2_first_0 ++ dktX2_first_1
theorem dksX2_first_0 : cX2_first.data.toList.drop 0 = dktX2_first_0 := by decide +kernel
theorem dksX2_first_1 : cX2_first.data.toList.drop 24 = dktX2_first_1 := dk_seg dksX2_first_0 24 rfl rfl
theorem dX2_first_0 : decode cX2_first 0 = .ok (.iconst 0, 1) := dk_3 (dk_at dksX2_first_0 0 rfl rfl)
theorem dX2_first_1 : decode cX2_first 1 = .ok (.istore_n 2, 1) := dk_61 (dk_at dksX2_first_0 1 rfl rfl)
theorem dX2_first_2 : decode cX2_first 2 = .ok (.iload_n 2, 1) := dk_28 (dk_at dksX2_first_0 2 rfl rfl)
theorem dX2_first_3 : decode cX2_first 3 = .ok (.aload_n 0, 1) := dk_42 (dk_at dksX2_first_0 3 rfl rfl)
theorem dX2_first_4 : decode cX2_first 4 = .ok (.getfield 28, 3) := dk_180 0 28 (dk_at dksX2_first_0 4 rfl rfl)
theorem dX2_first_7 : decode cX2_first 7 = .ok (.if_icmp .ge 25, 3) := dk_162 0 25 (dk_at dksX2_first_0 7 rfl rfl)
theorem dX2_first_10 : decode cX2_first 10 = .ok (.aload_n 0, 1) := dk_42 (dk_at dksX2_first_0 10 rfl rfl)
theorem dX2_first_11 : decode cX2_first 11 = .ok (.iload_n 2, 1) := dk_28 (dk_at dksX2_first_0 11 rfl rfl)
theorem dX2_first_12 : decode cX2_first 12 = .ok (.iload_n 1, 1) := dk_27 (dk_at dksX2_first_0 12 rfl rfl)
theorem dX2_first_13 : decode cX2_first 13 = .ok (.invokevirtual 48, 3) := dk_182 0 48 (dk_at dksX2_first_0 13 rfl rfl)
theorem dX2_first_16 : decode cX2_first 16 = .ok (.ifCond .eq 10, 3) := dk_153 0 10 (dk_at dksX2_first_0 16 rfl rfl)
theorem dX2_first_19 : decode cX2_first 19 = .ok (.aload_n 0, 1) := dk_42 (dk_at dksX2_first_0 19 rfl rfl)
theorem dX2_first_20 : decode cX2_first 20 = .ok (.getfield 9, 3) := dk_180 0 9 (dk_at dksX2_first_0 20 rfl rfl)
theorem dX2_first_23 : decode cX2_first 23 = .ok (.iload_n 2, 1) := dk_28 (dk_at dksX2_first_0 23 rfl rfl)
theorem dX2_first_24 : decode cX2_first 24 = .ok (.iaload, 1) := dk_46 (dk_at dksX2_first_1 0 rfl rfl)
theorem dX2_first_25 : decode cX2_first 25 = .ok (.ireturn, 1) := dk_172 (dk_at dksX2_first_1 1 rfl rfl)
theorem dX2_first_26 : decode cX2_first 26 = .ok (.iinc 2 1, 3) := dk_132 2 1 (dk_at dksX2_first_1 2 rfl rfl)
theorem dX2_first_29 : decode cX2_first 29 = .ok (.goto (-27), 3) := dk_167 255 229 (dk_at dksX2_first_1 5 rfl rfl)
theorem dX2_first_32 : decode cX2_first 32 = .ok (.iconst 0, 1) := dk_3 (dk_at dksX2_first_1 8 rfl rfl)
theorem dX2_first_33 : decode cX2_first 33 = .ok (.ireturn, 1) := dk_172 (dk_at dksX2_first_1 9 rfl rfl)
abbrev cX2_has1 : ByteArray := prog_8_method_8_code
def yX2_has1 : MethodName := ⟨RX2, "has1", "(I)Z"⟩
def dkwX2_has1_1 : List UInt8 := [132, 2, 1, 167, 255, 233, 3, 172]
abbrev dktX2_has1_1 : List UInt8 := dkwX2_has1_1 ++ []
def dkwX2_has1_0 : List UInt8 := [3, 61, 28, 42, 180, 0, 28, 162, 0, 21, 42, 180, 0, 9, 28, 46, 27, 160, 0, 5, 4, 172]
abbrev dktX2_has1_0 : List UInt8 := dkwX2_has1_0 ++ dktX2_has1_1
theorem dksX2_has1_0 : cX2_has1.data.toList.drop 0 = dktX2_has1_0 := by decide +kernel
theorem dksX2_has1_1 : cX2_has1.data.toList.drop 22 = dktX2_has1_1 := dk_seg dksX2_has1_0 22 rfl rfl
theorem dX2_has1_0 : decode cX2_has1 0 = .ok (.iconst 0, 1) := dk_3 (dk_at dksX2_has1_0 0 rfl rfl)
theorem dX2_has1_1 : decode cX2_has1 1 = .ok (.istore_n 2, 1) := dk_61 (dk_at dksX2_has1_0 1 rfl rfl)
theorem dX2_has1_2 : decode cX2_has1 2 = .ok (.iload_n 2, 1) := dk_28 (dk_at dksX2_has1_0 2 rfl rfl)
theorem dX2_has1_3 : decode cX2_has1 3 = .ok (.aload_n 0, 1) := dk_42 (dk_at dksX2_has1_0 3 rfl rfl)
theorem dX2_has1_4 : decode cX2_has1 4 = .ok (.getfield 28, 3) := dk_180 0 28 (dk_at dksX2_has1_0 4 rfl rfl)
theorem dX2_has1_7 : decode cX2_has1 7 = .ok (.if_icmp .ge 21, 3) := dk_162 0 21 (dk_at dksX2_has1_0 7 rfl rfl)
theorem dX2_has1_10 : decode cX2_has1 10 = .ok (.aload_n 0, 1) := dk_42 (dk_at dksX2_has1_0 10 rfl rfl)
theorem dX2_has1_11 : decode cX2_has1 11 = .ok (.getfield 9, 3) := dk_180 0 9 (dk_at dksX2_has1_0 11 rfl rfl)
theorem dX2_has1_14 : decode cX2_has1 14 = .ok (.iload_n 2, 1) := dk_28 (dk_at dksX2_has1_0 14 rfl rfl)
theorem dX2_has1_15 : decode cX2_has1 15 = .ok (.iaload, 1) := dk_46 (dk_at dksX2_has1_0 15 rfl rfl)
theorem dX2_has1_16 : decode cX2_has1 16 = .ok (.iload_n 1, 1) := dk_27 (dk_at dksX2_has1_0 16 rfl rfl)
theorem dX2_has1_17 : decode cX2_has1 17 = .ok (.if_icmp .ne 5, 3) := dk_160 0 5 (dk_at dksX2_has1_0 17 rfl rfl)
theorem dX2_has1_20 : decode cX2_has1 20 = .ok (.iconst 1, 1) := dk_4 (dk_at dksX2_has1_0 20 rfl rfl)
theorem dX2_has1_21 : decode cX2_has1 21 = .ok (.ireturn, 1) := dk_172 (dk_at dksX2_has1_0 21 rfl rfl)
theorem dX2_has1_22 : decode cX2_has1 22 = .ok (.iinc 2 1, 3) := dk_132 2 1 (dk_at dksX2_has1_1 0 rfl rfl)
theorem dX2_has1_25 : decode cX2_has1 25 = .ok (.goto (-23), 3) := dk_167 255 233 (dk_at dksX2_has1_1 3 rfl rfl)
theorem dX2_has1_28 : decode cX2_has1 28 = .ok (.iconst 0, 1) := dk_3 (dk_at dksX2_has1_1 6 rfl rfl)
theorem dX2_has1_29 : decode cX2_has1 29 = .ok (.ireturn, 1) := dk_172 (dk_at dksX2_has1_1 7 rfl rfl)
abbrev cX2_many : ByteArray := prog_8_method_7_code
def yX2_many : MethodName := ⟨RX2, "many", "(I)I"⟩
def dkwX2_many_1 : List UInt8 := [167, 0, 4, 3, 96, 61, 132, 3, 1, 167, 255, 228, 28, 172]
abbrev dktX2_many_1 : List UInt8 := dkwX2_many_1 ++ []
def dkwX2_many_0 : List UInt8 := [3, 61, 3, 62, 29, 42, 180, 0, 28, 162, 0, 26, 28, 42, 29, 27, 182, 0, 48, 153, 0, 7, 4]
abbrev dktX2_many_0 : List UInt8 := dkwX2_many_0 ++ dktX2_many_1
theorem dksX2_many_0 : cX2_many.data.toList.drop 0 = dktX2_many_0 := by decide +kernel
theorem dksX2_many_1 : cX2_many.data.toList.drop 23 = dktX2_many_1 := dk_seg dksX2_many_0 23 rfl rfl
theorem dX2_many_0 : decode cX2_many 0 = .ok (.iconst 0, 1) := dk_3 (dk_at dksX2_many_0 0 rfl rfl)
theorem dX2_many_1 : decode cX2_many 1 = .ok (.istore_n 2, 1) := dk_61 (dk_at dksX2_many_0 1 rfl rfl)
theorem dX2_many_2 : decode cX2_many 2 = .ok (.iconst 0, 1) := dk_3 (dk_at dksX2_many_0 2 rfl rfl)
theorem dX2_many_3 : decode cX2_many 3 = .ok (.istore_n 3, 1) := dk_62 (dk_at dksX2_many_0 3 rfl rfl)
theorem dX2_many_4 : decode cX2_many 4 = .ok (.iload_n 3, 1) := dk_29 (dk_at dksX2_many_0 4 rfl rfl)
theorem dX2_many_5 : decode cX2_many 5 = .ok (.aload_n 0, 1) := dk_42 (dk_at dksX2_many_0 5 rfl rfl)
theorem dX2_many_6 : decode cX2_many 6 = .ok (.getfield 28, 3) := dk_180 0 28 (dk_at dksX2_many_0 6 rfl rfl)
theorem dX2_many_9 : decode cX2_many 9 = .ok (.if_icmp .ge 26, 3) := dk_162 0 26 (dk_at dksX2_many_0 9 rfl rfl)
theorem dX2_many_12 : decode cX2_many 12 = .ok (.iload_n 2, 1) := dk_28 (dk_at dksX2_many_0 12 rfl rfl)
theorem dX2_many_13 : decode cX2_many 13 = .ok (.aload_n 0, 1) := dk_42 (dk_at dksX2_many_0 13 rfl rfl)
theorem dX2_many_14 : decode cX2_many 14 = .ok (.iload_n 3, 1) := dk_29 (dk_at dksX2_many_0 14 rfl rfl)
theorem dX2_many_15 : decode cX2_many 15 = .ok (.iload_n 1, 1) := dk_27 (dk_at dksX2_many_0 15 rfl rfl)
theorem dX2_many_16 : decode cX2_many 16 = .ok (.invokevirtual 48, 3) := dk_182 0 48 (dk_at dksX2_many_0 16 rfl rfl)
theorem dX2_many_19 : decode cX2_many 19 = .ok (.ifCond .eq 7, 3) := dk_153 0 7 (dk_at dksX2_many_0 19 rfl rfl)
theorem dX2_many_22 : decode cX2_many 22 = .ok (.iconst 1, 1) := dk_4 (dk_at dksX2_many_0 22 rfl rfl)
theorem dX2_many_23 : decode cX2_many 23 = .ok (.goto 4, 3) := dk_167 0 4 (dk_at dksX2_many_1 0 rfl rfl)
theorem dX2_many_26 : decode cX2_many 26 = .ok (.iconst 0, 1) := dk_3 (dk_at dksX2_many_1 3 rfl rfl)
theorem dX2_many_27 : decode cX2_many 27 = .ok (.iadd, 1) := dk_96 (dk_at dksX2_many_1 4 rfl rfl)
theorem dX2_many_28 : decode cX2_many 28 = .ok (.istore_n 2, 1) := dk_61 (dk_at dksX2_many_1 5 rfl rfl)
theorem dX2_many_29 : decode cX2_many 29 = .ok (.iinc 3 1, 3) := dk_132 3 1 (dk_at dksX2_many_1 6 rfl rfl)
theorem dX2_many_32 : decode cX2_many 32 = .ok (.goto (-28), 3) := dk_167 255 228 (dk_at dksX2_many_1 9 rfl rfl)
theorem dX2_many_35 : decode cX2_many 35 = .ok (.iload_n 2, 1) := dk_28 (dk_at dksX2_many_1 12 rfl rfl)
theorem dX2_many_36 : decode cX2_many 36 = .ok (.ireturn, 1) := dk_172 (dk_at dksX2_many_1 13 rfl rfl)
abbrev cX2_most : ByteArray := prog_8_method_6_code
def yX2_most : MethodName := ⟨RX2, "most", "(I)I"⟩
def dkwX2_most_0 : List UInt8 := [42, 180, 0, 18, 27, 46, 172]
abbrev dktX2_most_0 : List UInt8 := dkwX2_most_0 ++ []
theorem dksX2_most_0 : cX2_most.data.toList.drop 0 = dktX2_most_0 := by decide +kernel
theorem dX2_most_0 : decode cX2_most 0 = .ok (.aload_n 0, 1) := dk_42 (dk_at dksX2_most_0 0 rfl rfl)
theorem dX2_most_1 : decode cX2_most 1 = .ok (.getfield 18, 3) := dk_180 0 18 (dk_at dksX2_most_0 1 rfl rfl)
theorem dX2_most_4 : decode cX2_most 4 = .ok (.iload_n 1, 1) := dk_27 (dk_at dksX2_most_0 4 rfl rfl)
theorem dX2_most_5 : decode cX2_most 5 = .ok (.iaload, 1) := dk_46 (dk_at dksX2_most_0 5 rfl rfl)
theorem dX2_most_6 : decode cX2_most 6 = .ok (.ireturn, 1) := dk_172 (dk_at dksX2_most_0 6 rfl rfl)
abbrev cX2_ever : ByteArray := prog_8_method_11_code
def yX2_ever : MethodName := ⟨RX2, "ever", "()LThreeStrangers$Groups;"⟩
def dkwX2_ever_1 : List UInt8 := [167, 255, 236, 42, 3, 181, 0, 72, 42, 16, 35, 181, 0, 75, 42, 27, 3, 182, 0, 78, 42, 176]
abbrev dktX2_ever_1 : List UInt8 := dkwX2_ever_1 ++ []
def dkwX2_ever_0 : List UInt8 := [3, 60, 3, 61, 28, 42, 180, 0, 28, 162, 0, 18, 27, 42, 180, 0, 15, 28, 46, 128, 60, 132, 2, 1]
abbrev dktX2_ever_0 : List UInt8 := dkwX2_ever_0 ++ dktX2_ever_1
theorem dksX2_ever_0 : cX2_ever.data.toList.drop 0 = dktX2_ever_0 := by decide +kernel
theorem dksX2_ever_1 : cX2_ever.data.toList.drop 24 = dktX2_ever_1 := dk_seg dksX2_ever_0 24 rfl rfl
theorem dX2_ever_0 : decode cX2_ever 0 = .ok (.iconst 0, 1) := dk_3 (dk_at dksX2_ever_0 0 rfl rfl)
theorem dX2_ever_1 : decode cX2_ever 1 = .ok (.istore_n 1, 1) := dk_60 (dk_at dksX2_ever_0 1 rfl rfl)
theorem dX2_ever_2 : decode cX2_ever 2 = .ok (.iconst 0, 1) := dk_3 (dk_at dksX2_ever_0 2 rfl rfl)
theorem dX2_ever_3 : decode cX2_ever 3 = .ok (.istore_n 2, 1) := dk_61 (dk_at dksX2_ever_0 3 rfl rfl)
theorem dX2_ever_4 : decode cX2_ever 4 = .ok (.iload_n 2, 1) := dk_28 (dk_at dksX2_ever_0 4 rfl rfl)
theorem dX2_ever_5 : decode cX2_ever 5 = .ok (.aload_n 0, 1) := dk_42 (dk_at dksX2_ever_0 5 rfl rfl)
theorem dX2_ever_6 : decode cX2_ever 6 = .ok (.getfield 28, 3) := dk_180 0 28 (dk_at dksX2_ever_0 6 rfl rfl)
theorem dX2_ever_9 : decode cX2_ever 9 = .ok (.if_icmp .ge 18, 3) := dk_162 0 18 (dk_at dksX2_ever_0 9 rfl rfl)
theorem dX2_ever_12 : decode cX2_ever 12 = .ok (.iload_n 1, 1) := dk_27 (dk_at dksX2_ever_0 12 rfl rfl)
theorem dX2_ever_13 : decode cX2_ever 13 = .ok (.aload_n 0, 1) := dk_42 (dk_at dksX2_ever_0 13 rfl rfl)
theorem dX2_ever_14 : decode cX2_ever 14 = .ok (.getfield 15, 3) := dk_180 0 15 (dk_at dksX2_ever_0 14 rfl rfl)
theorem dX2_ever_17 : decode cX2_ever 17 = .ok (.iload_n 2, 1) := dk_28 (dk_at dksX2_ever_0 17 rfl rfl)
theorem dX2_ever_18 : decode cX2_ever 18 = .ok (.iaload, 1) := dk_46 (dk_at dksX2_ever_0 18 rfl rfl)
theorem dX2_ever_19 : decode cX2_ever 19 = .ok (.ior, 1) := dk_128 (dk_at dksX2_ever_0 19 rfl rfl)
theorem dX2_ever_20 : decode cX2_ever 20 = .ok (.istore_n 1, 1) := dk_60 (dk_at dksX2_ever_0 20 rfl rfl)
theorem dX2_ever_21 : decode cX2_ever 21 = .ok (.iinc 2 1, 3) := dk_132 2 1 (dk_at dksX2_ever_0 21 rfl rfl)
theorem dX2_ever_24 : decode cX2_ever 24 = .ok (.goto (-20), 3) := dk_167 255 236 (dk_at dksX2_ever_1 0 rfl rfl)
theorem dX2_ever_27 : decode cX2_ever 27 = .ok (.aload_n 0, 1) := dk_42 (dk_at dksX2_ever_1 3 rfl rfl)
theorem dX2_ever_28 : decode cX2_ever 28 = .ok (.iconst 0, 1) := dk_3 (dk_at dksX2_ever_1 4 rfl rfl)
theorem dX2_ever_29 : decode cX2_ever 29 = .ok (.putfield 72, 3) := dk_181 0 72 (dk_at dksX2_ever_1 5 rfl rfl)
theorem dX2_ever_32 : decode cX2_ever 32 = .ok (.aload_n 0, 1) := dk_42 (dk_at dksX2_ever_1 8 rfl rfl)
theorem dX2_ever_33 : decode cX2_ever 33 = .ok (.bipush 35, 2) := dk_16 35 (dk_at dksX2_ever_1 9 rfl rfl)
theorem dX2_ever_35 : decode cX2_ever 35 = .ok (.putfield 75, 3) := dk_181 0 75 (dk_at dksX2_ever_1 11 rfl rfl)
theorem dX2_ever_38 : decode cX2_ever 38 = .ok (.aload_n 0, 1) := dk_42 (dk_at dksX2_ever_1 14 rfl rfl)
theorem dX2_ever_39 : decode cX2_ever 39 = .ok (.iload_n 1, 1) := dk_27 (dk_at dksX2_ever_1 15 rfl rfl)
theorem dX2_ever_40 : decode cX2_ever 40 = .ok (.iconst 0, 1) := dk_3 (dk_at dksX2_ever_1 16 rfl rfl)
theorem dX2_ever_41 : decode cX2_ever 41 = .ok (.invokevirtual 78, 3) := dk_182 0 78 (dk_at dksX2_ever_1 17 rfl rfl)
theorem dX2_ever_44 : decode cX2_ever 44 = .ok (.aload_n 0, 1) := dk_42 (dk_at dksX2_ever_1 20 rfl rfl)
theorem dX2_ever_45 : decode cX2_ever 45 = .ok (.areturn, 1) := dk_176 (dk_at dksX2_ever_1 21 rfl rfl)
abbrev cX2_goes : ByteArray := prog_8_method_12_code
def yX2_goes : MethodName := ⟨RX2, "goes", "(II)V"⟩
def dkwX2_goes_6 : List UInt8 := [167, 255, 183, 177]
abbrev dktX2_goes_6 : List UInt8 := dkwX2_goes_6 ++ []
def dkwX2_goes_5 : List UInt8 := [153, 0, 21, 42, 27, 42, 180, 0, 15, 21, 4, 46, 2, 130, 126, 28, 4, 96, 182, 0, 78, 132, 4, 1]
abbrev dktX2_goes_5 : List UInt8 := dkwX2_goes_5 ++ dktX2_goes_6
def dkwX2_goes_4 : List UInt8 := [3, 54, 5, 21, 5, 153, 0, 38, 42, 180, 0, 15, 21, 4, 46, 42, 180, 0, 15, 29, 46, 126]
abbrev dktX2_goes_4 : List UInt8 := dkwX2_goes_4 ++ dktX2_goes_5
def dkwX2_goes_3 : List UInt8 := [180, 0, 28, 162, 0, 70, 42, 180, 0, 15, 21, 4, 46, 27, 2, 130, 126, 154, 0, 7, 4, 167, 0, 4]
abbrev dktX2_goes_3 : List UInt8 := dkwX2_goes_3 ++ dktX2_goes_4
def dkwX2_goes_2 : List UInt8 := [181, 0, 72, 42, 42, 180, 0, 75, 28, 184, 0, 82, 181, 0, 75, 177, 29, 54, 4, 21, 4, 42]
abbrev dktX2_goes_2 : List UInt8 := dkwX2_goes_2 ++ dktX2_goes_3
def dkwX2_goes_1 : List UInt8 := [132, 3, 1, 167, 255, 232, 29, 42, 180, 0, 28, 160, 0, 28, 42, 42, 180, 0, 72, 28, 184, 0, 52]
abbrev dktX2_goes_1 : List UInt8 := dkwX2_goes_1 ++ dktX2_goes_2
def dkwX2_goes_0 : List UInt8 := [3, 62, 29, 42, 180, 0, 28, 162, 0, 22, 42, 180, 0, 15, 29, 46, 27, 2, 130, 126, 153, 0, 9]
abbrev dktX2_goes_0 : List UInt8 := dkwX2_goes_0 ++ dktX2_goes_1
theorem dksX2_goes_0 : cX2_goes.data.toList.drop 0 = dktX2_goes_0 := by decide +kernel
theorem dksX2_goes_1 : cX2_goes.data.toList.drop 23 = dktX2_goes_1 := dk_seg dksX2_goes_0 23 rfl rfl
theorem dksX2_goes_2 : cX2_goes.data.toList.drop 46 = dktX2_goes_2 := dk_seg dksX2_goes_1 23 rfl rfl
theorem dksX2_goes_3 : cX2_goes.data.toList.drop 68 = dktX2_goes_3 := dk_seg dksX2_goes_2 22 rfl rfl
theorem dksX2_goes_4 : cX2_goes.data.toList.drop 92 = dktX2_goes_4 := dk_seg dksX2_goes_3 24 rfl rfl
theorem dksX2_goes_5 : cX2_goes.data.toList.drop 114 = dktX2_goes_5 := dk_seg dksX2_goes_4 22 rfl rfl
theorem dksX2_goes_6 : cX2_goes.data.toList.drop 138 = dktX2_goes_6 := dk_seg dksX2_goes_5 24 rfl rfl
theorem dX2_goes_0 : decode cX2_goes 0 = .ok (.iconst 0, 1) := dk_3 (dk_at dksX2_goes_0 0 rfl rfl)
theorem dX2_goes_1 : decode cX2_goes 1 = .ok (.istore_n 3, 1) := dk_62 (dk_at dksX2_goes_0 1 rfl rfl)
theorem dX2_goes_2 : decode cX2_goes 2 = .ok (.iload_n 3, 1) := dk_29 (dk_at dksX2_goes_0 2 rfl rfl)
theorem dX2_goes_3 : decode cX2_goes 3 = .ok (.aload_n 0, 1) := dk_42 (dk_at dksX2_goes_0 3 rfl rfl)
theorem dX2_goes_4 : decode cX2_goes 4 = .ok (.getfield 28, 3) := dk_180 0 28 (dk_at dksX2_goes_0 4 rfl rfl)
theorem dX2_goes_7 : decode cX2_goes 7 = .ok (.if_icmp .ge 22, 3) := dk_162 0 22 (dk_at dksX2_goes_0 7 rfl rfl)
theorem dX2_goes_10 : decode cX2_goes 10 = .ok (.aload_n 0, 1) := dk_42 (dk_at dksX2_goes_0 10 rfl rfl)
theorem dX2_goes_11 : decode cX2_goes 11 = .ok (.getfield 15, 3) := dk_180 0 15 (dk_at dksX2_goes_0 11 rfl rfl)
theorem dX2_goes_14 : decode cX2_goes 14 = .ok (.iload_n 3, 1) := dk_29 (dk_at dksX2_goes_0 14 rfl rfl)
theorem dX2_goes_15 : decode cX2_goes 15 = .ok (.iaload, 1) := dk_46 (dk_at dksX2_goes_0 15 rfl rfl)
theorem dX2_goes_16 : decode cX2_goes 16 = .ok (.iload_n 1, 1) := dk_27 (dk_at dksX2_goes_0 16 rfl rfl)
theorem dX2_goes_17 : decode cX2_goes 17 = .ok (.iconst (-1), 1) := dk_2 (dk_at dksX2_goes_0 17 rfl rfl)
theorem dX2_goes_18 : decode cX2_goes 18 = .ok (.ixor, 1) := dk_130 (dk_at dksX2_goes_0 18 rfl rfl)
theorem dX2_goes_19 : decode cX2_goes 19 = .ok (.iand, 1) := dk_126 (dk_at dksX2_goes_0 19 rfl rfl)
theorem dX2_goes_20 : decode cX2_goes 20 = .ok (.ifCond .eq 9, 3) := dk_153 0 9 (dk_at dksX2_goes_0 20 rfl rfl)
theorem dX2_goes_23 : decode cX2_goes 23 = .ok (.iinc 3 1, 3) := dk_132 3 1 (dk_at dksX2_goes_1 0 rfl rfl)
theorem dX2_goes_26 : decode cX2_goes 26 = .ok (.goto (-24), 3) := dk_167 255 232 (dk_at dksX2_goes_1 3 rfl rfl)
theorem dX2_goes_29 : decode cX2_goes 29 = .ok (.iload_n 3, 1) := dk_29 (dk_at dksX2_goes_1 6 rfl rfl)
theorem dX2_goes_30 : decode cX2_goes 30 = .ok (.aload_n 0, 1) := dk_42 (dk_at dksX2_goes_1 7 rfl rfl)
theorem dX2_goes_31 : decode cX2_goes 31 = .ok (.getfield 28, 3) := dk_180 0 28 (dk_at dksX2_goes_1 8 rfl rfl)
theorem dX2_goes_34 : decode cX2_goes 34 = .ok (.if_icmp .ne 28, 3) := dk_160 0 28 (dk_at dksX2_goes_1 11 rfl rfl)
theorem dX2_goes_37 : decode cX2_goes 37 = .ok (.aload_n 0, 1) := dk_42 (dk_at dksX2_goes_1 14 rfl rfl)
theorem dX2_goes_38 : decode cX2_goes 38 = .ok (.aload_n 0, 1) := dk_42 (dk_at dksX2_goes_1 15 rfl rfl)
theorem dX2_goes_39 : decode cX2_goes 39 = .ok (.getfield 72, 3) := dk_180 0 72 (dk_at dksX2_goes_1 16 rfl rfl)
theorem dX2_goes_42 : decode cX2_goes 42 = .ok (.iload_n 2, 1) := dk_28 (dk_at dksX2_goes_1 19 rfl rfl)
theorem dX2_goes_43 : decode cX2_goes 43 = .ok (.invokestatic 52, 3) := dk_184 0 52 (dk_at dksX2_goes_1 20 rfl rfl)
theorem dX2_goes_46 : decode cX2_goes 46 = .ok (.putfield 72, 3) := dk_181 0 72 (dk_at dksX2_goes_2 0 rfl rfl)
theorem dX2_goes_49 : decode cX2_goes 49 = .ok (.aload_n 0, 1) := dk_42 (dk_at dksX2_goes_2 3 rfl rfl)
theorem dX2_goes_50 : decode cX2_goes 50 = .ok (.aload_n 0, 1) := dk_42 (dk_at dksX2_goes_2 4 rfl rfl)
theorem dX2_goes_51 : decode cX2_goes 51 = .ok (.getfield 75, 3) := dk_180 0 75 (dk_at dksX2_goes_2 5 rfl rfl)
theorem dX2_goes_54 : decode cX2_goes 54 = .ok (.iload_n 2, 1) := dk_28 (dk_at dksX2_goes_2 8 rfl rfl)
theorem dX2_goes_55 : decode cX2_goes 55 = .ok (.invokestatic 82, 3) := dk_184 0 82 (dk_at dksX2_goes_2 9 rfl rfl)
theorem dX2_goes_58 : decode cX2_goes 58 = .ok (.putfield 75, 3) := dk_181 0 75 (dk_at dksX2_goes_2 12 rfl rfl)
theorem dX2_goes_61 : decode cX2_goes 61 = .ok (.return_, 1) := dk_177 (dk_at dksX2_goes_2 15 rfl rfl)
theorem dX2_goes_62 : decode cX2_goes 62 = .ok (.iload_n 3, 1) := dk_29 (dk_at dksX2_goes_2 16 rfl rfl)
theorem dX2_goes_63 : decode cX2_goes 63 = .ok (.istore 4, 2) := dk_54 4 (dk_at dksX2_goes_2 17 rfl rfl)
theorem dX2_goes_65 : decode cX2_goes 65 = .ok (.iload 4, 2) := dk_21 4 (dk_at dksX2_goes_2 19 rfl rfl)
theorem dX2_goes_67 : decode cX2_goes 67 = .ok (.aload_n 0, 1) := dk_42 (dk_at dksX2_goes_2 21 rfl rfl)
theorem dX2_goes_68 : decode cX2_goes 68 = .ok (.getfield 28, 3) := dk_180 0 28 (dk_at dksX2_goes_3 0 rfl rfl)
theorem dX2_goes_71 : decode cX2_goes 71 = .ok (.if_icmp .ge 70, 3) := dk_162 0 70 (dk_at dksX2_goes_3 3 rfl rfl)
theorem dX2_goes_74 : decode cX2_goes 74 = .ok (.aload_n 0, 1) := dk_42 (dk_at dksX2_goes_3 6 rfl rfl)
theorem dX2_goes_75 : decode cX2_goes 75 = .ok (.getfield 15, 3) := dk_180 0 15 (dk_at dksX2_goes_3 7 rfl rfl)
theorem dX2_goes_78 : decode cX2_goes 78 = .ok (.iload 4, 2) := dk_21 4 (dk_at dksX2_goes_3 10 rfl rfl)
theorem dX2_goes_80 : decode cX2_goes 80 = .ok (.iaload, 1) := dk_46 (dk_at dksX2_goes_3 12 rfl rfl)
theorem dX2_goes_81 : decode cX2_goes 81 = .ok (.iload_n 1, 1) := dk_27 (dk_at dksX2_goes_3 13 rfl rfl)
theorem dX2_goes_82 : decode cX2_goes 82 = .ok (.iconst (-1), 1) := dk_2 (dk_at dksX2_goes_3 14 rfl rfl)
theorem dX2_goes_83 : decode cX2_goes 83 = .ok (.ixor, 1) := dk_130 (dk_at dksX2_goes_3 15 rfl rfl)
theorem dX2_goes_84 : decode cX2_goes 84 = .ok (.iand, 1) := dk_126 (dk_at dksX2_goes_3 16 rfl rfl)
theorem dX2_goes_85 : decode cX2_goes 85 = .ok (.ifCond .ne 7, 3) := dk_154 0 7 (dk_at dksX2_goes_3 17 rfl rfl)
theorem dX2_goes_88 : decode cX2_goes 88 = .ok (.iconst 1, 1) := dk_4 (dk_at dksX2_goes_3 20 rfl rfl)
theorem dX2_goes_89 : decode cX2_goes 89 = .ok (.goto 4, 3) := dk_167 0 4 (dk_at dksX2_goes_3 21 rfl rfl)
theorem dX2_goes_92 : decode cX2_goes 92 = .ok (.iconst 0, 1) := dk_3 (dk_at dksX2_goes_4 0 rfl rfl)
theorem dX2_goes_93 : decode cX2_goes 93 = .ok (.istore 5, 2) := dk_54 5 (dk_at dksX2_goes_4 1 rfl rfl)
theorem dX2_goes_95 : decode cX2_goes 95 = .ok (.iload 5, 2) := dk_21 5 (dk_at dksX2_goes_4 3 rfl rfl)
theorem dX2_goes_97 : decode cX2_goes 97 = .ok (.ifCond .eq 38, 3) := dk_153 0 38 (dk_at dksX2_goes_4 5 rfl rfl)
theorem dX2_goes_100 : decode cX2_goes 100 = .ok (.aload_n 0, 1) := dk_42 (dk_at dksX2_goes_4 8 rfl rfl)
theorem dX2_goes_101 : decode cX2_goes 101 = .ok (.getfield 15, 3) := dk_180 0 15 (dk_at dksX2_goes_4 9 rfl rfl)
theorem dX2_goes_104 : decode cX2_goes 104 = .ok (.iload 4, 2) := dk_21 4 (dk_at dksX2_goes_4 12 rfl rfl)
theorem dX2_goes_106 : decode cX2_goes 106 = .ok (.iaload, 1) := dk_46 (dk_at dksX2_goes_4 14 rfl rfl)
theorem dX2_goes_107 : decode cX2_goes 107 = .ok (.aload_n 0, 1) := dk_42 (dk_at dksX2_goes_4 15 rfl rfl)
theorem dX2_goes_108 : decode cX2_goes 108 = .ok (.getfield 15, 3) := dk_180 0 15 (dk_at dksX2_goes_4 16 rfl rfl)
theorem dX2_goes_111 : decode cX2_goes 111 = .ok (.iload_n 3, 1) := dk_29 (dk_at dksX2_goes_4 19 rfl rfl)
theorem dX2_goes_112 : decode cX2_goes 112 = .ok (.iaload, 1) := dk_46 (dk_at dksX2_goes_4 20 rfl rfl)
theorem dX2_goes_113 : decode cX2_goes 113 = .ok (.iand, 1) := dk_126 (dk_at dksX2_goes_4 21 rfl rfl)
theorem dX2_goes_114 : decode cX2_goes 114 = .ok (.ifCond .eq 21, 3) := dk_153 0 21 (dk_at dksX2_goes_5 0 rfl rfl)
theorem dX2_goes_117 : decode cX2_goes 117 = .ok (.aload_n 0, 1) := dk_42 (dk_at dksX2_goes_5 3 rfl rfl)
theorem dX2_goes_118 : decode cX2_goes 118 = .ok (.iload_n 1, 1) := dk_27 (dk_at dksX2_goes_5 4 rfl rfl)
theorem dX2_goes_119 : decode cX2_goes 119 = .ok (.aload_n 0, 1) := dk_42 (dk_at dksX2_goes_5 5 rfl rfl)
theorem dX2_goes_120 : decode cX2_goes 120 = .ok (.getfield 15, 3) := dk_180 0 15 (dk_at dksX2_goes_5 6 rfl rfl)
theorem dX2_goes_123 : decode cX2_goes 123 = .ok (.iload 4, 2) := dk_21 4 (dk_at dksX2_goes_5 9 rfl rfl)
theorem dX2_goes_125 : decode cX2_goes 125 = .ok (.iaload, 1) := dk_46 (dk_at dksX2_goes_5 11 rfl rfl)
theorem dX2_goes_126 : decode cX2_goes 126 = .ok (.iconst (-1), 1) := dk_2 (dk_at dksX2_goes_5 12 rfl rfl)
theorem dX2_goes_127 : decode cX2_goes 127 = .ok (.ixor, 1) := dk_130 (dk_at dksX2_goes_5 13 rfl rfl)
theorem dX2_goes_128 : decode cX2_goes 128 = .ok (.iand, 1) := dk_126 (dk_at dksX2_goes_5 14 rfl rfl)
theorem dX2_goes_129 : decode cX2_goes 129 = .ok (.iload_n 2, 1) := dk_28 (dk_at dksX2_goes_5 15 rfl rfl)
theorem dX2_goes_130 : decode cX2_goes 130 = .ok (.iconst 1, 1) := dk_4 (dk_at dksX2_goes_5 16 rfl rfl)
theorem dX2_goes_131 : decode cX2_goes 131 = .ok (.iadd, 1) := dk_96 (dk_at dksX2_goes_5 17 rfl rfl)
theorem dX2_goes_132 : decode cX2_goes 132 = .ok (.invokevirtual 78, 3) := dk_182 0 78 (dk_at dksX2_goes_5 18 rfl rfl)
theorem dX2_goes_135 : decode cX2_goes 135 = .ok (.iinc 4 1, 3) := dk_132 4 1 (dk_at dksX2_goes_5 21 rfl rfl)
theorem dX2_goes_138 : decode cX2_goes 138 = .ok (.goto (-73), 3) := dk_167 255 183 (dk_at dksX2_goes_6 0 rfl rfl)
theorem dX2_goes_141 : decode cX2_goes 141 = .ok (.return_, 1) := dk_177 (dk_at dksX2_goes_6 3 rfl rfl)
theorem q83 : (Jvm.Cond.initialized "ThreeStrangers$Groups") ∈ lw_all := lw_g (lw_at lw_m1 3 rfl) rfl
theorem q136 : (Jvm.Cond.fieldLink "ThreeStrangers$Groups" (85 : Nat) "ThreeStrangers$Town" "cost" "[I") ∈ lw_all := lw_g (lw_at lw_m1 56 rfl) rfl
theorem q140 : (Jvm.Cond.fieldLink "ThreeStrangers$Groups" (32 : Nat) "ThreeStrangers$Town" "people" "I") ∈ lw_all := lw_g (lw_at lw_m1 60 rfl) rfl
theorem q146 : (Jvm.Cond.fieldLink "ThreeStrangers$Groups" (63 : Nat) "ThreeStrangers$Town" "seats" "I") ∈ lw_all := lw_g (lw_at lw_m1 66 rfl) rfl
theorem q183 : (Jvm.Cond.instantiable "ThreeStrangers$Groups" (8 : Nat)) ∈ lw_all := lw_g (lw_at lw_m1 103 rfl) rfl
theorem q185 : (Jvm.Cond.instanceMethod ({ cls := "ThreeStrangers$Groups", name := "<init>", desc := "()V" } : Jvm.MethodName)) ∈ lw_all := lw_g (lw_at lw_m1 105 rfl) rfl
theorem q186 : (Jvm.Cond.code ({ cls := "ThreeStrangers$Groups", name := "<init>", desc := "()V" } : Jvm.MethodName) prog_8_method_1_code (1 : Nat) (Option.none : Option Jvm.ClassFile.FieldType)) ∈ lw_all := lw_g (lw_at lw_m1 106 rfl) rfl
theorem q187 : (Jvm.Cond.methodLink "ThreeStrangers$Groups" (3 : Nat) ({ cls := "java/lang/Object", name := "<init>", desc := "()V" } : Jvm.MethodName)) ∈ lw_all := lw_g (lw_at lw_m1 107 rfl) rfl
theorem q188 : (Jvm.Cond.fieldLink "ThreeStrangers$Groups" (9 : Nat) "ThreeStrangers$Groups" "group" "[I") ∈ lw_all := lw_g (lw_at lw_m1 108 rfl) rfl
theorem q191 : (Jvm.Cond.fieldLink "ThreeStrangers$Groups" (15 : Nat) "ThreeStrangers$Groups" "pairs" "[I") ∈ lw_all := lw_g (lw_at lw_m1 111 rfl) rfl
theorem q192 : (Jvm.Cond.fieldLink "ThreeStrangers$Groups" (18 : Nat) "ThreeStrangers$Groups" "most" "[I") ∈ lw_all := lw_g (lw_at lw_m1 112 rfl) rfl
theorem q193 : (Jvm.Cond.fieldLink "ThreeStrangers$Groups" (21 : Nat) "ThreeStrangers$Groups" "strangers" "[I") ∈ lw_all := lw_g (lw_at lw_m1 113 rfl) rfl
theorem q194 : (Jvm.Cond.fieldLink "ThreeStrangers$Groups" (24 : Nat) "ThreeStrangers$Groups" "town" "LThreeStrangers$Town;") ∈ lw_all := lw_g (lw_at lw_m1 114 rfl) rfl
theorem q195 : (Jvm.Cond.fieldLink "ThreeStrangers$Groups" (28 : Nat) "ThreeStrangers$Groups" "many" "I") ∈ lw_all := lw_g (lw_at lw_m1 115 rfl) rfl
theorem q198 : (Jvm.Cond.fieldLink "ThreeStrangers$Groups" (72 : Nat) "ThreeStrangers$Groups" "longest" "I") ∈ lw_all := lw_g (lw_at lw_m1 118 rfl) rfl
theorem q200 : (Jvm.Cond.fieldLink "ThreeStrangers$Groups" (75 : Nat) "ThreeStrangers$Groups" "soonest" "I") ∈ lw_all := lw_g (lw_at lw_m1 120 rfl) rfl
theorem q202 : (Jvm.Cond.laysFinal "ThreeStrangers$Groups" "ThreeStrangers$Groups" "group" "[I") ∈ lw_all := lw_g (lw_at lw_m1 122 rfl) rfl
theorem q203 : (Jvm.Cond.soleField "ThreeStrangers$Groups" "group") ∈ lw_all := lw_g (lw_at lw_m1 123 rfl) rfl
theorem q204 : (Jvm.Cond.laysFinal "ThreeStrangers$Groups" "ThreeStrangers$Groups" "pairs" "[I") ∈ lw_all := lw_g (lw_at lw_m1 124 rfl) rfl
theorem q205 : (Jvm.Cond.soleField "ThreeStrangers$Groups" "pairs") ∈ lw_all := lw_g (lw_at lw_m1 125 rfl) rfl
theorem q206 : (Jvm.Cond.laysFinal "ThreeStrangers$Groups" "ThreeStrangers$Groups" "most" "[I") ∈ lw_all := lw_g (lw_at lw_m1 126 rfl) rfl
theorem q207 : (Jvm.Cond.soleField "ThreeStrangers$Groups" "most") ∈ lw_all := lw_g (lw_at lw_m1 127 rfl) rfl
theorem q208 : (Jvm.Cond.laysFinal "ThreeStrangers$Groups" "ThreeStrangers$Groups" "strangers" "[I") ∈ lw_all := lw_g (lw_at lw_m1 128 rfl) rfl
theorem q209 : (Jvm.Cond.soleField "ThreeStrangers$Groups" "strangers") ∈ lw_all := lw_g (lw_at lw_m1 129 rfl) rfl
theorem q210 : (Jvm.Cond.lays "ThreeStrangers$Groups" "ThreeStrangers$Groups" "town" "LThreeStrangers$Town;") ∈ lw_all := lw_g (lw_at lw_m1 130 rfl) rfl
theorem q211 : (Jvm.Cond.soleField "ThreeStrangers$Groups" "town") ∈ lw_all := lw_g (lw_at lw_m1 131 rfl) rfl
theorem q212 : (Jvm.Cond.lays "ThreeStrangers$Groups" "ThreeStrangers$Groups" "many" "I") ∈ lw_all := lw_g (lw_at lw_m1 132 rfl) rfl
theorem q213 : (Jvm.Cond.soleField "ThreeStrangers$Groups" "many") ∈ lw_all := lw_g (lw_at lw_m1 133 rfl) rfl
theorem q214 : (Jvm.Cond.lays "ThreeStrangers$Groups" "ThreeStrangers$Groups" "longest" "I") ∈ lw_all := lw_g (lw_at lw_m1 134 rfl) rfl
theorem q215 : (Jvm.Cond.soleField "ThreeStrangers$Groups" "longest") ∈ lw_all := lw_g (lw_at lw_m1 135 rfl) rfl
theorem q216 : (Jvm.Cond.lays "ThreeStrangers$Groups" "ThreeStrangers$Groups" "soonest" "I") ∈ lw_all := lw_g (lw_at lw_m1 136 rfl) rfl
theorem q217 : (Jvm.Cond.soleField "ThreeStrangers$Groups" "soonest") ∈ lw_all := lw_g (lw_at lw_m1 137 rfl) rfl
theorem q218 : (Jvm.Cond.superclass "ThreeStrangers$Groups" "java/lang/Object") ∈ lw_all := lw_g (lw_at lw_m1 138 rfl) rfl
theorem q631 : (Jvm.Cond.instanceMethod ({ cls := "ThreeStrangers$Groups", name := "of", desc := "(LThreeStrangers$Town;)LThreeStrangers$Groups;" } : Jvm.MethodName)) ∈ lw_all := lw_g (lw_at lw_m3 71 rfl) rfl
theorem q632 : (Jvm.Cond.selects "ThreeStrangers$Groups" ({ cls := "ThreeStrangers$Groups", name := "of", desc := "(LThreeStrangers$Town;)LThreeStrangers$Groups;" } : Jvm.MethodName) ({ cls := "ThreeStrangers$Groups", name := "of", desc := "(LThreeStrangers$Town;)LThreeStrangers$Groups;" } : Jvm.MethodName)) ∈ lw_all := lw_g (lw_at lw_m3 72 rfl) rfl
theorem q633 : (Jvm.Cond.code ({ cls := "ThreeStrangers$Groups", name := "of", desc := "(LThreeStrangers$Town;)LThreeStrangers$Groups;" } : Jvm.MethodName) prog_8_method_2_code (5 : Nat) (Option.some (Jvm.ClassFile.FieldType.object "ThreeStrangers$Groups"))) ∈ lw_all := lw_g (lw_at lw_m3 73 rfl) rfl
theorem q634 : (Jvm.Cond.methodLink "ThreeStrangers$Groups" (37 : Nat) ({ cls := "ThreeStrangers$Town", name := "strangers", desc := "(I)I" } : Jvm.MethodName)) ∈ lw_all := lw_g (lw_at lw_m3 74 rfl) rfl
theorem q642 : (Jvm.Cond.methodLink "ThreeStrangers$Groups" (40 : Nat) ({ cls := "ThreeStrangers$Town", name := "all", desc := "()I" } : Jvm.MethodName)) ∈ lw_all := lw_g (lw_at lw_m3 82 rfl) rfl
theorem q646 : (Jvm.Cond.methodLink "ThreeStrangers$Groups" (44 : Nat) ({ cls := "ThreeStrangers$Groups", name := "adds", desc := "(III)V" } : Jvm.MethodName)) ∈ lw_all := lw_g (lw_at lw_m3 86 rfl) rfl
theorem q647 : (Jvm.Cond.privateMethod ({ cls := "ThreeStrangers$Groups", name := "adds", desc := "(III)V" } : Jvm.MethodName)) ∈ lw_tbl := lw_at lw_m3 87 rfl
theorem q648 : (Jvm.Cond.instanceMethod ({ cls := "ThreeStrangers$Groups", name := "adds", desc := "(III)V" } : Jvm.MethodName)) ∈ lw_all := lw_g (lw_at lw_m3 88 rfl) rfl
theorem q649 : (Jvm.Cond.code ({ cls := "ThreeStrangers$Groups", name := "adds", desc := "(III)V" } : Jvm.MethodName) prog_8_method_3_code (5 : Nat) (Option.none : Option Jvm.ClassFile.FieldType)) ∈ lw_all := lw_g (lw_at lw_m3 89 rfl) rfl
theorem q650 : (Jvm.Cond.methodLink "ThreeStrangers$Groups" (58 : Nat) ({ cls := "java/lang/Integer", name := "bitCount", desc := "(I)I" } : Jvm.MethodName)) ∈ lw_all := lw_g (lw_at lw_m3 90 rfl) rfl
theorem q656 : (Jvm.Cond.methodLink "ThreeStrangers$Groups" (66 : Nat) ({ cls := "ThreeStrangers$Groups", name := "pairsOf", desc := "(I)I" } : Jvm.MethodName)) ∈ lw_all := lw_g (lw_at lw_m3 96 rfl) rfl
theorem q657 : (Jvm.Cond.static ({ cls := "ThreeStrangers$Groups", name := "pairsOf", desc := "(I)I" } : Jvm.MethodName)) ∈ lw_all := lw_g (lw_at lw_m3 97 rfl) rfl
theorem q658 : (Jvm.Cond.code ({ cls := "ThreeStrangers$Groups", name := "pairsOf", desc := "(I)I" } : Jvm.MethodName) prog_8_method_4_code (4 : Nat) (Option.some Jvm.ClassFile.FieldType.int)) ∈ lw_all := lw_g (lw_at lw_m3 98 rfl) rfl
theorem q659 : (Jvm.Cond.methodLinkNest "ThreeStrangers$Groups" (69 : Nat) ({ cls := "ThreeStrangers", name := "has", desc := "(II)Z" } : Jvm.MethodName) "ThreeStrangers") ∈ lw_tbl := lw_at lw_m3 99 rfl
theorem q662 : (Jvm.Cond.methodLink "ThreeStrangers$Groups" (48 : Nat) ({ cls := "ThreeStrangers$Groups", name := "isOf", desc := "(II)Z" } : Jvm.MethodName)) ∈ lw_all := lw_g (lw_at lw_m3 102 rfl) rfl
theorem q663 : (Jvm.Cond.instanceMethod ({ cls := "ThreeStrangers$Groups", name := "isOf", desc := "(II)Z" } : Jvm.MethodName)) ∈ lw_all := lw_g (lw_at lw_m3 103 rfl) rfl
theorem q664 : (Jvm.Cond.selects "ThreeStrangers$Groups" ({ cls := "ThreeStrangers$Groups", name := "isOf", desc := "(II)Z" } : Jvm.MethodName) ({ cls := "ThreeStrangers$Groups", name := "isOf", desc := "(II)Z" } : Jvm.MethodName)) ∈ lw_all := lw_g (lw_at lw_m3 104 rfl) rfl
theorem q665 : (Jvm.Cond.code ({ cls := "ThreeStrangers$Groups", name := "isOf", desc := "(II)Z" } : Jvm.MethodName) prog_8_method_5_code (3 : Nat) (Option.some Jvm.ClassFile.FieldType.boolean)) ∈ lw_all := lw_g (lw_at lw_m3 105 rfl) rfl
theorem q666 : (Jvm.Cond.methodLink "ThreeStrangers$Groups" (52 : Nat) ({ cls := "java/lang/Math", name := "max", desc := "(II)I" } : Jvm.MethodName)) ∈ lw_all := lw_g (lw_at lw_m3 106 rfl) rfl
theorem q691 : (Jvm.Cond.instanceMethod ({ cls := "ThreeStrangers$Groups", name := "best", desc := "(I)I" } : Jvm.MethodName)) ∈ lw_all := lw_g (lw_at lw_m3 131 rfl) rfl
theorem q692 : (Jvm.Cond.selects "ThreeStrangers$Groups" ({ cls := "ThreeStrangers$Groups", name := "best", desc := "(I)I" } : Jvm.MethodName) ({ cls := "ThreeStrangers$Groups", name := "best", desc := "(I)I" } : Jvm.MethodName)) ∈ lw_all := lw_g (lw_at lw_m3 132 rfl) rfl
theorem q693 : (Jvm.Cond.code ({ cls := "ThreeStrangers$Groups", name := "best", desc := "(I)I" } : Jvm.MethodName) prog_8_method_10_code (3 : Nat) (Option.some Jvm.ClassFile.FieldType.int)) ∈ lw_all := lw_g (lw_at lw_m3 133 rfl) rfl
theorem q710 : (Jvm.Cond.instanceMethod ({ cls := "ThreeStrangers$Groups", name := "strangersOf", desc := "(I)I" } : Jvm.MethodName)) ∈ lw_all := lw_g (lw_at lw_m3 150 rfl) rfl
theorem q711 : (Jvm.Cond.selects "ThreeStrangers$Groups" ({ cls := "ThreeStrangers$Groups", name := "strangersOf", desc := "(I)I" } : Jvm.MethodName) ({ cls := "ThreeStrangers$Groups", name := "strangersOf", desc := "(I)I" } : Jvm.MethodName)) ∈ lw_all := lw_g (lw_at lw_m3 151 rfl) rfl
theorem q712 : (Jvm.Cond.code ({ cls := "ThreeStrangers$Groups", name := "strangersOf", desc := "(I)I" } : Jvm.MethodName) prog_8_method_14_code (4 : Nat) (Option.some Jvm.ClassFile.FieldType.int)) ∈ lw_all := lw_g (lw_at lw_m3 152 rfl) rfl
theorem q715 : (Jvm.Cond.instanceMethod ({ cls := "ThreeStrangers$Groups", name := "costOf", desc := "(I)I" } : Jvm.MethodName)) ∈ lw_all := lw_g (lw_at lw_m3 155 rfl) rfl
theorem q716 : (Jvm.Cond.selects "ThreeStrangers$Groups" ({ cls := "ThreeStrangers$Groups", name := "costOf", desc := "(I)I" } : Jvm.MethodName) ({ cls := "ThreeStrangers$Groups", name := "costOf", desc := "(I)I" } : Jvm.MethodName)) ∈ lw_all := lw_g (lw_at lw_m3 156 rfl) rfl
theorem q717 : (Jvm.Cond.code ({ cls := "ThreeStrangers$Groups", name := "costOf", desc := "(I)I" } : Jvm.MethodName) prog_8_method_13_code (4 : Nat) (Option.some Jvm.ClassFile.FieldType.int)) ∈ lw_all := lw_g (lw_at lw_m3 157 rfl) rfl
theorem q725 : (Jvm.Cond.instanceMethod ({ cls := "ThreeStrangers$Groups", name := "first", desc := "(I)I" } : Jvm.MethodName)) ∈ lw_all := lw_g (lw_at lw_m3 165 rfl) rfl
theorem q726 : (Jvm.Cond.selects "ThreeStrangers$Groups" ({ cls := "ThreeStrangers$Groups", name := "first", desc := "(I)I" } : Jvm.MethodName) ({ cls := "ThreeStrangers$Groups", name := "first", desc := "(I)I" } : Jvm.MethodName)) ∈ lw_all := lw_g (lw_at lw_m3 166 rfl) rfl
theorem q727 : (Jvm.Cond.code ({ cls := "ThreeStrangers$Groups", name := "first", desc := "(I)I" } : Jvm.MethodName) prog_8_method_9_code (3 : Nat) (Option.some Jvm.ClassFile.FieldType.int)) ∈ lw_all := lw_g (lw_at lw_m3 167 rfl) rfl
theorem q1174 : (Jvm.Cond.instanceMethod ({ cls := "ThreeStrangers$Groups", name := "has1", desc := "(I)Z" } : Jvm.MethodName)) ∈ lw_all := lw_g (lw_at lw_m5 134 rfl) rfl
theorem q1175 : (Jvm.Cond.selects "ThreeStrangers$Groups" ({ cls := "ThreeStrangers$Groups", name := "has1", desc := "(I)Z" } : Jvm.MethodName) ({ cls := "ThreeStrangers$Groups", name := "has1", desc := "(I)Z" } : Jvm.MethodName)) ∈ lw_all := lw_g (lw_at lw_m5 135 rfl) rfl
theorem q1176 : (Jvm.Cond.code ({ cls := "ThreeStrangers$Groups", name := "has1", desc := "(I)Z" } : Jvm.MethodName) prog_8_method_8_code (3 : Nat) (Option.some Jvm.ClassFile.FieldType.boolean)) ∈ lw_all := lw_g (lw_at lw_m5 136 rfl) rfl
theorem q1182 : (Jvm.Cond.instanceMethod ({ cls := "ThreeStrangers$Groups", name := "many", desc := "(I)I" } : Jvm.MethodName)) ∈ lw_all := lw_g (lw_at lw_m5 142 rfl) rfl
theorem q1183 : (Jvm.Cond.selects "ThreeStrangers$Groups" ({ cls := "ThreeStrangers$Groups", name := "many", desc := "(I)I" } : Jvm.MethodName) ({ cls := "ThreeStrangers$Groups", name := "many", desc := "(I)I" } : Jvm.MethodName)) ∈ lw_all := lw_g (lw_at lw_m5 143 rfl) rfl
theorem q1184 : (Jvm.Cond.code ({ cls := "ThreeStrangers$Groups", name := "many", desc := "(I)I" } : Jvm.MethodName) prog_8_method_7_code (4 : Nat) (Option.some Jvm.ClassFile.FieldType.int)) ∈ lw_all := lw_g (lw_at lw_m5 144 rfl) rfl
theorem q1195 : (Jvm.Cond.instanceMethod ({ cls := "ThreeStrangers$Groups", name := "most", desc := "(I)I" } : Jvm.MethodName)) ∈ lw_all := lw_g (lw_at lw_m5 155 rfl) rfl
theorem q1196 : (Jvm.Cond.selects "ThreeStrangers$Groups" ({ cls := "ThreeStrangers$Groups", name := "most", desc := "(I)I" } : Jvm.MethodName) ({ cls := "ThreeStrangers$Groups", name := "most", desc := "(I)I" } : Jvm.MethodName)) ∈ lw_all := lw_g (lw_at lw_m5 156 rfl) rfl
theorem q1197 : (Jvm.Cond.code ({ cls := "ThreeStrangers$Groups", name := "most", desc := "(I)I" } : Jvm.MethodName) prog_8_method_6_code (2 : Nat) (Option.some Jvm.ClassFile.FieldType.int)) ∈ lw_all := lw_g (lw_at lw_m5 157 rfl) rfl
theorem q1299 : (Jvm.Cond.instanceMethod ({ cls := "ThreeStrangers$Groups", name := "ever", desc := "()LThreeStrangers$Groups;" } : Jvm.MethodName)) ∈ lw_all := lw_g (lw_at lw_m6 19 rfl) rfl
theorem q1300 : (Jvm.Cond.selects "ThreeStrangers$Groups" ({ cls := "ThreeStrangers$Groups", name := "ever", desc := "()LThreeStrangers$Groups;" } : Jvm.MethodName) ({ cls := "ThreeStrangers$Groups", name := "ever", desc := "()LThreeStrangers$Groups;" } : Jvm.MethodName)) ∈ lw_all := lw_g (lw_at lw_m6 20 rfl) rfl
theorem q1301 : (Jvm.Cond.code ({ cls := "ThreeStrangers$Groups", name := "ever", desc := "()LThreeStrangers$Groups;" } : Jvm.MethodName) prog_8_method_11_code (3 : Nat) (Option.some (Jvm.ClassFile.FieldType.object "ThreeStrangers$Groups"))) ∈ lw_all := lw_g (lw_at lw_m6 21 rfl) rfl
theorem q1302 : (Jvm.Cond.methodLink "ThreeStrangers$Groups" (78 : Nat) ({ cls := "ThreeStrangers$Groups", name := "goes", desc := "(II)V" } : Jvm.MethodName)) ∈ lw_all := lw_g (lw_at lw_m6 22 rfl) rfl
theorem q1303 : (Jvm.Cond.privateMethod ({ cls := "ThreeStrangers$Groups", name := "goes", desc := "(II)V" } : Jvm.MethodName)) ∈ lw_tbl := lw_at lw_m6 23 rfl
theorem q1304 : (Jvm.Cond.instanceMethod ({ cls := "ThreeStrangers$Groups", name := "goes", desc := "(II)V" } : Jvm.MethodName)) ∈ lw_all := lw_g (lw_at lw_m6 24 rfl) rfl
theorem q1305 : (Jvm.Cond.code ({ cls := "ThreeStrangers$Groups", name := "goes", desc := "(II)V" } : Jvm.MethodName) prog_8_method_12_code (6 : Nat) (Option.none : Option Jvm.ClassFile.FieldType)) ∈ lw_all := lw_g (lw_at lw_m6 25 rfl) rfl
theorem q1306 : (Jvm.Cond.methodLink "ThreeStrangers$Groups" (82 : Nat) ({ cls := "java/lang/Math", name := "min", desc := "(II)I" } : Jvm.MethodName)) ∈ lw_all := lw_g (lw_at lw_m6 26 rfl) rfl
theorem in_X2 : ∀ w ∈ wsX20, w ∈ lw_all := lw_in wsX20 [202, 204, 206, 208, 210, 212, 214, 216] (by decide +kernel) (by decide +kernel)
/-! ThreeStrangers$Day -/
set_option maxRecDepth 100000
def RX3 : String := "ThreeStrangers$Day"
def TX3 : u_T := fun k => match k with
  | 0 => ("ThreeStrangers$Day", "order", "[I", true)
  | 1 => ("ThreeStrangers$Day", "coach", "[I", true)
  | 2 => ("ThreeStrangers$Day", "waits", "[I", true)
  | 3 => ("ThreeStrangers$Day", "town", "LThreeStrangers$Town;", false)
  | 4 => ("ThreeStrangers$Day", "groups", "LThreeStrangers$Groups;", false)
  | 5 => ("ThreeStrangers$Day", "coaches", "I", false)
  | _ => ("ThreeStrangers$Day", "left", "I", false)
def tyX3 : Nat → FieldType := fun k => match k with
  | 0 => .array .int
  | 1 => .array .int
  | 2 => .array .int
  | 3 => .object "ThreeStrangers$Town"
  | 4 => .object "ThreeStrangers$Groups"
  | 5 => .int
  | _ => .int
abbrev wsX30 : List Cond := u_ws RX3 TX3 7
theorem nmX3 : ∀ a, a < 7 → ∀ b, b < 7 → a ≠ b → (TX3 a).2.1 ≠ (TX3 b).2.1 := by decide +kernel
theorem tyX3_ok : ∀ k, k < 7 → parseFieldDescriptor (TX3 k).2.2.1 = some (tyX3 k) := by decide +kernel
abbrev cX3_init : ByteArray := prog_5_method_1_code
def yX3_init : MethodName := ⟨RX3, "<init>", "()V"⟩
def dkwX3_init_1 : List UInt8 := [188, 10, 181, 0, 18, 177]
abbrev dktX3_init_1 : List UInt8 := dkwX3_init_1 ++ []
def dkwX3_init_0 : List UInt8 := [42, 183, 0, 3, 42, 16, 7, 188, 10, 181, 0, 9, 42, 16, 7, 188, 10, 181, 0, 15, 42, 16, 7]
abbrev dktX3_init_0 : List UInt8 := dkwX3_init_0 ++ dktX3_init_1
theorem dksX3_init_0 : cX3_init.data.toList.drop 0 = dktX3_init_0 := by decide +kernel
theorem dksX3_init_1 : cX3_init.data.toList.drop 23 = dktX3_init_1 := dk_seg dksX3_init_0 23 rfl rfl
theorem dX3_init_0 : decode cX3_init 0 = .ok (.aload_n 0, 1) := dk_42 (dk_at dksX3_init_0 0 rfl rfl)
theorem dX3_init_1 : decode cX3_init 1 = .ok (.invokespecial 3, 3) := dk_183 0 3 (dk_at dksX3_init_0 1 rfl rfl)
theorem dX3_init_4 : decode cX3_init 4 = .ok (.aload_n 0, 1) := dk_42 (dk_at dksX3_init_0 4 rfl rfl)
theorem dX3_init_5 : decode cX3_init 5 = .ok (.bipush 7, 2) := dk_16 7 (dk_at dksX3_init_0 5 rfl rfl)
theorem dX3_init_7 : decode cX3_init 7 = .ok (.newarray .int, 2) := dk_188_10 (dk_at dksX3_init_0 7 rfl rfl)
theorem dX3_init_9 : decode cX3_init 9 = .ok (.putfield 9, 3) := dk_181 0 9 (dk_at dksX3_init_0 9 rfl rfl)
theorem dX3_init_12 : decode cX3_init 12 = .ok (.aload_n 0, 1) := dk_42 (dk_at dksX3_init_0 12 rfl rfl)
theorem dX3_init_13 : decode cX3_init 13 = .ok (.bipush 7, 2) := dk_16 7 (dk_at dksX3_init_0 13 rfl rfl)
theorem dX3_init_15 : decode cX3_init 15 = .ok (.newarray .int, 2) := dk_188_10 (dk_at dksX3_init_0 15 rfl rfl)
theorem dX3_init_17 : decode cX3_init 17 = .ok (.putfield 15, 3) := dk_181 0 15 (dk_at dksX3_init_0 17 rfl rfl)
theorem dX3_init_20 : decode cX3_init 20 = .ok (.aload_n 0, 1) := dk_42 (dk_at dksX3_init_0 20 rfl rfl)
theorem dX3_init_21 : decode cX3_init 21 = .ok (.bipush 7, 2) := dk_16 7 (dk_at dksX3_init_0 21 rfl rfl)
theorem dX3_init_23 : decode cX3_init 23 = .ok (.newarray .int, 2) := dk_188_10 (dk_at dksX3_init_1 0 rfl rfl)
theorem dX3_init_25 : decode cX3_init 25 = .ok (.putfield 18, 3) := dk_181 0 18 (dk_at dksX3_init_1 2 rfl rfl)
theorem dX3_init_28 : decode cX3_init 28 = .ok (.return_, 1) := dk_177 (dk_at dksX3_init_1 5 rfl rfl)
abbrev cX3_of : ByteArray := prog_5_method_2_code
def yX3_of : MethodName := ⟨RX3, "of", "(LThreeStrangers$Town;LThreeStrangers$Groups;LThreeStrangers$Coachman;)LThreeStrangers$Day;"⟩
def dkwX3_of_4 : List UInt8 := [21, 4, 181, 0, 48, 42, 42, 180, 0, 48, 16, 24, 182, 0, 51, 42, 176]
abbrev dktX3_of_4 : List UInt8 := dkwX3_of_4 ++ []
def dkwX3_of_3 : List UInt8 := [180, 0, 21, 180, 0, 36, 4, 100, 21, 5, 100, 182, 0, 44, 54, 4, 132, 5, 1, 167, 255, 191, 42]
abbrev dktX3_of_3 : List UInt8 := dkwX3_of_3 ++ dktX3_of_4
def dkwX3_of_2 : List UInt8 := [120, 128, 54, 4, 42, 45, 21, 4, 42, 180, 0, 21, 180, 0, 41, 42, 180, 0, 9, 21, 5, 46, 46, 42]
abbrev dktX3_of_2 : List UInt8 := dkwX3_of_2 ++ dktX3_of_3
def dkwX3_of_1 : List UInt8 := [54, 5, 21, 5, 42, 180, 0, 21, 180, 0, 36, 162, 0, 59, 21, 4, 4, 42, 180, 0, 9, 21, 5, 46]
abbrev dktX3_of_1 : List UInt8 := dkwX3_of_1 ++ dktX3_of_2
def dkwX3_of_0 : List UInt8 := [42, 43, 181, 0, 21, 42, 44, 181, 0, 25, 42, 3, 181, 0, 29, 3, 54, 4, 42, 182, 0, 33, 3]
abbrev dktX3_of_0 : List UInt8 := dkwX3_of_0 ++ dktX3_of_1
theorem dksX3_of_0 : cX3_of.data.toList.drop 0 = dktX3_of_0 := by decide +kernel
theorem dksX3_of_1 : cX3_of.data.toList.drop 23 = dktX3_of_1 := dk_seg dksX3_of_0 23 rfl rfl
theorem dksX3_of_2 : cX3_of.data.toList.drop 47 = dktX3_of_2 := dk_seg dksX3_of_1 24 rfl rfl
theorem dksX3_of_3 : cX3_of.data.toList.drop 71 = dktX3_of_3 := dk_seg dksX3_of_2 24 rfl rfl
theorem dksX3_of_4 : cX3_of.data.toList.drop 94 = dktX3_of_4 := dk_seg dksX3_of_3 23 rfl rfl
theorem dX3_of_0 : decode cX3_of 0 = .ok (.aload_n 0, 1) := dk_42 (dk_at dksX3_of_0 0 rfl rfl)
theorem dX3_of_1 : decode cX3_of 1 = .ok (.aload_n 1, 1) := dk_43 (dk_at dksX3_of_0 1 rfl rfl)
theorem dX3_of_2 : decode cX3_of 2 = .ok (.putfield 21, 3) := dk_181 0 21 (dk_at dksX3_of_0 2 rfl rfl)
theorem dX3_of_5 : decode cX3_of 5 = .ok (.aload_n 0, 1) := dk_42 (dk_at dksX3_of_0 5 rfl rfl)
theorem dX3_of_6 : decode cX3_of 6 = .ok (.aload_n 2, 1) := dk_44 (dk_at dksX3_of_0 6 rfl rfl)
theorem dX3_of_7 : decode cX3_of 7 = .ok (.putfield 25, 3) := dk_181 0 25 (dk_at dksX3_of_0 7 rfl rfl)
theorem dX3_of_10 : decode cX3_of 10 = .ok (.aload_n 0, 1) := dk_42 (dk_at dksX3_of_0 10 rfl rfl)
theorem dX3_of_11 : decode cX3_of 11 = .ok (.iconst 0, 1) := dk_3 (dk_at dksX3_of_0 11 rfl rfl)
theorem dX3_of_12 : decode cX3_of 12 = .ok (.putfield 29, 3) := dk_181 0 29 (dk_at dksX3_of_0 12 rfl rfl)
theorem dX3_of_15 : decode cX3_of 15 = .ok (.iconst 0, 1) := dk_3 (dk_at dksX3_of_0 15 rfl rfl)
theorem dX3_of_16 : decode cX3_of 16 = .ok (.istore 4, 2) := dk_54 4 (dk_at dksX3_of_0 16 rfl rfl)
theorem dX3_of_18 : decode cX3_of 18 = .ok (.aload_n 0, 1) := dk_42 (dk_at dksX3_of_0 18 rfl rfl)
theorem dX3_of_19 : decode cX3_of 19 = .ok (.invokevirtual 33, 3) := dk_182 0 33 (dk_at dksX3_of_0 19 rfl rfl)
theorem dX3_of_22 : decode cX3_of 22 = .ok (.iconst 0, 1) := dk_3 (dk_at dksX3_of_0 22 rfl rfl)
theorem dX3_of_23 : decode cX3_of 23 = .ok (.istore 5, 2) := dk_54 5 (dk_at dksX3_of_1 0 rfl rfl)
theorem dX3_of_25 : decode cX3_of 25 = .ok (.iload 5, 2) := dk_21 5 (dk_at dksX3_of_1 2 rfl rfl)
theorem dX3_of_27 : decode cX3_of 27 = .ok (.aload_n 0, 1) := dk_42 (dk_at dksX3_of_1 4 rfl rfl)
theorem dX3_of_28 : decode cX3_of 28 = .ok (.getfield 21, 3) := dk_180 0 21 (dk_at dksX3_of_1 5 rfl rfl)
theorem dX3_of_31 : decode cX3_of 31 = .ok (.getfield 36, 3) := dk_180 0 36 (dk_at dksX3_of_1 8 rfl rfl)
theorem dX3_of_34 : decode cX3_of 34 = .ok (.if_icmp .ge 59, 3) := dk_162 0 59 (dk_at dksX3_of_1 11 rfl rfl)
theorem dX3_of_37 : decode cX3_of 37 = .ok (.iload 4, 2) := dk_21 4 (dk_at dksX3_of_1 14 rfl rfl)
theorem dX3_of_39 : decode cX3_of 39 = .ok (.iconst 1, 1) := dk_4 (dk_at dksX3_of_1 16 rfl rfl)
theorem dX3_of_40 : decode cX3_of 40 = .ok (.aload_n 0, 1) := dk_42 (dk_at dksX3_of_1 17 rfl rfl)
theorem dX3_of_41 : decode cX3_of 41 = .ok (.getfield 9, 3) := dk_180 0 9 (dk_at dksX3_of_1 18 rfl rfl)
theorem dX3_of_44 : decode cX3_of 44 = .ok (.iload 5, 2) := dk_21 5 (dk_at dksX3_of_1 21 rfl rfl)
theorem dX3_of_46 : decode cX3_of 46 = .ok (.iaload, 1) := dk_46 (dk_at dksX3_of_1 23 rfl rfl)
theorem dX3_of_47 : decode cX3_of 47 = .ok (.ishl, 1) := dk_120 (dk_at dksX3_of_2 0 rfl rfl)
theorem dX3_of_48 : decode cX3_of 48 = .ok (.ior, 1) := dk_128 (dk_at dksX3_of_2 1 rfl rfl)
theorem dX3_of_49 : decode cX3_of 49 = .ok (.istore 4, 2) := dk_54 4 (dk_at dksX3_of_2 2 rfl rfl)
theorem dX3_of_51 : decode cX3_of 51 = .ok (.aload_n 0, 1) := dk_42 (dk_at dksX3_of_2 4 rfl rfl)
theorem dX3_of_52 : decode cX3_of 52 = .ok (.aload_n 3, 1) := dk_45 (dk_at dksX3_of_2 5 rfl rfl)
theorem dX3_of_53 : decode cX3_of 53 = .ok (.iload 4, 2) := dk_21 4 (dk_at dksX3_of_2 6 rfl rfl)
theorem dX3_of_55 : decode cX3_of 55 = .ok (.aload_n 0, 1) := dk_42 (dk_at dksX3_of_2 8 rfl rfl)
theorem dX3_of_56 : decode cX3_of 56 = .ok (.getfield 21, 3) := dk_180 0 21 (dk_at dksX3_of_2 9 rfl rfl)
theorem dX3_of_59 : decode cX3_of 59 = .ok (.getfield 41, 3) := dk_180 0 41 (dk_at dksX3_of_2 12 rfl rfl)
theorem dX3_of_62 : decode cX3_of 62 = .ok (.aload_n 0, 1) := dk_42 (dk_at dksX3_of_2 15 rfl rfl)
theorem dX3_of_63 : decode cX3_of 63 = .ok (.getfield 9, 3) := dk_180 0 9 (dk_at dksX3_of_2 16 rfl rfl)
theorem dX3_of_66 : decode cX3_of 66 = .ok (.iload 5, 2) := dk_21 5 (dk_at dksX3_of_2 19 rfl rfl)
theorem dX3_of_68 : decode cX3_of 68 = .ok (.iaload, 1) := dk_46 (dk_at dksX3_of_2 21 rfl rfl)
theorem dX3_of_69 : decode cX3_of 69 = .ok (.iaload, 1) := dk_46 (dk_at dksX3_of_2 22 rfl rfl)
theorem dX3_of_70 : decode cX3_of 70 = .ok (.aload_n 0, 1) := dk_42 (dk_at dksX3_of_2 23 rfl rfl)
theorem dX3_of_71 : decode cX3_of 71 = .ok (.getfield 21, 3) := dk_180 0 21 (dk_at dksX3_of_3 0 rfl rfl)
theorem dX3_of_74 : decode cX3_of 74 = .ok (.getfield 36, 3) := dk_180 0 36 (dk_at dksX3_of_3 3 rfl rfl)
theorem dX3_of_77 : decode cX3_of 77 = .ok (.iconst 1, 1) := dk_4 (dk_at dksX3_of_3 6 rfl rfl)
theorem dX3_of_78 : decode cX3_of 78 = .ok (.isub, 1) := dk_100 (dk_at dksX3_of_3 7 rfl rfl)
theorem dX3_of_79 : decode cX3_of 79 = .ok (.iload 5, 2) := dk_21 5 (dk_at dksX3_of_3 8 rfl rfl)
theorem dX3_of_81 : decode cX3_of 81 = .ok (.isub, 1) := dk_100 (dk_at dksX3_of_3 10 rfl rfl)
theorem dX3_of_82 : decode cX3_of 82 = .ok (.invokevirtual 44, 3) := dk_182 0 44 (dk_at dksX3_of_3 11 rfl rfl)
theorem dX3_of_85 : decode cX3_of 85 = .ok (.istore 4, 2) := dk_54 4 (dk_at dksX3_of_3 14 rfl rfl)
theorem dX3_of_87 : decode cX3_of 87 = .ok (.iinc 5 1, 3) := dk_132 5 1 (dk_at dksX3_of_3 16 rfl rfl)
theorem dX3_of_90 : decode cX3_of 90 = .ok (.goto (-65), 3) := dk_167 255 191 (dk_at dksX3_of_3 19 rfl rfl)
theorem dX3_of_93 : decode cX3_of 93 = .ok (.aload_n 0, 1) := dk_42 (dk_at dksX3_of_3 22 rfl rfl)
theorem dX3_of_94 : decode cX3_of 94 = .ok (.iload 4, 2) := dk_21 4 (dk_at dksX3_of_4 0 rfl rfl)
theorem dX3_of_96 : decode cX3_of 96 = .ok (.putfield 48, 3) := dk_181 0 48 (dk_at dksX3_of_4 2 rfl rfl)
theorem dX3_of_99 : decode cX3_of 99 = .ok (.aload_n 0, 1) := dk_42 (dk_at dksX3_of_4 5 rfl rfl)
theorem dX3_of_100 : decode cX3_of 100 = .ok (.aload_n 0, 1) := dk_42 (dk_at dksX3_of_4 6 rfl rfl)
theorem dX3_of_101 : decode cX3_of 101 = .ok (.getfield 48, 3) := dk_180 0 48 (dk_at dksX3_of_4 7 rfl rfl)
theorem dX3_of_104 : decode cX3_of 104 = .ok (.bipush 24, 2) := dk_16 24 (dk_at dksX3_of_4 10 rfl rfl)
theorem dX3_of_106 : decode cX3_of 106 = .ok (.invokevirtual 51, 3) := dk_182 0 51 (dk_at dksX3_of_4 12 rfl rfl)
theorem dX3_of_109 : decode cX3_of 109 = .ok (.aload_n 0, 1) := dk_42 (dk_at dksX3_of_4 15 rfl rfl)
theorem dX3_of_110 : decode cX3_of 110 = .ok (.areturn, 1) := dk_176 (dk_at dksX3_of_4 16 rfl rfl)
abbrev cX3_comes : ByteArray := prog_5_method_4_code
def yX3_comes : MethodName := ⟨RX3, "comes", "()V"⟩
def dkwX3_comes_2 : List UInt8 := [132, 3, 1, 167, 255, 219, 132, 2, 1, 167, 255, 205, 177]
abbrev dktX3_comes_2 : List UInt8 := dkwX3_comes_2 ++ []
def dkwX3_comes_1 : List UInt8 := [180, 0, 21, 180, 0, 41, 29, 46, 28, 160, 0, 13, 42, 180, 0, 9, 27, 29, 79, 132, 1, 1]
abbrev dktX3_comes_1 : List UInt8 := dkwX3_comes_1 ++ dktX3_comes_2
def dkwX3_comes_0 : List UInt8 := [3, 60, 3, 61, 28, 16, 24, 162, 0, 51, 3, 62, 29, 42, 180, 0, 21, 180, 0, 36, 162, 0, 32, 42]
abbrev dktX3_comes_0 : List UInt8 := dkwX3_comes_0 ++ dktX3_comes_1
theorem dksX3_comes_0 : cX3_comes.data.toList.drop 0 = dktX3_comes_0 := by decide +kernel
theorem dksX3_comes_1 : cX3_comes.data.toList.drop 24 = dktX3_comes_1 := dk_seg dksX3_comes_0 24 rfl rfl
theorem dksX3_comes_2 : cX3_comes.data.toList.drop 46 = dktX3_comes_2 := dk_seg dksX3_comes_1 22 rfl rfl
theorem dX3_comes_0 : decode cX3_comes 0 = .ok (.iconst 0, 1) := dk_3 (dk_at dksX3_comes_0 0 rfl rfl)
theorem dX3_comes_1 : decode cX3_comes 1 = .ok (.istore_n 1, 1) := dk_60 (dk_at dksX3_comes_0 1 rfl rfl)
theorem dX3_comes_2 : decode cX3_comes 2 = .ok (.iconst 0, 1) := dk_3 (dk_at dksX3_comes_0 2 rfl rfl)
theorem dX3_comes_3 : decode cX3_comes 3 = .ok (.istore_n 2, 1) := dk_61 (dk_at dksX3_comes_0 3 rfl rfl)
theorem dX3_comes_4 : decode cX3_comes 4 = .ok (.iload_n 2, 1) := dk_28 (dk_at dksX3_comes_0 4 rfl rfl)
theorem dX3_comes_5 : decode cX3_comes 5 = .ok (.bipush 24, 2) := dk_16 24 (dk_at dksX3_comes_0 5 rfl rfl)
theorem dX3_comes_7 : decode cX3_comes 7 = .ok (.if_icmp .ge 51, 3) := dk_162 0 51 (dk_at dksX3_comes_0 7 rfl rfl)
theorem dX3_comes_10 : decode cX3_comes 10 = .ok (.iconst 0, 1) := dk_3 (dk_at dksX3_comes_0 10 rfl rfl)
theorem dX3_comes_11 : decode cX3_comes 11 = .ok (.istore_n 3, 1) := dk_62 (dk_at dksX3_comes_0 11 rfl rfl)
theorem dX3_comes_12 : decode cX3_comes 12 = .ok (.iload_n 3, 1) := dk_29 (dk_at dksX3_comes_0 12 rfl rfl)
theorem dX3_comes_13 : decode cX3_comes 13 = .ok (.aload_n 0, 1) := dk_42 (dk_at dksX3_comes_0 13 rfl rfl)
theorem dX3_comes_14 : decode cX3_comes 14 = .ok (.getfield 21, 3) := dk_180 0 21 (dk_at dksX3_comes_0 14 rfl rfl)
theorem dX3_comes_17 : decode cX3_comes 17 = .ok (.getfield 36, 3) := dk_180 0 36 (dk_at dksX3_comes_0 17 rfl rfl)
theorem dX3_comes_20 : decode cX3_comes 20 = .ok (.if_icmp .ge 32, 3) := dk_162 0 32 (dk_at dksX3_comes_0 20 rfl rfl)
theorem dX3_comes_23 : decode cX3_comes 23 = .ok (.aload_n 0, 1) := dk_42 (dk_at dksX3_comes_0 23 rfl rfl)
theorem dX3_comes_24 : decode cX3_comes 24 = .ok (.getfield 21, 3) := dk_180 0 21 (dk_at dksX3_comes_1 0 rfl rfl)
theorem dX3_comes_27 : decode cX3_comes 27 = .ok (.getfield 41, 3) := dk_180 0 41 (dk_at dksX3_comes_1 3 rfl rfl)
theorem dX3_comes_30 : decode cX3_comes 30 = .ok (.iload_n 3, 1) := dk_29 (dk_at dksX3_comes_1 6 rfl rfl)
theorem dX3_comes_31 : decode cX3_comes 31 = .ok (.iaload, 1) := dk_46 (dk_at dksX3_comes_1 7 rfl rfl)
theorem dX3_comes_32 : decode cX3_comes 32 = .ok (.iload_n 2, 1) := dk_28 (dk_at dksX3_comes_1 8 rfl rfl)
theorem dX3_comes_33 : decode cX3_comes 33 = .ok (.if_icmp .ne 13, 3) := dk_160 0 13 (dk_at dksX3_comes_1 9 rfl rfl)
theorem dX3_comes_36 : decode cX3_comes 36 = .ok (.aload_n 0, 1) := dk_42 (dk_at dksX3_comes_1 12 rfl rfl)
theorem dX3_comes_37 : decode cX3_comes 37 = .ok (.getfield 9, 3) := dk_180 0 9 (dk_at dksX3_comes_1 13 rfl rfl)
theorem dX3_comes_40 : decode cX3_comes 40 = .ok (.iload_n 1, 1) := dk_27 (dk_at dksX3_comes_1 16 rfl rfl)
theorem dX3_comes_41 : decode cX3_comes 41 = .ok (.iload_n 3, 1) := dk_29 (dk_at dksX3_comes_1 17 rfl rfl)
theorem dX3_comes_42 : decode cX3_comes 42 = .ok (.iastore, 1) := dk_79 (dk_at dksX3_comes_1 18 rfl rfl)
theorem dX3_comes_43 : decode cX3_comes 43 = .ok (.iinc 1 1, 3) := dk_132 1 1 (dk_at dksX3_comes_1 19 rfl rfl)
theorem dX3_comes_46 : decode cX3_comes 46 = .ok (.iinc 3 1, 3) := dk_132 3 1 (dk_at dksX3_comes_2 0 rfl rfl)
theorem dX3_comes_49 : decode cX3_comes 49 = .ok (.goto (-37), 3) := dk_167 255 219 (dk_at dksX3_comes_2 3 rfl rfl)
theorem dX3_comes_52 : decode cX3_comes 52 = .ok (.iinc 2 1, 3) := dk_132 2 1 (dk_at dksX3_comes_2 6 rfl rfl)
theorem dX3_comes_55 : decode cX3_comes 55 = .ok (.goto (-51), 3) := dk_167 255 205 (dk_at dksX3_comes_2 9 rfl rfl)
theorem dX3_comes_58 : decode cX3_comes 58 = .ok (.return_, 1) := dk_177 (dk_at dksX3_comes_2 12 rfl rfl)
abbrev cX3_sends : ByteArray := prog_5_method_5_code
def yX3_sends : MethodName := ⟨RX3, "sends", "(LThreeStrangers$Coachman;III)I"⟩
def dkwX3_sends_3 : List UInt8 := [54, 6, 167, 255, 200, 21, 5, 172]
abbrev dktX3_sends_3 : List UInt8 := dkwX3_sends_3 ++ []
def dkwX3_sends_2 : List UInt8 := [182, 0, 51, 21, 5, 21, 6, 2, 130, 126, 54, 5, 43, 42, 180, 0, 25, 21, 5, 21, 4, 182, 0, 55]
abbrev dktX3_sends_2 : List UInt8 := dkwX3_sends_2 ++ dktX3_sends_3
def dkwX3_sends_1 : List UInt8 := [180, 0, 15, 42, 180, 0, 29, 21, 6, 79, 42, 89, 180, 0, 29, 4, 96, 181, 0, 29, 42, 21, 6, 29]
abbrev dktX3_sends_1 : List UInt8 := dkwX3_sends_1 ++ dktX3_sends_2
def dkwX3_sends_0 : List UInt8 := [28, 54, 5, 43, 42, 180, 0, 25, 21, 5, 21, 4, 182, 0, 55, 54, 6, 21, 6, 153, 0, 57, 42]
abbrev dktX3_sends_0 : List UInt8 := dkwX3_sends_0 ++ dktX3_sends_1
theorem dksX3_sends_0 : cX3_sends.data.toList.drop 0 = dktX3_sends_0 := by decide +kernel
theorem dksX3_sends_1 : cX3_sends.data.toList.drop 23 = dktX3_sends_1 := dk_seg dksX3_sends_0 23 rfl rfl
theorem dksX3_sends_2 : cX3_sends.data.toList.drop 47 = dktX3_sends_2 := dk_seg dksX3_sends_1 24 rfl rfl
theorem dksX3_sends_3 : cX3_sends.data.toList.drop 71 = dktX3_sends_3 := dk_seg dksX3_sends_2 24 rfl rfl
theorem dX3_sends_0 : decode cX3_sends 0 = .ok (.iload_n 2, 1) := dk_28 (dk_at dksX3_sends_0 0 rfl rfl)
theorem dX3_sends_1 : decode cX3_sends 1 = .ok (.istore 5, 2) := dk_54 5 (dk_at dksX3_sends_0 1 rfl rfl)
theorem dX3_sends_3 : decode cX3_sends 3 = .ok (.aload_n 1, 1) := dk_43 (dk_at dksX3_sends_0 3 rfl rfl)
theorem dX3_sends_4 : decode cX3_sends 4 = .ok (.aload_n 0, 1) := dk_42 (dk_at dksX3_sends_0 4 rfl rfl)
theorem dX3_sends_5 : decode cX3_sends 5 = .ok (.getfield 25, 3) := dk_180 0 25 (dk_at dksX3_sends_0 5 rfl rfl)
theorem dX3_sends_8 : decode cX3_sends 8 = .ok (.iload 5, 2) := dk_21 5 (dk_at dksX3_sends_0 8 rfl rfl)
theorem dX3_sends_10 : decode cX3_sends 10 = .ok (.iload 4, 2) := dk_21 4 (dk_at dksX3_sends_0 10 rfl rfl)
theorem dX3_sends_12 : decode cX3_sends 12 = .ok (.invokevirtual 55, 3) := dk_182 0 55 (dk_at dksX3_sends_0 12 rfl rfl)
theorem dX3_sends_15 : decode cX3_sends 15 = .ok (.istore 6, 2) := dk_54 6 (dk_at dksX3_sends_0 15 rfl rfl)
theorem dX3_sends_17 : decode cX3_sends 17 = .ok (.iload 6, 2) := dk_21 6 (dk_at dksX3_sends_0 17 rfl rfl)
theorem dX3_sends_19 : decode cX3_sends 19 = .ok (.ifCond .eq 57, 3) := dk_153 0 57 (dk_at dksX3_sends_0 19 rfl rfl)
theorem dX3_sends_22 : decode cX3_sends 22 = .ok (.aload_n 0, 1) := dk_42 (dk_at dksX3_sends_0 22 rfl rfl)
theorem dX3_sends_23 : decode cX3_sends 23 = .ok (.getfield 15, 3) := dk_180 0 15 (dk_at dksX3_sends_1 0 rfl rfl)
theorem dX3_sends_26 : decode cX3_sends 26 = .ok (.aload_n 0, 1) := dk_42 (dk_at dksX3_sends_1 3 rfl rfl)
theorem dX3_sends_27 : decode cX3_sends 27 = .ok (.getfield 29, 3) := dk_180 0 29 (dk_at dksX3_sends_1 4 rfl rfl)
theorem dX3_sends_30 : decode cX3_sends 30 = .ok (.iload 6, 2) := dk_21 6 (dk_at dksX3_sends_1 7 rfl rfl)
theorem dX3_sends_32 : decode cX3_sends 32 = .ok (.iastore, 1) := dk_79 (dk_at dksX3_sends_1 9 rfl rfl)
theorem dX3_sends_33 : decode cX3_sends 33 = .ok (.aload_n 0, 1) := dk_42 (dk_at dksX3_sends_1 10 rfl rfl)
theorem dX3_sends_34 : decode cX3_sends 34 = .ok (.dup, 1) := dk_89 (dk_at dksX3_sends_1 11 rfl rfl)
theorem dX3_sends_35 : decode cX3_sends 35 = .ok (.getfield 29, 3) := dk_180 0 29 (dk_at dksX3_sends_1 12 rfl rfl)
theorem dX3_sends_38 : decode cX3_sends 38 = .ok (.iconst 1, 1) := dk_4 (dk_at dksX3_sends_1 15 rfl rfl)
theorem dX3_sends_39 : decode cX3_sends 39 = .ok (.iadd, 1) := dk_96 (dk_at dksX3_sends_1 16 rfl rfl)
theorem dX3_sends_40 : decode cX3_sends 40 = .ok (.putfield 29, 3) := dk_181 0 29 (dk_at dksX3_sends_1 17 rfl rfl)
theorem dX3_sends_43 : decode cX3_sends 43 = .ok (.aload_n 0, 1) := dk_42 (dk_at dksX3_sends_1 20 rfl rfl)
theorem dX3_sends_44 : decode cX3_sends 44 = .ok (.iload 6, 2) := dk_21 6 (dk_at dksX3_sends_1 21 rfl rfl)
theorem dX3_sends_46 : decode cX3_sends 46 = .ok (.iload_n 3, 1) := dk_29 (dk_at dksX3_sends_1 23 rfl rfl)
theorem dX3_sends_47 : decode cX3_sends 47 = .ok (.invokevirtual 51, 3) := dk_182 0 51 (dk_at dksX3_sends_2 0 rfl rfl)
theorem dX3_sends_50 : decode cX3_sends 50 = .ok (.iload 5, 2) := dk_21 5 (dk_at dksX3_sends_2 3 rfl rfl)
theorem dX3_sends_52 : decode cX3_sends 52 = .ok (.iload 6, 2) := dk_21 6 (dk_at dksX3_sends_2 5 rfl rfl)
theorem dX3_sends_54 : decode cX3_sends 54 = .ok (.iconst (-1), 1) := dk_2 (dk_at dksX3_sends_2 7 rfl rfl)
theorem dX3_sends_55 : decode cX3_sends 55 = .ok (.ixor, 1) := dk_130 (dk_at dksX3_sends_2 8 rfl rfl)
theorem dX3_sends_56 : decode cX3_sends 56 = .ok (.iand, 1) := dk_126 (dk_at dksX3_sends_2 9 rfl rfl)
theorem dX3_sends_57 : decode cX3_sends 57 = .ok (.istore 5, 2) := dk_54 5 (dk_at dksX3_sends_2 10 rfl rfl)
theorem dX3_sends_59 : decode cX3_sends 59 = .ok (.aload_n 1, 1) := dk_43 (dk_at dksX3_sends_2 12 rfl rfl)
theorem dX3_sends_60 : decode cX3_sends 60 = .ok (.aload_n 0, 1) := dk_42 (dk_at dksX3_sends_2 13 rfl rfl)
theorem dX3_sends_61 : decode cX3_sends 61 = .ok (.getfield 25, 3) := dk_180 0 25 (dk_at dksX3_sends_2 14 rfl rfl)
theorem dX3_sends_64 : decode cX3_sends 64 = .ok (.iload 5, 2) := dk_21 5 (dk_at dksX3_sends_2 17 rfl rfl)
theorem dX3_sends_66 : decode cX3_sends 66 = .ok (.iload 4, 2) := dk_21 4 (dk_at dksX3_sends_2 19 rfl rfl)
theorem dX3_sends_68 : decode cX3_sends 68 = .ok (.invokevirtual 55, 3) := dk_182 0 55 (dk_at dksX3_sends_2 21 rfl rfl)
theorem dX3_sends_71 : decode cX3_sends 71 = .ok (.istore 6, 2) := dk_54 6 (dk_at dksX3_sends_3 0 rfl rfl)
theorem dX3_sends_73 : decode cX3_sends 73 = .ok (.goto (-56), 3) := dk_167 255 200 (dk_at dksX3_sends_3 2 rfl rfl)
theorem dX3_sends_76 : decode cX3_sends 76 = .ok (.iload 5, 2) := dk_21 5 (dk_at dksX3_sends_3 5 rfl rfl)
theorem dX3_sends_78 : decode cX3_sends 78 = .ok (.ireturn, 1) := dk_172 (dk_at dksX3_sends_3 7 rfl rfl)
abbrev cX3_leaves : ByteArray := prog_5_method_6_code
def yX3_leaves : MethodName := ⟨RX3, "leaves", "(II)V"⟩
def dkwX3_leaves_2 : List UInt8 := [167, 0, 9, 42, 180, 0, 18, 29, 46, 79, 132, 3, 1, 167, 255, 198, 177]
abbrev dktX3_leaves_2 : List UInt8 := dkwX3_leaves_2 ++ []
def dkwX3_leaves_1 : List UInt8 := [153, 0, 27, 42, 180, 0, 21, 180, 0, 64, 29, 46, 28, 42, 180, 0, 21, 180, 0, 41, 29, 46, 100, 104]
abbrev dktX3_leaves_1 : List UInt8 := dkwX3_leaves_1 ++ dktX3_leaves_2
def dkwX3_leaves_0 : List UInt8 := [3, 62, 29, 42, 180, 0, 21, 180, 0, 36, 162, 0, 53, 42, 180, 0, 18, 29, 27, 29, 184, 0, 60]
abbrev dktX3_leaves_0 : List UInt8 := dkwX3_leaves_0 ++ dktX3_leaves_1
theorem dksX3_leaves_0 : cX3_leaves.data.toList.drop 0 = dktX3_leaves_0 := by decide +kernel
theorem dksX3_leaves_1 : cX3_leaves.data.toList.drop 23 = dktX3_leaves_1 := dk_seg dksX3_leaves_0 23 rfl rfl
theorem dksX3_leaves_2 : cX3_leaves.data.toList.drop 47 = dktX3_leaves_2 := dk_seg dksX3_leaves_1 24 rfl rfl
theorem dX3_leaves_0 : decode cX3_leaves 0 = .ok (.iconst 0, 1) := dk_3 (dk_at dksX3_leaves_0 0 rfl rfl)
theorem dX3_leaves_1 : decode cX3_leaves 1 = .ok (.istore_n 3, 1) := dk_62 (dk_at dksX3_leaves_0 1 rfl rfl)
theorem dX3_leaves_2 : decode cX3_leaves 2 = .ok (.iload_n 3, 1) := dk_29 (dk_at dksX3_leaves_0 2 rfl rfl)
theorem dX3_leaves_3 : decode cX3_leaves 3 = .ok (.aload_n 0, 1) := dk_42 (dk_at dksX3_leaves_0 3 rfl rfl)
theorem dX3_leaves_4 : decode cX3_leaves 4 = .ok (.getfield 21, 3) := dk_180 0 21 (dk_at dksX3_leaves_0 4 rfl rfl)
theorem dX3_leaves_7 : decode cX3_leaves 7 = .ok (.getfield 36, 3) := dk_180 0 36 (dk_at dksX3_leaves_0 7 rfl rfl)
theorem dX3_leaves_10 : decode cX3_leaves 10 = .ok (.if_icmp .ge 53, 3) := dk_162 0 53 (dk_at dksX3_leaves_0 10 rfl rfl)
theorem dX3_leaves_13 : decode cX3_leaves 13 = .ok (.aload_n 0, 1) := dk_42 (dk_at dksX3_leaves_0 13 rfl rfl)
theorem dX3_leaves_14 : decode cX3_leaves 14 = .ok (.getfield 18, 3) := dk_180 0 18 (dk_at dksX3_leaves_0 14 rfl rfl)
theorem dX3_leaves_17 : decode cX3_leaves 17 = .ok (.iload_n 3, 1) := dk_29 (dk_at dksX3_leaves_0 17 rfl rfl)
theorem dX3_leaves_18 : decode cX3_leaves 18 = .ok (.iload_n 1, 1) := dk_27 (dk_at dksX3_leaves_0 18 rfl rfl)
theorem dX3_leaves_19 : decode cX3_leaves 19 = .ok (.iload_n 3, 1) := dk_29 (dk_at dksX3_leaves_0 19 rfl rfl)
theorem dX3_leaves_20 : decode cX3_leaves 20 = .ok (.invokestatic 60, 3) := dk_184 0 60 (dk_at dksX3_leaves_0 20 rfl rfl)
theorem dX3_leaves_23 : decode cX3_leaves 23 = .ok (.ifCond .eq 27, 3) := dk_153 0 27 (dk_at dksX3_leaves_1 0 rfl rfl)
theorem dX3_leaves_26 : decode cX3_leaves 26 = .ok (.aload_n 0, 1) := dk_42 (dk_at dksX3_leaves_1 3 rfl rfl)
theorem dX3_leaves_27 : decode cX3_leaves 27 = .ok (.getfield 21, 3) := dk_180 0 21 (dk_at dksX3_leaves_1 4 rfl rfl)
theorem dX3_leaves_30 : decode cX3_leaves 30 = .ok (.getfield 64, 3) := dk_180 0 64 (dk_at dksX3_leaves_1 7 rfl rfl)
theorem dX3_leaves_33 : decode cX3_leaves 33 = .ok (.iload_n 3, 1) := dk_29 (dk_at dksX3_leaves_1 10 rfl rfl)
theorem dX3_leaves_34 : decode cX3_leaves 34 = .ok (.iaload, 1) := dk_46 (dk_at dksX3_leaves_1 11 rfl rfl)
theorem dX3_leaves_35 : decode cX3_leaves 35 = .ok (.iload_n 2, 1) := dk_28 (dk_at dksX3_leaves_1 12 rfl rfl)
theorem dX3_leaves_36 : decode cX3_leaves 36 = .ok (.aload_n 0, 1) := dk_42 (dk_at dksX3_leaves_1 13 rfl rfl)
theorem dX3_leaves_37 : decode cX3_leaves 37 = .ok (.getfield 21, 3) := dk_180 0 21 (dk_at dksX3_leaves_1 14 rfl rfl)
theorem dX3_leaves_40 : decode cX3_leaves 40 = .ok (.getfield 41, 3) := dk_180 0 41 (dk_at dksX3_leaves_1 17 rfl rfl)
theorem dX3_leaves_43 : decode cX3_leaves 43 = .ok (.iload_n 3, 1) := dk_29 (dk_at dksX3_leaves_1 20 rfl rfl)
theorem dX3_leaves_44 : decode cX3_leaves 44 = .ok (.iaload, 1) := dk_46 (dk_at dksX3_leaves_1 21 rfl rfl)
theorem dX3_leaves_45 : decode cX3_leaves 45 = .ok (.isub, 1) := dk_100 (dk_at dksX3_leaves_1 22 rfl rfl)
theorem dX3_leaves_46 : decode cX3_leaves 46 = .ok (.imul, 1) := dk_104 (dk_at dksX3_leaves_1 23 rfl rfl)
theorem dX3_leaves_47 : decode cX3_leaves 47 = .ok (.goto 9, 3) := dk_167 0 9 (dk_at dksX3_leaves_2 0 rfl rfl)
theorem dX3_leaves_50 : decode cX3_leaves 50 = .ok (.aload_n 0, 1) := dk_42 (dk_at dksX3_leaves_2 3 rfl rfl)
theorem dX3_leaves_51 : decode cX3_leaves 51 = .ok (.getfield 18, 3) := dk_180 0 18 (dk_at dksX3_leaves_2 4 rfl rfl)
theorem dX3_leaves_54 : decode cX3_leaves 54 = .ok (.iload_n 3, 1) := dk_29 (dk_at dksX3_leaves_2 7 rfl rfl)
theorem dX3_leaves_55 : decode cX3_leaves 55 = .ok (.iaload, 1) := dk_46 (dk_at dksX3_leaves_2 8 rfl rfl)
theorem dX3_leaves_56 : decode cX3_leaves 56 = .ok (.iastore, 1) := dk_79 (dk_at dksX3_leaves_2 9 rfl rfl)
theorem dX3_leaves_57 : decode cX3_leaves 57 = .ok (.iinc 3 1, 3) := dk_132 3 1 (dk_at dksX3_leaves_2 10 rfl rfl)
theorem dX3_leaves_60 : decode cX3_leaves 60 = .ok (.goto (-58), 3) := dk_167 255 198 (dk_at dksX3_leaves_2 13 rfl rfl)
theorem dX3_leaves_63 : decode cX3_leaves 63 = .ok (.return_, 1) := dk_177 (dk_at dksX3_leaves_2 16 rfl rfl)
abbrev cX3_waiting : ByteArray := prog_5_method_7_code
def yX3_waiting : MethodName := ⟨RX3, "waiting", "()I"⟩
def dkwX3_waiting_1 : List UInt8 := [132, 2, 1, 167, 255, 233, 27, 172]
abbrev dktX3_waiting_1 : List UInt8 := dkwX3_waiting_1 ++ []
def dkwX3_waiting_0 : List UInt8 := [3, 60, 3, 61, 28, 42, 180, 0, 21, 180, 0, 36, 162, 0, 18, 27, 42, 180, 0, 18, 28, 46, 96, 60]
abbrev dktX3_waiting_0 : List UInt8 := dkwX3_waiting_0 ++ dktX3_waiting_1
theorem dksX3_waiting_0 : cX3_waiting.data.toList.drop 0 = dktX3_waiting_0 := by decide +kernel
theorem dksX3_waiting_1 : cX3_waiting.data.toList.drop 24 = dktX3_waiting_1 := dk_seg dksX3_waiting_0 24 rfl rfl
theorem dX3_waiting_0 : decode cX3_waiting 0 = .ok (.iconst 0, 1) := dk_3 (dk_at dksX3_waiting_0 0 rfl rfl)
theorem dX3_waiting_1 : decode cX3_waiting 1 = .ok (.istore_n 1, 1) := dk_60 (dk_at dksX3_waiting_0 1 rfl rfl)
theorem dX3_waiting_2 : decode cX3_waiting 2 = .ok (.iconst 0, 1) := dk_3 (dk_at dksX3_waiting_0 2 rfl rfl)
theorem dX3_waiting_3 : decode cX3_waiting 3 = .ok (.istore_n 2, 1) := dk_61 (dk_at dksX3_waiting_0 3 rfl rfl)
theorem dX3_waiting_4 : decode cX3_waiting 4 = .ok (.iload_n 2, 1) := dk_28 (dk_at dksX3_waiting_0 4 rfl rfl)
theorem dX3_waiting_5 : decode cX3_waiting 5 = .ok (.aload_n 0, 1) := dk_42 (dk_at dksX3_waiting_0 5 rfl rfl)
theorem dX3_waiting_6 : decode cX3_waiting 6 = .ok (.getfield 21, 3) := dk_180 0 21 (dk_at dksX3_waiting_0 6 rfl rfl)
theorem dX3_waiting_9 : decode cX3_waiting 9 = .ok (.getfield 36, 3) := dk_180 0 36 (dk_at dksX3_waiting_0 9 rfl rfl)
theorem dX3_waiting_12 : decode cX3_waiting 12 = .ok (.if_icmp .ge 18, 3) := dk_162 0 18 (dk_at dksX3_waiting_0 12 rfl rfl)
theorem dX3_waiting_15 : decode cX3_waiting 15 = .ok (.iload_n 1, 1) := dk_27 (dk_at dksX3_waiting_0 15 rfl rfl)
theorem dX3_waiting_16 : decode cX3_waiting 16 = .ok (.aload_n 0, 1) := dk_42 (dk_at dksX3_waiting_0 16 rfl rfl)
theorem dX3_waiting_17 : decode cX3_waiting 17 = .ok (.getfield 18, 3) := dk_180 0 18 (dk_at dksX3_waiting_0 17 rfl rfl)
theorem dX3_waiting_20 : decode cX3_waiting 20 = .ok (.iload_n 2, 1) := dk_28 (dk_at dksX3_waiting_0 20 rfl rfl)
theorem dX3_waiting_21 : decode cX3_waiting 21 = .ok (.iaload, 1) := dk_46 (dk_at dksX3_waiting_0 21 rfl rfl)
theorem dX3_waiting_22 : decode cX3_waiting 22 = .ok (.iadd, 1) := dk_96 (dk_at dksX3_waiting_0 22 rfl rfl)
theorem dX3_waiting_23 : decode cX3_waiting 23 = .ok (.istore_n 1, 1) := dk_60 (dk_at dksX3_waiting_0 23 rfl rfl)
theorem dX3_waiting_24 : decode cX3_waiting 24 = .ok (.iinc 2 1, 3) := dk_132 2 1 (dk_at dksX3_waiting_1 0 rfl rfl)
theorem dX3_waiting_27 : decode cX3_waiting 27 = .ok (.goto (-23), 3) := dk_167 255 233 (dk_at dksX3_waiting_1 3 rfl rfl)
theorem dX3_waiting_30 : decode cX3_waiting 30 = .ok (.iload_n 1, 1) := dk_27 (dk_at dksX3_waiting_1 6 rfl rfl)
theorem dX3_waiting_31 : decode cX3_waiting 31 = .ok (.ireturn, 1) := dk_172 (dk_at dksX3_waiting_1 7 rfl rfl)
abbrev cX3_comes_2 : ByteArray := prog_5_method_3_code
def yX3_comes_2 : MethodName := ⟨RX3, "comes", "(LThreeStrangers$Town;)[I"⟩
def dkwX3_comes_2_0 : List UInt8 := [42, 43, 181, 0, 21, 42, 182, 0, 33, 42, 180, 0, 9, 176]
abbrev dktX3_comes_2_0 : List UInt8 := dkwX3_comes_2_0 ++ []
theorem dksX3_comes_2_0 : cX3_comes_2.data.toList.drop 0 = dktX3_comes_2_0 := by decide +kernel
theorem dX3_comes_2_0 : decode cX3_comes_2 0 = .ok (.aload_n 0, 1) := dk_42 (dk_at dksX3_comes_2_0 0 rfl rfl)
theorem dX3_comes_2_1 : decode cX3_comes_2 1 = .ok (.aload_n 1, 1) := dk_43 (dk_at dksX3_comes_2_0 1 rfl rfl)
theorem dX3_comes_2_2 : decode cX3_comes_2 2 = .ok (.putfield 21, 3) := dk_181 0 21 (dk_at dksX3_comes_2_0 2 rfl rfl)
theorem dX3_comes_2_5 : decode cX3_comes_2 5 = .ok (.aload_n 0, 1) := dk_42 (dk_at dksX3_comes_2_0 5 rfl rfl)
theorem dX3_comes_2_6 : decode cX3_comes_2 6 = .ok (.invokevirtual 33, 3) := dk_182 0 33 (dk_at dksX3_comes_2_0 6 rfl rfl)
theorem dX3_comes_2_9 : decode cX3_comes_2 9 = .ok (.aload_n 0, 1) := dk_42 (dk_at dksX3_comes_2_0 9 rfl rfl)
theorem dX3_comes_2_10 : decode cX3_comes_2 10 = .ok (.getfield 9, 3) := dk_180 0 9 (dk_at dksX3_comes_2_0 10 rfl rfl)
theorem dX3_comes_2_13 : decode cX3_comes_2 13 = .ok (.areturn, 1) := dk_176 (dk_at dksX3_comes_2_0 13 rfl rfl)
abbrev cX3_meets : ByteArray := prog_5_method_8_code
def yX3_meets : MethodName := ⟨RX3, "meets", "(LThreeStrangers$Town;)V"⟩
def dkwX3_meets_1 : List UInt8 := [167, 255, 234, 177]
abbrev dktX3_meets_1 : List UInt8 := dkwX3_meets_1 ++ []
def dkwX3_meets_0 : List UInt8 := [3, 61, 28, 42, 180, 0, 29, 162, 0, 20, 43, 42, 180, 0, 15, 28, 46, 182, 0, 67, 87, 132, 2, 1]
abbrev dktX3_meets_0 : List UInt8 := dkwX3_meets_0 ++ dktX3_meets_1
theorem dksX3_meets_0 : cX3_meets.data.toList.drop 0 = dktX3_meets_0 := by decide +kernel
theorem dksX3_meets_1 : cX3_meets.data.toList.drop 24 = dktX3_meets_1 := dk_seg dksX3_meets_0 24 rfl rfl
theorem dX3_meets_0 : decode cX3_meets 0 = .ok (.iconst 0, 1) := dk_3 (dk_at dksX3_meets_0 0 rfl rfl)
theorem dX3_meets_1 : decode cX3_meets 1 = .ok (.istore_n 2, 1) := dk_61 (dk_at dksX3_meets_0 1 rfl rfl)
theorem dX3_meets_2 : decode cX3_meets 2 = .ok (.iload_n 2, 1) := dk_28 (dk_at dksX3_meets_0 2 rfl rfl)
theorem dX3_meets_3 : decode cX3_meets 3 = .ok (.aload_n 0, 1) := dk_42 (dk_at dksX3_meets_0 3 rfl rfl)
theorem dX3_meets_4 : decode cX3_meets 4 = .ok (.getfield 29, 3) := dk_180 0 29 (dk_at dksX3_meets_0 4 rfl rfl)
theorem dX3_meets_7 : decode cX3_meets 7 = .ok (.if_icmp .ge 20, 3) := dk_162 0 20 (dk_at dksX3_meets_0 7 rfl rfl)
theorem dX3_meets_10 : decode cX3_meets 10 = .ok (.aload_n 1, 1) := dk_43 (dk_at dksX3_meets_0 10 rfl rfl)
theorem dX3_meets_11 : decode cX3_meets 11 = .ok (.aload_n 0, 1) := dk_42 (dk_at dksX3_meets_0 11 rfl rfl)
theorem dX3_meets_12 : decode cX3_meets 12 = .ok (.getfield 15, 3) := dk_180 0 15 (dk_at dksX3_meets_0 12 rfl rfl)
theorem dX3_meets_15 : decode cX3_meets 15 = .ok (.iload_n 2, 1) := dk_28 (dk_at dksX3_meets_0 15 rfl rfl)
theorem dX3_meets_16 : decode cX3_meets 16 = .ok (.iaload, 1) := dk_46 (dk_at dksX3_meets_0 16 rfl rfl)
theorem dX3_meets_17 : decode cX3_meets 17 = .ok (.invokevirtual 67, 3) := dk_182 0 67 (dk_at dksX3_meets_0 17 rfl rfl)
theorem dX3_meets_20 : decode cX3_meets 20 = .ok (.pop, 1) := dk_87 (dk_at dksX3_meets_0 20 rfl rfl)
theorem dX3_meets_21 : decode cX3_meets 21 = .ok (.iinc 2 1, 3) := dk_132 2 1 (dk_at dksX3_meets_0 21 rfl rfl)
theorem dX3_meets_24 : decode cX3_meets 24 = .ok (.goto (-22), 3) := dk_167 255 234 (dk_at dksX3_meets_1 0 rfl rfl)
theorem dX3_meets_27 : decode cX3_meets 27 = .ok (.return_, 1) := dk_177 (dk_at dksX3_meets_1 3 rfl rfl)
theorem q84 : (Jvm.Cond.initialized "ThreeStrangers$Day") ∈ lw_all := lw_g (lw_at lw_m1 4 rfl) rfl
theorem q132 : (Jvm.Cond.fieldLink "ThreeStrangers$Day" (41 : Nat) "ThreeStrangers$Town" "hour" "[I") ∈ lw_all := lw_g (lw_at lw_m1 52 rfl) rfl
theorem q135 : (Jvm.Cond.fieldLink "ThreeStrangers$Day" (64 : Nat) "ThreeStrangers$Town" "cost" "[I") ∈ lw_all := lw_g (lw_at lw_m1 55 rfl) rfl
theorem q141 : (Jvm.Cond.fieldLink "ThreeStrangers$Day" (36 : Nat) "ThreeStrangers$Town" "people" "I") ∈ lw_all := lw_g (lw_at lw_m1 61 rfl) rfl
theorem q220 : (Jvm.Cond.instantiable "ThreeStrangers$Day" (7 : Nat)) ∈ lw_all := lw_g (lw_at lw_m1 140 rfl) rfl
theorem q222 : (Jvm.Cond.instanceMethod ({ cls := "ThreeStrangers$Day", name := "<init>", desc := "()V" } : Jvm.MethodName)) ∈ lw_all := lw_g (lw_at lw_m1 142 rfl) rfl
theorem q223 : (Jvm.Cond.code ({ cls := "ThreeStrangers$Day", name := "<init>", desc := "()V" } : Jvm.MethodName) prog_5_method_1_code (1 : Nat) (Option.none : Option Jvm.ClassFile.FieldType)) ∈ lw_all := lw_g (lw_at lw_m1 143 rfl) rfl
theorem q224 : (Jvm.Cond.methodLink "ThreeStrangers$Day" (3 : Nat) ({ cls := "java/lang/Object", name := "<init>", desc := "()V" } : Jvm.MethodName)) ∈ lw_all := lw_g (lw_at lw_m1 144 rfl) rfl
theorem q225 : (Jvm.Cond.fieldLink "ThreeStrangers$Day" (9 : Nat) "ThreeStrangers$Day" "order" "[I") ∈ lw_all := lw_g (lw_at lw_m1 145 rfl) rfl
theorem q226 : (Jvm.Cond.fieldLink "ThreeStrangers$Day" (15 : Nat) "ThreeStrangers$Day" "coach" "[I") ∈ lw_all := lw_g (lw_at lw_m1 146 rfl) rfl
theorem q228 : (Jvm.Cond.fieldLink "ThreeStrangers$Day" (18 : Nat) "ThreeStrangers$Day" "waits" "[I") ∈ lw_all := lw_g (lw_at lw_m1 148 rfl) rfl
theorem q230 : (Jvm.Cond.fieldLink "ThreeStrangers$Day" (21 : Nat) "ThreeStrangers$Day" "town" "LThreeStrangers$Town;") ∈ lw_all := lw_g (lw_at lw_m1 150 rfl) rfl
theorem q231 : (Jvm.Cond.fieldLink "ThreeStrangers$Day" (25 : Nat) "ThreeStrangers$Day" "groups" "LThreeStrangers$Groups;") ∈ lw_all := lw_g (lw_at lw_m1 151 rfl) rfl
theorem q232 : (Jvm.Cond.fieldLink "ThreeStrangers$Day" (29 : Nat) "ThreeStrangers$Day" "coaches" "I") ∈ lw_all := lw_g (lw_at lw_m1 152 rfl) rfl
theorem q234 : (Jvm.Cond.fieldLink "ThreeStrangers$Day" (48 : Nat) "ThreeStrangers$Day" "left" "I") ∈ lw_all := lw_g (lw_at lw_m1 154 rfl) rfl
theorem q236 : (Jvm.Cond.laysFinal "ThreeStrangers$Day" "ThreeStrangers$Day" "order" "[I") ∈ lw_all := lw_g (lw_at lw_m1 156 rfl) rfl
theorem q237 : (Jvm.Cond.soleField "ThreeStrangers$Day" "order") ∈ lw_all := lw_g (lw_at lw_m1 157 rfl) rfl
theorem q238 : (Jvm.Cond.laysFinal "ThreeStrangers$Day" "ThreeStrangers$Day" "coach" "[I") ∈ lw_all := lw_g (lw_at lw_m1 158 rfl) rfl
theorem q239 : (Jvm.Cond.soleField "ThreeStrangers$Day" "coach") ∈ lw_all := lw_g (lw_at lw_m1 159 rfl) rfl
theorem q240 : (Jvm.Cond.laysFinal "ThreeStrangers$Day" "ThreeStrangers$Day" "waits" "[I") ∈ lw_all := lw_g (lw_at lw_m1 160 rfl) rfl
theorem q241 : (Jvm.Cond.soleField "ThreeStrangers$Day" "waits") ∈ lw_all := lw_g (lw_at lw_m1 161 rfl) rfl
theorem q242 : (Jvm.Cond.lays "ThreeStrangers$Day" "ThreeStrangers$Day" "town" "LThreeStrangers$Town;") ∈ lw_all := lw_g (lw_at lw_m1 162 rfl) rfl
theorem q243 : (Jvm.Cond.soleField "ThreeStrangers$Day" "town") ∈ lw_all := lw_g (lw_at lw_m1 163 rfl) rfl
theorem q244 : (Jvm.Cond.lays "ThreeStrangers$Day" "ThreeStrangers$Day" "groups" "LThreeStrangers$Groups;") ∈ lw_all := lw_g (lw_at lw_m1 164 rfl) rfl
theorem q245 : (Jvm.Cond.soleField "ThreeStrangers$Day" "groups") ∈ lw_all := lw_g (lw_at lw_m1 165 rfl) rfl
theorem q246 : (Jvm.Cond.lays "ThreeStrangers$Day" "ThreeStrangers$Day" "coaches" "I") ∈ lw_all := lw_g (lw_at lw_m1 166 rfl) rfl
theorem q247 : (Jvm.Cond.soleField "ThreeStrangers$Day" "coaches") ∈ lw_all := lw_g (lw_at lw_m1 167 rfl) rfl
theorem q248 : (Jvm.Cond.lays "ThreeStrangers$Day" "ThreeStrangers$Day" "left" "I") ∈ lw_all := lw_g (lw_at lw_m1 168 rfl) rfl
theorem q249 : (Jvm.Cond.soleField "ThreeStrangers$Day" "left") ∈ lw_all := lw_g (lw_at lw_m1 169 rfl) rfl
theorem q250 : (Jvm.Cond.superclass "ThreeStrangers$Day" "java/lang/Object") ∈ lw_all := lw_g (lw_at lw_m1 170 rfl) rfl
theorem q1229 : (Jvm.Cond.instanceMethod ({ cls := "ThreeStrangers$Day", name := "of", desc := "(LThreeStrangers$Town;LThreeStrangers$Groups;LThreeStrangers$Coachman;)LThreeStrangers$Day;" } : Jvm.MethodName)) ∈ lw_all := lw_g (lw_at lw_m5 189 rfl) rfl
theorem q1230 : (Jvm.Cond.selects "ThreeStrangers$Day" ({ cls := "ThreeStrangers$Day", name := "of", desc := "(LThreeStrangers$Town;LThreeStrangers$Groups;LThreeStrangers$Coachman;)LThreeStrangers$Day;" } : Jvm.MethodName) ({ cls := "ThreeStrangers$Day", name := "of", desc := "(LThreeStrangers$Town;LThreeStrangers$Groups;LThreeStrangers$Coachman;)LThreeStrangers$Day;" } : Jvm.MethodName)) ∈ lw_all := lw_g (lw_at lw_m5 190 rfl) rfl
theorem q1231 : (Jvm.Cond.code ({ cls := "ThreeStrangers$Day", name := "of", desc := "(LThreeStrangers$Town;LThreeStrangers$Groups;LThreeStrangers$Coachman;)LThreeStrangers$Day;" } : Jvm.MethodName) prog_5_method_2_code (6 : Nat) (Option.some (Jvm.ClassFile.FieldType.object "ThreeStrangers$Day"))) ∈ lw_all := lw_g (lw_at lw_m5 191 rfl) rfl
theorem q1232 : (Jvm.Cond.methodLink "ThreeStrangers$Day" (33 : Nat) ({ cls := "ThreeStrangers$Day", name := "comes", desc := "()V" } : Jvm.MethodName)) ∈ lw_all := lw_g (lw_at lw_m5 192 rfl) rfl
theorem q1233 : (Jvm.Cond.privateMethod ({ cls := "ThreeStrangers$Day", name := "comes", desc := "()V" } : Jvm.MethodName)) ∈ lw_tbl := lw_at lw_m5 193 rfl
theorem q1234 : (Jvm.Cond.instanceMethod ({ cls := "ThreeStrangers$Day", name := "comes", desc := "()V" } : Jvm.MethodName)) ∈ lw_all := lw_g (lw_at lw_m5 194 rfl) rfl
theorem q1235 : (Jvm.Cond.code ({ cls := "ThreeStrangers$Day", name := "comes", desc := "()V" } : Jvm.MethodName) prog_5_method_4_code (4 : Nat) (Option.none : Option Jvm.ClassFile.FieldType)) ∈ lw_all := lw_g (lw_at lw_m5 195 rfl) rfl
theorem q1236 : (Jvm.Cond.methodLink "ThreeStrangers$Day" (44 : Nat) ({ cls := "ThreeStrangers$Day", name := "sends", desc := "(LThreeStrangers$Coachman;III)I" } : Jvm.MethodName)) ∈ lw_all := lw_g (lw_at lw_m5 196 rfl) rfl
theorem q1237 : (Jvm.Cond.privateMethod ({ cls := "ThreeStrangers$Day", name := "sends", desc := "(LThreeStrangers$Coachman;III)I" } : Jvm.MethodName)) ∈ lw_tbl := lw_at lw_m5 197 rfl
theorem q1238 : (Jvm.Cond.instanceMethod ({ cls := "ThreeStrangers$Day", name := "sends", desc := "(LThreeStrangers$Coachman;III)I" } : Jvm.MethodName)) ∈ lw_all := lw_g (lw_at lw_m5 198 rfl) rfl
theorem q1239 : (Jvm.Cond.code ({ cls := "ThreeStrangers$Day", name := "sends", desc := "(LThreeStrangers$Coachman;III)I" } : Jvm.MethodName) prog_5_method_5_code (7 : Nat) (Option.some Jvm.ClassFile.FieldType.int)) ∈ lw_all := lw_g (lw_at lw_m5 199 rfl) rfl
theorem q1240 : (Jvm.Cond.methodLink "ThreeStrangers$Day" (55 : Nat) ({ cls := "ThreeStrangers$Coachman", name := "sends", desc := "(LThreeStrangers$Groups;II)I" } : Jvm.MethodName)) ∈ lw_all := lw_g (lw_at lw_m5 200 rfl) rfl
theorem q1241 : (Jvm.Cond.methodLink "ThreeStrangers$Day" (51 : Nat) ({ cls := "ThreeStrangers$Day", name := "leaves", desc := "(II)V" } : Jvm.MethodName)) ∈ lw_all := lw_g (lw_at lw_m5 201 rfl) rfl
theorem q1242 : (Jvm.Cond.privateMethod ({ cls := "ThreeStrangers$Day", name := "leaves", desc := "(II)V" } : Jvm.MethodName)) ∈ lw_tbl := lw_at lw_m5 202 rfl
theorem q1243 : (Jvm.Cond.instanceMethod ({ cls := "ThreeStrangers$Day", name := "leaves", desc := "(II)V" } : Jvm.MethodName)) ∈ lw_all := lw_g (lw_at lw_m5 203 rfl) rfl
theorem q1244 : (Jvm.Cond.code ({ cls := "ThreeStrangers$Day", name := "leaves", desc := "(II)V" } : Jvm.MethodName) prog_5_method_6_code (4 : Nat) (Option.none : Option Jvm.ClassFile.FieldType)) ∈ lw_all := lw_g (lw_at lw_m5 204 rfl) rfl
theorem q1245 : (Jvm.Cond.methodLinkNest "ThreeStrangers$Day" (60 : Nat) ({ cls := "ThreeStrangers", name := "has", desc := "(II)Z" } : Jvm.MethodName) "ThreeStrangers") ∈ lw_tbl := lw_at lw_m5 205 rfl
theorem q1259 : (Jvm.Cond.instanceMethod ({ cls := "ThreeStrangers$Day", name := "waiting", desc := "()I" } : Jvm.MethodName)) ∈ lw_all := lw_g (lw_at lw_m5 219 rfl) rfl
theorem q1260 : (Jvm.Cond.selects "ThreeStrangers$Day" ({ cls := "ThreeStrangers$Day", name := "waiting", desc := "()I" } : Jvm.MethodName) ({ cls := "ThreeStrangers$Day", name := "waiting", desc := "()I" } : Jvm.MethodName)) ∈ lw_all := lw_g (lw_at lw_m5 220 rfl) rfl
theorem q1261 : (Jvm.Cond.code ({ cls := "ThreeStrangers$Day", name := "waiting", desc := "()I" } : Jvm.MethodName) prog_5_method_7_code (3 : Nat) (Option.some Jvm.ClassFile.FieldType.int)) ∈ lw_all := lw_g (lw_at lw_m5 221 rfl) rfl
theorem q1267 : (Jvm.Cond.instanceMethod ({ cls := "ThreeStrangers$Day", name := "comes", desc := "(LThreeStrangers$Town;)[I" } : Jvm.MethodName)) ∈ lw_all := lw_g (lw_at lw_m5 227 rfl) rfl
theorem q1268 : (Jvm.Cond.selects "ThreeStrangers$Day" ({ cls := "ThreeStrangers$Day", name := "comes", desc := "(LThreeStrangers$Town;)[I" } : Jvm.MethodName) ({ cls := "ThreeStrangers$Day", name := "comes", desc := "(LThreeStrangers$Town;)[I" } : Jvm.MethodName)) ∈ lw_all := lw_g (lw_at lw_m5 228 rfl) rfl
theorem q1269 : (Jvm.Cond.code ({ cls := "ThreeStrangers$Day", name := "comes", desc := "(LThreeStrangers$Town;)[I" } : Jvm.MethodName) prog_5_method_3_code (2 : Nat) (Option.some (Jvm.ClassFile.FieldType.array Jvm.ClassFile.FieldType.int))) ∈ lw_all := lw_g (lw_at lw_m5 229 rfl) rfl
theorem q1290 : (Jvm.Cond.instanceMethod ({ cls := "ThreeStrangers$Day", name := "meets", desc := "(LThreeStrangers$Town;)V" } : Jvm.MethodName)) ∈ lw_all := lw_g (lw_at lw_m6 10 rfl) rfl
theorem q1291 : (Jvm.Cond.selects "ThreeStrangers$Day" ({ cls := "ThreeStrangers$Day", name := "meets", desc := "(LThreeStrangers$Town;)V" } : Jvm.MethodName) ({ cls := "ThreeStrangers$Day", name := "meets", desc := "(LThreeStrangers$Town;)V" } : Jvm.MethodName)) ∈ lw_all := lw_g (lw_at lw_m6 11 rfl) rfl
theorem q1292 : (Jvm.Cond.code ({ cls := "ThreeStrangers$Day", name := "meets", desc := "(LThreeStrangers$Town;)V" } : Jvm.MethodName) prog_5_method_8_code (3 : Nat) (Option.none : Option Jvm.ClassFile.FieldType)) ∈ lw_all := lw_g (lw_at lw_m6 12 rfl) rfl
theorem q1293 : (Jvm.Cond.methodLink "ThreeStrangers$Day" (67 : Nat) ({ cls := "ThreeStrangers$Town", name := "meets", desc := "(I)I" } : Jvm.MethodName)) ∈ lw_all := lw_g (lw_at lw_m6 13 rfl) rfl
theorem in_X3 : ∀ w ∈ wsX30, w ∈ lw_all := lw_in wsX30 [236, 238, 240, 242, 244, 246, 248] (by decide +kernel) (by decide +kernel)
/-! ThreeStrangers$Sheet -/
set_option maxRecDepth 100000
def RX4 : String := "ThreeStrangers$Sheet"
def TX4 : u_T := fun k => match k with
  | _ => ("ThreeStrangers$Sheet", "held", "Ljava/lang/Object;", false)
def tyX4 : Nat → FieldType := fun k => match k with
  | _ => .object "java/lang/Object"
abbrev wsX40 : List Cond := u_ws RX4 TX4 1
theorem nmX4 : ∀ a, a < 1 → ∀ b, b < 1 → a ≠ b → (TX4 a).2.1 ≠ (TX4 b).2.1 := by decide +kernel
theorem tyX4_ok : ∀ k, k < 1 → parseFieldDescriptor (TX4 k).2.2.1 = some (tyX4 k) := by decide +kernel
abbrev cX4_init : ByteArray := prog_13_method_1_code
def yX4_init : MethodName := ⟨RX4, "<init>", "()V"⟩
theorem dX4_init_0 : decode cX4_init 0 = .ok (.aload_n 0, 1) := by decide +kernel
theorem dX4_init_1 : decode cX4_init 1 = .ok (.invokespecial 1, 3) := by decide +kernel
theorem dX4_init_4 : decode cX4_init 4 = .ok (.return_, 1) := by decide +kernel
theorem q85 : (Jvm.Cond.initialized "ThreeStrangers$Sheet") ∈ lw_all := lw_g (lw_at lw_m1 5 rfl) rfl
theorem q253 : (Jvm.Cond.instantiable "ThreeStrangers$Sheet" (1 : Nat)) ∈ lw_all := lw_g (lw_at lw_m1 173 rfl) rfl
theorem q255 : (Jvm.Cond.instanceMethod ({ cls := "ThreeStrangers$Sheet", name := "<init>", desc := "()V" } : Jvm.MethodName)) ∈ lw_all := lw_g (lw_at lw_m1 175 rfl) rfl
theorem q256 : (Jvm.Cond.code ({ cls := "ThreeStrangers$Sheet", name := "<init>", desc := "()V" } : Jvm.MethodName) prog_13_method_1_code (1 : Nat) (Option.none : Option Jvm.ClassFile.FieldType)) ∈ lw_all := lw_g (lw_at lw_m1 176 rfl) rfl
theorem q257 : (Jvm.Cond.methodLink "ThreeStrangers$Sheet" (1 : Nat) ({ cls := "java/lang/Object", name := "<init>", desc := "()V" } : Jvm.MethodName)) ∈ lw_all := lw_g (lw_at lw_m1 177 rfl) rfl
theorem q259 : (Jvm.Cond.lays "ThreeStrangers$Sheet" "ThreeStrangers$Sheet" "held" "Ljava/lang/Object;") ∈ lw_all := lw_g (lw_at lw_m1 179 rfl) rfl
theorem q260 : (Jvm.Cond.soleField "ThreeStrangers$Sheet" "held") ∈ lw_all := lw_g (lw_at lw_m1 180 rfl) rfl
theorem q261 : (Jvm.Cond.superclass "ThreeStrangers$Sheet" "java/lang/Object") ∈ lw_all := lw_g (lw_at lw_m1 181 rfl) rfl
theorem in_X4 : ∀ w ∈ wsX40, w ∈ lw_all := lw_in wsX40 [259] (by decide +kernel) (by decide +kernel)
/-! ThreeStrangers$Refused -/
set_option maxRecDepth 100000
def RX6 : String := "ThreeStrangers$Refused"
def TX6 : u_T := fun k => match k with
  | 0 => ("java/lang/Throwable", "cause", "Ljava/lang/Throwable;", false)
  | 1 => ("java/lang/Throwable", "stackTrace", "[Ljava/lang/StackTraceElement;", false)
  | 2 => ("java/lang/Throwable", "suppressedExceptions", "Ljava/util/List;", false)
  | 3 => ("java/lang/Throwable", "detailMessage", "Ljava/lang/String;", false)
  | 4 => ("java/lang/Throwable", "backtrace", "Ljava/lang/Object;", false)
  | 5 => ("java/lang/Throwable", "depth", "I", false)
  | _ => ("ThreeStrangers$Refused", "by", "I", true)
def tyX6 : Nat → FieldType := fun k => match k with
  | 0 => .object "java/lang/Throwable"
  | 1 => .array (.object "java/lang/StackTraceElement")
  | 2 => .object "java/util/List"
  | 3 => .object "java/lang/String"
  | 4 => .object "java/lang/Object"
  | 5 => .int
  | _ => .int
abbrev wsX60 : List Cond := u_ws RX6 TX6 7
theorem nmX6 : ∀ a, a < 7 → ∀ b, b < 7 → a ≠ b → (TX6 a).2.1 ≠ (TX6 b).2.1 := by decide +kernel
theorem tyX6_ok : ∀ k, k < 7 → parseFieldDescriptor (TX6 k).2.2.1 = some (tyX6 k) := by decide +kernel
abbrev cX6_init : ByteArray := prog_10_method_1_code
def yX6_init : MethodName := ⟨RX6, "<init>", "(I)V"⟩
def dkwX6_init_0 : List UInt8 := [42, 1, 1, 3, 3, 183, 0, 1, 42, 27, 181, 0, 7, 177]
abbrev dktX6_init_0 : List UInt8 := dkwX6_init_0 ++ []
theorem dksX6_init_0 : cX6_init.data.toList.drop 0 = dktX6_init_0 := by decide +kernel
theorem dX6_init_0 : decode cX6_init 0 = .ok (.aload_n 0, 1) := dk_42 (dk_at dksX6_init_0 0 rfl rfl)
theorem dX6_init_1 : decode cX6_init 1 = .ok (.aconst_null, 1) := dk_1 (dk_at dksX6_init_0 1 rfl rfl)
theorem dX6_init_2 : decode cX6_init 2 = .ok (.aconst_null, 1) := dk_1 (dk_at dksX6_init_0 2 rfl rfl)
theorem dX6_init_3 : decode cX6_init 3 = .ok (.iconst 0, 1) := dk_3 (dk_at dksX6_init_0 3 rfl rfl)
theorem dX6_init_4 : decode cX6_init 4 = .ok (.iconst 0, 1) := dk_3 (dk_at dksX6_init_0 4 rfl rfl)
theorem dX6_init_5 : decode cX6_init 5 = .ok (.invokespecial 1, 3) := dk_183 0 1 (dk_at dksX6_init_0 5 rfl rfl)
theorem dX6_init_8 : decode cX6_init 8 = .ok (.aload_n 0, 1) := dk_42 (dk_at dksX6_init_0 8 rfl rfl)
theorem dX6_init_9 : decode cX6_init 9 = .ok (.iload_n 1, 1) := dk_27 (dk_at dksX6_init_0 9 rfl rfl)
theorem dX6_init_10 : decode cX6_init 10 = .ok (.putfield 7, 3) := dk_181 0 7 (dk_at dksX6_init_0 10 rfl rfl)
theorem dX6_init_13 : decode cX6_init 13 = .ok (.return_, 1) := dk_177 (dk_at dksX6_init_0 13 rfl rfl)
theorem q94 : (Jvm.Cond.initialized "ThreeStrangers$Refused") ∈ lw_all := lw_g (lw_at lw_m1 14 rfl) rfl
theorem q324 : (Jvm.Cond.selects "ThreeStrangers$Refused" ({ cls := "java/lang/Throwable", name := "fillInStackTrace", desc := "()Ljava/lang/Throwable;" } : Jvm.MethodName) ({ cls := "java/lang/Throwable", name := "fillInStackTrace", desc := "()Ljava/lang/Throwable;" } : Jvm.MethodName)) ∈ lw_all := lw_g (lw_at lw_m2 4 rfl) rfl
theorem q435 : (Jvm.Cond.instantiable "ThreeStrangers$Refused" (7 : Nat)) ∈ lw_all := lw_g (lw_at lw_m2 115 rfl) rfl
theorem q436 : (Jvm.Cond.castable "ThreeStrangers$Refused" "ThreeStrangers$Refused") ∈ lw_tbl := lw_at lw_m2 116 rfl
theorem q437 : (Jvm.Cond.selects "ThreeStrangers$Refused" ({ cls := "java/lang/Throwable", name := "fillInStackTrace", desc := "(I)Ljava/lang/Throwable;" } : Jvm.MethodName) ({ cls := "java/lang/Throwable", name := "fillInStackTrace", desc := "(I)Ljava/lang/Throwable;" } : Jvm.MethodName)) ∈ lw_all := lw_g (lw_at lw_m2 117 rfl) rfl
theorem q438 : (Jvm.Cond.lays "ThreeStrangers$Refused" "java/lang/Throwable" "cause" "Ljava/lang/Throwable;") ∈ lw_all := lw_g (lw_at lw_m2 118 rfl) rfl
theorem q439 : (Jvm.Cond.lays "ThreeStrangers$Refused" "java/lang/Throwable" "stackTrace" "[Ljava/lang/StackTraceElement;") ∈ lw_all := lw_g (lw_at lw_m2 119 rfl) rfl
theorem q440 : (Jvm.Cond.lays "ThreeStrangers$Refused" "java/lang/Throwable" "suppressedExceptions" "Ljava/util/List;") ∈ lw_all := lw_g (lw_at lw_m2 120 rfl) rfl
theorem q441 : (Jvm.Cond.lays "ThreeStrangers$Refused" "java/lang/Throwable" "detailMessage" "Ljava/lang/String;") ∈ lw_all := lw_g (lw_at lw_m2 121 rfl) rfl
theorem q442 : (Jvm.Cond.lays "ThreeStrangers$Refused" "java/lang/Throwable" "backtrace" "Ljava/lang/Object;") ∈ lw_all := lw_g (lw_at lw_m2 122 rfl) rfl
theorem q444 : (Jvm.Cond.instanceMethod ({ cls := "ThreeStrangers$Refused", name := "<init>", desc := "(I)V" } : Jvm.MethodName)) ∈ lw_all := lw_g (lw_at lw_m2 124 rfl) rfl
theorem q445 : (Jvm.Cond.code ({ cls := "ThreeStrangers$Refused", name := "<init>", desc := "(I)V" } : Jvm.MethodName) prog_10_method_1_code (2 : Nat) (Option.none : Option Jvm.ClassFile.FieldType)) ∈ lw_all := lw_g (lw_at lw_m2 125 rfl) rfl
theorem q446 : (Jvm.Cond.methodLink "ThreeStrangers$Refused" (1 : Nat) ({ cls := "java/lang/RuntimeException", name := "<init>", desc := "(Ljava/lang/String;Ljava/lang/Throwable;ZZ)V" } : Jvm.MethodName)) ∈ lw_all := lw_g (lw_at lw_m2 126 rfl) rfl
theorem q455 : (Jvm.Cond.fieldLink "ThreeStrangers$Refused" (7 : Nat) "ThreeStrangers$Refused" "by" "I") ∈ lw_all := lw_g (lw_at lw_m2 135 rfl) rfl
theorem q457 : (Jvm.Cond.laysFinal "ThreeStrangers$Refused" "ThreeStrangers$Refused" "by" "I") ∈ lw_all := lw_g (lw_at lw_m2 137 rfl) rfl
theorem q458 : (Jvm.Cond.soleField "ThreeStrangers$Refused" "by") ∈ lw_all := lw_g (lw_at lw_m2 138 rfl) rfl
theorem q459 : (Jvm.Cond.lays "ThreeStrangers$Refused" "java/lang/Throwable" "depth" "I") ∈ lw_all := lw_g (lw_at lw_m2 139 rfl) rfl
theorem q460 : (Jvm.Cond.superclass "ThreeStrangers$Refused" "java/lang/RuntimeException") ∈ lw_all := lw_g (lw_at lw_m2 140 rfl) rfl
theorem in_X6 : ∀ w ∈ wsX60, w ∈ lw_all := lw_in wsX60 [438, 439, 440, 441, 442, 459, 457] (by decide +kernel) (by decide +kernel)
/-! ThreeStrangers$Coachman -/
set_option maxRecDepth 100000
def RX7 : String := "ThreeStrangers$Coachman"
abbrev cX7_kind : ByteArray := prog_4_method_2_code
def yX7_kind : MethodName := ⟨RX7, "kind", "()I"⟩
theorem dX7_kind_0 : decode cX7_kind 0 = .ok (.iconst 0, 1) := by decide +kernel
theorem dX7_kind_1 : decode cX7_kind 1 = .ok (.ireturn, 1) := by decide +kernel
abbrev cX7_init : ByteArray := prog_4_method_1_code
def yX7_init : MethodName := ⟨RX7, "<init>", "(I)V"⟩
def dkwX7_init_0 : List UInt8 := [42, 183, 0, 1, 42, 27, 181, 0, 7, 177]
abbrev dktX7_init_0 : List UInt8 := dkwX7_init_0 ++ []
theorem dksX7_init_0 : cX7_init.data.toList.drop 0 = dktX7_init_0 := by decide +kernel
theorem dX7_init_0 : decode cX7_init 0 = .ok (.aload_n 0, 1) := dk_42 (dk_at dksX7_init_0 0 rfl rfl)
theorem dX7_init_1 : decode cX7_init 1 = .ok (.invokespecial 1, 3) := dk_183 0 1 (dk_at dksX7_init_0 1 rfl rfl)
theorem dX7_init_4 : decode cX7_init 4 = .ok (.aload_n 0, 1) := dk_42 (dk_at dksX7_init_0 4 rfl rfl)
theorem dX7_init_5 : decode cX7_init 5 = .ok (.iload_n 1, 1) := dk_27 (dk_at dksX7_init_0 5 rfl rfl)
theorem dX7_init_6 : decode cX7_init 6 = .ok (.putfield 7, 3) := dk_181 0 7 (dk_at dksX7_init_0 6 rfl rfl)
theorem dX7_init_9 : decode cX7_init 9 = .ok (.return_, 1) := dk_177 (dk_at dksX7_init_0 9 rfl rfl)
abbrev cX7_sends : ByteArray := prog_4_method_3_code
def yX7_sends : MethodName := ⟨RX7, "sends", "(LThreeStrangers$Groups;II)I"⟩
theorem dX7_sends_0 : decode cX7_sends 0 = .ok (.iconst 0, 1) := by decide +kernel
theorem dX7_sends_1 : decode cX7_sends 1 = .ok (.ireturn, 1) := by decide +kernel
theorem q98 : (Jvm.Cond.initialized "ThreeStrangers$Coachman") ∈ lw_all := lw_g (lw_at lw_m1 18 rfl) rfl
theorem q531 : (Jvm.Cond.instanceMethod ({ cls := "ThreeStrangers$Coachman", name := "kind", desc := "()I" } : Jvm.MethodName)) ∈ lw_all := lw_g (lw_at lw_m2 211 rfl) rfl
theorem q532 : (Jvm.Cond.sameMethod "ThreeStrangers$Coachman" "ThreeStrangers$Coachman" "kind" "()I") ∈ lw_all := lw_g (lw_at lw_m2 212 rfl) rfl
theorem q548 : (Jvm.Cond.code ({ cls := "ThreeStrangers$Coachman", name := "kind", desc := "()I" } : Jvm.MethodName) prog_4_method_2_code (1 : Nat) (Option.some Jvm.ClassFile.FieldType.int)) ∈ lw_all := lw_g (lw_at lw_m2 228 rfl) rfl
theorem q562 : (Jvm.Cond.instanceMethod ({ cls := "ThreeStrangers$Coachman", name := "<init>", desc := "(I)V" } : Jvm.MethodName)) ∈ lw_all := lw_g (lw_at lw_m3 2 rfl) rfl
theorem q563 : (Jvm.Cond.code ({ cls := "ThreeStrangers$Coachman", name := "<init>", desc := "(I)V" } : Jvm.MethodName) prog_4_method_1_code (2 : Nat) (Option.none : Option Jvm.ClassFile.FieldType)) ∈ lw_all := lw_g (lw_at lw_m3 3 rfl) rfl
theorem q564 : (Jvm.Cond.methodLink "ThreeStrangers$Coachman" (1 : Nat) ({ cls := "java/lang/Object", name := "<init>", desc := "()V" } : Jvm.MethodName)) ∈ lw_all := lw_g (lw_at lw_m3 4 rfl) rfl
theorem q565 : (Jvm.Cond.fieldLink "ThreeStrangers$Coachman" (7 : Nat) "ThreeStrangers$Coachman" "a" "I") ∈ lw_all := lw_g (lw_at lw_m3 5 rfl) rfl
theorem q570 : (Jvm.Cond.soleField "ThreeStrangers$Coachman" "a") ∈ lw_all := lw_g (lw_at lw_m3 10 rfl) rfl
theorem q670 : (Jvm.Cond.superclass "ThreeStrangers$Coachman" "java/lang/Object") ∈ lw_all := lw_g (lw_at lw_m3 110 rfl) rfl
theorem q1212 : (Jvm.Cond.instanceMethod ({ cls := "ThreeStrangers$Coachman", name := "sends", desc := "(LThreeStrangers$Groups;II)I" } : Jvm.MethodName)) ∈ lw_all := lw_g (lw_at lw_m5 172 rfl) rfl
theorem q1213 : (Jvm.Cond.sameMethod "ThreeStrangers$Coachman" "ThreeStrangers$Coachman" "sends" "(LThreeStrangers$Groups;II)I") ∈ lw_all := lw_g (lw_at lw_m5 173 rfl) rfl
theorem q1219 : (Jvm.Cond.code ({ cls := "ThreeStrangers$Coachman", name := "sends", desc := "(LThreeStrangers$Groups;II)I" } : Jvm.MethodName) prog_4_method_3_code (4 : Nat) (Option.some Jvm.ClassFile.FieldType.int)) ∈ lw_all := lw_g (lw_at lw_m5 179 rfl) rfl
/-! ThreeStrangers$First -/
set_option maxRecDepth 100000
def RX8 : String := "ThreeStrangers$First"
def TX8 : u_T := fun k => match k with
  | _ => ("ThreeStrangers$Coachman", "a", "I", true)
def tyX8 : Nat → FieldType := fun k => match k with
  | _ => .int
abbrev wsX80 : List Cond := u_ws RX8 TX8 1
theorem nmX8 : ∀ a, a < 1 → ∀ b, b < 1 → a ≠ b → (TX8 a).2.1 ≠ (TX8 b).2.1 := by decide +kernel
theorem tyX8_ok : ∀ k, k < 1 → parseFieldDescriptor (TX8 k).2.2.1 = some (tyX8 k) := by decide +kernel
abbrev cX8_kind : ByteArray := prog_7_method_2_code
def yX8_kind : MethodName := ⟨RX8, "kind", "()I"⟩
theorem dX8_kind_0 : decode cX8_kind 0 = .ok (.iconst 1, 1) := by decide +kernel
theorem dX8_kind_1 : decode cX8_kind 1 = .ok (.ireturn, 1) := by decide +kernel
abbrev cX8_init : ByteArray := prog_7_method_1_code
def yX8_init : MethodName := ⟨RX8, "<init>", "(I)V"⟩
def dkwX8_init_0 : List UInt8 := [42, 27, 183, 0, 1, 177]
abbrev dktX8_init_0 : List UInt8 := dkwX8_init_0 ++ []
theorem dksX8_init_0 : cX8_init.data.toList.drop 0 = dktX8_init_0 := by decide +kernel
theorem dX8_init_0 : decode cX8_init 0 = .ok (.aload_n 0, 1) := dk_42 (dk_at dksX8_init_0 0 rfl rfl)
theorem dX8_init_1 : decode cX8_init 1 = .ok (.iload_n 1, 1) := dk_27 (dk_at dksX8_init_0 1 rfl rfl)
theorem dX8_init_2 : decode cX8_init 2 = .ok (.invokespecial 1, 3) := dk_183 0 1 (dk_at dksX8_init_0 2 rfl rfl)
theorem dX8_init_5 : decode cX8_init 5 = .ok (.return_, 1) := dk_177 (dk_at dksX8_init_0 5 rfl rfl)
abbrev cX8_sends : ByteArray := prog_7_method_3_code
def yX8_sends : MethodName := ⟨RX8, "sends", "(LThreeStrangers$Groups;II)I"⟩
def dkwX8_sends_0 : List UInt8 := [43, 28, 182, 0, 7, 172]
abbrev dktX8_sends_0 : List UInt8 := dkwX8_sends_0 ++ []
theorem dksX8_sends_0 : cX8_sends.data.toList.drop 0 = dktX8_sends_0 := by decide +kernel
theorem dX8_sends_0 : decode cX8_sends 0 = .ok (.aload_n 1, 1) := dk_43 (dk_at dksX8_sends_0 0 rfl rfl)
theorem dX8_sends_1 : decode cX8_sends 1 = .ok (.iload_n 2, 1) := dk_28 (dk_at dksX8_sends_0 1 rfl rfl)
theorem dX8_sends_2 : decode cX8_sends 2 = .ok (.invokevirtual 7, 3) := dk_182 0 7 (dk_at dksX8_sends_0 2 rfl rfl)
theorem dX8_sends_5 : decode cX8_sends 5 = .ok (.ireturn, 1) := dk_172 (dk_at dksX8_sends_0 5 rfl rfl)
theorem q99 : (Jvm.Cond.initialized "ThreeStrangers$First") ∈ lw_all := lw_g (lw_at lw_m1 19 rfl) rfl
theorem q539 : (Jvm.Cond.selects "ThreeStrangers$First" ({ cls := "ThreeStrangers$Coachman", name := "kind", desc := "()I" } : Jvm.MethodName) ({ cls := "ThreeStrangers$First", name := "kind", desc := "()I" } : Jvm.MethodName)) ∈ lw_all := lw_g (lw_at lw_m2 219 rfl) rfl
theorem q540 : (Jvm.Cond.instanceMethod ({ cls := "ThreeStrangers$First", name := "kind", desc := "()I" } : Jvm.MethodName)) ∈ lw_all := lw_g (lw_at lw_m2 220 rfl) rfl
theorem q541 : (Jvm.Cond.code ({ cls := "ThreeStrangers$First", name := "kind", desc := "()I" } : Jvm.MethodName) prog_7_method_2_code (1 : Nat) (Option.some Jvm.ClassFile.FieldType.int)) ∈ lw_all := lw_g (lw_at lw_m2 221 rfl) rfl
theorem q557 : (Jvm.Cond.instantiable "ThreeStrangers$First" (1 : Nat)) ∈ lw_all := lw_g (lw_at lw_m2 237 rfl) rfl
theorem q559 : (Jvm.Cond.instanceMethod ({ cls := "ThreeStrangers$First", name := "<init>", desc := "(I)V" } : Jvm.MethodName)) ∈ lw_all := lw_g (lw_at lw_m2 239 rfl) rfl
theorem q560 : (Jvm.Cond.code ({ cls := "ThreeStrangers$First", name := "<init>", desc := "(I)V" } : Jvm.MethodName) prog_7_method_1_code (2 : Nat) (Option.none : Option Jvm.ClassFile.FieldType)) ∈ lw_all := lw_g (lw_at lw_m3 0 rfl) rfl
theorem q561 : (Jvm.Cond.methodLink "ThreeStrangers$First" (1 : Nat) ({ cls := "ThreeStrangers$Coachman", name := "<init>", desc := "(I)V" } : Jvm.MethodName)) ∈ lw_all := lw_g (lw_at lw_m3 1 rfl) rfl
theorem q569 : (Jvm.Cond.laysFinal "ThreeStrangers$First" "ThreeStrangers$Coachman" "a" "I") ∈ lw_all := lw_g (lw_at lw_m3 9 rfl) rfl
theorem q571 : (Jvm.Cond.superclass "ThreeStrangers$First" "ThreeStrangers$Coachman") ∈ lw_all := lw_g (lw_at lw_m3 11 rfl) rfl
theorem q674 : (Jvm.Cond.unhidden "ThreeStrangers$First" "sends" "(LThreeStrangers$Groups;I)I") ∈ lw_tbl := lw_at lw_m3 114 rfl
theorem q718 : (Jvm.Cond.castable "ThreeStrangers$First" "ThreeStrangers$Sends") ∈ lw_tbl := lw_at lw_m3 158 rfl
theorem q719 : (Jvm.Cond.selects "ThreeStrangers$First" ({ cls := "ThreeStrangers$Sends", name := "sends", desc := "(LThreeStrangers$Groups;II)I" } : Jvm.MethodName) ({ cls := "ThreeStrangers$First", name := "sends", desc := "(LThreeStrangers$Groups;II)I" } : Jvm.MethodName)) ∈ lw_all := lw_g (lw_at lw_m3 159 rfl) rfl
theorem q720 : (Jvm.Cond.unhidden "ThreeStrangers$First" "sends" "(LThreeStrangers$Groups;II)I") ∈ lw_tbl := lw_at lw_m3 160 rfl
theorem q721 : (Jvm.Cond.instanceMethod ({ cls := "ThreeStrangers$First", name := "sends", desc := "(LThreeStrangers$Groups;II)I" } : Jvm.MethodName)) ∈ lw_all := lw_g (lw_at lw_m3 161 rfl) rfl
theorem q722 : (Jvm.Cond.publicMethod ({ cls := "ThreeStrangers$First", name := "sends", desc := "(LThreeStrangers$Groups;II)I" } : Jvm.MethodName)) ∈ lw_tbl := lw_at lw_m3 162 rfl
theorem q723 : (Jvm.Cond.code ({ cls := "ThreeStrangers$First", name := "sends", desc := "(LThreeStrangers$Groups;II)I" } : Jvm.MethodName) prog_7_method_3_code (4 : Nat) (Option.some Jvm.ClassFile.FieldType.int)) ∈ lw_all := lw_g (lw_at lw_m3 163 rfl) rfl
theorem q724 : (Jvm.Cond.methodLink "ThreeStrangers$First" (7 : Nat) ({ cls := "ThreeStrangers$Groups", name := "first", desc := "(I)I" } : Jvm.MethodName)) ∈ lw_all := lw_g (lw_at lw_m3 164 rfl) rfl
theorem q1216 : (Jvm.Cond.selects "ThreeStrangers$First" ({ cls := "ThreeStrangers$Coachman", name := "sends", desc := "(LThreeStrangers$Groups;II)I" } : Jvm.MethodName) ({ cls := "ThreeStrangers$First", name := "sends", desc := "(LThreeStrangers$Groups;II)I" } : Jvm.MethodName)) ∈ lw_all := lw_g (lw_at lw_m5 176 rfl) rfl
theorem q2058 : (Jvm.Cond.sameMethod "ThreeStrangers$First" "ThreeStrangers$First" "sends" "(LThreeStrangers$Groups;II)I") ∈ lw_all := lw_g (lw_at lw_m9 58 rfl) rfl
theorem q2068 : (Jvm.Cond.castable "ThreeStrangers$First" "ThreeStrangers$Coachman") ∈ lw_tbl := lw_at lw_m9 68 rfl
theorem in_X8 : ∀ w ∈ wsX80, w ∈ lw_all := lw_in wsX80 [569] (by decide +kernel) (by decide +kernel)
/-! ThreeStrangers$Choose -/
set_option maxRecDepth 100000
def RX9 : String := "ThreeStrangers$Choose"
def TX9 : u_T := fun k => match k with
  | _ => ("ThreeStrangers$Coachman", "a", "I", true)
def tyX9 : Nat → FieldType := fun k => match k with
  | _ => .int
abbrev wsX90 : List Cond := u_ws RX9 TX9 1
theorem nmX9 : ∀ a, a < 1 → ∀ b, b < 1 → a ≠ b → (TX9 a).2.1 ≠ (TX9 b).2.1 := by decide +kernel
theorem tyX9_ok : ∀ k, k < 1 → parseFieldDescriptor (TX9 k).2.2.1 = some (tyX9 k) := by decide +kernel
abbrev cX9_kind : ByteArray := prog_3_method_2_code
def yX9_kind : MethodName := ⟨RX9, "kind", "()I"⟩
theorem dX9_kind_0 : decode cX9_kind 0 = .ok (.iconst 2, 1) := by decide +kernel
theorem dX9_kind_1 : decode cX9_kind 1 = .ok (.ireturn, 1) := by decide +kernel
abbrev cX9_init : ByteArray := prog_3_method_1_code
def yX9_init : MethodName := ⟨RX9, "<init>", "(I)V"⟩
def dkwX9_init_0 : List UInt8 := [42, 27, 183, 0, 1, 177]
abbrev dktX9_init_0 : List UInt8 := dkwX9_init_0 ++ []
theorem dksX9_init_0 : cX9_init.data.toList.drop 0 = dktX9_init_0 := by decide +kernel
theorem dX9_init_0 : decode cX9_init 0 = .ok (.aload_n 0, 1) := dk_42 (dk_at dksX9_init_0 0 rfl rfl)
theorem dX9_init_1 : decode cX9_init 1 = .ok (.iload_n 1, 1) := dk_27 (dk_at dksX9_init_0 1 rfl rfl)
theorem dX9_init_2 : decode cX9_init 2 = .ok (.invokespecial 1, 3) := dk_183 0 1 (dk_at dksX9_init_0 2 rfl rfl)
theorem dX9_init_5 : decode cX9_init 5 = .ok (.return_, 1) := dk_177 (dk_at dksX9_init_0 5 rfl rfl)
abbrev cX9_sends : ByteArray := prog_3_method_4_code
def yX9_sends : MethodName := ⟨RX9, "sends", "(LThreeStrangers$Groups;II)I"⟩
def dkwX9_sends_3 : List UInt8 := [54, 5, 132, 6, 1, 167, 255, 192, 21, 4, 172]
abbrev dktX9_sends_3 : List UInt8 := dkwX9_sends_3 ++ []
def dkwX9_sends_2 : List UInt8 := [21, 4, 153, 0, 10, 21, 7, 21, 5, 164, 0, 16, 43, 180, 0, 21, 21, 6, 46, 54, 4, 21, 7]
abbrev dktX9_sends_2 : List UInt8 := dkwX9_sends_2 ++ dktX9_sends_3
def dkwX9_sends_1 : List UInt8 := [182, 0, 17, 154, 0, 6, 167, 0, 42, 42, 43, 43, 180, 0, 21, 21, 6, 46, 182, 0, 25, 54, 7]
abbrev dktX9_sends_1 : List UInt8 := dkwX9_sends_1 ++ dktX9_sends_2
def dkwX9_sends_0 : List UInt8 := [3, 54, 4, 3, 54, 5, 3, 54, 6, 21, 6, 43, 180, 0, 13, 162, 0, 61, 43, 21, 6, 28]
abbrev dktX9_sends_0 : List UInt8 := dkwX9_sends_0 ++ dktX9_sends_1
theorem dksX9_sends_0 : cX9_sends.data.toList.drop 0 = dktX9_sends_0 := by decide +kernel
theorem dksX9_sends_1 : cX9_sends.data.toList.drop 22 = dktX9_sends_1 := dk_seg dksX9_sends_0 22 rfl rfl
theorem dksX9_sends_2 : cX9_sends.data.toList.drop 45 = dktX9_sends_2 := dk_seg dksX9_sends_1 23 rfl rfl
theorem dksX9_sends_3 : cX9_sends.data.toList.drop 68 = dktX9_sends_3 := dk_seg dksX9_sends_2 23 rfl rfl
theorem dX9_sends_0 : decode cX9_sends 0 = .ok (.iconst 0, 1) := dk_3 (dk_at dksX9_sends_0 0 rfl rfl)
theorem dX9_sends_1 : decode cX9_sends 1 = .ok (.istore 4, 2) := dk_54 4 (dk_at dksX9_sends_0 1 rfl rfl)
theorem dX9_sends_3 : decode cX9_sends 3 = .ok (.iconst 0, 1) := dk_3 (dk_at dksX9_sends_0 3 rfl rfl)
theorem dX9_sends_4 : decode cX9_sends 4 = .ok (.istore 5, 2) := dk_54 5 (dk_at dksX9_sends_0 4 rfl rfl)
theorem dX9_sends_6 : decode cX9_sends 6 = .ok (.iconst 0, 1) := dk_3 (dk_at dksX9_sends_0 6 rfl rfl)
theorem dX9_sends_7 : decode cX9_sends 7 = .ok (.istore 6, 2) := dk_54 6 (dk_at dksX9_sends_0 7 rfl rfl)
theorem dX9_sends_9 : decode cX9_sends 9 = .ok (.iload 6, 2) := dk_21 6 (dk_at dksX9_sends_0 9 rfl rfl)
theorem dX9_sends_11 : decode cX9_sends 11 = .ok (.aload_n 1, 1) := dk_43 (dk_at dksX9_sends_0 11 rfl rfl)
theorem dX9_sends_12 : decode cX9_sends 12 = .ok (.getfield 13, 3) := dk_180 0 13 (dk_at dksX9_sends_0 12 rfl rfl)
theorem dX9_sends_15 : decode cX9_sends 15 = .ok (.if_icmp .ge 61, 3) := dk_162 0 61 (dk_at dksX9_sends_0 15 rfl rfl)
theorem dX9_sends_18 : decode cX9_sends 18 = .ok (.aload_n 1, 1) := dk_43 (dk_at dksX9_sends_0 18 rfl rfl)
theorem dX9_sends_19 : decode cX9_sends 19 = .ok (.iload 6, 2) := dk_21 6 (dk_at dksX9_sends_0 19 rfl rfl)
theorem dX9_sends_21 : decode cX9_sends 21 = .ok (.iload_n 2, 1) := dk_28 (dk_at dksX9_sends_0 21 rfl rfl)
theorem dX9_sends_22 : decode cX9_sends 22 = .ok (.invokevirtual 17, 3) := dk_182 0 17 (dk_at dksX9_sends_1 0 rfl rfl)
theorem dX9_sends_25 : decode cX9_sends 25 = .ok (.ifCond .ne 6, 3) := dk_154 0 6 (dk_at dksX9_sends_1 3 rfl rfl)
theorem dX9_sends_28 : decode cX9_sends 28 = .ok (.goto 42, 3) := dk_167 0 42 (dk_at dksX9_sends_1 6 rfl rfl)
theorem dX9_sends_31 : decode cX9_sends 31 = .ok (.aload_n 0, 1) := dk_42 (dk_at dksX9_sends_1 9 rfl rfl)
theorem dX9_sends_32 : decode cX9_sends 32 = .ok (.aload_n 1, 1) := dk_43 (dk_at dksX9_sends_1 10 rfl rfl)
theorem dX9_sends_33 : decode cX9_sends 33 = .ok (.aload_n 1, 1) := dk_43 (dk_at dksX9_sends_1 11 rfl rfl)
theorem dX9_sends_34 : decode cX9_sends 34 = .ok (.getfield 21, 3) := dk_180 0 21 (dk_at dksX9_sends_1 12 rfl rfl)
theorem dX9_sends_37 : decode cX9_sends 37 = .ok (.iload 6, 2) := dk_21 6 (dk_at dksX9_sends_1 15 rfl rfl)
theorem dX9_sends_39 : decode cX9_sends 39 = .ok (.iaload, 1) := dk_46 (dk_at dksX9_sends_1 17 rfl rfl)
theorem dX9_sends_40 : decode cX9_sends 40 = .ok (.invokevirtual 25, 3) := dk_182 0 25 (dk_at dksX9_sends_1 18 rfl rfl)
theorem dX9_sends_43 : decode cX9_sends 43 = .ok (.istore 7, 2) := dk_54 7 (dk_at dksX9_sends_1 21 rfl rfl)
theorem dX9_sends_45 : decode cX9_sends 45 = .ok (.iload 4, 2) := dk_21 4 (dk_at dksX9_sends_2 0 rfl rfl)
theorem dX9_sends_47 : decode cX9_sends 47 = .ok (.ifCond .eq 10, 3) := dk_153 0 10 (dk_at dksX9_sends_2 2 rfl rfl)
theorem dX9_sends_50 : decode cX9_sends 50 = .ok (.iload 7, 2) := dk_21 7 (dk_at dksX9_sends_2 5 rfl rfl)
theorem dX9_sends_52 : decode cX9_sends 52 = .ok (.iload 5, 2) := dk_21 5 (dk_at dksX9_sends_2 7 rfl rfl)
theorem dX9_sends_54 : decode cX9_sends 54 = .ok (.if_icmp .le 16, 3) := dk_164 0 16 (dk_at dksX9_sends_2 9 rfl rfl)
theorem dX9_sends_57 : decode cX9_sends 57 = .ok (.aload_n 1, 1) := dk_43 (dk_at dksX9_sends_2 12 rfl rfl)
theorem dX9_sends_58 : decode cX9_sends 58 = .ok (.getfield 21, 3) := dk_180 0 21 (dk_at dksX9_sends_2 13 rfl rfl)
theorem dX9_sends_61 : decode cX9_sends 61 = .ok (.iload 6, 2) := dk_21 6 (dk_at dksX9_sends_2 16 rfl rfl)
theorem dX9_sends_63 : decode cX9_sends 63 = .ok (.iaload, 1) := dk_46 (dk_at dksX9_sends_2 18 rfl rfl)
theorem dX9_sends_64 : decode cX9_sends 64 = .ok (.istore 4, 2) := dk_54 4 (dk_at dksX9_sends_2 19 rfl rfl)
theorem dX9_sends_66 : decode cX9_sends 66 = .ok (.iload 7, 2) := dk_21 7 (dk_at dksX9_sends_2 21 rfl rfl)
theorem dX9_sends_68 : decode cX9_sends 68 = .ok (.istore 5, 2) := dk_54 5 (dk_at dksX9_sends_3 0 rfl rfl)
theorem dX9_sends_70 : decode cX9_sends 70 = .ok (.iinc 6 1, 3) := dk_132 6 1 (dk_at dksX9_sends_3 2 rfl rfl)
theorem dX9_sends_73 : decode cX9_sends 73 = .ok (.goto (-64), 3) := dk_167 255 192 (dk_at dksX9_sends_3 5 rfl rfl)
theorem dX9_sends_76 : decode cX9_sends 76 = .ok (.iload 4, 2) := dk_21 4 (dk_at dksX9_sends_3 8 rfl rfl)
theorem dX9_sends_78 : decode cX9_sends 78 = .ok (.ireturn, 1) := dk_172 (dk_at dksX9_sends_3 10 rfl rfl)
abbrev cX9_worth : ByteArray := prog_3_method_3_code
def yX9_worth : MethodName := ⟨RX9, "worth", "(LThreeStrangers$Groups;I)I"⟩
def dkwX9_worth_0 : List UInt8 := [43, 28, 182, 0, 7, 172]
abbrev dktX9_worth_0 : List UInt8 := dkwX9_worth_0 ++ []
theorem dksX9_worth_0 : cX9_worth.data.toList.drop 0 = dktX9_worth_0 := by decide +kernel
theorem dX9_worth_0 : decode cX9_worth 0 = .ok (.aload_n 1, 1) := dk_43 (dk_at dksX9_worth_0 0 rfl rfl)
theorem dX9_worth_1 : decode cX9_worth 1 = .ok (.iload_n 2, 1) := dk_28 (dk_at dksX9_worth_0 1 rfl rfl)
theorem dX9_worth_2 : decode cX9_worth 2 = .ok (.invokevirtual 7, 3) := dk_182 0 7 (dk_at dksX9_worth_0 2 rfl rfl)
theorem dX9_worth_5 : decode cX9_worth 5 = .ok (.ireturn, 1) := dk_172 (dk_at dksX9_worth_0 5 rfl rfl)
theorem q100 : (Jvm.Cond.initialized "ThreeStrangers$Choose") ∈ lw_all := lw_g (lw_at lw_m1 20 rfl) rfl
theorem q189 : (Jvm.Cond.fieldLink "ThreeStrangers$Choose" (21 : Nat) "ThreeStrangers$Groups" "group" "[I") ∈ lw_all := lw_g (lw_at lw_m1 109 rfl) rfl
theorem q196 : (Jvm.Cond.fieldLink "ThreeStrangers$Choose" (13 : Nat) "ThreeStrangers$Groups" "many" "I") ∈ lw_all := lw_g (lw_at lw_m1 116 rfl) rfl
theorem q536 : (Jvm.Cond.selects "ThreeStrangers$Choose" ({ cls := "ThreeStrangers$Coachman", name := "kind", desc := "()I" } : Jvm.MethodName) ({ cls := "ThreeStrangers$Choose", name := "kind", desc := "()I" } : Jvm.MethodName)) ∈ lw_all := lw_g (lw_at lw_m2 216 rfl) rfl
theorem q537 : (Jvm.Cond.instanceMethod ({ cls := "ThreeStrangers$Choose", name := "kind", desc := "()I" } : Jvm.MethodName)) ∈ lw_all := lw_g (lw_at lw_m2 217 rfl) rfl
theorem q538 : (Jvm.Cond.code ({ cls := "ThreeStrangers$Choose", name := "kind", desc := "()I" } : Jvm.MethodName) prog_3_method_2_code (1 : Nat) (Option.some Jvm.ClassFile.FieldType.int)) ∈ lw_all := lw_g (lw_at lw_m2 218 rfl) rfl
theorem q573 : (Jvm.Cond.instantiable "ThreeStrangers$Choose" (1 : Nat)) ∈ lw_all := lw_g (lw_at lw_m3 13 rfl) rfl
theorem q575 : (Jvm.Cond.instanceMethod ({ cls := "ThreeStrangers$Choose", name := "<init>", desc := "(I)V" } : Jvm.MethodName)) ∈ lw_all := lw_g (lw_at lw_m3 15 rfl) rfl
theorem q576 : (Jvm.Cond.code ({ cls := "ThreeStrangers$Choose", name := "<init>", desc := "(I)V" } : Jvm.MethodName) prog_3_method_1_code (2 : Nat) (Option.none : Option Jvm.ClassFile.FieldType)) ∈ lw_all := lw_g (lw_at lw_m3 16 rfl) rfl
theorem q577 : (Jvm.Cond.methodLink "ThreeStrangers$Choose" (1 : Nat) ({ cls := "ThreeStrangers$Coachman", name := "<init>", desc := "(I)V" } : Jvm.MethodName)) ∈ lw_all := lw_g (lw_at lw_m3 17 rfl) rfl
theorem q578 : (Jvm.Cond.laysFinal "ThreeStrangers$Choose" "ThreeStrangers$Coachman" "a" "I") ∈ lw_all := lw_g (lw_at lw_m3 18 rfl) rfl
theorem q579 : (Jvm.Cond.superclass "ThreeStrangers$Choose" "ThreeStrangers$Coachman") ∈ lw_all := lw_g (lw_at lw_m3 19 rfl) rfl
theorem q673 : (Jvm.Cond.unhidden "ThreeStrangers$Choose" "sends" "(LThreeStrangers$Groups;I)I") ∈ lw_tbl := lw_at lw_m3 113 rfl
theorem q694 : (Jvm.Cond.castable "ThreeStrangers$Choose" "ThreeStrangers$Sends") ∈ lw_tbl := lw_at lw_m3 134 rfl
theorem q695 : (Jvm.Cond.selects "ThreeStrangers$Choose" ({ cls := "ThreeStrangers$Sends", name := "sends", desc := "(LThreeStrangers$Groups;II)I" } : Jvm.MethodName) ({ cls := "ThreeStrangers$Choose", name := "sends", desc := "(LThreeStrangers$Groups;II)I" } : Jvm.MethodName)) ∈ lw_all := lw_g (lw_at lw_m3 135 rfl) rfl
theorem q696 : (Jvm.Cond.unhidden "ThreeStrangers$Choose" "sends" "(LThreeStrangers$Groups;II)I") ∈ lw_tbl := lw_at lw_m3 136 rfl
theorem q697 : (Jvm.Cond.instanceMethod ({ cls := "ThreeStrangers$Choose", name := "sends", desc := "(LThreeStrangers$Groups;II)I" } : Jvm.MethodName)) ∈ lw_all := lw_g (lw_at lw_m3 137 rfl) rfl
theorem q698 : (Jvm.Cond.publicMethod ({ cls := "ThreeStrangers$Choose", name := "sends", desc := "(LThreeStrangers$Groups;II)I" } : Jvm.MethodName)) ∈ lw_tbl := lw_at lw_m3 138 rfl
theorem q699 : (Jvm.Cond.code ({ cls := "ThreeStrangers$Choose", name := "sends", desc := "(LThreeStrangers$Groups;II)I" } : Jvm.MethodName) prog_3_method_4_code (8 : Nat) (Option.some Jvm.ClassFile.FieldType.int)) ∈ lw_all := lw_g (lw_at lw_m3 139 rfl) rfl
theorem q700 : (Jvm.Cond.methodLink "ThreeStrangers$Choose" (17 : Nat) ({ cls := "ThreeStrangers$Groups", name := "isOf", desc := "(II)Z" } : Jvm.MethodName)) ∈ lw_all := lw_g (lw_at lw_m3 140 rfl) rfl
theorem q701 : (Jvm.Cond.methodLink "ThreeStrangers$Choose" (25 : Nat) ({ cls := "ThreeStrangers$Choose", name := "worth", desc := "(LThreeStrangers$Groups;I)I" } : Jvm.MethodName)) ∈ lw_all := lw_g (lw_at lw_m3 141 rfl) rfl
theorem q702 : (Jvm.Cond.instanceMethod ({ cls := "ThreeStrangers$Choose", name := "worth", desc := "(LThreeStrangers$Groups;I)I" } : Jvm.MethodName)) ∈ lw_all := lw_g (lw_at lw_m3 142 rfl) rfl
theorem q703 : (Jvm.Cond.selects "ThreeStrangers$Choose" ({ cls := "ThreeStrangers$Choose", name := "worth", desc := "(LThreeStrangers$Groups;I)I" } : Jvm.MethodName) ({ cls := "ThreeStrangers$Choose", name := "worth", desc := "(LThreeStrangers$Groups;I)I" } : Jvm.MethodName)) ∈ lw_all := lw_g (lw_at lw_m3 143 rfl) rfl
theorem q704 : (Jvm.Cond.sameMethod "ThreeStrangers$Choose" "ThreeStrangers$Choose" "worth" "(LThreeStrangers$Groups;I)I") ∈ lw_all := lw_g (lw_at lw_m3 144 rfl) rfl
theorem q713 : (Jvm.Cond.code ({ cls := "ThreeStrangers$Choose", name := "worth", desc := "(LThreeStrangers$Groups;I)I" } : Jvm.MethodName) prog_3_method_3_code (3 : Nat) (Option.some Jvm.ClassFile.FieldType.int)) ∈ lw_all := lw_g (lw_at lw_m3 153 rfl) rfl
theorem q714 : (Jvm.Cond.methodLink "ThreeStrangers$Choose" (7 : Nat) ({ cls := "ThreeStrangers$Groups", name := "costOf", desc := "(I)I" } : Jvm.MethodName)) ∈ lw_all := lw_g (lw_at lw_m3 154 rfl) rfl
theorem q1215 : (Jvm.Cond.selects "ThreeStrangers$Choose" ({ cls := "ThreeStrangers$Coachman", name := "sends", desc := "(LThreeStrangers$Groups;II)I" } : Jvm.MethodName) ({ cls := "ThreeStrangers$Choose", name := "sends", desc := "(LThreeStrangers$Groups;II)I" } : Jvm.MethodName)) ∈ lw_all := lw_g (lw_at lw_m5 175 rfl) rfl
theorem q2067 : (Jvm.Cond.castable "ThreeStrangers$Choose" "ThreeStrangers$Coachman") ∈ lw_tbl := lw_at lw_m9 67 rfl
theorem in_X9 : ∀ w ∈ wsX90, w ∈ lw_all := lw_in wsX90 [578] (by decide +kernel) (by decide +kernel)
