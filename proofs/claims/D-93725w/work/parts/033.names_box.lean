/-! SendTheBox -/
set_option maxRecDepth 100000
def RX0 : String := "SendTheBox"
def TX0 : u_T := fun k => match k with
  | 0 => ("SendTheBox", "now", "LSendTheBox$Kept;", false)
  | 1 => ("SendTheBox", "image", "LSendTheBox$Kept;", false)
  | 2 => ("SendTheBox", "shelves", "[LSendTheBox$Sheet;", true)
  | 3 => ("SendTheBox", "tape", "[I", true)
  | 4 => ("SendTheBox", "size", "I", false)
  | _ => ("SendTheBox", "refused", "[I", true)
def tyX0 : Nat → FieldType := fun k => match k with
  | 0 => .object "SendTheBox$Kept"
  | 1 => .object "SendTheBox$Kept"
  | 2 => .array (.object "SendTheBox$Sheet")
  | 3 => .array .int
  | 4 => .int
  | _ => .array .int
abbrev wsX00 : List Cond := u_ws RX0 TX0 6
theorem nmX0 : ∀ a, a < 6 → ∀ b, b < 6 → a ≠ b → (TX0 a).2.1 ≠ (TX0 b).2.1 := by decide +kernel
theorem tyX0_ok : ∀ k, k < 6 → parseFieldDescriptor (TX0 k).2.2.1 = some (tyX0 k) := by decide +kernel
abbrev cX0_init : ByteArray := prog_1_method_4_code
def yX0_init : MethodName := ⟨RX0, "<init>", "()V"⟩
def dkwX0_init_2 : List UInt8 := [162, 0, 22, 42, 180, 0, 26, 27, 187, 0, 24, 89, 183, 0, 36, 83, 132, 1, 1, 167, 255, 234, 177]
abbrev dktX0_init_2 : List UInt8 := dkwX0_init_2 ++ []
def dkwX0_init_1 : List UInt8 := [42, 17, 0, 160, 188, 10, 181, 0, 30, 42, 16, 7, 188, 10, 181, 0, 33, 3, 60, 27, 16, 8]
abbrev dktX0_init_1 : List UInt8 := dkwX0_init_1 ++ dktX0_init_2
def dkwX0_init_0 : List UInt8 := [42, 183, 0, 11, 42, 187, 0, 17, 89, 183, 0, 19, 181, 0, 20, 42, 16, 8, 189, 0, 24, 181, 0, 26]
abbrev dktX0_init_0 : List UInt8 := dkwX0_init_0 ++ dktX0_init_1
theorem dksX0_init_0 : cX0_init.data.toList.drop 0 = dktX0_init_0 := by decide +kernel
theorem dksX0_init_1 : cX0_init.data.toList.drop 24 = dktX0_init_1 := dk_seg dksX0_init_0 24 rfl rfl
theorem dksX0_init_2 : cX0_init.data.toList.drop 46 = dktX0_init_2 := dk_seg dksX0_init_1 22 rfl rfl
theorem dX0_init_0 : decode cX0_init 0 = .ok (.aload_n 0, 1) := dk_42 (dk_at dksX0_init_0 0 rfl rfl)
theorem dX0_init_1 : decode cX0_init 1 = .ok (.invokespecial 11, 3) := dk_183 0 11 (dk_at dksX0_init_0 1 rfl rfl)
theorem dX0_init_4 : decode cX0_init 4 = .ok (.aload_n 0, 1) := dk_42 (dk_at dksX0_init_0 4 rfl rfl)
theorem dX0_init_5 : decode cX0_init 5 = .ok (.new 17, 3) := dk_187 0 17 (dk_at dksX0_init_0 5 rfl rfl)
theorem dX0_init_8 : decode cX0_init 8 = .ok (.dup, 1) := dk_89 (dk_at dksX0_init_0 8 rfl rfl)
theorem dX0_init_9 : decode cX0_init 9 = .ok (.invokespecial 19, 3) := dk_183 0 19 (dk_at dksX0_init_0 9 rfl rfl)
theorem dX0_init_12 : decode cX0_init 12 = .ok (.putfield 20, 3) := dk_181 0 20 (dk_at dksX0_init_0 12 rfl rfl)
theorem dX0_init_15 : decode cX0_init 15 = .ok (.aload_n 0, 1) := dk_42 (dk_at dksX0_init_0 15 rfl rfl)
theorem dX0_init_16 : decode cX0_init 16 = .ok (.bipush 8, 2) := dk_16 8 (dk_at dksX0_init_0 16 rfl rfl)
theorem dX0_init_18 : decode cX0_init 18 = .ok (.anewarray 24, 3) := dk_189 0 24 (dk_at dksX0_init_0 18 rfl rfl)
theorem dX0_init_21 : decode cX0_init 21 = .ok (.putfield 26, 3) := dk_181 0 26 (dk_at dksX0_init_0 21 rfl rfl)
theorem dX0_init_24 : decode cX0_init 24 = .ok (.aload_n 0, 1) := dk_42 (dk_at dksX0_init_1 0 rfl rfl)
theorem dX0_init_25 : decode cX0_init 25 = .ok (.sipush 160, 3) := dk_17 0 160 (dk_at dksX0_init_1 1 rfl rfl)
theorem dX0_init_28 : decode cX0_init 28 = .ok (.newarray .int, 2) := dk_188_10 (dk_at dksX0_init_1 4 rfl rfl)
theorem dX0_init_30 : decode cX0_init 30 = .ok (.putfield 30, 3) := dk_181 0 30 (dk_at dksX0_init_1 6 rfl rfl)
theorem dX0_init_33 : decode cX0_init 33 = .ok (.aload_n 0, 1) := dk_42 (dk_at dksX0_init_1 9 rfl rfl)
theorem dX0_init_34 : decode cX0_init 34 = .ok (.bipush 7, 2) := dk_16 7 (dk_at dksX0_init_1 10 rfl rfl)
theorem dX0_init_36 : decode cX0_init 36 = .ok (.newarray .int, 2) := dk_188_10 (dk_at dksX0_init_1 12 rfl rfl)
theorem dX0_init_38 : decode cX0_init 38 = .ok (.putfield 33, 3) := dk_181 0 33 (dk_at dksX0_init_1 14 rfl rfl)
theorem dX0_init_41 : decode cX0_init 41 = .ok (.iconst 0, 1) := dk_3 (dk_at dksX0_init_1 17 rfl rfl)
theorem dX0_init_42 : decode cX0_init 42 = .ok (.istore_n 1, 1) := dk_60 (dk_at dksX0_init_1 18 rfl rfl)
theorem dX0_init_43 : decode cX0_init 43 = .ok (.iload_n 1, 1) := dk_27 (dk_at dksX0_init_1 19 rfl rfl)
theorem dX0_init_44 : decode cX0_init 44 = .ok (.bipush 8, 2) := dk_16 8 (dk_at dksX0_init_1 20 rfl rfl)
theorem dX0_init_46 : decode cX0_init 46 = .ok (.if_icmp .ge 22, 3) := dk_162 0 22 (dk_at dksX0_init_2 0 rfl rfl)
theorem dX0_init_49 : decode cX0_init 49 = .ok (.aload_n 0, 1) := dk_42 (dk_at dksX0_init_2 3 rfl rfl)
theorem dX0_init_50 : decode cX0_init 50 = .ok (.getfield 26, 3) := dk_180 0 26 (dk_at dksX0_init_2 4 rfl rfl)
theorem dX0_init_53 : decode cX0_init 53 = .ok (.iload_n 1, 1) := dk_27 (dk_at dksX0_init_2 7 rfl rfl)
theorem dX0_init_54 : decode cX0_init 54 = .ok (.new 24, 3) := dk_187 0 24 (dk_at dksX0_init_2 8 rfl rfl)
theorem dX0_init_57 : decode cX0_init 57 = .ok (.dup, 1) := dk_89 (dk_at dksX0_init_2 11 rfl rfl)
theorem dX0_init_58 : decode cX0_init 58 = .ok (.invokespecial 36, 3) := dk_183 0 36 (dk_at dksX0_init_2 12 rfl rfl)
theorem dX0_init_61 : decode cX0_init 61 = .ok (.aastore, 1) := dk_83 (dk_at dksX0_init_2 15 rfl rfl)
theorem dX0_init_62 : decode cX0_init 62 = .ok (.iinc 1 1, 3) := dk_132 1 1 (dk_at dksX0_init_2 16 rfl rfl)
theorem dX0_init_65 : decode cX0_init 65 = .ok (.goto (-22), 3) := dk_167 255 234 (dk_at dksX0_init_2 19 rfl rfl)
theorem dX0_init_68 : decode cX0_init 68 = .ok (.return_, 1) := dk_177 (dk_at dksX0_init_2 22 rfl rfl)
abbrev cX0_row : ByteArray := prog_1_method_17_code
def yX0_row : MethodName := ⟨RX0, "row", "(III)I"⟩
def dkwX0_row_2 : List UInt8 := [58, 4, 42, 16, 254, 182, 0, 81, 172, 4, 172]
abbrev dktX0_row_2 : List UInt8 := dkwX0_row_2 ++ []
def dkwX0_row_1 : List UInt8 := [16, 254, 182, 0, 81, 172, 42, 180, 0, 26, 27, 50, 28, 29, 184, 0, 85, 181, 0, 89, 167, 0, 12]
abbrev dktX0_row_1 : List UInt8 := dkwX0_row_1 ++ dktX0_row_2
def dkwX0_row_0 : List UInt8 := [27, 184, 0, 78, 153, 0, 18, 28, 155, 0, 14, 28, 7, 163, 0, 9, 29, 16, 125, 164, 0, 10, 42]
abbrev dktX0_row_0 : List UInt8 := dkwX0_row_0 ++ dktX0_row_1
theorem dksX0_row_0 : cX0_row.data.toList.drop 0 = dktX0_row_0 := by decide +kernel
theorem dksX0_row_1 : cX0_row.data.toList.drop 23 = dktX0_row_1 := dk_seg dksX0_row_0 23 rfl rfl
theorem dksX0_row_2 : cX0_row.data.toList.drop 46 = dktX0_row_2 := dk_seg dksX0_row_1 23 rfl rfl
theorem dX0_row_0 : decode cX0_row 0 = .ok (.iload_n 1, 1) := dk_27 (dk_at dksX0_row_0 0 rfl rfl)
theorem dX0_row_1 : decode cX0_row 1 = .ok (.invokestatic 78, 3) := dk_184 0 78 (dk_at dksX0_row_0 1 rfl rfl)
theorem dX0_row_4 : decode cX0_row 4 = .ok (.ifCond .eq 18, 3) := dk_153 0 18 (dk_at dksX0_row_0 4 rfl rfl)
theorem dX0_row_7 : decode cX0_row 7 = .ok (.iload_n 2, 1) := dk_28 (dk_at dksX0_row_0 7 rfl rfl)
theorem dX0_row_8 : decode cX0_row 8 = .ok (.ifCond .lt 14, 3) := dk_155 0 14 (dk_at dksX0_row_0 8 rfl rfl)
theorem dX0_row_11 : decode cX0_row 11 = .ok (.iload_n 2, 1) := dk_28 (dk_at dksX0_row_0 11 rfl rfl)
theorem dX0_row_12 : decode cX0_row 12 = .ok (.iconst 4, 1) := dk_7 (dk_at dksX0_row_0 12 rfl rfl)
theorem dX0_row_13 : decode cX0_row 13 = .ok (.if_icmp .gt 9, 3) := dk_163 0 9 (dk_at dksX0_row_0 13 rfl rfl)
theorem dX0_row_16 : decode cX0_row 16 = .ok (.iload_n 3, 1) := dk_29 (dk_at dksX0_row_0 16 rfl rfl)
theorem dX0_row_17 : decode cX0_row 17 = .ok (.bipush 125, 2) := dk_16 125 (dk_at dksX0_row_0 17 rfl rfl)
theorem dX0_row_19 : decode cX0_row 19 = .ok (.if_icmp .le 10, 3) := dk_164 0 10 (dk_at dksX0_row_0 19 rfl rfl)
theorem dX0_row_22 : decode cX0_row 22 = .ok (.aload_n 0, 1) := dk_42 (dk_at dksX0_row_0 22 rfl rfl)
theorem dX0_row_23 : decode cX0_row 23 = .ok (.bipush (-2), 2) := dk_16 254 (dk_at dksX0_row_1 0 rfl rfl)
theorem dX0_row_25 : decode cX0_row 25 = .ok (.invokevirtual 81, 3) := dk_182 0 81 (dk_at dksX0_row_1 2 rfl rfl)
theorem dX0_row_28 : decode cX0_row 28 = .ok (.ireturn, 1) := dk_172 (dk_at dksX0_row_1 5 rfl rfl)
theorem dX0_row_29 : decode cX0_row 29 = .ok (.aload_n 0, 1) := dk_42 (dk_at dksX0_row_1 6 rfl rfl)
theorem dX0_row_30 : decode cX0_row 30 = .ok (.getfield 26, 3) := dk_180 0 26 (dk_at dksX0_row_1 7 rfl rfl)
theorem dX0_row_33 : decode cX0_row 33 = .ok (.iload_n 1, 1) := dk_27 (dk_at dksX0_row_1 10 rfl rfl)
theorem dX0_row_34 : decode cX0_row 34 = .ok (.aaload, 1) := dk_50 (dk_at dksX0_row_1 11 rfl rfl)
theorem dX0_row_35 : decode cX0_row 35 = .ok (.iload_n 2, 1) := dk_28 (dk_at dksX0_row_1 12 rfl rfl)
theorem dX0_row_36 : decode cX0_row 36 = .ok (.iload_n 3, 1) := dk_29 (dk_at dksX0_row_1 13 rfl rfl)
theorem dX0_row_37 : decode cX0_row 37 = .ok (.invokestatic 85, 3) := dk_184 0 85 (dk_at dksX0_row_1 14 rfl rfl)
theorem dX0_row_40 : decode cX0_row 40 = .ok (.putfield 89, 3) := dk_181 0 89 (dk_at dksX0_row_1 17 rfl rfl)
theorem dX0_row_43 : decode cX0_row 43 = .ok (.goto 12, 3) := dk_167 0 12 (dk_at dksX0_row_1 20 rfl rfl)
theorem dX0_row_46 : decode cX0_row 46 = .ok (.astore 4, 2) := dk_58 4 (dk_at dksX0_row_2 0 rfl rfl)
theorem dX0_row_48 : decode cX0_row 48 = .ok (.aload_n 0, 1) := dk_42 (dk_at dksX0_row_2 2 rfl rfl)
theorem dX0_row_49 : decode cX0_row 49 = .ok (.bipush (-2), 2) := dk_16 254 (dk_at dksX0_row_2 3 rfl rfl)
theorem dX0_row_51 : decode cX0_row 51 = .ok (.invokevirtual 81, 3) := dk_182 0 81 (dk_at dksX0_row_2 5 rfl rfl)
theorem dX0_row_54 : decode cX0_row 54 = .ok (.ireturn, 1) := dk_172 (dk_at dksX0_row_2 8 rfl rfl)
theorem dX0_row_55 : decode cX0_row 55 = .ok (.iconst 1, 1) := dk_4 (dk_at dksX0_row_2 9 rfl rfl)
theorem dX0_row_56 : decode cX0_row 56 = .ok (.ireturn, 1) := dk_172 (dk_at dksX0_row_2 10 rfl rfl)
abbrev cX0_isShelf : ByteArray := prog_1_method_7_code
def yX0_isShelf : MethodName := ⟨RX0, "isShelf", "(I)Z"⟩
def dkwX0_isShelf_0 : List UInt8 := [26, 3, 16, 7, 184, 0, 37, 172]
abbrev dktX0_isShelf_0 : List UInt8 := dkwX0_isShelf_0 ++ []
theorem dksX0_isShelf_0 : cX0_isShelf.data.toList.drop 0 = dktX0_isShelf_0 := by decide +kernel
theorem dX0_isShelf_0 : decode cX0_isShelf 0 = .ok (.iload_n 0, 1) := dk_26 (dk_at dksX0_isShelf_0 0 rfl rfl)
theorem dX0_isShelf_1 : decode cX0_isShelf 1 = .ok (.iconst 0, 1) := dk_3 (dk_at dksX0_isShelf_0 1 rfl rfl)
theorem dX0_isShelf_2 : decode cX0_isShelf 2 = .ok (.bipush 7, 2) := dk_16 7 (dk_at dksX0_isShelf_0 2 rfl rfl)
theorem dX0_isShelf_4 : decode cX0_isShelf 4 = .ok (.invokestatic 37, 3) := dk_184 0 37 (dk_at dksX0_isShelf_0 4 rfl rfl)
theorem dX0_isShelf_7 : decode cX0_isShelf 7 = .ok (.ireturn, 1) := dk_172 (dk_at dksX0_isShelf_0 7 rfl rfl)
abbrev cX0_isIn : ByteArray := prog_1_method_6_code
def yX0_isIn : MethodName := ⟨RX0, "isIn", "(III)Z"⟩
def dkwX0_isIn_0 : List UInt8 := [26, 27, 161, 0, 12, 26, 28, 163, 0, 7, 4, 167, 0, 4, 3, 172]
abbrev dktX0_isIn_0 : List UInt8 := dkwX0_isIn_0 ++ []
theorem dksX0_isIn_0 : cX0_isIn.data.toList.drop 0 = dktX0_isIn_0 := by decide +kernel
theorem dX0_isIn_0 : decode cX0_isIn 0 = .ok (.iload_n 0, 1) := dk_26 (dk_at dksX0_isIn_0 0 rfl rfl)
theorem dX0_isIn_1 : decode cX0_isIn 1 = .ok (.iload_n 1, 1) := dk_27 (dk_at dksX0_isIn_0 1 rfl rfl)
theorem dX0_isIn_2 : decode cX0_isIn 2 = .ok (.if_icmp .lt 12, 3) := dk_161 0 12 (dk_at dksX0_isIn_0 2 rfl rfl)
theorem dX0_isIn_5 : decode cX0_isIn 5 = .ok (.iload_n 0, 1) := dk_26 (dk_at dksX0_isIn_0 5 rfl rfl)
theorem dX0_isIn_6 : decode cX0_isIn 6 = .ok (.iload_n 2, 1) := dk_28 (dk_at dksX0_isIn_0 6 rfl rfl)
theorem dX0_isIn_7 : decode cX0_isIn 7 = .ok (.if_icmp .gt 7, 3) := dk_163 0 7 (dk_at dksX0_isIn_0 7 rfl rfl)
theorem dX0_isIn_10 : decode cX0_isIn 10 = .ok (.iconst 1, 1) := dk_4 (dk_at dksX0_isIn_0 10 rfl rfl)
theorem dX0_isIn_11 : decode cX0_isIn 11 = .ok (.goto 4, 3) := dk_167 0 4 (dk_at dksX0_isIn_0 11 rfl rfl)
theorem dX0_isIn_14 : decode cX0_isIn 14 = .ok (.iconst 0, 1) := dk_3 (dk_at dksX0_isIn_0 14 rfl rfl)
theorem dX0_isIn_15 : decode cX0_isIn 15 = .ok (.ireturn, 1) := dk_172 (dk_at dksX0_isIn_0 15 rfl rfl)
abbrev cX0_no : ByteArray := prog_1_method_5_code
def yX0_no : MethodName := ⟨RX0, "no", "(I)I"⟩
def dkwX0_no_0 : List UInt8 := [42, 180, 0, 33, 27, 116, 92, 46, 4, 96, 79, 27, 172]
abbrev dktX0_no_0 : List UInt8 := dkwX0_no_0 ++ []
theorem dksX0_no_0 : cX0_no.data.toList.drop 0 = dktX0_no_0 := by decide +kernel
theorem dX0_no_0 : decode cX0_no 0 = .ok (.aload_n 0, 1) := dk_42 (dk_at dksX0_no_0 0 rfl rfl)
theorem dX0_no_1 : decode cX0_no 1 = .ok (.getfield 33, 3) := dk_180 0 33 (dk_at dksX0_no_0 1 rfl rfl)
theorem dX0_no_4 : decode cX0_no 4 = .ok (.iload_n 1, 1) := dk_27 (dk_at dksX0_no_0 4 rfl rfl)
theorem dX0_no_5 : decode cX0_no 5 = .ok (.ineg, 1) := dk_116 (dk_at dksX0_no_0 5 rfl rfl)
theorem dX0_no_6 : decode cX0_no 6 = .ok (.dup2, 1) := dk_92 (dk_at dksX0_no_0 6 rfl rfl)
theorem dX0_no_7 : decode cX0_no 7 = .ok (.iaload, 1) := dk_46 (dk_at dksX0_no_0 7 rfl rfl)
theorem dX0_no_8 : decode cX0_no 8 = .ok (.iconst 1, 1) := dk_4 (dk_at dksX0_no_0 8 rfl rfl)
theorem dX0_no_9 : decode cX0_no 9 = .ok (.iadd, 1) := dk_96 (dk_at dksX0_no_0 9 rfl rfl)
theorem dX0_no_10 : decode cX0_no 10 = .ok (.iastore, 1) := dk_79 (dk_at dksX0_no_0 10 rfl rfl)
theorem dX0_no_11 : decode cX0_no 11 = .ok (.iload_n 1, 1) := dk_27 (dk_at dksX0_no_0 11 rfl rfl)
theorem dX0_no_12 : decode cX0_no 12 = .ok (.ireturn, 1) := dk_172 (dk_at dksX0_no_0 12 rfl rfl)
abbrev cX0_rowOf : ByteArray := prog_1_method_12_code
def yX0_rowOf : MethodName := ⟨RX0, "rowOf", "(II)Ljava/lang/Object;"⟩
def dkwX0_rowOf_2 : List UInt8 := [27, 188, 8, 176, 27, 188, 9, 176, 27, 188, 10, 176, 27, 188, 11, 176, 27, 188, 4, 176]
abbrev dktX0_rowOf_2 : List UInt8 := dkwX0_rowOf_2 ++ []
def dkwX0_rowOf_1 : List UInt8 := [170, 0, 0, 0, 0, 0, 47, 0, 0, 0, 0, 0, 0, 0, 3, 0, 0, 0, 31, 0, 0, 0, 35, 0, 0, 0, 39, 0, 0, 0, 43]
abbrev dktX0_rowOf_1 : List UInt8 := dkwX0_rowOf_1 ++ dktX0_rowOf_2
def dkwX0_rowOf_0 : List UInt8 := [26]
abbrev dktX0_rowOf_0 : List UInt8 := dkwX0_rowOf_0 ++ dktX0_rowOf_1
theorem dksX0_rowOf_0 : cX0_rowOf.data.toList.drop 0 = dktX0_rowOf_0 := by decide +kernel
theorem dksX0_rowOf_1 : cX0_rowOf.data.toList.drop 1 = dktX0_rowOf_1 := dk_seg dksX0_rowOf_0 1 rfl rfl
theorem dksX0_rowOf_2 : cX0_rowOf.data.toList.drop 32 = dktX0_rowOf_2 := dk_seg dksX0_rowOf_1 31 rfl rfl
theorem dX0_rowOf_0 : decode cX0_rowOf 0 = .ok (.iload_n 0, 1) := dk_26 (dk_at dksX0_rowOf_0 0 rfl rfl)
theorem dX0_rowOf_1 : decode cX0_rowOf 1 = .ok (.tableswitch 47 0 3 #[31, 35, 39, 43], 31) := by decide +kernel
theorem dX0_rowOf_32 : decode cX0_rowOf 32 = .ok (.iload_n 1, 1) := dk_27 (dk_at dksX0_rowOf_2 0 rfl rfl)
theorem dX0_rowOf_33 : decode cX0_rowOf 33 = .ok (.newarray .byte, 2) := dk_188_8 (dk_at dksX0_rowOf_2 1 rfl rfl)
theorem dX0_rowOf_35 : decode cX0_rowOf 35 = .ok (.areturn, 1) := dk_176 (dk_at dksX0_rowOf_2 3 rfl rfl)
theorem dX0_rowOf_36 : decode cX0_rowOf 36 = .ok (.iload_n 1, 1) := dk_27 (dk_at dksX0_rowOf_2 4 rfl rfl)
theorem dX0_rowOf_37 : decode cX0_rowOf 37 = .ok (.newarray .short, 2) := dk_188_9 (dk_at dksX0_rowOf_2 5 rfl rfl)
theorem dX0_rowOf_39 : decode cX0_rowOf 39 = .ok (.areturn, 1) := dk_176 (dk_at dksX0_rowOf_2 7 rfl rfl)
theorem dX0_rowOf_40 : decode cX0_rowOf 40 = .ok (.iload_n 1, 1) := dk_27 (dk_at dksX0_rowOf_2 8 rfl rfl)
theorem dX0_rowOf_41 : decode cX0_rowOf 41 = .ok (.newarray .int, 2) := dk_188_10 (dk_at dksX0_rowOf_2 9 rfl rfl)
theorem dX0_rowOf_43 : decode cX0_rowOf 43 = .ok (.areturn, 1) := dk_176 (dk_at dksX0_rowOf_2 11 rfl rfl)
theorem dX0_rowOf_44 : decode cX0_rowOf 44 = .ok (.iload_n 1, 1) := dk_27 (dk_at dksX0_rowOf_2 12 rfl rfl)
theorem dX0_rowOf_45 : decode cX0_rowOf 45 = .ok (.newarray .long, 2) := dk_188_11 (dk_at dksX0_rowOf_2 13 rfl rfl)
theorem dX0_rowOf_47 : decode cX0_rowOf 47 = .ok (.areturn, 1) := dk_176 (dk_at dksX0_rowOf_2 15 rfl rfl)
theorem dX0_rowOf_48 : decode cX0_rowOf 48 = .ok (.iload_n 1, 1) := dk_27 (dk_at dksX0_rowOf_2 16 rfl rfl)
theorem dX0_rowOf_49 : decode cX0_rowOf 49 = .ok (.newarray .boolean, 2) := dk_188_4 (dk_at dksX0_rowOf_2 17 rfl rfl)
theorem dX0_rowOf_51 : decode cX0_rowOf 51 = .ok (.areturn, 1) := dk_176 (dk_at dksX0_rowOf_2 19 rfl rfl)
abbrev cX0_set : ByteArray := prog_1_method_19_code
def yX0_set : MethodName := ⟨RX0, "set", "(IIJ)I"⟩
def dkwX0_set_1 : List UInt8 := [4, 172, 58, 5, 42, 25, 5, 180, 0, 110, 182, 0, 81, 172, 58, 5, 42, 16, 254, 182, 0, 81, 172]
abbrev dktX0_set_1 : List UInt8 := dkwX0_set_1 ++ []
def dkwX0_set_0 : List UInt8 := [27, 184, 0, 78, 154, 0, 10, 42, 16, 254, 182, 0, 81, 172, 42, 27, 182, 0, 102, 28, 33, 184, 0, 106]
abbrev dktX0_set_0 : List UInt8 := dkwX0_set_0 ++ dktX0_set_1
theorem dksX0_set_0 : cX0_set.data.toList.drop 0 = dktX0_set_0 := by decide +kernel
theorem dksX0_set_1 : cX0_set.data.toList.drop 24 = dktX0_set_1 := dk_seg dksX0_set_0 24 rfl rfl
theorem dX0_set_0 : decode cX0_set 0 = .ok (.iload_n 1, 1) := dk_27 (dk_at dksX0_set_0 0 rfl rfl)
theorem dX0_set_1 : decode cX0_set 1 = .ok (.invokestatic 78, 3) := dk_184 0 78 (dk_at dksX0_set_0 1 rfl rfl)
theorem dX0_set_4 : decode cX0_set 4 = .ok (.ifCond .ne 10, 3) := dk_154 0 10 (dk_at dksX0_set_0 4 rfl rfl)
theorem dX0_set_7 : decode cX0_set 7 = .ok (.aload_n 0, 1) := dk_42 (dk_at dksX0_set_0 7 rfl rfl)
theorem dX0_set_8 : decode cX0_set 8 = .ok (.bipush (-2), 2) := dk_16 254 (dk_at dksX0_set_0 8 rfl rfl)
theorem dX0_set_10 : decode cX0_set 10 = .ok (.invokevirtual 81, 3) := dk_182 0 81 (dk_at dksX0_set_0 10 rfl rfl)
theorem dX0_set_13 : decode cX0_set 13 = .ok (.ireturn, 1) := dk_172 (dk_at dksX0_set_0 13 rfl rfl)
theorem dX0_set_14 : decode cX0_set 14 = .ok (.aload_n 0, 1) := dk_42 (dk_at dksX0_set_0 14 rfl rfl)
theorem dX0_set_15 : decode cX0_set 15 = .ok (.iload_n 1, 1) := dk_27 (dk_at dksX0_set_0 15 rfl rfl)
theorem dX0_set_16 : decode cX0_set 16 = .ok (.invokevirtual 102, 3) := dk_182 0 102 (dk_at dksX0_set_0 16 rfl rfl)
theorem dX0_set_19 : decode cX0_set 19 = .ok (.iload_n 2, 1) := dk_28 (dk_at dksX0_set_0 19 rfl rfl)
theorem dX0_set_20 : decode cX0_set 20 = .ok (.lload_n 3, 1) := dk_33 (dk_at dksX0_set_0 20 rfl rfl)
theorem dX0_set_21 : decode cX0_set 21 = .ok (.invokestatic 106, 3) := dk_184 0 106 (dk_at dksX0_set_0 21 rfl rfl)
theorem dX0_set_24 : decode cX0_set 24 = .ok (.iconst 1, 1) := dk_4 (dk_at dksX0_set_1 0 rfl rfl)
theorem dX0_set_25 : decode cX0_set 25 = .ok (.ireturn, 1) := dk_172 (dk_at dksX0_set_1 1 rfl rfl)
theorem dX0_set_26 : decode cX0_set 26 = .ok (.astore 5, 2) := dk_58 5 (dk_at dksX0_set_1 2 rfl rfl)
theorem dX0_set_28 : decode cX0_set 28 = .ok (.aload_n 0, 1) := dk_42 (dk_at dksX0_set_1 4 rfl rfl)
theorem dX0_set_29 : decode cX0_set 29 = .ok (.aload 5, 2) := dk_25 5 (dk_at dksX0_set_1 5 rfl rfl)
theorem dX0_set_31 : decode cX0_set 31 = .ok (.getfield 110, 3) := dk_180 0 110 (dk_at dksX0_set_1 7 rfl rfl)
theorem dX0_set_34 : decode cX0_set 34 = .ok (.invokevirtual 81, 3) := dk_182 0 81 (dk_at dksX0_set_1 10 rfl rfl)
theorem dX0_set_37 : decode cX0_set 37 = .ok (.ireturn, 1) := dk_172 (dk_at dksX0_set_1 13 rfl rfl)
theorem dX0_set_38 : decode cX0_set 38 = .ok (.astore 5, 2) := dk_58 5 (dk_at dksX0_set_1 14 rfl rfl)
theorem dX0_set_40 : decode cX0_set 40 = .ok (.aload_n 0, 1) := dk_42 (dk_at dksX0_set_1 16 rfl rfl)
theorem dX0_set_41 : decode cX0_set 41 = .ok (.bipush (-2), 2) := dk_16 254 (dk_at dksX0_set_1 17 rfl rfl)
theorem dX0_set_43 : decode cX0_set 43 = .ok (.invokevirtual 81, 3) := dk_182 0 81 (dk_at dksX0_set_1 19 rfl rfl)
theorem dX0_set_46 : decode cX0_set 46 = .ok (.ireturn, 1) := dk_172 (dk_at dksX0_set_1 22 rfl rfl)
abbrev cX0_rowIn : ByteArray := prog_1_method_18_code
def yX0_rowIn : MethodName := ⟨RX0, "rowIn", "(I)Ljava/lang/Object;"⟩
def dkwX0_rowIn_1 : List UInt8 := [183, 0, 99, 191, 44, 199, 0, 13, 187, 0, 97, 89, 16, 252, 183, 0, 99, 191, 44, 176]
abbrev dktX0_rowIn_1 : List UInt8 := dkwX0_rowIn_1 ++ []
def dkwX0_rowIn_0 : List UInt8 := [42, 180, 0, 26, 27, 50, 180, 0, 89, 77, 44, 193, 0, 95, 153, 0, 13, 187, 0, 97, 89, 16, 253]
abbrev dktX0_rowIn_0 : List UInt8 := dkwX0_rowIn_0 ++ dktX0_rowIn_1
theorem dksX0_rowIn_0 : cX0_rowIn.data.toList.drop 0 = dktX0_rowIn_0 := by decide +kernel
theorem dksX0_rowIn_1 : cX0_rowIn.data.toList.drop 23 = dktX0_rowIn_1 := dk_seg dksX0_rowIn_0 23 rfl rfl
theorem dX0_rowIn_0 : decode cX0_rowIn 0 = .ok (.aload_n 0, 1) := dk_42 (dk_at dksX0_rowIn_0 0 rfl rfl)
theorem dX0_rowIn_1 : decode cX0_rowIn 1 = .ok (.getfield 26, 3) := dk_180 0 26 (dk_at dksX0_rowIn_0 1 rfl rfl)
theorem dX0_rowIn_4 : decode cX0_rowIn 4 = .ok (.iload_n 1, 1) := dk_27 (dk_at dksX0_rowIn_0 4 rfl rfl)
theorem dX0_rowIn_5 : decode cX0_rowIn 5 = .ok (.aaload, 1) := dk_50 (dk_at dksX0_rowIn_0 5 rfl rfl)
theorem dX0_rowIn_6 : decode cX0_rowIn 6 = .ok (.getfield 89, 3) := dk_180 0 89 (dk_at dksX0_rowIn_0 6 rfl rfl)
theorem dX0_rowIn_9 : decode cX0_rowIn 9 = .ok (.astore_n 2, 1) := dk_77 (dk_at dksX0_rowIn_0 9 rfl rfl)
theorem dX0_rowIn_10 : decode cX0_rowIn 10 = .ok (.aload_n 2, 1) := dk_44 (dk_at dksX0_rowIn_0 10 rfl rfl)
theorem dX0_rowIn_11 : decode cX0_rowIn 11 = .ok (.instanceof 95, 3) := dk_193 0 95 (dk_at dksX0_rowIn_0 11 rfl rfl)
theorem dX0_rowIn_14 : decode cX0_rowIn 14 = .ok (.ifCond .eq 13, 3) := dk_153 0 13 (dk_at dksX0_rowIn_0 14 rfl rfl)
theorem dX0_rowIn_17 : decode cX0_rowIn 17 = .ok (.new 97, 3) := dk_187 0 97 (dk_at dksX0_rowIn_0 17 rfl rfl)
theorem dX0_rowIn_20 : decode cX0_rowIn 20 = .ok (.dup, 1) := dk_89 (dk_at dksX0_rowIn_0 20 rfl rfl)
theorem dX0_rowIn_21 : decode cX0_rowIn 21 = .ok (.bipush (-3), 2) := dk_16 253 (dk_at dksX0_rowIn_0 21 rfl rfl)
theorem dX0_rowIn_23 : decode cX0_rowIn 23 = .ok (.invokespecial 99, 3) := dk_183 0 99 (dk_at dksX0_rowIn_1 0 rfl rfl)
theorem dX0_rowIn_26 : decode cX0_rowIn 26 = .ok (.athrow, 1) := dk_191 (dk_at dksX0_rowIn_1 3 rfl rfl)
theorem dX0_rowIn_27 : decode cX0_rowIn 27 = .ok (.aload_n 2, 1) := dk_44 (dk_at dksX0_rowIn_1 4 rfl rfl)
theorem dX0_rowIn_28 : decode cX0_rowIn 28 = .ok (.ifnonnull 13, 3) := dk_199 0 13 (dk_at dksX0_rowIn_1 5 rfl rfl)
theorem dX0_rowIn_31 : decode cX0_rowIn 31 = .ok (.new 97, 3) := dk_187 0 97 (dk_at dksX0_rowIn_1 8 rfl rfl)
theorem dX0_rowIn_34 : decode cX0_rowIn 34 = .ok (.dup, 1) := dk_89 (dk_at dksX0_rowIn_1 11 rfl rfl)
theorem dX0_rowIn_35 : decode cX0_rowIn 35 = .ok (.bipush (-4), 2) := dk_16 252 (dk_at dksX0_rowIn_1 12 rfl rfl)
theorem dX0_rowIn_37 : decode cX0_rowIn 37 = .ok (.invokespecial 99, 3) := dk_183 0 99 (dk_at dksX0_rowIn_1 14 rfl rfl)
theorem dX0_rowIn_40 : decode cX0_rowIn 40 = .ok (.athrow, 1) := dk_191 (dk_at dksX0_rowIn_1 17 rfl rfl)
theorem dX0_rowIn_41 : decode cX0_rowIn 41 = .ok (.aload_n 2, 1) := dk_44 (dk_at dksX0_rowIn_1 18 rfl rfl)
theorem dX0_rowIn_42 : decode cX0_rowIn 42 = .ok (.areturn, 1) := dk_176 (dk_at dksX0_rowIn_1 19 rfl rfl)
abbrev cX0_puts : ByteArray := prog_1_method_16_code
def yX0_puts : MethodName := ⟨RX0, "puts", "(Ljava/lang/Object;IJ)V"⟩
def dkwX0_puts_4 : List UInt8 := [192, 0, 76, 27, 32, 9, 148, 153, 0, 7, 4, 167, 0, 4, 3, 84, 177]
abbrev dktX0_puts_4 : List UInt8 := dkwX0_puts_4 ++ []
def dkwX0_puts_3 : List UInt8 := [42, 192, 0, 69, 27, 32, 136, 79, 167, 0, 30, 42, 192, 0, 70, 27, 32, 80, 167, 0, 20, 42]
abbrev dktX0_puts_3 : List UInt8 := dkwX0_puts_3 ++ dktX0_puts_4
def dkwX0_puts_2 : List UInt8 := [42, 192, 0, 65, 27, 32, 136, 145, 84, 167, 0, 53, 42, 192, 0, 67, 27, 32, 136, 147, 86, 167, 0, 41]
abbrev dktX0_puts_2 : List UInt8 := dkwX0_puts_2 ++ dktX0_puts_3
def dkwX0_puts_1 : List UInt8 := [170, 0, 0, 0, 0, 0, 0, 77, 0, 0, 0, 0, 0, 0, 0, 3, 0, 0, 0, 32, 0, 0, 0, 44, 0, 0, 0, 56, 0, 0, 0, 67]
abbrev dktX0_puts_1 : List UInt8 := dkwX0_puts_1 ++ dktX0_puts_2
def dkwX0_puts_0 : List UInt8 := [42, 184, 0, 72]
abbrev dktX0_puts_0 : List UInt8 := dkwX0_puts_0 ++ dktX0_puts_1
theorem dksX0_puts_0 : cX0_puts.data.toList.drop 0 = dktX0_puts_0 := by decide +kernel
theorem dksX0_puts_1 : cX0_puts.data.toList.drop 4 = dktX0_puts_1 := dk_seg dksX0_puts_0 4 rfl rfl
theorem dksX0_puts_2 : cX0_puts.data.toList.drop 36 = dktX0_puts_2 := dk_seg dksX0_puts_1 32 rfl rfl
theorem dksX0_puts_3 : cX0_puts.data.toList.drop 60 = dktX0_puts_3 := dk_seg dksX0_puts_2 24 rfl rfl
theorem dksX0_puts_4 : cX0_puts.data.toList.drop 82 = dktX0_puts_4 := dk_seg dksX0_puts_3 22 rfl rfl
theorem dX0_puts_0 : decode cX0_puts 0 = .ok (.aload_n 0, 1) := dk_42 (dk_at dksX0_puts_0 0 rfl rfl)
theorem dX0_puts_1 : decode cX0_puts 1 = .ok (.invokestatic 72, 3) := dk_184 0 72 (dk_at dksX0_puts_0 1 rfl rfl)
theorem dX0_puts_4 : decode cX0_puts 4 = .ok (.tableswitch 77 0 3 #[32, 44, 56, 67], 32) := by decide +kernel
theorem dX0_puts_36 : decode cX0_puts 36 = .ok (.aload_n 0, 1) := dk_42 (dk_at dksX0_puts_2 0 rfl rfl)
theorem dX0_puts_37 : decode cX0_puts 37 = .ok (.checkcast 65, 3) := dk_192 0 65 (dk_at dksX0_puts_2 1 rfl rfl)
theorem dX0_puts_40 : decode cX0_puts 40 = .ok (.iload_n 1, 1) := dk_27 (dk_at dksX0_puts_2 4 rfl rfl)
theorem dX0_puts_41 : decode cX0_puts 41 = .ok (.lload_n 2, 1) := dk_32 (dk_at dksX0_puts_2 5 rfl rfl)
theorem dX0_puts_42 : decode cX0_puts 42 = .ok (.l2i, 1) := dk_136 (dk_at dksX0_puts_2 6 rfl rfl)
theorem dX0_puts_43 : decode cX0_puts 43 = .ok (.i2b, 1) := dk_145 (dk_at dksX0_puts_2 7 rfl rfl)
theorem dX0_puts_44 : decode cX0_puts 44 = .ok (.bastore, 1) := dk_84 (dk_at dksX0_puts_2 8 rfl rfl)
theorem dX0_puts_45 : decode cX0_puts 45 = .ok (.goto 53, 3) := dk_167 0 53 (dk_at dksX0_puts_2 9 rfl rfl)
theorem dX0_puts_48 : decode cX0_puts 48 = .ok (.aload_n 0, 1) := dk_42 (dk_at dksX0_puts_2 12 rfl rfl)
theorem dX0_puts_49 : decode cX0_puts 49 = .ok (.checkcast 67, 3) := dk_192 0 67 (dk_at dksX0_puts_2 13 rfl rfl)
theorem dX0_puts_52 : decode cX0_puts 52 = .ok (.iload_n 1, 1) := dk_27 (dk_at dksX0_puts_2 16 rfl rfl)
theorem dX0_puts_53 : decode cX0_puts 53 = .ok (.lload_n 2, 1) := dk_32 (dk_at dksX0_puts_2 17 rfl rfl)
theorem dX0_puts_54 : decode cX0_puts 54 = .ok (.l2i, 1) := dk_136 (dk_at dksX0_puts_2 18 rfl rfl)
theorem dX0_puts_55 : decode cX0_puts 55 = .ok (.i2s, 1) := dk_147 (dk_at dksX0_puts_2 19 rfl rfl)
theorem dX0_puts_56 : decode cX0_puts 56 = .ok (.sastore, 1) := dk_86 (dk_at dksX0_puts_2 20 rfl rfl)
theorem dX0_puts_57 : decode cX0_puts 57 = .ok (.goto 41, 3) := dk_167 0 41 (dk_at dksX0_puts_2 21 rfl rfl)
theorem dX0_puts_60 : decode cX0_puts 60 = .ok (.aload_n 0, 1) := dk_42 (dk_at dksX0_puts_3 0 rfl rfl)
theorem dX0_puts_61 : decode cX0_puts 61 = .ok (.checkcast 69, 3) := dk_192 0 69 (dk_at dksX0_puts_3 1 rfl rfl)
theorem dX0_puts_64 : decode cX0_puts 64 = .ok (.iload_n 1, 1) := dk_27 (dk_at dksX0_puts_3 4 rfl rfl)
theorem dX0_puts_65 : decode cX0_puts 65 = .ok (.lload_n 2, 1) := dk_32 (dk_at dksX0_puts_3 5 rfl rfl)
theorem dX0_puts_66 : decode cX0_puts 66 = .ok (.l2i, 1) := dk_136 (dk_at dksX0_puts_3 6 rfl rfl)
theorem dX0_puts_67 : decode cX0_puts 67 = .ok (.iastore, 1) := dk_79 (dk_at dksX0_puts_3 7 rfl rfl)
theorem dX0_puts_68 : decode cX0_puts 68 = .ok (.goto 30, 3) := dk_167 0 30 (dk_at dksX0_puts_3 8 rfl rfl)
theorem dX0_puts_71 : decode cX0_puts 71 = .ok (.aload_n 0, 1) := dk_42 (dk_at dksX0_puts_3 11 rfl rfl)
theorem dX0_puts_72 : decode cX0_puts 72 = .ok (.checkcast 70, 3) := dk_192 0 70 (dk_at dksX0_puts_3 12 rfl rfl)
theorem dX0_puts_75 : decode cX0_puts 75 = .ok (.iload_n 1, 1) := dk_27 (dk_at dksX0_puts_3 15 rfl rfl)
theorem dX0_puts_76 : decode cX0_puts 76 = .ok (.lload_n 2, 1) := dk_32 (dk_at dksX0_puts_3 16 rfl rfl)
theorem dX0_puts_77 : decode cX0_puts 77 = .ok (.lastore, 1) := dk_80 (dk_at dksX0_puts_3 17 rfl rfl)
theorem dX0_puts_78 : decode cX0_puts 78 = .ok (.goto 20, 3) := dk_167 0 20 (dk_at dksX0_puts_3 18 rfl rfl)
theorem dX0_puts_81 : decode cX0_puts 81 = .ok (.aload_n 0, 1) := dk_42 (dk_at dksX0_puts_3 21 rfl rfl)
theorem dX0_puts_82 : decode cX0_puts 82 = .ok (.checkcast 76, 3) := dk_192 0 76 (dk_at dksX0_puts_4 0 rfl rfl)
theorem dX0_puts_85 : decode cX0_puts 85 = .ok (.iload_n 1, 1) := dk_27 (dk_at dksX0_puts_4 3 rfl rfl)
theorem dX0_puts_86 : decode cX0_puts 86 = .ok (.lload_n 2, 1) := dk_32 (dk_at dksX0_puts_4 4 rfl rfl)
theorem dX0_puts_87 : decode cX0_puts 87 = .ok (.lconst 0, 1) := dk_9 (dk_at dksX0_puts_4 5 rfl rfl)
theorem dX0_puts_88 : decode cX0_puts 88 = .ok (.lcmp, 1) := dk_148 (dk_at dksX0_puts_4 6 rfl rfl)
theorem dX0_puts_89 : decode cX0_puts 89 = .ok (.ifCond .eq 7, 3) := dk_153 0 7 (dk_at dksX0_puts_4 7 rfl rfl)
theorem dX0_puts_92 : decode cX0_puts 92 = .ok (.iconst 1, 1) := dk_4 (dk_at dksX0_puts_4 10 rfl rfl)
theorem dX0_puts_93 : decode cX0_puts 93 = .ok (.goto 4, 3) := dk_167 0 4 (dk_at dksX0_puts_4 11 rfl rfl)
theorem dX0_puts_96 : decode cX0_puts 96 = .ok (.iconst 0, 1) := dk_3 (dk_at dksX0_puts_4 14 rfl rfl)
theorem dX0_puts_97 : decode cX0_puts 97 = .ok (.bastore, 1) := dk_84 (dk_at dksX0_puts_4 15 rfl rfl)
theorem dX0_puts_98 : decode cX0_puts 98 = .ok (.return_, 1) := dk_177 (dk_at dksX0_puts_4 16 rfl rfl)
abbrev cX0_sortOf : ByteArray := prog_1_method_13_code
def yX0_sortOf : MethodName := ⟨RX0, "sortOf", "(Ljava/lang/Object;)I"⟩
def dkwX0_sortOf_1 : List UInt8 := [153, 0, 5, 5, 172, 42, 193, 0, 70, 153, 0, 7, 6, 167, 0, 4, 7, 172]
abbrev dktX0_sortOf_1 : List UInt8 := dkwX0_sortOf_1 ++ []
def dkwX0_sortOf_0 : List UInt8 := [42, 193, 0, 65, 153, 0, 5, 3, 172, 42, 193, 0, 67, 153, 0, 5, 4, 172, 42, 193, 0, 69]
abbrev dktX0_sortOf_0 : List UInt8 := dkwX0_sortOf_0 ++ dktX0_sortOf_1
theorem dksX0_sortOf_0 : cX0_sortOf.data.toList.drop 0 = dktX0_sortOf_0 := by decide +kernel
theorem dksX0_sortOf_1 : cX0_sortOf.data.toList.drop 22 = dktX0_sortOf_1 := dk_seg dksX0_sortOf_0 22 rfl rfl
theorem dX0_sortOf_0 : decode cX0_sortOf 0 = .ok (.aload_n 0, 1) := dk_42 (dk_at dksX0_sortOf_0 0 rfl rfl)
theorem dX0_sortOf_1 : decode cX0_sortOf 1 = .ok (.instanceof 65, 3) := dk_193 0 65 (dk_at dksX0_sortOf_0 1 rfl rfl)
theorem dX0_sortOf_4 : decode cX0_sortOf 4 = .ok (.ifCond .eq 5, 3) := dk_153 0 5 (dk_at dksX0_sortOf_0 4 rfl rfl)
theorem dX0_sortOf_7 : decode cX0_sortOf 7 = .ok (.iconst 0, 1) := dk_3 (dk_at dksX0_sortOf_0 7 rfl rfl)
theorem dX0_sortOf_8 : decode cX0_sortOf 8 = .ok (.ireturn, 1) := dk_172 (dk_at dksX0_sortOf_0 8 rfl rfl)
theorem dX0_sortOf_9 : decode cX0_sortOf 9 = .ok (.aload_n 0, 1) := dk_42 (dk_at dksX0_sortOf_0 9 rfl rfl)
theorem dX0_sortOf_10 : decode cX0_sortOf 10 = .ok (.instanceof 67, 3) := dk_193 0 67 (dk_at dksX0_sortOf_0 10 rfl rfl)
theorem dX0_sortOf_13 : decode cX0_sortOf 13 = .ok (.ifCond .eq 5, 3) := dk_153 0 5 (dk_at dksX0_sortOf_0 13 rfl rfl)
theorem dX0_sortOf_16 : decode cX0_sortOf 16 = .ok (.iconst 1, 1) := dk_4 (dk_at dksX0_sortOf_0 16 rfl rfl)
theorem dX0_sortOf_17 : decode cX0_sortOf 17 = .ok (.ireturn, 1) := dk_172 (dk_at dksX0_sortOf_0 17 rfl rfl)
theorem dX0_sortOf_18 : decode cX0_sortOf 18 = .ok (.aload_n 0, 1) := dk_42 (dk_at dksX0_sortOf_0 18 rfl rfl)
theorem dX0_sortOf_19 : decode cX0_sortOf 19 = .ok (.instanceof 69, 3) := dk_193 0 69 (dk_at dksX0_sortOf_0 19 rfl rfl)
theorem dX0_sortOf_22 : decode cX0_sortOf 22 = .ok (.ifCond .eq 5, 3) := dk_153 0 5 (dk_at dksX0_sortOf_1 0 rfl rfl)
theorem dX0_sortOf_25 : decode cX0_sortOf 25 = .ok (.iconst 2, 1) := dk_5 (dk_at dksX0_sortOf_1 3 rfl rfl)
theorem dX0_sortOf_26 : decode cX0_sortOf 26 = .ok (.ireturn, 1) := dk_172 (dk_at dksX0_sortOf_1 4 rfl rfl)
theorem dX0_sortOf_27 : decode cX0_sortOf 27 = .ok (.aload_n 0, 1) := dk_42 (dk_at dksX0_sortOf_1 5 rfl rfl)
theorem dX0_sortOf_28 : decode cX0_sortOf 28 = .ok (.instanceof 70, 3) := dk_193 0 70 (dk_at dksX0_sortOf_1 6 rfl rfl)
theorem dX0_sortOf_31 : decode cX0_sortOf 31 = .ok (.ifCond .eq 7, 3) := dk_153 0 7 (dk_at dksX0_sortOf_1 9 rfl rfl)
theorem dX0_sortOf_34 : decode cX0_sortOf 34 = .ok (.iconst 3, 1) := dk_6 (dk_at dksX0_sortOf_1 12 rfl rfl)
theorem dX0_sortOf_35 : decode cX0_sortOf 35 = .ok (.goto 4, 3) := dk_167 0 4 (dk_at dksX0_sortOf_1 13 rfl rfl)
theorem dX0_sortOf_38 : decode cX0_sortOf 38 = .ok (.iconst 4, 1) := dk_7 (dk_at dksX0_sortOf_1 16 rfl rfl)
theorem dX0_sortOf_39 : decode cX0_sortOf 39 = .ok (.ireturn, 1) := dk_172 (dk_at dksX0_sortOf_1 17 rfl rfl)
abbrev cX0_copy : ByteArray := prog_1_method_20_code
def yX0_copy : MethodName := ⟨RX0, "copy", "(IIIII)I"⟩
def dkwX0_copy_4 : List UInt8 := [16, 253, 182, 0, 81, 172, 58, 8, 42, 16, 254, 182, 0, 81, 172]
abbrev dktX0_copy_4 : List UInt8 := dkwX0_copy_4 ++ []
def dkwX0_copy_3 : List UInt8 := [25, 7, 21, 4, 21, 5, 184, 0, 115, 21, 5, 172, 58, 8, 42, 16, 252, 182, 0, 81, 172, 58, 8, 42]
abbrev dktX0_copy_3 : List UInt8 := dkwX0_copy_3 ++ dktX0_copy_4
def dkwX0_copy_2 : List UInt8 := [193, 0, 95, 154, 0, 11, 25, 7, 193, 0, 95, 153, 0, 10, 42, 16, 253, 182, 0, 81, 172, 25, 6, 29]
abbrev dktX0_copy_2 : List UInt8 := dkwX0_copy_2 ++ dktX0_copy_3
def dkwX0_copy_1 : List UInt8 := [180, 0, 26, 27, 50, 180, 0, 89, 58, 6, 42, 180, 0, 26, 28, 50, 180, 0, 89, 58, 7, 25, 6]
abbrev dktX0_copy_1 : List UInt8 := dkwX0_copy_1 ++ dktX0_copy_2
def dkwX0_copy_0 : List UInt8 := [27, 184, 0, 78, 153, 0, 10, 28, 184, 0, 78, 154, 0, 10, 42, 16, 254, 182, 0, 81, 172, 42]
abbrev dktX0_copy_0 : List UInt8 := dkwX0_copy_0 ++ dktX0_copy_1
theorem dksX0_copy_0 : cX0_copy.data.toList.drop 0 = dktX0_copy_0 := by decide +kernel
theorem dksX0_copy_1 : cX0_copy.data.toList.drop 22 = dktX0_copy_1 := dk_seg dksX0_copy_0 22 rfl rfl
theorem dksX0_copy_2 : cX0_copy.data.toList.drop 45 = dktX0_copy_2 := dk_seg dksX0_copy_1 23 rfl rfl
theorem dksX0_copy_3 : cX0_copy.data.toList.drop 69 = dktX0_copy_3 := dk_seg dksX0_copy_2 24 rfl rfl
theorem dksX0_copy_4 : cX0_copy.data.toList.drop 93 = dktX0_copy_4 := dk_seg dksX0_copy_3 24 rfl rfl
theorem dX0_copy_0 : decode cX0_copy 0 = .ok (.iload_n 1, 1) := dk_27 (dk_at dksX0_copy_0 0 rfl rfl)
theorem dX0_copy_1 : decode cX0_copy 1 = .ok (.invokestatic 78, 3) := dk_184 0 78 (dk_at dksX0_copy_0 1 rfl rfl)
theorem dX0_copy_4 : decode cX0_copy 4 = .ok (.ifCond .eq 10, 3) := dk_153 0 10 (dk_at dksX0_copy_0 4 rfl rfl)
theorem dX0_copy_7 : decode cX0_copy 7 = .ok (.iload_n 2, 1) := dk_28 (dk_at dksX0_copy_0 7 rfl rfl)
theorem dX0_copy_8 : decode cX0_copy 8 = .ok (.invokestatic 78, 3) := dk_184 0 78 (dk_at dksX0_copy_0 8 rfl rfl)
theorem dX0_copy_11 : decode cX0_copy 11 = .ok (.ifCond .ne 10, 3) := dk_154 0 10 (dk_at dksX0_copy_0 11 rfl rfl)
theorem dX0_copy_14 : decode cX0_copy 14 = .ok (.aload_n 0, 1) := dk_42 (dk_at dksX0_copy_0 14 rfl rfl)
theorem dX0_copy_15 : decode cX0_copy 15 = .ok (.bipush (-2), 2) := dk_16 254 (dk_at dksX0_copy_0 15 rfl rfl)
theorem dX0_copy_17 : decode cX0_copy 17 = .ok (.invokevirtual 81, 3) := dk_182 0 81 (dk_at dksX0_copy_0 17 rfl rfl)
theorem dX0_copy_20 : decode cX0_copy 20 = .ok (.ireturn, 1) := dk_172 (dk_at dksX0_copy_0 20 rfl rfl)
theorem dX0_copy_21 : decode cX0_copy 21 = .ok (.aload_n 0, 1) := dk_42 (dk_at dksX0_copy_0 21 rfl rfl)
theorem dX0_copy_22 : decode cX0_copy 22 = .ok (.getfield 26, 3) := dk_180 0 26 (dk_at dksX0_copy_1 0 rfl rfl)
theorem dX0_copy_25 : decode cX0_copy 25 = .ok (.iload_n 1, 1) := dk_27 (dk_at dksX0_copy_1 3 rfl rfl)
theorem dX0_copy_26 : decode cX0_copy 26 = .ok (.aaload, 1) := dk_50 (dk_at dksX0_copy_1 4 rfl rfl)
theorem dX0_copy_27 : decode cX0_copy 27 = .ok (.getfield 89, 3) := dk_180 0 89 (dk_at dksX0_copy_1 5 rfl rfl)
theorem dX0_copy_30 : decode cX0_copy 30 = .ok (.astore 6, 2) := dk_58 6 (dk_at dksX0_copy_1 8 rfl rfl)
theorem dX0_copy_32 : decode cX0_copy 32 = .ok (.aload_n 0, 1) := dk_42 (dk_at dksX0_copy_1 10 rfl rfl)
theorem dX0_copy_33 : decode cX0_copy 33 = .ok (.getfield 26, 3) := dk_180 0 26 (dk_at dksX0_copy_1 11 rfl rfl)
theorem dX0_copy_36 : decode cX0_copy 36 = .ok (.iload_n 2, 1) := dk_28 (dk_at dksX0_copy_1 14 rfl rfl)
theorem dX0_copy_37 : decode cX0_copy 37 = .ok (.aaload, 1) := dk_50 (dk_at dksX0_copy_1 15 rfl rfl)
theorem dX0_copy_38 : decode cX0_copy 38 = .ok (.getfield 89, 3) := dk_180 0 89 (dk_at dksX0_copy_1 16 rfl rfl)
theorem dX0_copy_41 : decode cX0_copy 41 = .ok (.astore 7, 2) := dk_58 7 (dk_at dksX0_copy_1 19 rfl rfl)
theorem dX0_copy_43 : decode cX0_copy 43 = .ok (.aload 6, 2) := dk_25 6 (dk_at dksX0_copy_1 21 rfl rfl)
theorem dX0_copy_45 : decode cX0_copy 45 = .ok (.instanceof 95, 3) := dk_193 0 95 (dk_at dksX0_copy_2 0 rfl rfl)
theorem dX0_copy_48 : decode cX0_copy 48 = .ok (.ifCond .ne 11, 3) := dk_154 0 11 (dk_at dksX0_copy_2 3 rfl rfl)
theorem dX0_copy_51 : decode cX0_copy 51 = .ok (.aload 7, 2) := dk_25 7 (dk_at dksX0_copy_2 6 rfl rfl)
theorem dX0_copy_53 : decode cX0_copy 53 = .ok (.instanceof 95, 3) := dk_193 0 95 (dk_at dksX0_copy_2 8 rfl rfl)
theorem dX0_copy_56 : decode cX0_copy 56 = .ok (.ifCond .eq 10, 3) := dk_153 0 10 (dk_at dksX0_copy_2 11 rfl rfl)
theorem dX0_copy_59 : decode cX0_copy 59 = .ok (.aload_n 0, 1) := dk_42 (dk_at dksX0_copy_2 14 rfl rfl)
theorem dX0_copy_60 : decode cX0_copy 60 = .ok (.bipush (-3), 2) := dk_16 253 (dk_at dksX0_copy_2 15 rfl rfl)
theorem dX0_copy_62 : decode cX0_copy 62 = .ok (.invokevirtual 81, 3) := dk_182 0 81 (dk_at dksX0_copy_2 17 rfl rfl)
theorem dX0_copy_65 : decode cX0_copy 65 = .ok (.ireturn, 1) := dk_172 (dk_at dksX0_copy_2 20 rfl rfl)
theorem dX0_copy_66 : decode cX0_copy 66 = .ok (.aload 6, 2) := dk_25 6 (dk_at dksX0_copy_2 21 rfl rfl)
theorem dX0_copy_68 : decode cX0_copy 68 = .ok (.iload_n 3, 1) := dk_29 (dk_at dksX0_copy_2 23 rfl rfl)
theorem dX0_copy_69 : decode cX0_copy 69 = .ok (.aload 7, 2) := dk_25 7 (dk_at dksX0_copy_3 0 rfl rfl)
theorem dX0_copy_71 : decode cX0_copy 71 = .ok (.iload 4, 2) := dk_21 4 (dk_at dksX0_copy_3 2 rfl rfl)
theorem dX0_copy_73 : decode cX0_copy 73 = .ok (.iload 5, 2) := dk_21 5 (dk_at dksX0_copy_3 4 rfl rfl)
theorem dX0_copy_75 : decode cX0_copy 75 = .ok (.invokestatic 115, 3) := dk_184 0 115 (dk_at dksX0_copy_3 6 rfl rfl)
theorem dX0_copy_78 : decode cX0_copy 78 = .ok (.iload 5, 2) := dk_21 5 (dk_at dksX0_copy_3 9 rfl rfl)
theorem dX0_copy_80 : decode cX0_copy 80 = .ok (.ireturn, 1) := dk_172 (dk_at dksX0_copy_3 11 rfl rfl)
theorem dX0_copy_81 : decode cX0_copy 81 = .ok (.astore 8, 2) := dk_58 8 (dk_at dksX0_copy_3 12 rfl rfl)
theorem dX0_copy_83 : decode cX0_copy 83 = .ok (.aload_n 0, 1) := dk_42 (dk_at dksX0_copy_3 14 rfl rfl)
theorem dX0_copy_84 : decode cX0_copy 84 = .ok (.bipush (-4), 2) := dk_16 252 (dk_at dksX0_copy_3 15 rfl rfl)
theorem dX0_copy_86 : decode cX0_copy 86 = .ok (.invokevirtual 81, 3) := dk_182 0 81 (dk_at dksX0_copy_3 17 rfl rfl)
theorem dX0_copy_89 : decode cX0_copy 89 = .ok (.ireturn, 1) := dk_172 (dk_at dksX0_copy_3 20 rfl rfl)
theorem dX0_copy_90 : decode cX0_copy 90 = .ok (.astore 8, 2) := dk_58 8 (dk_at dksX0_copy_3 21 rfl rfl)
theorem dX0_copy_92 : decode cX0_copy 92 = .ok (.aload_n 0, 1) := dk_42 (dk_at dksX0_copy_3 23 rfl rfl)
theorem dX0_copy_93 : decode cX0_copy 93 = .ok (.bipush (-3), 2) := dk_16 253 (dk_at dksX0_copy_4 0 rfl rfl)
theorem dX0_copy_95 : decode cX0_copy 95 = .ok (.invokevirtual 81, 3) := dk_182 0 81 (dk_at dksX0_copy_4 2 rfl rfl)
theorem dX0_copy_98 : decode cX0_copy 98 = .ok (.ireturn, 1) := dk_172 (dk_at dksX0_copy_4 5 rfl rfl)
theorem dX0_copy_99 : decode cX0_copy 99 = .ok (.astore 8, 2) := dk_58 8 (dk_at dksX0_copy_4 6 rfl rfl)
theorem dX0_copy_101 : decode cX0_copy 101 = .ok (.aload_n 0, 1) := dk_42 (dk_at dksX0_copy_4 8 rfl rfl)
theorem dX0_copy_102 : decode cX0_copy 102 = .ok (.bipush (-2), 2) := dk_16 254 (dk_at dksX0_copy_4 9 rfl rfl)
theorem dX0_copy_104 : decode cX0_copy 104 = .ok (.invokevirtual 81, 3) := dk_182 0 81 (dk_at dksX0_copy_4 11 rfl rfl)
theorem dX0_copy_107 : decode cX0_copy 107 = .ok (.ireturn, 1) := dk_172 (dk_at dksX0_copy_4 14 rfl rfl)
abbrev cX0_element : ByteArray := prog_1_method_21_code
def yX0_element : MethodName := ⟨RX0, "element", "(II)J"⟩
def dkwX0_element_1 : List UInt8 := [173]
abbrev dktX0_element_1 : List UInt8 := dkwX0_element_1 ++ []
def dkwX0_element_0 : List UInt8 := [27, 184, 0, 78, 154, 0, 5, 9, 173, 42, 27, 182, 0, 102, 28, 184, 0, 127, 173, 78, 9, 173, 78, 9]
abbrev dktX0_element_0 : List UInt8 := dkwX0_element_0 ++ dktX0_element_1
theorem dksX0_element_0 : cX0_element.data.toList.drop 0 = dktX0_element_0 := by decide +kernel
theorem dksX0_element_1 : cX0_element.data.toList.drop 24 = dktX0_element_1 := dk_seg dksX0_element_0 24 rfl rfl
theorem dX0_element_0 : decode cX0_element 0 = .ok (.iload_n 1, 1) := dk_27 (dk_at dksX0_element_0 0 rfl rfl)
theorem dX0_element_1 : decode cX0_element 1 = .ok (.invokestatic 78, 3) := dk_184 0 78 (dk_at dksX0_element_0 1 rfl rfl)
theorem dX0_element_4 : decode cX0_element 4 = .ok (.ifCond .ne 5, 3) := dk_154 0 5 (dk_at dksX0_element_0 4 rfl rfl)
theorem dX0_element_7 : decode cX0_element 7 = .ok (.lconst 0, 1) := dk_9 (dk_at dksX0_element_0 7 rfl rfl)
theorem dX0_element_8 : decode cX0_element 8 = .ok (.lreturn, 1) := dk_173 (dk_at dksX0_element_0 8 rfl rfl)
theorem dX0_element_9 : decode cX0_element 9 = .ok (.aload_n 0, 1) := dk_42 (dk_at dksX0_element_0 9 rfl rfl)
theorem dX0_element_10 : decode cX0_element 10 = .ok (.iload_n 1, 1) := dk_27 (dk_at dksX0_element_0 10 rfl rfl)
theorem dX0_element_11 : decode cX0_element 11 = .ok (.invokevirtual 102, 3) := dk_182 0 102 (dk_at dksX0_element_0 11 rfl rfl)
theorem dX0_element_14 : decode cX0_element 14 = .ok (.iload_n 2, 1) := dk_28 (dk_at dksX0_element_0 14 rfl rfl)
theorem dX0_element_15 : decode cX0_element 15 = .ok (.invokestatic 127, 3) := dk_184 0 127 (dk_at dksX0_element_0 15 rfl rfl)
theorem dX0_element_18 : decode cX0_element 18 = .ok (.lreturn, 1) := dk_173 (dk_at dksX0_element_0 18 rfl rfl)
theorem dX0_element_19 : decode cX0_element 19 = .ok (.astore_n 3, 1) := dk_78 (dk_at dksX0_element_0 19 rfl rfl)
theorem dX0_element_20 : decode cX0_element 20 = .ok (.lconst 0, 1) := dk_9 (dk_at dksX0_element_0 20 rfl rfl)
theorem dX0_element_21 : decode cX0_element 21 = .ok (.lreturn, 1) := dk_173 (dk_at dksX0_element_0 21 rfl rfl)
theorem dX0_element_22 : decode cX0_element 22 = .ok (.astore_n 3, 1) := dk_78 (dk_at dksX0_element_0 22 rfl rfl)
theorem dX0_element_23 : decode cX0_element 23 = .ok (.lconst 0, 1) := dk_9 (dk_at dksX0_element_0 23 rfl rfl)
theorem dX0_element_24 : decode cX0_element 24 = .ok (.lreturn, 1) := dk_173 (dk_at dksX0_element_1 0 rfl rfl)
abbrev cX0_elementOf : ByteArray := prog_1_method_15_code
def yX0_elementOf : MethodName := ⟨RX0, "elementOf", "(Ljava/lang/Object;I)J"⟩
def dkwX0_elementOf_3 : List UInt8 := [42, 192, 0, 70, 27, 47, 173, 42, 192, 0, 76, 27, 51, 153, 0, 7, 10, 167, 0, 4, 9, 173]
abbrev dktX0_elementOf_3 : List UInt8 := dkwX0_elementOf_3 ++ []
def dkwX0_elementOf_2 : List UInt8 := [42, 192, 0, 65, 27, 51, 133, 173, 42, 192, 0, 67, 27, 53, 133, 173, 42, 192, 0, 69, 27, 46, 133, 173]
abbrev dktX0_elementOf_2 : List UInt8 := dkwX0_elementOf_2 ++ dktX0_elementOf_3
def dkwX0_elementOf_1 : List UInt8 := [170, 0, 0, 0, 0, 0, 0, 63, 0, 0, 0, 0, 0, 0, 0, 3, 0, 0, 0, 32, 0, 0, 0, 40, 0, 0, 0, 48, 0, 0, 0, 56]
abbrev dktX0_elementOf_1 : List UInt8 := dkwX0_elementOf_1 ++ dktX0_elementOf_2
def dkwX0_elementOf_0 : List UInt8 := [42, 184, 0, 72]
abbrev dktX0_elementOf_0 : List UInt8 := dkwX0_elementOf_0 ++ dktX0_elementOf_1
theorem dksX0_elementOf_0 : cX0_elementOf.data.toList.drop 0 = dktX0_elementOf_0 := by decide +kernel
theorem dksX0_elementOf_1 : cX0_elementOf.data.toList.drop 4 = dktX0_elementOf_1 := dk_seg dksX0_elementOf_0 4 rfl rfl
theorem dksX0_elementOf_2 : cX0_elementOf.data.toList.drop 36 = dktX0_elementOf_2 := dk_seg dksX0_elementOf_1 32 rfl rfl
theorem dksX0_elementOf_3 : cX0_elementOf.data.toList.drop 60 = dktX0_elementOf_3 := dk_seg dksX0_elementOf_2 24 rfl rfl
theorem dX0_elementOf_0 : decode cX0_elementOf 0 = .ok (.aload_n 0, 1) := dk_42 (dk_at dksX0_elementOf_0 0 rfl rfl)
theorem dX0_elementOf_1 : decode cX0_elementOf 1 = .ok (.invokestatic 72, 3) := dk_184 0 72 (dk_at dksX0_elementOf_0 1 rfl rfl)
theorem dX0_elementOf_4 : decode cX0_elementOf 4 = .ok (.tableswitch 63 0 3 #[32, 40, 48, 56], 32) := by decide +kernel
theorem dX0_elementOf_36 : decode cX0_elementOf 36 = .ok (.aload_n 0, 1) := dk_42 (dk_at dksX0_elementOf_2 0 rfl rfl)
theorem dX0_elementOf_37 : decode cX0_elementOf 37 = .ok (.checkcast 65, 3) := dk_192 0 65 (dk_at dksX0_elementOf_2 1 rfl rfl)
theorem dX0_elementOf_40 : decode cX0_elementOf 40 = .ok (.iload_n 1, 1) := dk_27 (dk_at dksX0_elementOf_2 4 rfl rfl)
theorem dX0_elementOf_41 : decode cX0_elementOf 41 = .ok (.baload, 1) := dk_51 (dk_at dksX0_elementOf_2 5 rfl rfl)
theorem dX0_elementOf_42 : decode cX0_elementOf 42 = .ok (.i2l, 1) := dk_133 (dk_at dksX0_elementOf_2 6 rfl rfl)
theorem dX0_elementOf_43 : decode cX0_elementOf 43 = .ok (.lreturn, 1) := dk_173 (dk_at dksX0_elementOf_2 7 rfl rfl)
theorem dX0_elementOf_44 : decode cX0_elementOf 44 = .ok (.aload_n 0, 1) := dk_42 (dk_at dksX0_elementOf_2 8 rfl rfl)
theorem dX0_elementOf_45 : decode cX0_elementOf 45 = .ok (.checkcast 67, 3) := dk_192 0 67 (dk_at dksX0_elementOf_2 9 rfl rfl)
theorem dX0_elementOf_48 : decode cX0_elementOf 48 = .ok (.iload_n 1, 1) := dk_27 (dk_at dksX0_elementOf_2 12 rfl rfl)
theorem dX0_elementOf_49 : decode cX0_elementOf 49 = .ok (.saload, 1) := dk_53 (dk_at dksX0_elementOf_2 13 rfl rfl)
theorem dX0_elementOf_50 : decode cX0_elementOf 50 = .ok (.i2l, 1) := dk_133 (dk_at dksX0_elementOf_2 14 rfl rfl)
theorem dX0_elementOf_51 : decode cX0_elementOf 51 = .ok (.lreturn, 1) := dk_173 (dk_at dksX0_elementOf_2 15 rfl rfl)
theorem dX0_elementOf_52 : decode cX0_elementOf 52 = .ok (.aload_n 0, 1) := dk_42 (dk_at dksX0_elementOf_2 16 rfl rfl)
theorem dX0_elementOf_53 : decode cX0_elementOf 53 = .ok (.checkcast 69, 3) := dk_192 0 69 (dk_at dksX0_elementOf_2 17 rfl rfl)
theorem dX0_elementOf_56 : decode cX0_elementOf 56 = .ok (.iload_n 1, 1) := dk_27 (dk_at dksX0_elementOf_2 20 rfl rfl)
theorem dX0_elementOf_57 : decode cX0_elementOf 57 = .ok (.iaload, 1) := dk_46 (dk_at dksX0_elementOf_2 21 rfl rfl)
theorem dX0_elementOf_58 : decode cX0_elementOf 58 = .ok (.i2l, 1) := dk_133 (dk_at dksX0_elementOf_2 22 rfl rfl)
theorem dX0_elementOf_59 : decode cX0_elementOf 59 = .ok (.lreturn, 1) := dk_173 (dk_at dksX0_elementOf_2 23 rfl rfl)
theorem dX0_elementOf_60 : decode cX0_elementOf 60 = .ok (.aload_n 0, 1) := dk_42 (dk_at dksX0_elementOf_3 0 rfl rfl)
theorem dX0_elementOf_61 : decode cX0_elementOf 61 = .ok (.checkcast 70, 3) := dk_192 0 70 (dk_at dksX0_elementOf_3 1 rfl rfl)
theorem dX0_elementOf_64 : decode cX0_elementOf 64 = .ok (.iload_n 1, 1) := dk_27 (dk_at dksX0_elementOf_3 4 rfl rfl)
theorem dX0_elementOf_65 : decode cX0_elementOf 65 = .ok (.laload, 1) := dk_47 (dk_at dksX0_elementOf_3 5 rfl rfl)
theorem dX0_elementOf_66 : decode cX0_elementOf 66 = .ok (.lreturn, 1) := dk_173 (dk_at dksX0_elementOf_3 6 rfl rfl)
theorem dX0_elementOf_67 : decode cX0_elementOf 67 = .ok (.aload_n 0, 1) := dk_42 (dk_at dksX0_elementOf_3 7 rfl rfl)
theorem dX0_elementOf_68 : decode cX0_elementOf 68 = .ok (.checkcast 76, 3) := dk_192 0 76 (dk_at dksX0_elementOf_3 8 rfl rfl)
theorem dX0_elementOf_71 : decode cX0_elementOf 71 = .ok (.iload_n 1, 1) := dk_27 (dk_at dksX0_elementOf_3 11 rfl rfl)
theorem dX0_elementOf_72 : decode cX0_elementOf 72 = .ok (.baload, 1) := dk_51 (dk_at dksX0_elementOf_3 12 rfl rfl)
theorem dX0_elementOf_73 : decode cX0_elementOf 73 = .ok (.ifCond .eq 7, 3) := dk_153 0 7 (dk_at dksX0_elementOf_3 13 rfl rfl)
theorem dX0_elementOf_76 : decode cX0_elementOf 76 = .ok (.lconst 1, 1) := dk_10 (dk_at dksX0_elementOf_3 16 rfl rfl)
theorem dX0_elementOf_77 : decode cX0_elementOf 77 = .ok (.goto 4, 3) := dk_167 0 4 (dk_at dksX0_elementOf_3 17 rfl rfl)
theorem dX0_elementOf_80 : decode cX0_elementOf 80 = .ok (.lconst 0, 1) := dk_9 (dk_at dksX0_elementOf_3 20 rfl rfl)
theorem dX0_elementOf_81 : decode cX0_elementOf 81 = .ok (.lreturn, 1) := dk_173 (dk_at dksX0_elementOf_3 21 rfl rfl)
abbrev cX0_holds : ByteArray := prog_1_method_22_code
def yX0_holds : MethodName := ⟨RX0, "holds", "(I)I"⟩
def dkwX0_holds_2 : List UInt8 := [182, 0, 131, 96, 167, 0, 7, 44, 184, 0, 72, 172]
abbrev dktX0_holds_2 : List UInt8 := dkwX0_holds_2 ++ []
def dkwX0_holds_1 : List UInt8 := [180, 0, 26, 27, 50, 180, 0, 89, 77, 44, 193, 0, 95, 153, 0, 16, 16, 10, 44, 192, 0, 95]
abbrev dktX0_holds_1 : List UInt8 := dkwX0_holds_1 ++ dktX0_holds_2
def dkwX0_holds_0 : List UInt8 := [27, 184, 0, 78, 153, 0, 15, 42, 180, 0, 26, 27, 50, 180, 0, 89, 199, 0, 5, 2, 172, 42]
abbrev dktX0_holds_0 : List UInt8 := dkwX0_holds_0 ++ dktX0_holds_1
theorem dksX0_holds_0 : cX0_holds.data.toList.drop 0 = dktX0_holds_0 := by decide +kernel
theorem dksX0_holds_1 : cX0_holds.data.toList.drop 22 = dktX0_holds_1 := dk_seg dksX0_holds_0 22 rfl rfl
theorem dksX0_holds_2 : cX0_holds.data.toList.drop 44 = dktX0_holds_2 := dk_seg dksX0_holds_1 22 rfl rfl
theorem dX0_holds_0 : decode cX0_holds 0 = .ok (.iload_n 1, 1) := dk_27 (dk_at dksX0_holds_0 0 rfl rfl)
theorem dX0_holds_1 : decode cX0_holds 1 = .ok (.invokestatic 78, 3) := dk_184 0 78 (dk_at dksX0_holds_0 1 rfl rfl)
theorem dX0_holds_4 : decode cX0_holds 4 = .ok (.ifCond .eq 15, 3) := dk_153 0 15 (dk_at dksX0_holds_0 4 rfl rfl)
theorem dX0_holds_7 : decode cX0_holds 7 = .ok (.aload_n 0, 1) := dk_42 (dk_at dksX0_holds_0 7 rfl rfl)
theorem dX0_holds_8 : decode cX0_holds 8 = .ok (.getfield 26, 3) := dk_180 0 26 (dk_at dksX0_holds_0 8 rfl rfl)
theorem dX0_holds_11 : decode cX0_holds 11 = .ok (.iload_n 1, 1) := dk_27 (dk_at dksX0_holds_0 11 rfl rfl)
theorem dX0_holds_12 : decode cX0_holds 12 = .ok (.aaload, 1) := dk_50 (dk_at dksX0_holds_0 12 rfl rfl)
theorem dX0_holds_13 : decode cX0_holds 13 = .ok (.getfield 89, 3) := dk_180 0 89 (dk_at dksX0_holds_0 13 rfl rfl)
theorem dX0_holds_16 : decode cX0_holds 16 = .ok (.ifnonnull 5, 3) := dk_199 0 5 (dk_at dksX0_holds_0 16 rfl rfl)
theorem dX0_holds_19 : decode cX0_holds 19 = .ok (.iconst (-1), 1) := dk_2 (dk_at dksX0_holds_0 19 rfl rfl)
theorem dX0_holds_20 : decode cX0_holds 20 = .ok (.ireturn, 1) := dk_172 (dk_at dksX0_holds_0 20 rfl rfl)
theorem dX0_holds_21 : decode cX0_holds 21 = .ok (.aload_n 0, 1) := dk_42 (dk_at dksX0_holds_0 21 rfl rfl)
theorem dX0_holds_22 : decode cX0_holds 22 = .ok (.getfield 26, 3) := dk_180 0 26 (dk_at dksX0_holds_1 0 rfl rfl)
theorem dX0_holds_25 : decode cX0_holds 25 = .ok (.iload_n 1, 1) := dk_27 (dk_at dksX0_holds_1 3 rfl rfl)
theorem dX0_holds_26 : decode cX0_holds 26 = .ok (.aaload, 1) := dk_50 (dk_at dksX0_holds_1 4 rfl rfl)
theorem dX0_holds_27 : decode cX0_holds 27 = .ok (.getfield 89, 3) := dk_180 0 89 (dk_at dksX0_holds_1 5 rfl rfl)
theorem dX0_holds_30 : decode cX0_holds 30 = .ok (.astore_n 2, 1) := dk_77 (dk_at dksX0_holds_1 8 rfl rfl)
theorem dX0_holds_31 : decode cX0_holds 31 = .ok (.aload_n 2, 1) := dk_44 (dk_at dksX0_holds_1 9 rfl rfl)
theorem dX0_holds_32 : decode cX0_holds 32 = .ok (.instanceof 95, 3) := dk_193 0 95 (dk_at dksX0_holds_1 10 rfl rfl)
theorem dX0_holds_35 : decode cX0_holds 35 = .ok (.ifCond .eq 16, 3) := dk_153 0 16 (dk_at dksX0_holds_1 13 rfl rfl)
theorem dX0_holds_38 : decode cX0_holds 38 = .ok (.bipush 10, 2) := dk_16 10 (dk_at dksX0_holds_1 16 rfl rfl)
theorem dX0_holds_40 : decode cX0_holds 40 = .ok (.aload_n 2, 1) := dk_44 (dk_at dksX0_holds_1 18 rfl rfl)
theorem dX0_holds_41 : decode cX0_holds 41 = .ok (.checkcast 95, 3) := dk_192 0 95 (dk_at dksX0_holds_1 19 rfl rfl)
theorem dX0_holds_44 : decode cX0_holds 44 = .ok (.invokevirtual 131, 3) := dk_182 0 131 (dk_at dksX0_holds_2 0 rfl rfl)
theorem dX0_holds_47 : decode cX0_holds 47 = .ok (.iadd, 1) := dk_96 (dk_at dksX0_holds_2 3 rfl rfl)
theorem dX0_holds_48 : decode cX0_holds 48 = .ok (.goto 7, 3) := dk_167 0 7 (dk_at dksX0_holds_2 4 rfl rfl)
theorem dX0_holds_51 : decode cX0_holds 51 = .ok (.aload_n 2, 1) := dk_44 (dk_at dksX0_holds_2 7 rfl rfl)
theorem dX0_holds_52 : decode cX0_holds 52 = .ok (.invokestatic 72, 3) := dk_184 0 72 (dk_at dksX0_holds_2 8 rfl rfl)
theorem dX0_holds_55 : decode cX0_holds 55 = .ok (.ireturn, 1) := dk_172 (dk_at dksX0_holds_2 11 rfl rfl)
abbrev cX0_rule : ByteArray := prog_1_method_26_code
def yX0_rule : MethodName := ⟨RX0, "rule", "(III)I"⟩
def dkwX0_rule_2 : List UInt8 := [58, 4, 42, 25, 4, 180, 0, 110, 182, 0, 81, 172]
abbrev dktX0_rule_2 : List UInt8 := dkwX0_rule_2 ++ []
def dkwX0_rule_1 : List UInt8 := [42, 16, 254, 182, 0, 81, 172, 42, 180, 0, 26, 27, 50, 42, 28, 29, 182, 0, 169, 181, 0, 89, 4, 172]
abbrev dktX0_rule_1 : List UInt8 := dkwX0_rule_1 ++ dktX0_rule_2
def dkwX0_rule_0 : List UInt8 := [27, 184, 0, 78, 153, 0, 20, 28, 4, 8, 184, 0, 37, 153, 0, 11, 28, 29, 184, 0, 165, 154, 0, 10]
abbrev dktX0_rule_0 : List UInt8 := dkwX0_rule_0 ++ dktX0_rule_1
theorem dksX0_rule_0 : cX0_rule.data.toList.drop 0 = dktX0_rule_0 := by decide +kernel
theorem dksX0_rule_1 : cX0_rule.data.toList.drop 24 = dktX0_rule_1 := dk_seg dksX0_rule_0 24 rfl rfl
theorem dksX0_rule_2 : cX0_rule.data.toList.drop 48 = dktX0_rule_2 := dk_seg dksX0_rule_1 24 rfl rfl
theorem dX0_rule_0 : decode cX0_rule 0 = .ok (.iload_n 1, 1) := dk_27 (dk_at dksX0_rule_0 0 rfl rfl)
theorem dX0_rule_1 : decode cX0_rule 1 = .ok (.invokestatic 78, 3) := dk_184 0 78 (dk_at dksX0_rule_0 1 rfl rfl)
theorem dX0_rule_4 : decode cX0_rule 4 = .ok (.ifCond .eq 20, 3) := dk_153 0 20 (dk_at dksX0_rule_0 4 rfl rfl)
theorem dX0_rule_7 : decode cX0_rule 7 = .ok (.iload_n 2, 1) := dk_28 (dk_at dksX0_rule_0 7 rfl rfl)
theorem dX0_rule_8 : decode cX0_rule 8 = .ok (.iconst 1, 1) := dk_4 (dk_at dksX0_rule_0 8 rfl rfl)
theorem dX0_rule_9 : decode cX0_rule 9 = .ok (.iconst 5, 1) := dk_8 (dk_at dksX0_rule_0 9 rfl rfl)
theorem dX0_rule_10 : decode cX0_rule 10 = .ok (.invokestatic 37, 3) := dk_184 0 37 (dk_at dksX0_rule_0 10 rfl rfl)
theorem dX0_rule_13 : decode cX0_rule 13 = .ok (.ifCond .eq 11, 3) := dk_153 0 11 (dk_at dksX0_rule_0 13 rfl rfl)
theorem dX0_rule_16 : decode cX0_rule 16 = .ok (.iload_n 2, 1) := dk_28 (dk_at dksX0_rule_0 16 rfl rfl)
theorem dX0_rule_17 : decode cX0_rule 17 = .ok (.iload_n 3, 1) := dk_29 (dk_at dksX0_rule_0 17 rfl rfl)
theorem dX0_rule_18 : decode cX0_rule 18 = .ok (.invokestatic 165, 3) := dk_184 0 165 (dk_at dksX0_rule_0 18 rfl rfl)
theorem dX0_rule_21 : decode cX0_rule 21 = .ok (.ifCond .ne 10, 3) := dk_154 0 10 (dk_at dksX0_rule_0 21 rfl rfl)
theorem dX0_rule_24 : decode cX0_rule 24 = .ok (.aload_n 0, 1) := dk_42 (dk_at dksX0_rule_1 0 rfl rfl)
theorem dX0_rule_25 : decode cX0_rule 25 = .ok (.bipush (-2), 2) := dk_16 254 (dk_at dksX0_rule_1 1 rfl rfl)
theorem dX0_rule_27 : decode cX0_rule 27 = .ok (.invokevirtual 81, 3) := dk_182 0 81 (dk_at dksX0_rule_1 3 rfl rfl)
theorem dX0_rule_30 : decode cX0_rule 30 = .ok (.ireturn, 1) := dk_172 (dk_at dksX0_rule_1 6 rfl rfl)
theorem dX0_rule_31 : decode cX0_rule 31 = .ok (.aload_n 0, 1) := dk_42 (dk_at dksX0_rule_1 7 rfl rfl)
theorem dX0_rule_32 : decode cX0_rule 32 = .ok (.getfield 26, 3) := dk_180 0 26 (dk_at dksX0_rule_1 8 rfl rfl)
theorem dX0_rule_35 : decode cX0_rule 35 = .ok (.iload_n 1, 1) := dk_27 (dk_at dksX0_rule_1 11 rfl rfl)
theorem dX0_rule_36 : decode cX0_rule 36 = .ok (.aaload, 1) := dk_50 (dk_at dksX0_rule_1 12 rfl rfl)
theorem dX0_rule_37 : decode cX0_rule 37 = .ok (.aload_n 0, 1) := dk_42 (dk_at dksX0_rule_1 13 rfl rfl)
theorem dX0_rule_38 : decode cX0_rule 38 = .ok (.iload_n 2, 1) := dk_28 (dk_at dksX0_rule_1 14 rfl rfl)
theorem dX0_rule_39 : decode cX0_rule 39 = .ok (.iload_n 3, 1) := dk_29 (dk_at dksX0_rule_1 15 rfl rfl)
theorem dX0_rule_40 : decode cX0_rule 40 = .ok (.invokevirtual 169, 3) := dk_182 0 169 (dk_at dksX0_rule_1 16 rfl rfl)
theorem dX0_rule_43 : decode cX0_rule 43 = .ok (.putfield 89, 3) := dk_181 0 89 (dk_at dksX0_rule_1 19 rfl rfl)
theorem dX0_rule_46 : decode cX0_rule 46 = .ok (.iconst 1, 1) := dk_4 (dk_at dksX0_rule_1 22 rfl rfl)
theorem dX0_rule_47 : decode cX0_rule 47 = .ok (.ireturn, 1) := dk_172 (dk_at dksX0_rule_1 23 rfl rfl)
theorem dX0_rule_48 : decode cX0_rule 48 = .ok (.astore 4, 2) := dk_58 4 (dk_at dksX0_rule_2 0 rfl rfl)
theorem dX0_rule_50 : decode cX0_rule 50 = .ok (.aload_n 0, 1) := dk_42 (dk_at dksX0_rule_2 2 rfl rfl)
theorem dX0_rule_51 : decode cX0_rule 51 = .ok (.aload 4, 2) := dk_25 4 (dk_at dksX0_rule_2 3 rfl rfl)
theorem dX0_rule_53 : decode cX0_rule 53 = .ok (.getfield 110, 3) := dk_180 0 110 (dk_at dksX0_rule_2 5 rfl rfl)
theorem dX0_rule_56 : decode cX0_rule 56 = .ok (.invokevirtual 81, 3) := dk_182 0 81 (dk_at dksX0_rule_2 8 rfl rfl)
theorem dX0_rule_59 : decode cX0_rule 59 = .ok (.ireturn, 1) := dk_172 (dk_at dksX0_rule_2 11 rfl rfl)
abbrev cX0_may : ByteArray := prog_1_method_24_code
def yX0_may : MethodName := ⟨RX0, "may", "(II)Z"⟩
def dkwX0_may_4 : List UInt8 := [27, 184, 0, 78, 172]
abbrev dktX0_may_4 : List UInt8 := dkwX0_may_4 ++ []
def dkwX0_may_3 : List UInt8 := [153, 0, 20, 27, 16, 10, 112, 4, 16, 6, 184, 0, 37, 153, 0, 7, 4, 167, 0, 4, 3, 172, 4, 172]
abbrev dktX0_may_3 : List UInt8 := dkwX0_may_3 ++ dktX0_may_4
def dkwX0_may_2 : List UInt8 := [27, 3, 16, 99, 184, 0, 37, 172, 27, 4, 16, 6, 184, 0, 37, 172, 27, 3, 17, 3, 231, 184, 0, 37]
abbrev dktX0_may_2 : List UInt8 := dkwX0_may_2 ++ dktX0_may_3
def dkwX0_may_1 : List UInt8 := [170, 0, 0, 0, 0, 0, 79, 0, 0, 0, 1, 0, 0, 0, 4, 0, 0, 0, 31, 0, 0, 0, 39, 0, 0, 0, 47, 0, 0, 0, 77]
abbrev dktX0_may_1 : List UInt8 := dkwX0_may_1 ++ dktX0_may_2
def dkwX0_may_0 : List UInt8 := [26]
abbrev dktX0_may_0 : List UInt8 := dkwX0_may_0 ++ dktX0_may_1
theorem dksX0_may_0 : cX0_may.data.toList.drop 0 = dktX0_may_0 := by decide +kernel
theorem dksX0_may_1 : cX0_may.data.toList.drop 1 = dktX0_may_1 := dk_seg dksX0_may_0 1 rfl rfl
theorem dksX0_may_2 : cX0_may.data.toList.drop 32 = dktX0_may_2 := dk_seg dksX0_may_1 31 rfl rfl
theorem dksX0_may_3 : cX0_may.data.toList.drop 56 = dktX0_may_3 := dk_seg dksX0_may_2 24 rfl rfl
theorem dksX0_may_4 : cX0_may.data.toList.drop 80 = dktX0_may_4 := dk_seg dksX0_may_3 24 rfl rfl
theorem dX0_may_0 : decode cX0_may 0 = .ok (.iload_n 0, 1) := dk_26 (dk_at dksX0_may_0 0 rfl rfl)
theorem dX0_may_1 : decode cX0_may 1 = .ok (.tableswitch 79 1 4 #[31, 39, 47, 77], 31) := by decide +kernel
theorem dX0_may_32 : decode cX0_may 32 = .ok (.iload_n 1, 1) := dk_27 (dk_at dksX0_may_2 0 rfl rfl)
theorem dX0_may_33 : decode cX0_may 33 = .ok (.iconst 0, 1) := dk_3 (dk_at dksX0_may_2 1 rfl rfl)
theorem dX0_may_34 : decode cX0_may 34 = .ok (.bipush 99, 2) := dk_16 99 (dk_at dksX0_may_2 2 rfl rfl)
theorem dX0_may_36 : decode cX0_may 36 = .ok (.invokestatic 37, 3) := dk_184 0 37 (dk_at dksX0_may_2 4 rfl rfl)
theorem dX0_may_39 : decode cX0_may 39 = .ok (.ireturn, 1) := dk_172 (dk_at dksX0_may_2 7 rfl rfl)
theorem dX0_may_40 : decode cX0_may 40 = .ok (.iload_n 1, 1) := dk_27 (dk_at dksX0_may_2 8 rfl rfl)
theorem dX0_may_41 : decode cX0_may 41 = .ok (.iconst 1, 1) := dk_4 (dk_at dksX0_may_2 9 rfl rfl)
theorem dX0_may_42 : decode cX0_may 42 = .ok (.bipush 6, 2) := dk_16 6 (dk_at dksX0_may_2 10 rfl rfl)
theorem dX0_may_44 : decode cX0_may 44 = .ok (.invokestatic 37, 3) := dk_184 0 37 (dk_at dksX0_may_2 12 rfl rfl)
theorem dX0_may_47 : decode cX0_may 47 = .ok (.ireturn, 1) := dk_172 (dk_at dksX0_may_2 15 rfl rfl)
theorem dX0_may_48 : decode cX0_may 48 = .ok (.iload_n 1, 1) := dk_27 (dk_at dksX0_may_2 16 rfl rfl)
theorem dX0_may_49 : decode cX0_may 49 = .ok (.iconst 0, 1) := dk_3 (dk_at dksX0_may_2 17 rfl rfl)
theorem dX0_may_50 : decode cX0_may 50 = .ok (.sipush 999, 3) := dk_17 3 231 (dk_at dksX0_may_2 18 rfl rfl)
theorem dX0_may_53 : decode cX0_may 53 = .ok (.invokestatic 37, 3) := dk_184 0 37 (dk_at dksX0_may_2 21 rfl rfl)
theorem dX0_may_56 : decode cX0_may 56 = .ok (.ifCond .eq 20, 3) := dk_153 0 20 (dk_at dksX0_may_3 0 rfl rfl)
theorem dX0_may_59 : decode cX0_may 59 = .ok (.iload_n 1, 1) := dk_27 (dk_at dksX0_may_3 3 rfl rfl)
theorem dX0_may_60 : decode cX0_may 60 = .ok (.bipush 10, 2) := dk_16 10 (dk_at dksX0_may_3 4 rfl rfl)
theorem dX0_may_62 : decode cX0_may 62 = .ok (.irem, 1) := dk_112 (dk_at dksX0_may_3 6 rfl rfl)
theorem dX0_may_63 : decode cX0_may 63 = .ok (.iconst 1, 1) := dk_4 (dk_at dksX0_may_3 7 rfl rfl)
theorem dX0_may_64 : decode cX0_may 64 = .ok (.bipush 6, 2) := dk_16 6 (dk_at dksX0_may_3 8 rfl rfl)
theorem dX0_may_66 : decode cX0_may 66 = .ok (.invokestatic 37, 3) := dk_184 0 37 (dk_at dksX0_may_3 10 rfl rfl)
theorem dX0_may_69 : decode cX0_may 69 = .ok (.ifCond .eq 7, 3) := dk_153 0 7 (dk_at dksX0_may_3 13 rfl rfl)
theorem dX0_may_72 : decode cX0_may 72 = .ok (.iconst 1, 1) := dk_4 (dk_at dksX0_may_3 16 rfl rfl)
theorem dX0_may_73 : decode cX0_may 73 = .ok (.goto 4, 3) := dk_167 0 4 (dk_at dksX0_may_3 17 rfl rfl)
theorem dX0_may_76 : decode cX0_may 76 = .ok (.iconst 0, 1) := dk_3 (dk_at dksX0_may_3 20 rfl rfl)
theorem dX0_may_77 : decode cX0_may 77 = .ok (.ireturn, 1) := dk_172 (dk_at dksX0_may_3 21 rfl rfl)
theorem dX0_may_78 : decode cX0_may 78 = .ok (.iconst 1, 1) := dk_4 (dk_at dksX0_may_3 22 rfl rfl)
theorem dX0_may_79 : decode cX0_may 79 = .ok (.ireturn, 1) := dk_172 (dk_at dksX0_may_3 23 rfl rfl)
theorem dX0_may_80 : decode cX0_may 80 = .ok (.iload_n 1, 1) := dk_27 (dk_at dksX0_may_4 0 rfl rfl)
theorem dX0_may_81 : decode cX0_may 81 = .ok (.invokestatic 78, 3) := dk_184 0 78 (dk_at dksX0_may_4 1 rfl rfl)
theorem dX0_may_84 : decode cX0_may 84 = .ok (.ireturn, 1) := dk_172 (dk_at dksX0_may_4 4 rfl rfl)
abbrev cX0_ruleOf : ByteArray := prog_1_method_25_code
def yX0_ruleOf : MethodName := ⟨RX0, "ruleOf", "(II)LSendTheBox$Rule;"⟩
def dkwX0_ruleOf_4 : List UInt8 := [28, 182, 0, 102, 184, 0, 158, 183, 0, 162, 176]
abbrev dktX0_ruleOf_4 : List UInt8 := dkwX0_ruleOf_4 ++ []
def dkwX0_ruleOf_3 : List UInt8 := [16, 10, 108, 28, 16, 10, 112, 183, 0, 150, 176, 187, 0, 153, 89, 183, 0, 155, 176, 187, 0, 156, 89, 42]
abbrev dktX0_ruleOf_3 : List UInt8 := dkwX0_ruleOf_3 ++ dktX0_ruleOf_4
def dkwX0_ruleOf_2 : List UInt8 := [187, 0, 142, 89, 28, 183, 0, 144, 176, 187, 0, 145, 89, 28, 183, 0, 147, 176, 187, 0, 148, 89, 28]
abbrev dktX0_ruleOf_2 : List UInt8 := dkwX0_ruleOf_2 ++ dktX0_ruleOf_3
def dkwX0_ruleOf_1 : List UInt8 := [170, 0, 0, 0, 0, 0, 73, 0, 0, 0, 1, 0, 0, 0, 4, 0, 0, 0, 31, 0, 0, 0, 40, 0, 0, 0, 49, 0, 0, 0, 65]
abbrev dktX0_ruleOf_1 : List UInt8 := dkwX0_ruleOf_1 ++ dktX0_ruleOf_2
def dkwX0_ruleOf_0 : List UInt8 := [27]
abbrev dktX0_ruleOf_0 : List UInt8 := dkwX0_ruleOf_0 ++ dktX0_ruleOf_1
theorem dksX0_ruleOf_0 : cX0_ruleOf.data.toList.drop 0 = dktX0_ruleOf_0 := by decide +kernel
theorem dksX0_ruleOf_1 : cX0_ruleOf.data.toList.drop 1 = dktX0_ruleOf_1 := dk_seg dksX0_ruleOf_0 1 rfl rfl
theorem dksX0_ruleOf_2 : cX0_ruleOf.data.toList.drop 32 = dktX0_ruleOf_2 := dk_seg dksX0_ruleOf_1 31 rfl rfl
theorem dksX0_ruleOf_3 : cX0_ruleOf.data.toList.drop 55 = dktX0_ruleOf_3 := dk_seg dksX0_ruleOf_2 23 rfl rfl
theorem dksX0_ruleOf_4 : cX0_ruleOf.data.toList.drop 79 = dktX0_ruleOf_4 := dk_seg dksX0_ruleOf_3 24 rfl rfl
theorem dX0_ruleOf_0 : decode cX0_ruleOf 0 = .ok (.iload_n 1, 1) := dk_27 (dk_at dksX0_ruleOf_0 0 rfl rfl)
theorem dX0_ruleOf_1 : decode cX0_ruleOf 1 = .ok (.tableswitch 73 1 4 #[31, 40, 49, 65], 31) := by decide +kernel
theorem dX0_ruleOf_32 : decode cX0_ruleOf 32 = .ok (.new 142, 3) := dk_187 0 142 (dk_at dksX0_ruleOf_2 0 rfl rfl)
theorem dX0_ruleOf_35 : decode cX0_ruleOf 35 = .ok (.dup, 1) := dk_89 (dk_at dksX0_ruleOf_2 3 rfl rfl)
theorem dX0_ruleOf_36 : decode cX0_ruleOf 36 = .ok (.iload_n 2, 1) := dk_28 (dk_at dksX0_ruleOf_2 4 rfl rfl)
theorem dX0_ruleOf_37 : decode cX0_ruleOf 37 = .ok (.invokespecial 144, 3) := dk_183 0 144 (dk_at dksX0_ruleOf_2 5 rfl rfl)
theorem dX0_ruleOf_40 : decode cX0_ruleOf 40 = .ok (.areturn, 1) := dk_176 (dk_at dksX0_ruleOf_2 8 rfl rfl)
theorem dX0_ruleOf_41 : decode cX0_ruleOf 41 = .ok (.new 145, 3) := dk_187 0 145 (dk_at dksX0_ruleOf_2 9 rfl rfl)
theorem dX0_ruleOf_44 : decode cX0_ruleOf 44 = .ok (.dup, 1) := dk_89 (dk_at dksX0_ruleOf_2 12 rfl rfl)
theorem dX0_ruleOf_45 : decode cX0_ruleOf 45 = .ok (.iload_n 2, 1) := dk_28 (dk_at dksX0_ruleOf_2 13 rfl rfl)
theorem dX0_ruleOf_46 : decode cX0_ruleOf 46 = .ok (.invokespecial 147, 3) := dk_183 0 147 (dk_at dksX0_ruleOf_2 14 rfl rfl)
theorem dX0_ruleOf_49 : decode cX0_ruleOf 49 = .ok (.areturn, 1) := dk_176 (dk_at dksX0_ruleOf_2 17 rfl rfl)
theorem dX0_ruleOf_50 : decode cX0_ruleOf 50 = .ok (.new 148, 3) := dk_187 0 148 (dk_at dksX0_ruleOf_2 18 rfl rfl)
theorem dX0_ruleOf_53 : decode cX0_ruleOf 53 = .ok (.dup, 1) := dk_89 (dk_at dksX0_ruleOf_2 21 rfl rfl)
theorem dX0_ruleOf_54 : decode cX0_ruleOf 54 = .ok (.iload_n 2, 1) := dk_28 (dk_at dksX0_ruleOf_2 22 rfl rfl)
theorem dX0_ruleOf_55 : decode cX0_ruleOf 55 = .ok (.bipush 10, 2) := dk_16 10 (dk_at dksX0_ruleOf_3 0 rfl rfl)
theorem dX0_ruleOf_57 : decode cX0_ruleOf 57 = .ok (.idiv, 1) := dk_108 (dk_at dksX0_ruleOf_3 2 rfl rfl)
theorem dX0_ruleOf_58 : decode cX0_ruleOf 58 = .ok (.iload_n 2, 1) := dk_28 (dk_at dksX0_ruleOf_3 3 rfl rfl)
theorem dX0_ruleOf_59 : decode cX0_ruleOf 59 = .ok (.bipush 10, 2) := dk_16 10 (dk_at dksX0_ruleOf_3 4 rfl rfl)
theorem dX0_ruleOf_61 : decode cX0_ruleOf 61 = .ok (.irem, 1) := dk_112 (dk_at dksX0_ruleOf_3 6 rfl rfl)
theorem dX0_ruleOf_62 : decode cX0_ruleOf 62 = .ok (.invokespecial 150, 3) := dk_183 0 150 (dk_at dksX0_ruleOf_3 7 rfl rfl)
theorem dX0_ruleOf_65 : decode cX0_ruleOf 65 = .ok (.areturn, 1) := dk_176 (dk_at dksX0_ruleOf_3 10 rfl rfl)
theorem dX0_ruleOf_66 : decode cX0_ruleOf 66 = .ok (.new 153, 3) := dk_187 0 153 (dk_at dksX0_ruleOf_3 11 rfl rfl)
theorem dX0_ruleOf_69 : decode cX0_ruleOf 69 = .ok (.dup, 1) := dk_89 (dk_at dksX0_ruleOf_3 14 rfl rfl)
theorem dX0_ruleOf_70 : decode cX0_ruleOf 70 = .ok (.invokespecial 155, 3) := dk_183 0 155 (dk_at dksX0_ruleOf_3 15 rfl rfl)
theorem dX0_ruleOf_73 : decode cX0_ruleOf 73 = .ok (.areturn, 1) := dk_176 (dk_at dksX0_ruleOf_3 18 rfl rfl)
theorem dX0_ruleOf_74 : decode cX0_ruleOf 74 = .ok (.new 156, 3) := dk_187 0 156 (dk_at dksX0_ruleOf_3 19 rfl rfl)
theorem dX0_ruleOf_77 : decode cX0_ruleOf 77 = .ok (.dup, 1) := dk_89 (dk_at dksX0_ruleOf_3 22 rfl rfl)
theorem dX0_ruleOf_78 : decode cX0_ruleOf 78 = .ok (.aload_n 0, 1) := dk_42 (dk_at dksX0_ruleOf_3 23 rfl rfl)
theorem dX0_ruleOf_79 : decode cX0_ruleOf 79 = .ok (.iload_n 2, 1) := dk_28 (dk_at dksX0_ruleOf_4 0 rfl rfl)
theorem dX0_ruleOf_80 : decode cX0_ruleOf 80 = .ok (.invokevirtual 102, 3) := dk_182 0 102 (dk_at dksX0_ruleOf_4 1 rfl rfl)
theorem dX0_ruleOf_83 : decode cX0_ruleOf 83 = .ok (.invokestatic 158, 3) := dk_184 0 158 (dk_at dksX0_ruleOf_4 4 rfl rfl)
theorem dX0_ruleOf_86 : decode cX0_ruleOf 86 = .ok (.invokespecial 162, 3) := dk_183 0 162 (dk_at dksX0_ruleOf_4 7 rfl rfl)
theorem dX0_ruleOf_89 : decode cX0_ruleOf 89 = .ok (.areturn, 1) := dk_176 (dk_at dksX0_ruleOf_4 10 rfl rfl)
abbrev cX0_cloned : ByteArray := prog_1_method_23_code
def yX0_cloned : MethodName := ⟨RX0, "cloned", "(Ljava/lang/Object;)Ljava/lang/Object;"⟩
def dkwX0_cloned_3 : List UInt8 := [42, 192, 0, 70, 182, 0, 140, 176, 42, 192, 0, 76, 182, 0, 141, 176]
abbrev dktX0_cloned_3 : List UInt8 := dkwX0_cloned_3 ++ []
def dkwX0_cloned_2 : List UInt8 := [42, 192, 0, 65, 182, 0, 134, 176, 42, 192, 0, 67, 182, 0, 138, 176, 42, 192, 0, 69, 182, 0, 139, 176]
abbrev dktX0_cloned_2 : List UInt8 := dkwX0_cloned_2 ++ dktX0_cloned_3
def dkwX0_cloned_1 : List UInt8 := [170, 0, 0, 0, 0, 0, 0, 64, 0, 0, 0, 0, 0, 0, 0, 3, 0, 0, 0, 32, 0, 0, 0, 40, 0, 0, 0, 48, 0, 0, 0, 56]
abbrev dktX0_cloned_1 : List UInt8 := dkwX0_cloned_1 ++ dktX0_cloned_2
def dkwX0_cloned_0 : List UInt8 := [42, 184, 0, 72]
abbrev dktX0_cloned_0 : List UInt8 := dkwX0_cloned_0 ++ dktX0_cloned_1
theorem dksX0_cloned_0 : cX0_cloned.data.toList.drop 0 = dktX0_cloned_0 := by decide +kernel
theorem dksX0_cloned_1 : cX0_cloned.data.toList.drop 4 = dktX0_cloned_1 := dk_seg dksX0_cloned_0 4 rfl rfl
theorem dksX0_cloned_2 : cX0_cloned.data.toList.drop 36 = dktX0_cloned_2 := dk_seg dksX0_cloned_1 32 rfl rfl
theorem dksX0_cloned_3 : cX0_cloned.data.toList.drop 60 = dktX0_cloned_3 := dk_seg dksX0_cloned_2 24 rfl rfl
theorem dX0_cloned_0 : decode cX0_cloned 0 = .ok (.aload_n 0, 1) := dk_42 (dk_at dksX0_cloned_0 0 rfl rfl)
theorem dX0_cloned_1 : decode cX0_cloned 1 = .ok (.invokestatic 72, 3) := dk_184 0 72 (dk_at dksX0_cloned_0 1 rfl rfl)
theorem dX0_cloned_4 : decode cX0_cloned 4 = .ok (.tableswitch 64 0 3 #[32, 40, 48, 56], 32) := by decide +kernel
theorem dX0_cloned_36 : decode cX0_cloned 36 = .ok (.aload_n 0, 1) := dk_42 (dk_at dksX0_cloned_2 0 rfl rfl)
theorem dX0_cloned_37 : decode cX0_cloned 37 = .ok (.checkcast 65, 3) := dk_192 0 65 (dk_at dksX0_cloned_2 1 rfl rfl)
theorem dX0_cloned_40 : decode cX0_cloned 40 = .ok (.invokevirtual 134, 3) := dk_182 0 134 (dk_at dksX0_cloned_2 4 rfl rfl)
theorem dX0_cloned_43 : decode cX0_cloned 43 = .ok (.areturn, 1) := dk_176 (dk_at dksX0_cloned_2 7 rfl rfl)
theorem dX0_cloned_44 : decode cX0_cloned 44 = .ok (.aload_n 0, 1) := dk_42 (dk_at dksX0_cloned_2 8 rfl rfl)
theorem dX0_cloned_45 : decode cX0_cloned 45 = .ok (.checkcast 67, 3) := dk_192 0 67 (dk_at dksX0_cloned_2 9 rfl rfl)
theorem dX0_cloned_48 : decode cX0_cloned 48 = .ok (.invokevirtual 138, 3) := dk_182 0 138 (dk_at dksX0_cloned_2 12 rfl rfl)
theorem dX0_cloned_51 : decode cX0_cloned 51 = .ok (.areturn, 1) := dk_176 (dk_at dksX0_cloned_2 15 rfl rfl)
theorem dX0_cloned_52 : decode cX0_cloned 52 = .ok (.aload_n 0, 1) := dk_42 (dk_at dksX0_cloned_2 16 rfl rfl)
theorem dX0_cloned_53 : decode cX0_cloned 53 = .ok (.checkcast 69, 3) := dk_192 0 69 (dk_at dksX0_cloned_2 17 rfl rfl)
theorem dX0_cloned_56 : decode cX0_cloned 56 = .ok (.invokevirtual 139, 3) := dk_182 0 139 (dk_at dksX0_cloned_2 20 rfl rfl)
theorem dX0_cloned_59 : decode cX0_cloned 59 = .ok (.areturn, 1) := dk_176 (dk_at dksX0_cloned_2 23 rfl rfl)
theorem dX0_cloned_60 : decode cX0_cloned 60 = .ok (.aload_n 0, 1) := dk_42 (dk_at dksX0_cloned_3 0 rfl rfl)
theorem dX0_cloned_61 : decode cX0_cloned 61 = .ok (.checkcast 70, 3) := dk_192 0 70 (dk_at dksX0_cloned_3 1 rfl rfl)
theorem dX0_cloned_64 : decode cX0_cloned 64 = .ok (.invokevirtual 140, 3) := dk_182 0 140 (dk_at dksX0_cloned_3 4 rfl rfl)
theorem dX0_cloned_67 : decode cX0_cloned 67 = .ok (.areturn, 1) := dk_176 (dk_at dksX0_cloned_3 7 rfl rfl)
theorem dX0_cloned_68 : decode cX0_cloned 68 = .ok (.aload_n 0, 1) := dk_42 (dk_at dksX0_cloned_3 8 rfl rfl)
theorem dX0_cloned_69 : decode cX0_cloned 69 = .ok (.checkcast 76, 3) := dk_192 0 76 (dk_at dksX0_cloned_3 9 rfl rfl)
theorem dX0_cloned_72 : decode cX0_cloned 72 = .ok (.invokevirtual 141, 3) := dk_182 0 141 (dk_at dksX0_cloned_3 12 rfl rfl)
theorem dX0_cloned_75 : decode cX0_cloned 75 = .ok (.areturn, 1) := dk_176 (dk_at dksX0_cloned_3 15 rfl rfl)
abbrev cX0_sizeOf : ByteArray := prog_1_method_14_code
def yX0_sizeOf : MethodName := ⟨RX0, "sizeOf", "(Ljava/lang/Object;)I"⟩
def dkwX0_sizeOf_3 : List UInt8 := [42, 192, 0, 76, 190, 172]
abbrev dktX0_sizeOf_3 : List UInt8 := dkwX0_sizeOf_3 ++ []
def dkwX0_sizeOf_2 : List UInt8 := [42, 192, 0, 65, 190, 172, 42, 192, 0, 67, 190, 172, 42, 192, 0, 69, 190, 172, 42, 192, 0, 70, 190, 172]
abbrev dktX0_sizeOf_2 : List UInt8 := dkwX0_sizeOf_2 ++ dktX0_sizeOf_3
def dkwX0_sizeOf_1 : List UInt8 := [170, 0, 0, 0, 0, 0, 0, 56, 0, 0, 0, 0, 0, 0, 0, 3, 0, 0, 0, 32, 0, 0, 0, 38, 0, 0, 0, 44, 0, 0, 0, 50]
abbrev dktX0_sizeOf_1 : List UInt8 := dkwX0_sizeOf_1 ++ dktX0_sizeOf_2
def dkwX0_sizeOf_0 : List UInt8 := [42, 184, 0, 72]
abbrev dktX0_sizeOf_0 : List UInt8 := dkwX0_sizeOf_0 ++ dktX0_sizeOf_1
theorem dksX0_sizeOf_0 : cX0_sizeOf.data.toList.drop 0 = dktX0_sizeOf_0 := by decide +kernel
theorem dksX0_sizeOf_1 : cX0_sizeOf.data.toList.drop 4 = dktX0_sizeOf_1 := dk_seg dksX0_sizeOf_0 4 rfl rfl
theorem dksX0_sizeOf_2 : cX0_sizeOf.data.toList.drop 36 = dktX0_sizeOf_2 := dk_seg dksX0_sizeOf_1 32 rfl rfl
theorem dksX0_sizeOf_3 : cX0_sizeOf.data.toList.drop 60 = dktX0_sizeOf_3 := dk_seg dksX0_sizeOf_2 24 rfl rfl
theorem dX0_sizeOf_0 : decode cX0_sizeOf 0 = .ok (.aload_n 0, 1) := dk_42 (dk_at dksX0_sizeOf_0 0 rfl rfl)
theorem dX0_sizeOf_1 : decode cX0_sizeOf 1 = .ok (.invokestatic 72, 3) := dk_184 0 72 (dk_at dksX0_sizeOf_0 1 rfl rfl)
theorem dX0_sizeOf_4 : decode cX0_sizeOf 4 = .ok (.tableswitch 56 0 3 #[32, 38, 44, 50], 32) := by decide +kernel
theorem dX0_sizeOf_36 : decode cX0_sizeOf 36 = .ok (.aload_n 0, 1) := dk_42 (dk_at dksX0_sizeOf_2 0 rfl rfl)
theorem dX0_sizeOf_37 : decode cX0_sizeOf 37 = .ok (.checkcast 65, 3) := dk_192 0 65 (dk_at dksX0_sizeOf_2 1 rfl rfl)
theorem dX0_sizeOf_40 : decode cX0_sizeOf 40 = .ok (.arraylength, 1) := dk_190 (dk_at dksX0_sizeOf_2 4 rfl rfl)
theorem dX0_sizeOf_41 : decode cX0_sizeOf 41 = .ok (.ireturn, 1) := dk_172 (dk_at dksX0_sizeOf_2 5 rfl rfl)
theorem dX0_sizeOf_42 : decode cX0_sizeOf 42 = .ok (.aload_n 0, 1) := dk_42 (dk_at dksX0_sizeOf_2 6 rfl rfl)
theorem dX0_sizeOf_43 : decode cX0_sizeOf 43 = .ok (.checkcast 67, 3) := dk_192 0 67 (dk_at dksX0_sizeOf_2 7 rfl rfl)
theorem dX0_sizeOf_46 : decode cX0_sizeOf 46 = .ok (.arraylength, 1) := dk_190 (dk_at dksX0_sizeOf_2 10 rfl rfl)
theorem dX0_sizeOf_47 : decode cX0_sizeOf 47 = .ok (.ireturn, 1) := dk_172 (dk_at dksX0_sizeOf_2 11 rfl rfl)
theorem dX0_sizeOf_48 : decode cX0_sizeOf 48 = .ok (.aload_n 0, 1) := dk_42 (dk_at dksX0_sizeOf_2 12 rfl rfl)
theorem dX0_sizeOf_49 : decode cX0_sizeOf 49 = .ok (.checkcast 69, 3) := dk_192 0 69 (dk_at dksX0_sizeOf_2 13 rfl rfl)
theorem dX0_sizeOf_52 : decode cX0_sizeOf 52 = .ok (.arraylength, 1) := dk_190 (dk_at dksX0_sizeOf_2 16 rfl rfl)
theorem dX0_sizeOf_53 : decode cX0_sizeOf 53 = .ok (.ireturn, 1) := dk_172 (dk_at dksX0_sizeOf_2 17 rfl rfl)
theorem dX0_sizeOf_54 : decode cX0_sizeOf 54 = .ok (.aload_n 0, 1) := dk_42 (dk_at dksX0_sizeOf_2 18 rfl rfl)
theorem dX0_sizeOf_55 : decode cX0_sizeOf 55 = .ok (.checkcast 70, 3) := dk_192 0 70 (dk_at dksX0_sizeOf_2 19 rfl rfl)
theorem dX0_sizeOf_58 : decode cX0_sizeOf 58 = .ok (.arraylength, 1) := dk_190 (dk_at dksX0_sizeOf_2 22 rfl rfl)
theorem dX0_sizeOf_59 : decode cX0_sizeOf 59 = .ok (.ireturn, 1) := dk_172 (dk_at dksX0_sizeOf_2 23 rfl rfl)
theorem dX0_sizeOf_60 : decode cX0_sizeOf 60 = .ok (.aload_n 0, 1) := dk_42 (dk_at dksX0_sizeOf_3 0 rfl rfl)
theorem dX0_sizeOf_61 : decode cX0_sizeOf 61 = .ok (.checkcast 76, 3) := dk_192 0 76 (dk_at dksX0_sizeOf_3 1 rfl rfl)
theorem dX0_sizeOf_64 : decode cX0_sizeOf 64 = .ok (.arraylength, 1) := dk_190 (dk_at dksX0_sizeOf_3 4 rfl rfl)
theorem dX0_sizeOf_65 : decode cX0_sizeOf 65 = .ok (.ireturn, 1) := dk_172 (dk_at dksX0_sizeOf_3 5 rfl rfl)
abbrev cX0_says : ByteArray := prog_1_method_28_code
def yX0_says : MethodName := ⟨RX0, "says", "(II)I"⟩
def dkwX0_says_5 : List UInt8 := [180, 0, 110, 182, 0, 81, 172, 78, 42, 16, 253, 182, 0, 81, 172]
abbrev dktX0_says_5 : List UInt8 := dkwX0_says_5 ++ []
def dkwX0_says_4 : List UInt8 := [182, 0, 185, 172, 45, 192, 0, 153, 182, 0, 186, 172, 45, 192, 0, 156, 182, 0, 187, 172, 78, 42, 45]
abbrev dktX0_says_4 : List UInt8 := dkwX0_says_4 ++ dktX0_says_5
def dkwX0_says_3 : List UInt8 := [3, 172, 45, 192, 0, 142, 180, 0, 179, 172, 45, 192, 0, 145, 182, 0, 182, 172, 45, 192, 0, 148]
abbrev dktX0_says_3 : List UInt8 := dkwX0_says_3 ++ dktX0_says_4
def dkwX0_says_2 : List UInt8 := [170, 0, 0, 0, 0, 68, 0, 0, 0, 0, 0, 0, 0, 4, 0, 0, 0, 34, 0, 0, 0, 36, 0, 0, 0, 44, 0, 0, 0, 52, 0, 0, 0, 60]
abbrev dktX0_says_2 : List UInt8 := dkwX0_says_2 ++ dktX0_says_3
def dkwX0_says_1 : List UInt8 := [27, 182, 0, 175, 78, 28]
abbrev dktX0_says_1 : List UInt8 := dkwX0_says_1 ++ dktX0_says_2
def dkwX0_says_0 : List UInt8 := [27, 184, 0, 78, 153, 0, 12, 28, 3, 8, 184, 0, 37, 154, 0, 10, 42, 16, 254, 182, 0, 81, 172, 42]
abbrev dktX0_says_0 : List UInt8 := dkwX0_says_0 ++ dktX0_says_1
theorem dksX0_says_0 : cX0_says.data.toList.drop 0 = dktX0_says_0 := by decide +kernel
theorem dksX0_says_1 : cX0_says.data.toList.drop 24 = dktX0_says_1 := dk_seg dksX0_says_0 24 rfl rfl
theorem dksX0_says_2 : cX0_says.data.toList.drop 30 = dktX0_says_2 := dk_seg dksX0_says_1 6 rfl rfl
theorem dksX0_says_3 : cX0_says.data.toList.drop 64 = dktX0_says_3 := dk_seg dksX0_says_2 34 rfl rfl
theorem dksX0_says_4 : cX0_says.data.toList.drop 86 = dktX0_says_4 := dk_seg dksX0_says_3 22 rfl rfl
theorem dksX0_says_5 : cX0_says.data.toList.drop 109 = dktX0_says_5 := dk_seg dksX0_says_4 23 rfl rfl
theorem dX0_says_0 : decode cX0_says 0 = .ok (.iload_n 1, 1) := dk_27 (dk_at dksX0_says_0 0 rfl rfl)
theorem dX0_says_1 : decode cX0_says 1 = .ok (.invokestatic 78, 3) := dk_184 0 78 (dk_at dksX0_says_0 1 rfl rfl)
theorem dX0_says_4 : decode cX0_says 4 = .ok (.ifCond .eq 12, 3) := dk_153 0 12 (dk_at dksX0_says_0 4 rfl rfl)
theorem dX0_says_7 : decode cX0_says 7 = .ok (.iload_n 2, 1) := dk_28 (dk_at dksX0_says_0 7 rfl rfl)
theorem dX0_says_8 : decode cX0_says 8 = .ok (.iconst 0, 1) := dk_3 (dk_at dksX0_says_0 8 rfl rfl)
theorem dX0_says_9 : decode cX0_says 9 = .ok (.iconst 5, 1) := dk_8 (dk_at dksX0_says_0 9 rfl rfl)
theorem dX0_says_10 : decode cX0_says 10 = .ok (.invokestatic 37, 3) := dk_184 0 37 (dk_at dksX0_says_0 10 rfl rfl)
theorem dX0_says_13 : decode cX0_says 13 = .ok (.ifCond .ne 10, 3) := dk_154 0 10 (dk_at dksX0_says_0 13 rfl rfl)
theorem dX0_says_16 : decode cX0_says 16 = .ok (.aload_n 0, 1) := dk_42 (dk_at dksX0_says_0 16 rfl rfl)
theorem dX0_says_17 : decode cX0_says 17 = .ok (.bipush (-2), 2) := dk_16 254 (dk_at dksX0_says_0 17 rfl rfl)
theorem dX0_says_19 : decode cX0_says 19 = .ok (.invokevirtual 81, 3) := dk_182 0 81 (dk_at dksX0_says_0 19 rfl rfl)
theorem dX0_says_22 : decode cX0_says 22 = .ok (.ireturn, 1) := dk_172 (dk_at dksX0_says_0 22 rfl rfl)
theorem dX0_says_23 : decode cX0_says 23 = .ok (.aload_n 0, 1) := dk_42 (dk_at dksX0_says_0 23 rfl rfl)
theorem dX0_says_24 : decode cX0_says 24 = .ok (.iload_n 1, 1) := dk_27 (dk_at dksX0_says_1 0 rfl rfl)
theorem dX0_says_25 : decode cX0_says 25 = .ok (.invokevirtual 175, 3) := dk_182 0 175 (dk_at dksX0_says_1 1 rfl rfl)
theorem dX0_says_28 : decode cX0_says 28 = .ok (.astore_n 3, 1) := dk_78 (dk_at dksX0_says_1 4 rfl rfl)
theorem dX0_says_29 : decode cX0_says 29 = .ok (.iload_n 2, 1) := dk_28 (dk_at dksX0_says_1 5 rfl rfl)
theorem dX0_says_30 : decode cX0_says 30 = .ok (.tableswitch 68 0 4 #[34, 36, 44, 52, 60], 34) := by decide +kernel
theorem dX0_says_64 : decode cX0_says 64 = .ok (.iconst 0, 1) := dk_3 (dk_at dksX0_says_3 0 rfl rfl)
theorem dX0_says_65 : decode cX0_says 65 = .ok (.ireturn, 1) := dk_172 (dk_at dksX0_says_3 1 rfl rfl)
theorem dX0_says_66 : decode cX0_says 66 = .ok (.aload_n 3, 1) := dk_45 (dk_at dksX0_says_3 2 rfl rfl)
theorem dX0_says_67 : decode cX0_says 67 = .ok (.checkcast 142, 3) := dk_192 0 142 (dk_at dksX0_says_3 3 rfl rfl)
theorem dX0_says_70 : decode cX0_says 70 = .ok (.getfield 179, 3) := dk_180 0 179 (dk_at dksX0_says_3 6 rfl rfl)
theorem dX0_says_73 : decode cX0_says 73 = .ok (.ireturn, 1) := dk_172 (dk_at dksX0_says_3 9 rfl rfl)
theorem dX0_says_74 : decode cX0_says 74 = .ok (.aload_n 3, 1) := dk_45 (dk_at dksX0_says_3 10 rfl rfl)
theorem dX0_says_75 : decode cX0_says 75 = .ok (.checkcast 145, 3) := dk_192 0 145 (dk_at dksX0_says_3 11 rfl rfl)
theorem dX0_says_78 : decode cX0_says 78 = .ok (.invokevirtual 182, 3) := dk_182 0 182 (dk_at dksX0_says_3 14 rfl rfl)
theorem dX0_says_81 : decode cX0_says 81 = .ok (.ireturn, 1) := dk_172 (dk_at dksX0_says_3 17 rfl rfl)
theorem dX0_says_82 : decode cX0_says 82 = .ok (.aload_n 3, 1) := dk_45 (dk_at dksX0_says_3 18 rfl rfl)
theorem dX0_says_83 : decode cX0_says 83 = .ok (.checkcast 148, 3) := dk_192 0 148 (dk_at dksX0_says_3 19 rfl rfl)
theorem dX0_says_86 : decode cX0_says 86 = .ok (.invokevirtual 185, 3) := dk_182 0 185 (dk_at dksX0_says_4 0 rfl rfl)
theorem dX0_says_89 : decode cX0_says 89 = .ok (.ireturn, 1) := dk_172 (dk_at dksX0_says_4 3 rfl rfl)
theorem dX0_says_90 : decode cX0_says 90 = .ok (.aload_n 3, 1) := dk_45 (dk_at dksX0_says_4 4 rfl rfl)
theorem dX0_says_91 : decode cX0_says 91 = .ok (.checkcast 153, 3) := dk_192 0 153 (dk_at dksX0_says_4 5 rfl rfl)
theorem dX0_says_94 : decode cX0_says 94 = .ok (.invokevirtual 186, 3) := dk_182 0 186 (dk_at dksX0_says_4 8 rfl rfl)
theorem dX0_says_97 : decode cX0_says 97 = .ok (.ireturn, 1) := dk_172 (dk_at dksX0_says_4 11 rfl rfl)
theorem dX0_says_98 : decode cX0_says 98 = .ok (.aload_n 3, 1) := dk_45 (dk_at dksX0_says_4 12 rfl rfl)
theorem dX0_says_99 : decode cX0_says 99 = .ok (.checkcast 156, 3) := dk_192 0 156 (dk_at dksX0_says_4 13 rfl rfl)
theorem dX0_says_102 : decode cX0_says 102 = .ok (.invokevirtual 187, 3) := dk_182 0 187 (dk_at dksX0_says_4 16 rfl rfl)
theorem dX0_says_105 : decode cX0_says 105 = .ok (.ireturn, 1) := dk_172 (dk_at dksX0_says_4 19 rfl rfl)
theorem dX0_says_106 : decode cX0_says 106 = .ok (.astore_n 3, 1) := dk_78 (dk_at dksX0_says_4 20 rfl rfl)
theorem dX0_says_107 : decode cX0_says 107 = .ok (.aload_n 0, 1) := dk_42 (dk_at dksX0_says_4 21 rfl rfl)
theorem dX0_says_108 : decode cX0_says 108 = .ok (.aload_n 3, 1) := dk_45 (dk_at dksX0_says_4 22 rfl rfl)
theorem dX0_says_109 : decode cX0_says 109 = .ok (.getfield 110, 3) := dk_180 0 110 (dk_at dksX0_says_5 0 rfl rfl)
theorem dX0_says_112 : decode cX0_says 112 = .ok (.invokevirtual 81, 3) := dk_182 0 81 (dk_at dksX0_says_5 3 rfl rfl)
theorem dX0_says_115 : decode cX0_says 115 = .ok (.ireturn, 1) := dk_172 (dk_at dksX0_says_5 6 rfl rfl)
theorem dX0_says_116 : decode cX0_says 116 = .ok (.astore_n 3, 1) := dk_78 (dk_at dksX0_says_5 7 rfl rfl)
theorem dX0_says_117 : decode cX0_says 117 = .ok (.aload_n 0, 1) := dk_42 (dk_at dksX0_says_5 8 rfl rfl)
theorem dX0_says_118 : decode cX0_says 118 = .ok (.bipush (-3), 2) := dk_16 253 (dk_at dksX0_says_5 9 rfl rfl)
theorem dX0_says_120 : decode cX0_says 120 = .ok (.invokevirtual 81, 3) := dk_182 0 81 (dk_at dksX0_says_5 11 rfl rfl)
theorem dX0_says_123 : decode cX0_says 123 = .ok (.ireturn, 1) := dk_172 (dk_at dksX0_says_5 14 rfl rfl)
abbrev cX0_ruleIn : ByteArray := prog_1_method_27_code
def yX0_ruleIn : MethodName := ⟨RX0, "ruleIn", "(I)LSendTheBox$Rule;"⟩
def dkwX0_ruleIn_1 : List UInt8 := [183, 0, 99, 191, 44, 176, 77, 187, 0, 97, 89, 16, 253, 183, 0, 99, 191]
abbrev dktX0_ruleIn_1 : List UInt8 := dkwX0_ruleIn_1 ++ []
def dkwX0_ruleIn_0 : List UInt8 := [42, 180, 0, 26, 27, 50, 180, 0, 89, 192, 0, 95, 77, 44, 199, 0, 13, 187, 0, 97, 89, 16, 252]
abbrev dktX0_ruleIn_0 : List UInt8 := dkwX0_ruleIn_0 ++ dktX0_ruleIn_1
theorem dksX0_ruleIn_0 : cX0_ruleIn.data.toList.drop 0 = dktX0_ruleIn_0 := by decide +kernel
theorem dksX0_ruleIn_1 : cX0_ruleIn.data.toList.drop 23 = dktX0_ruleIn_1 := dk_seg dksX0_ruleIn_0 23 rfl rfl
theorem dX0_ruleIn_0 : decode cX0_ruleIn 0 = .ok (.aload_n 0, 1) := dk_42 (dk_at dksX0_ruleIn_0 0 rfl rfl)
theorem dX0_ruleIn_1 : decode cX0_ruleIn 1 = .ok (.getfield 26, 3) := dk_180 0 26 (dk_at dksX0_ruleIn_0 1 rfl rfl)
theorem dX0_ruleIn_4 : decode cX0_ruleIn 4 = .ok (.iload_n 1, 1) := dk_27 (dk_at dksX0_ruleIn_0 4 rfl rfl)
theorem dX0_ruleIn_5 : decode cX0_ruleIn 5 = .ok (.aaload, 1) := dk_50 (dk_at dksX0_ruleIn_0 5 rfl rfl)
theorem dX0_ruleIn_6 : decode cX0_ruleIn 6 = .ok (.getfield 89, 3) := dk_180 0 89 (dk_at dksX0_ruleIn_0 6 rfl rfl)
theorem dX0_ruleIn_9 : decode cX0_ruleIn 9 = .ok (.checkcast 95, 3) := dk_192 0 95 (dk_at dksX0_ruleIn_0 9 rfl rfl)
theorem dX0_ruleIn_12 : decode cX0_ruleIn 12 = .ok (.astore_n 2, 1) := dk_77 (dk_at dksX0_ruleIn_0 12 rfl rfl)
theorem dX0_ruleIn_13 : decode cX0_ruleIn 13 = .ok (.aload_n 2, 1) := dk_44 (dk_at dksX0_ruleIn_0 13 rfl rfl)
theorem dX0_ruleIn_14 : decode cX0_ruleIn 14 = .ok (.ifnonnull 13, 3) := dk_199 0 13 (dk_at dksX0_ruleIn_0 14 rfl rfl)
theorem dX0_ruleIn_17 : decode cX0_ruleIn 17 = .ok (.new 97, 3) := dk_187 0 97 (dk_at dksX0_ruleIn_0 17 rfl rfl)
theorem dX0_ruleIn_20 : decode cX0_ruleIn 20 = .ok (.dup, 1) := dk_89 (dk_at dksX0_ruleIn_0 20 rfl rfl)
theorem dX0_ruleIn_21 : decode cX0_ruleIn 21 = .ok (.bipush (-4), 2) := dk_16 252 (dk_at dksX0_ruleIn_0 21 rfl rfl)
theorem dX0_ruleIn_23 : decode cX0_ruleIn 23 = .ok (.invokespecial 99, 3) := dk_183 0 99 (dk_at dksX0_ruleIn_1 0 rfl rfl)
theorem dX0_ruleIn_26 : decode cX0_ruleIn 26 = .ok (.athrow, 1) := dk_191 (dk_at dksX0_ruleIn_1 3 rfl rfl)
theorem dX0_ruleIn_27 : decode cX0_ruleIn 27 = .ok (.aload_n 2, 1) := dk_44 (dk_at dksX0_ruleIn_1 4 rfl rfl)
theorem dX0_ruleIn_28 : decode cX0_ruleIn 28 = .ok (.areturn, 1) := dk_176 (dk_at dksX0_ruleIn_1 5 rfl rfl)
theorem dX0_ruleIn_29 : decode cX0_ruleIn 29 = .ok (.astore_n 2, 1) := dk_77 (dk_at dksX0_ruleIn_1 6 rfl rfl)
theorem dX0_ruleIn_30 : decode cX0_ruleIn 30 = .ok (.new 97, 3) := dk_187 0 97 (dk_at dksX0_ruleIn_1 7 rfl rfl)
theorem dX0_ruleIn_33 : decode cX0_ruleIn 33 = .ok (.dup, 1) := dk_89 (dk_at dksX0_ruleIn_1 10 rfl rfl)
theorem dX0_ruleIn_34 : decode cX0_ruleIn 34 = .ok (.bipush (-3), 2) := dk_16 253 (dk_at dksX0_ruleIn_1 11 rfl rfl)
theorem dX0_ruleIn_36 : decode cX0_ruleIn 36 = .ok (.invokespecial 99, 3) := dk_183 0 99 (dk_at dksX0_ruleIn_1 13 rfl rfl)
theorem dX0_ruleIn_39 : decode cX0_ruleIn 39 = .ok (.athrow, 1) := dk_191 (dk_at dksX0_ruleIn_1 16 rfl rfl)
abbrev cX0_feed : ByteArray := prog_1_method_29_code
def yX0_feed : MethodName := ⟨RX0, "feed", "(II)I"⟩
def dkwX0_feed_3 : List UInt8 := [79, 132, 3, 255, 167, 255, 223, 42, 180, 0, 188, 172]
abbrev dktX0_feed_3 : List UInt8 := dkwX0_feed_3 ++ []
def dkwX0_feed_2 : List UInt8 := [180, 0, 30, 42, 89, 180, 0, 188, 90, 4, 96, 181, 0, 188, 27, 16, 8, 29, 104, 122, 17, 0, 255, 126]
abbrev dktX0_feed_2 : List UInt8 := dkwX0_feed_2 ++ dktX0_feed_3
def dkwX0_feed_1 : List UInt8 := [17, 0, 160, 164, 0, 10, 42, 16, 250, 182, 0, 81, 172, 28, 4, 100, 62, 29, 155, 0, 35, 42]
abbrev dktX0_feed_1 : List UInt8 := dkwX0_feed_1 ++ dktX0_feed_2
def dkwX0_feed_0 : List UInt8 := [28, 4, 7, 184, 0, 37, 154, 0, 10, 42, 16, 254, 182, 0, 81, 172, 42, 180, 0, 188, 28, 96]
abbrev dktX0_feed_0 : List UInt8 := dkwX0_feed_0 ++ dktX0_feed_1
theorem dksX0_feed_0 : cX0_feed.data.toList.drop 0 = dktX0_feed_0 := by decide +kernel
theorem dksX0_feed_1 : cX0_feed.data.toList.drop 22 = dktX0_feed_1 := dk_seg dksX0_feed_0 22 rfl rfl
theorem dksX0_feed_2 : cX0_feed.data.toList.drop 44 = dktX0_feed_2 := dk_seg dksX0_feed_1 22 rfl rfl
theorem dksX0_feed_3 : cX0_feed.data.toList.drop 68 = dktX0_feed_3 := dk_seg dksX0_feed_2 24 rfl rfl
theorem dX0_feed_0 : decode cX0_feed 0 = .ok (.iload_n 2, 1) := dk_28 (dk_at dksX0_feed_0 0 rfl rfl)
theorem dX0_feed_1 : decode cX0_feed 1 = .ok (.iconst 1, 1) := dk_4 (dk_at dksX0_feed_0 1 rfl rfl)
theorem dX0_feed_2 : decode cX0_feed 2 = .ok (.iconst 4, 1) := dk_7 (dk_at dksX0_feed_0 2 rfl rfl)
theorem dX0_feed_3 : decode cX0_feed 3 = .ok (.invokestatic 37, 3) := dk_184 0 37 (dk_at dksX0_feed_0 3 rfl rfl)
theorem dX0_feed_6 : decode cX0_feed 6 = .ok (.ifCond .ne 10, 3) := dk_154 0 10 (dk_at dksX0_feed_0 6 rfl rfl)
theorem dX0_feed_9 : decode cX0_feed 9 = .ok (.aload_n 0, 1) := dk_42 (dk_at dksX0_feed_0 9 rfl rfl)
theorem dX0_feed_10 : decode cX0_feed 10 = .ok (.bipush (-2), 2) := dk_16 254 (dk_at dksX0_feed_0 10 rfl rfl)
theorem dX0_feed_12 : decode cX0_feed 12 = .ok (.invokevirtual 81, 3) := dk_182 0 81 (dk_at dksX0_feed_0 12 rfl rfl)
theorem dX0_feed_15 : decode cX0_feed 15 = .ok (.ireturn, 1) := dk_172 (dk_at dksX0_feed_0 15 rfl rfl)
theorem dX0_feed_16 : decode cX0_feed 16 = .ok (.aload_n 0, 1) := dk_42 (dk_at dksX0_feed_0 16 rfl rfl)
theorem dX0_feed_17 : decode cX0_feed 17 = .ok (.getfield 188, 3) := dk_180 0 188 (dk_at dksX0_feed_0 17 rfl rfl)
theorem dX0_feed_20 : decode cX0_feed 20 = .ok (.iload_n 2, 1) := dk_28 (dk_at dksX0_feed_0 20 rfl rfl)
theorem dX0_feed_21 : decode cX0_feed 21 = .ok (.iadd, 1) := dk_96 (dk_at dksX0_feed_0 21 rfl rfl)
theorem dX0_feed_22 : decode cX0_feed 22 = .ok (.sipush 160, 3) := dk_17 0 160 (dk_at dksX0_feed_1 0 rfl rfl)
theorem dX0_feed_25 : decode cX0_feed 25 = .ok (.if_icmp .le 10, 3) := dk_164 0 10 (dk_at dksX0_feed_1 3 rfl rfl)
theorem dX0_feed_28 : decode cX0_feed 28 = .ok (.aload_n 0, 1) := dk_42 (dk_at dksX0_feed_1 6 rfl rfl)
theorem dX0_feed_29 : decode cX0_feed 29 = .ok (.bipush (-6), 2) := dk_16 250 (dk_at dksX0_feed_1 7 rfl rfl)
theorem dX0_feed_31 : decode cX0_feed 31 = .ok (.invokevirtual 81, 3) := dk_182 0 81 (dk_at dksX0_feed_1 9 rfl rfl)
theorem dX0_feed_34 : decode cX0_feed 34 = .ok (.ireturn, 1) := dk_172 (dk_at dksX0_feed_1 12 rfl rfl)
theorem dX0_feed_35 : decode cX0_feed 35 = .ok (.iload_n 2, 1) := dk_28 (dk_at dksX0_feed_1 13 rfl rfl)
theorem dX0_feed_36 : decode cX0_feed 36 = .ok (.iconst 1, 1) := dk_4 (dk_at dksX0_feed_1 14 rfl rfl)
theorem dX0_feed_37 : decode cX0_feed 37 = .ok (.isub, 1) := dk_100 (dk_at dksX0_feed_1 15 rfl rfl)
theorem dX0_feed_38 : decode cX0_feed 38 = .ok (.istore_n 3, 1) := dk_62 (dk_at dksX0_feed_1 16 rfl rfl)
theorem dX0_feed_39 : decode cX0_feed 39 = .ok (.iload_n 3, 1) := dk_29 (dk_at dksX0_feed_1 17 rfl rfl)
theorem dX0_feed_40 : decode cX0_feed 40 = .ok (.ifCond .lt 35, 3) := dk_155 0 35 (dk_at dksX0_feed_1 18 rfl rfl)
theorem dX0_feed_43 : decode cX0_feed 43 = .ok (.aload_n 0, 1) := dk_42 (dk_at dksX0_feed_1 21 rfl rfl)
theorem dX0_feed_44 : decode cX0_feed 44 = .ok (.getfield 30, 3) := dk_180 0 30 (dk_at dksX0_feed_2 0 rfl rfl)
theorem dX0_feed_47 : decode cX0_feed 47 = .ok (.aload_n 0, 1) := dk_42 (dk_at dksX0_feed_2 3 rfl rfl)
theorem dX0_feed_48 : decode cX0_feed 48 = .ok (.dup, 1) := dk_89 (dk_at dksX0_feed_2 4 rfl rfl)
theorem dX0_feed_49 : decode cX0_feed 49 = .ok (.getfield 188, 3) := dk_180 0 188 (dk_at dksX0_feed_2 5 rfl rfl)
theorem dX0_feed_52 : decode cX0_feed 52 = .ok (.dup_x1, 1) := dk_90 (dk_at dksX0_feed_2 8 rfl rfl)
theorem dX0_feed_53 : decode cX0_feed 53 = .ok (.iconst 1, 1) := dk_4 (dk_at dksX0_feed_2 9 rfl rfl)
theorem dX0_feed_54 : decode cX0_feed 54 = .ok (.iadd, 1) := dk_96 (dk_at dksX0_feed_2 10 rfl rfl)
theorem dX0_feed_55 : decode cX0_feed 55 = .ok (.putfield 188, 3) := dk_181 0 188 (dk_at dksX0_feed_2 11 rfl rfl)
theorem dX0_feed_58 : decode cX0_feed 58 = .ok (.iload_n 1, 1) := dk_27 (dk_at dksX0_feed_2 14 rfl rfl)
theorem dX0_feed_59 : decode cX0_feed 59 = .ok (.bipush 8, 2) := dk_16 8 (dk_at dksX0_feed_2 15 rfl rfl)
theorem dX0_feed_61 : decode cX0_feed 61 = .ok (.iload_n 3, 1) := dk_29 (dk_at dksX0_feed_2 17 rfl rfl)
theorem dX0_feed_62 : decode cX0_feed 62 = .ok (.imul, 1) := dk_104 (dk_at dksX0_feed_2 18 rfl rfl)
theorem dX0_feed_63 : decode cX0_feed 63 = .ok (.ishr, 1) := dk_122 (dk_at dksX0_feed_2 19 rfl rfl)
theorem dX0_feed_64 : decode cX0_feed 64 = .ok (.sipush 255, 3) := dk_17 0 255 (dk_at dksX0_feed_2 20 rfl rfl)
theorem dX0_feed_67 : decode cX0_feed 67 = .ok (.iand, 1) := dk_126 (dk_at dksX0_feed_2 23 rfl rfl)
theorem dX0_feed_68 : decode cX0_feed 68 = .ok (.iastore, 1) := dk_79 (dk_at dksX0_feed_3 0 rfl rfl)
theorem dX0_feed_69 : decode cX0_feed 69 = .ok (.iinc 3 (-1), 3) := dk_132 3 255 (dk_at dksX0_feed_3 1 rfl rfl)
theorem dX0_feed_72 : decode cX0_feed 72 = .ok (.goto (-33), 3) := dk_167 255 223 (dk_at dksX0_feed_3 4 rfl rfl)
theorem dX0_feed_75 : decode cX0_feed 75 = .ok (.aload_n 0, 1) := dk_42 (dk_at dksX0_feed_3 7 rfl rfl)
theorem dX0_feed_76 : decode cX0_feed 76 = .ok (.getfield 188, 3) := dk_180 0 188 (dk_at dksX0_feed_3 8 rfl rfl)
theorem dX0_feed_79 : decode cX0_feed 79 = .ok (.ireturn, 1) := dk_172 (dk_at dksX0_feed_3 11 rfl rfl)
abbrev cX0_wipe : ByteArray := prog_1_method_30_code
def yX0_wipe : MethodName := ⟨RX0, "wipe", "()I"⟩
def dkwX0_wipe_0 : List UInt8 := [42, 180, 0, 188, 60, 42, 3, 181, 0, 188, 27, 172]
abbrev dktX0_wipe_0 : List UInt8 := dkwX0_wipe_0 ++ []
theorem dksX0_wipe_0 : cX0_wipe.data.toList.drop 0 = dktX0_wipe_0 := by decide +kernel
theorem dX0_wipe_0 : decode cX0_wipe 0 = .ok (.aload_n 0, 1) := dk_42 (dk_at dksX0_wipe_0 0 rfl rfl)
theorem dX0_wipe_1 : decode cX0_wipe 1 = .ok (.getfield 188, 3) := dk_180 0 188 (dk_at dksX0_wipe_0 1 rfl rfl)
theorem dX0_wipe_4 : decode cX0_wipe 4 = .ok (.istore_n 1, 1) := dk_60 (dk_at dksX0_wipe_0 4 rfl rfl)
theorem dX0_wipe_5 : decode cX0_wipe 5 = .ok (.aload_n 0, 1) := dk_42 (dk_at dksX0_wipe_0 5 rfl rfl)
theorem dX0_wipe_6 : decode cX0_wipe 6 = .ok (.iconst 0, 1) := dk_3 (dk_at dksX0_wipe_0 6 rfl rfl)
theorem dX0_wipe_7 : decode cX0_wipe 7 = .ok (.putfield 188, 3) := dk_181 0 188 (dk_at dksX0_wipe_0 7 rfl rfl)
theorem dX0_wipe_10 : decode cX0_wipe 10 = .ok (.iload_n 1, 1) := dk_27 (dk_at dksX0_wipe_0 10 rfl rfl)
theorem dX0_wipe_11 : decode cX0_wipe 11 = .ok (.ireturn, 1) := dk_172 (dk_at dksX0_wipe_0 11 rfl rfl)
abbrev cX0_house : ByteArray := prog_1_method_31_code
def yX0_house : MethodName := ⟨RX0, "house", "()I"⟩
def dkwX0_house_4 : List UInt8 := [181, 0, 188, 28, 172, 78, 42, 3, 181, 0, 188, 45, 191]
abbrev dktX0_house_4 : List UInt8 := dkwX0_house_4 ++ []
def dkwX0_house_3 : List UInt8 := [181, 0, 188, 27, 172, 76, 42, 16, 254, 182, 0, 81, 87, 16, 236, 43, 180, 0, 202, 100, 61, 42, 3]
abbrev dktX0_house_3 : List UInt8 := dkwX0_house_3 ++ dktX0_house_4
def dkwX0_house_2 : List UInt8 := [183, 0, 193, 182, 0, 196, 83, 42, 180, 0, 20, 89, 180, 0, 41, 90, 4, 96, 181, 0, 41, 60, 42, 3]
abbrev dktX0_house_2 : List UInt8 := dkwX0_house_2 ++ dktX0_house_3
def dkwX0_house_1 : List UInt8 := [180, 0, 49, 42, 180, 0, 20, 180, 0, 41, 187, 0, 191, 89, 42, 180, 0, 30, 42, 180, 0, 188]
abbrev dktX0_house_1 : List UInt8 := dkwX0_house_1 ++ dktX0_house_2
def dkwX0_house_0 : List UInt8 := [42, 180, 0, 20, 180, 0, 41, 16, 6, 160, 0, 10, 42, 16, 250, 182, 0, 81, 172, 42, 180, 0, 20]
abbrev dktX0_house_0 : List UInt8 := dkwX0_house_0 ++ dktX0_house_1
theorem dksX0_house_0 : cX0_house.data.toList.drop 0 = dktX0_house_0 := by decide +kernel
theorem dksX0_house_1 : cX0_house.data.toList.drop 23 = dktX0_house_1 := dk_seg dksX0_house_0 23 rfl rfl
theorem dksX0_house_2 : cX0_house.data.toList.drop 45 = dktX0_house_2 := dk_seg dksX0_house_1 22 rfl rfl
theorem dksX0_house_3 : cX0_house.data.toList.drop 69 = dktX0_house_3 := dk_seg dksX0_house_2 24 rfl rfl
theorem dksX0_house_4 : cX0_house.data.toList.drop 92 = dktX0_house_4 := dk_seg dksX0_house_3 23 rfl rfl
theorem dX0_house_0 : decode cX0_house 0 = .ok (.aload_n 0, 1) := dk_42 (dk_at dksX0_house_0 0 rfl rfl)
theorem dX0_house_1 : decode cX0_house 1 = .ok (.getfield 20, 3) := dk_180 0 20 (dk_at dksX0_house_0 1 rfl rfl)
theorem dX0_house_4 : decode cX0_house 4 = .ok (.getfield 41, 3) := dk_180 0 41 (dk_at dksX0_house_0 4 rfl rfl)
theorem dX0_house_7 : decode cX0_house 7 = .ok (.bipush 6, 2) := dk_16 6 (dk_at dksX0_house_0 7 rfl rfl)
theorem dX0_house_9 : decode cX0_house 9 = .ok (.if_icmp .ne 10, 3) := dk_160 0 10 (dk_at dksX0_house_0 9 rfl rfl)
theorem dX0_house_12 : decode cX0_house 12 = .ok (.aload_n 0, 1) := dk_42 (dk_at dksX0_house_0 12 rfl rfl)
theorem dX0_house_13 : decode cX0_house 13 = .ok (.bipush (-6), 2) := dk_16 250 (dk_at dksX0_house_0 13 rfl rfl)
theorem dX0_house_15 : decode cX0_house 15 = .ok (.invokevirtual 81, 3) := dk_182 0 81 (dk_at dksX0_house_0 15 rfl rfl)
theorem dX0_house_18 : decode cX0_house 18 = .ok (.ireturn, 1) := dk_172 (dk_at dksX0_house_0 18 rfl rfl)
theorem dX0_house_19 : decode cX0_house 19 = .ok (.aload_n 0, 1) := dk_42 (dk_at dksX0_house_0 19 rfl rfl)
theorem dX0_house_20 : decode cX0_house 20 = .ok (.getfield 20, 3) := dk_180 0 20 (dk_at dksX0_house_0 20 rfl rfl)
theorem dX0_house_23 : decode cX0_house 23 = .ok (.getfield 49, 3) := dk_180 0 49 (dk_at dksX0_house_1 0 rfl rfl)
theorem dX0_house_26 : decode cX0_house 26 = .ok (.aload_n 0, 1) := dk_42 (dk_at dksX0_house_1 3 rfl rfl)
theorem dX0_house_27 : decode cX0_house 27 = .ok (.getfield 20, 3) := dk_180 0 20 (dk_at dksX0_house_1 4 rfl rfl)
theorem dX0_house_30 : decode cX0_house 30 = .ok (.getfield 41, 3) := dk_180 0 41 (dk_at dksX0_house_1 7 rfl rfl)
theorem dX0_house_33 : decode cX0_house 33 = .ok (.new 191, 3) := dk_187 0 191 (dk_at dksX0_house_1 10 rfl rfl)
theorem dX0_house_36 : decode cX0_house 36 = .ok (.dup, 1) := dk_89 (dk_at dksX0_house_1 13 rfl rfl)
theorem dX0_house_37 : decode cX0_house 37 = .ok (.aload_n 0, 1) := dk_42 (dk_at dksX0_house_1 14 rfl rfl)
theorem dX0_house_38 : decode cX0_house 38 = .ok (.getfield 30, 3) := dk_180 0 30 (dk_at dksX0_house_1 15 rfl rfl)
theorem dX0_house_41 : decode cX0_house 41 = .ok (.aload_n 0, 1) := dk_42 (dk_at dksX0_house_1 18 rfl rfl)
theorem dX0_house_42 : decode cX0_house 42 = .ok (.getfield 188, 3) := dk_180 0 188 (dk_at dksX0_house_1 19 rfl rfl)
theorem dX0_house_45 : decode cX0_house 45 = .ok (.invokespecial 193, 3) := dk_183 0 193 (dk_at dksX0_house_2 0 rfl rfl)
theorem dX0_house_48 : decode cX0_house 48 = .ok (.invokevirtual 196, 3) := dk_182 0 196 (dk_at dksX0_house_2 3 rfl rfl)
theorem dX0_house_51 : decode cX0_house 51 = .ok (.aastore, 1) := dk_83 (dk_at dksX0_house_2 6 rfl rfl)
theorem dX0_house_52 : decode cX0_house 52 = .ok (.aload_n 0, 1) := dk_42 (dk_at dksX0_house_2 7 rfl rfl)
theorem dX0_house_53 : decode cX0_house 53 = .ok (.getfield 20, 3) := dk_180 0 20 (dk_at dksX0_house_2 8 rfl rfl)
theorem dX0_house_56 : decode cX0_house 56 = .ok (.dup, 1) := dk_89 (dk_at dksX0_house_2 11 rfl rfl)
theorem dX0_house_57 : decode cX0_house 57 = .ok (.getfield 41, 3) := dk_180 0 41 (dk_at dksX0_house_2 12 rfl rfl)
theorem dX0_house_60 : decode cX0_house 60 = .ok (.dup_x1, 1) := dk_90 (dk_at dksX0_house_2 15 rfl rfl)
theorem dX0_house_61 : decode cX0_house 61 = .ok (.iconst 1, 1) := dk_4 (dk_at dksX0_house_2 16 rfl rfl)
theorem dX0_house_62 : decode cX0_house 62 = .ok (.iadd, 1) := dk_96 (dk_at dksX0_house_2 17 rfl rfl)
theorem dX0_house_63 : decode cX0_house 63 = .ok (.putfield 41, 3) := dk_181 0 41 (dk_at dksX0_house_2 18 rfl rfl)
theorem dX0_house_66 : decode cX0_house 66 = .ok (.istore_n 1, 1) := dk_60 (dk_at dksX0_house_2 21 rfl rfl)
theorem dX0_house_67 : decode cX0_house 67 = .ok (.aload_n 0, 1) := dk_42 (dk_at dksX0_house_2 22 rfl rfl)
theorem dX0_house_68 : decode cX0_house 68 = .ok (.iconst 0, 1) := dk_3 (dk_at dksX0_house_2 23 rfl rfl)
theorem dX0_house_69 : decode cX0_house 69 = .ok (.putfield 188, 3) := dk_181 0 188 (dk_at dksX0_house_3 0 rfl rfl)
theorem dX0_house_72 : decode cX0_house 72 = .ok (.iload_n 1, 1) := dk_27 (dk_at dksX0_house_3 3 rfl rfl)
theorem dX0_house_73 : decode cX0_house 73 = .ok (.ireturn, 1) := dk_172 (dk_at dksX0_house_3 4 rfl rfl)
theorem dX0_house_74 : decode cX0_house 74 = .ok (.astore_n 1, 1) := dk_76 (dk_at dksX0_house_3 5 rfl rfl)
theorem dX0_house_75 : decode cX0_house 75 = .ok (.aload_n 0, 1) := dk_42 (dk_at dksX0_house_3 6 rfl rfl)
theorem dX0_house_76 : decode cX0_house 76 = .ok (.bipush (-2), 2) := dk_16 254 (dk_at dksX0_house_3 7 rfl rfl)
theorem dX0_house_78 : decode cX0_house 78 = .ok (.invokevirtual 81, 3) := dk_182 0 81 (dk_at dksX0_house_3 9 rfl rfl)
theorem dX0_house_81 : decode cX0_house 81 = .ok (.pop, 1) := dk_87 (dk_at dksX0_house_3 12 rfl rfl)
theorem dX0_house_82 : decode cX0_house 82 = .ok (.bipush (-20), 2) := dk_16 236 (dk_at dksX0_house_3 13 rfl rfl)
theorem dX0_house_84 : decode cX0_house 84 = .ok (.aload_n 1, 1) := dk_43 (dk_at dksX0_house_3 15 rfl rfl)
theorem dX0_house_85 : decode cX0_house 85 = .ok (.getfield 202, 3) := dk_180 0 202 (dk_at dksX0_house_3 16 rfl rfl)
theorem dX0_house_88 : decode cX0_house 88 = .ok (.isub, 1) := dk_100 (dk_at dksX0_house_3 19 rfl rfl)
theorem dX0_house_89 : decode cX0_house 89 = .ok (.istore_n 2, 1) := dk_61 (dk_at dksX0_house_3 20 rfl rfl)
theorem dX0_house_90 : decode cX0_house 90 = .ok (.aload_n 0, 1) := dk_42 (dk_at dksX0_house_3 21 rfl rfl)
theorem dX0_house_91 : decode cX0_house 91 = .ok (.iconst 0, 1) := dk_3 (dk_at dksX0_house_3 22 rfl rfl)
theorem dX0_house_92 : decode cX0_house 92 = .ok (.putfield 188, 3) := dk_181 0 188 (dk_at dksX0_house_4 0 rfl rfl)
theorem dX0_house_95 : decode cX0_house 95 = .ok (.iload_n 2, 1) := dk_28 (dk_at dksX0_house_4 3 rfl rfl)
theorem dX0_house_96 : decode cX0_house 96 = .ok (.ireturn, 1) := dk_172 (dk_at dksX0_house_4 4 rfl rfl)
theorem dX0_house_97 : decode cX0_house 97 = .ok (.astore_n 3, 1) := dk_78 (dk_at dksX0_house_4 5 rfl rfl)
theorem dX0_house_98 : decode cX0_house 98 = .ok (.aload_n 0, 1) := dk_42 (dk_at dksX0_house_4 6 rfl rfl)
theorem dX0_house_99 : decode cX0_house 99 = .ok (.iconst 0, 1) := dk_3 (dk_at dksX0_house_4 7 rfl rfl)
theorem dX0_house_100 : decode cX0_house 100 = .ok (.putfield 188, 3) := dk_181 0 188 (dk_at dksX0_house_4 8 rfl rfl)
theorem dX0_house_103 : decode cX0_house 103 = .ok (.aload_n 3, 1) := dk_45 (dk_at dksX0_house_4 11 rfl rfl)
theorem dX0_house_104 : decode cX0_house 104 = .ok (.athrow, 1) := dk_191 (dk_at dksX0_house_4 12 rfl rfl)
abbrev cX0_houseOf : ByteArray := prog_1_method_32_code
def yX0_houseOf : MethodName := ⟨RX0, "houseOf", "(II)I"⟩
def dkwX0_houseOf_4 : List UInt8 := [172, 42, 16, 254, 182, 0, 81, 172]
abbrev dktX0_houseOf_4 : List UInt8 := dkwX0_houseOf_4 ++ []
def dkwX0_houseOf_3 : List UInt8 := [45, 180, 0, 62, 172, 45, 180, 0, 205, 172, 45, 180, 0, 208, 172, 45, 180, 0, 211, 172, 45, 180, 0, 53]
abbrev dktX0_houseOf_3 : List UInt8 := dkwX0_houseOf_3 ++ dktX0_houseOf_4
def dkwX0_houseOf_2 : List UInt8 := [170, 0, 0, 0, 0, 59, 0, 0, 0, 0, 0, 0, 0, 4, 0, 0, 0, 34, 0, 0, 0, 39, 0, 0, 0, 44, 0, 0, 0, 49, 0, 0, 0, 54]
abbrev dktX0_houseOf_2 : List UInt8 := dkwX0_houseOf_2 ++ dktX0_houseOf_3
def dkwX0_houseOf_1 : List UInt8 := [78, 28]
abbrev dktX0_houseOf_1 : List UInt8 := dkwX0_houseOf_1 ++ dktX0_houseOf_2
def dkwX0_houseOf_0 : List UInt8 := [42, 27, 182, 0, 45, 154, 0, 10, 42, 16, 254, 182, 0, 81, 172, 42, 180, 0, 20, 180, 0, 49, 27, 50]
abbrev dktX0_houseOf_0 : List UInt8 := dkwX0_houseOf_0 ++ dktX0_houseOf_1
theorem dksX0_houseOf_0 : cX0_houseOf.data.toList.drop 0 = dktX0_houseOf_0 := by decide +kernel
theorem dksX0_houseOf_1 : cX0_houseOf.data.toList.drop 24 = dktX0_houseOf_1 := dk_seg dksX0_houseOf_0 24 rfl rfl
theorem dksX0_houseOf_2 : cX0_houseOf.data.toList.drop 26 = dktX0_houseOf_2 := dk_seg dksX0_houseOf_1 2 rfl rfl
theorem dksX0_houseOf_3 : cX0_houseOf.data.toList.drop 60 = dktX0_houseOf_3 := dk_seg dksX0_houseOf_2 34 rfl rfl
theorem dksX0_houseOf_4 : cX0_houseOf.data.toList.drop 84 = dktX0_houseOf_4 := dk_seg dksX0_houseOf_3 24 rfl rfl
theorem dX0_houseOf_0 : decode cX0_houseOf 0 = .ok (.aload_n 0, 1) := dk_42 (dk_at dksX0_houseOf_0 0 rfl rfl)
theorem dX0_houseOf_1 : decode cX0_houseOf 1 = .ok (.iload_n 1, 1) := dk_27 (dk_at dksX0_houseOf_0 1 rfl rfl)
theorem dX0_houseOf_2 : decode cX0_houseOf 2 = .ok (.invokevirtual 45, 3) := dk_182 0 45 (dk_at dksX0_houseOf_0 2 rfl rfl)
theorem dX0_houseOf_5 : decode cX0_houseOf 5 = .ok (.ifCond .ne 10, 3) := dk_154 0 10 (dk_at dksX0_houseOf_0 5 rfl rfl)
theorem dX0_houseOf_8 : decode cX0_houseOf 8 = .ok (.aload_n 0, 1) := dk_42 (dk_at dksX0_houseOf_0 8 rfl rfl)
theorem dX0_houseOf_9 : decode cX0_houseOf 9 = .ok (.bipush (-2), 2) := dk_16 254 (dk_at dksX0_houseOf_0 9 rfl rfl)
theorem dX0_houseOf_11 : decode cX0_houseOf 11 = .ok (.invokevirtual 81, 3) := dk_182 0 81 (dk_at dksX0_houseOf_0 11 rfl rfl)
theorem dX0_houseOf_14 : decode cX0_houseOf 14 = .ok (.ireturn, 1) := dk_172 (dk_at dksX0_houseOf_0 14 rfl rfl)
theorem dX0_houseOf_15 : decode cX0_houseOf 15 = .ok (.aload_n 0, 1) := dk_42 (dk_at dksX0_houseOf_0 15 rfl rfl)
theorem dX0_houseOf_16 : decode cX0_houseOf 16 = .ok (.getfield 20, 3) := dk_180 0 20 (dk_at dksX0_houseOf_0 16 rfl rfl)
theorem dX0_houseOf_19 : decode cX0_houseOf 19 = .ok (.getfield 49, 3) := dk_180 0 49 (dk_at dksX0_houseOf_0 19 rfl rfl)
theorem dX0_houseOf_22 : decode cX0_houseOf 22 = .ok (.iload_n 1, 1) := dk_27 (dk_at dksX0_houseOf_0 22 rfl rfl)
theorem dX0_houseOf_23 : decode cX0_houseOf 23 = .ok (.aaload, 1) := dk_50 (dk_at dksX0_houseOf_0 23 rfl rfl)
theorem dX0_houseOf_24 : decode cX0_houseOf 24 = .ok (.astore_n 3, 1) := dk_78 (dk_at dksX0_houseOf_1 0 rfl rfl)
theorem dX0_houseOf_25 : decode cX0_houseOf 25 = .ok (.iload_n 2, 1) := dk_28 (dk_at dksX0_houseOf_1 1 rfl rfl)
theorem dX0_houseOf_26 : decode cX0_houseOf 26 = .ok (.tableswitch 59 0 4 #[34, 39, 44, 49, 54], 34) := by decide +kernel
theorem dX0_houseOf_60 : decode cX0_houseOf 60 = .ok (.aload_n 3, 1) := dk_45 (dk_at dksX0_houseOf_3 0 rfl rfl)
theorem dX0_houseOf_61 : decode cX0_houseOf 61 = .ok (.getfield 62, 3) := dk_180 0 62 (dk_at dksX0_houseOf_3 1 rfl rfl)
theorem dX0_houseOf_64 : decode cX0_houseOf 64 = .ok (.ireturn, 1) := dk_172 (dk_at dksX0_houseOf_3 4 rfl rfl)
theorem dX0_houseOf_65 : decode cX0_houseOf 65 = .ok (.aload_n 3, 1) := dk_45 (dk_at dksX0_houseOf_3 5 rfl rfl)
theorem dX0_houseOf_66 : decode cX0_houseOf 66 = .ok (.getfield 205, 3) := dk_180 0 205 (dk_at dksX0_houseOf_3 6 rfl rfl)
theorem dX0_houseOf_69 : decode cX0_houseOf 69 = .ok (.ireturn, 1) := dk_172 (dk_at dksX0_houseOf_3 9 rfl rfl)
theorem dX0_houseOf_70 : decode cX0_houseOf 70 = .ok (.aload_n 3, 1) := dk_45 (dk_at dksX0_houseOf_3 10 rfl rfl)
theorem dX0_houseOf_71 : decode cX0_houseOf 71 = .ok (.getfield 208, 3) := dk_180 0 208 (dk_at dksX0_houseOf_3 11 rfl rfl)
theorem dX0_houseOf_74 : decode cX0_houseOf 74 = .ok (.ireturn, 1) := dk_172 (dk_at dksX0_houseOf_3 14 rfl rfl)
theorem dX0_houseOf_75 : decode cX0_houseOf 75 = .ok (.aload_n 3, 1) := dk_45 (dk_at dksX0_houseOf_3 15 rfl rfl)
theorem dX0_houseOf_76 : decode cX0_houseOf 76 = .ok (.getfield 211, 3) := dk_180 0 211 (dk_at dksX0_houseOf_3 16 rfl rfl)
theorem dX0_houseOf_79 : decode cX0_houseOf 79 = .ok (.ireturn, 1) := dk_172 (dk_at dksX0_houseOf_3 19 rfl rfl)
theorem dX0_houseOf_80 : decode cX0_houseOf 80 = .ok (.aload_n 3, 1) := dk_45 (dk_at dksX0_houseOf_3 20 rfl rfl)
theorem dX0_houseOf_81 : decode cX0_houseOf 81 = .ok (.getfield 53, 3) := dk_180 0 53 (dk_at dksX0_houseOf_3 21 rfl rfl)
theorem dX0_houseOf_84 : decode cX0_houseOf 84 = .ok (.ireturn, 1) := dk_172 (dk_at dksX0_houseOf_4 0 rfl rfl)
theorem dX0_houseOf_85 : decode cX0_houseOf 85 = .ok (.aload_n 0, 1) := dk_42 (dk_at dksX0_houseOf_4 1 rfl rfl)
theorem dX0_houseOf_86 : decode cX0_houseOf 86 = .ok (.bipush (-2), 2) := dk_16 254 (dk_at dksX0_houseOf_4 2 rfl rfl)
theorem dX0_houseOf_88 : decode cX0_houseOf 88 = .ok (.invokevirtual 81, 3) := dk_182 0 81 (dk_at dksX0_houseOf_4 4 rfl rfl)
theorem dX0_houseOf_91 : decode cX0_houseOf 91 = .ok (.ireturn, 1) := dk_172 (dk_at dksX0_houseOf_4 7 rfl rfl)
abbrev cX0_isHouse : ByteArray := prog_1_method_8_code
def yX0_isHouse : MethodName := ⟨RX0, "isHouse", "(I)Z"⟩
def dkwX0_isHouse_0 : List UInt8 := [27, 3, 42, 180, 0, 20, 180, 0, 41, 4, 100, 184, 0, 37, 172]
abbrev dktX0_isHouse_0 : List UInt8 := dkwX0_isHouse_0 ++ []
theorem dksX0_isHouse_0 : cX0_isHouse.data.toList.drop 0 = dktX0_isHouse_0 := by decide +kernel
theorem dX0_isHouse_0 : decode cX0_isHouse 0 = .ok (.iload_n 1, 1) := dk_27 (dk_at dksX0_isHouse_0 0 rfl rfl)
theorem dX0_isHouse_1 : decode cX0_isHouse 1 = .ok (.iconst 0, 1) := dk_3 (dk_at dksX0_isHouse_0 1 rfl rfl)
theorem dX0_isHouse_2 : decode cX0_isHouse 2 = .ok (.aload_n 0, 1) := dk_42 (dk_at dksX0_isHouse_0 2 rfl rfl)
theorem dX0_isHouse_3 : decode cX0_isHouse 3 = .ok (.getfield 20, 3) := dk_180 0 20 (dk_at dksX0_isHouse_0 3 rfl rfl)
theorem dX0_isHouse_6 : decode cX0_isHouse 6 = .ok (.getfield 41, 3) := dk_180 0 41 (dk_at dksX0_isHouse_0 6 rfl rfl)
theorem dX0_isHouse_9 : decode cX0_isHouse 9 = .ok (.iconst 1, 1) := dk_4 (dk_at dksX0_isHouse_0 9 rfl rfl)
theorem dX0_isHouse_10 : decode cX0_isHouse 10 = .ok (.isub, 1) := dk_100 (dk_at dksX0_isHouse_0 10 rfl rfl)
theorem dX0_isHouse_11 : decode cX0_isHouse 11 = .ok (.invokestatic 37, 3) := dk_184 0 37 (dk_at dksX0_isHouse_0 11 rfl rfl)
theorem dX0_isHouse_14 : decode cX0_isHouse 14 = .ok (.ireturn, 1) := dk_172 (dk_at dksX0_isHouse_0 14 rfl rfl)
abbrev cX0_sortOf_2 : ByteArray := prog_1_method_33_code
def yX0_sortOf_2 : MethodName := ⟨RX0, "sortOf", "(III)I"⟩
def dkwX0_sortOf_2_4 : List UInt8 := [25, 4, 180, 0, 225, 28, 46, 172, 25, 4, 180, 0, 228, 28, 46, 172, 42, 16, 254, 182, 0, 81, 172]
abbrev dktX0_sortOf_2_4 : List UInt8 := dkwX0_sortOf_2_4 ++ []
def dkwX0_sortOf_2_3 : List UInt8 := [25, 4, 180, 0, 217, 28, 46, 172, 25, 4, 180, 0, 219, 28, 46, 172, 25, 4, 180, 0, 222, 28, 46, 172]
abbrev dktX0_sortOf_2_3 : List UInt8 := dkwX0_sortOf_2_3 ++ dktX0_sortOf_2_4
def dkwX0_sortOf_2_2 : List UInt8 := [170, 0, 0, 0, 0, 0, 0, 76, 0, 0, 0, 0, 0, 0, 0, 4, 0, 0, 0, 36, 0, 0, 0, 44, 0, 0, 0, 52, 0, 0, 0, 60, 0, 0, 0, 68]
abbrev dktX0_sortOf_2_2 : List UInt8 := dkwX0_sortOf_2_2 ++ dktX0_sortOf_2_3
def dkwX0_sortOf_2_1 : List UInt8 := [50, 58, 4, 29]
abbrev dktX0_sortOf_2_1 : List UInt8 := dkwX0_sortOf_2_1 ++ dktX0_sortOf_2_2
def dkwX0_sortOf_2_0 : List UInt8 := [42, 27, 28, 182, 0, 214, 154, 0, 10, 42, 16, 254, 182, 0, 81, 172, 42, 180, 0, 20, 180, 0, 49, 27]
abbrev dktX0_sortOf_2_0 : List UInt8 := dkwX0_sortOf_2_0 ++ dktX0_sortOf_2_1
theorem dksX0_sortOf_2_0 : cX0_sortOf_2.data.toList.drop 0 = dktX0_sortOf_2_0 := by decide +kernel
theorem dksX0_sortOf_2_1 : cX0_sortOf_2.data.toList.drop 24 = dktX0_sortOf_2_1 := dk_seg dksX0_sortOf_2_0 24 rfl rfl
theorem dksX0_sortOf_2_2 : cX0_sortOf_2.data.toList.drop 28 = dktX0_sortOf_2_2 := dk_seg dksX0_sortOf_2_1 4 rfl rfl
theorem dksX0_sortOf_2_3 : cX0_sortOf_2.data.toList.drop 64 = dktX0_sortOf_2_3 := dk_seg dksX0_sortOf_2_2 36 rfl rfl
theorem dksX0_sortOf_2_4 : cX0_sortOf_2.data.toList.drop 88 = dktX0_sortOf_2_4 := dk_seg dksX0_sortOf_2_3 24 rfl rfl
theorem dX0_sortOf_2_0 : decode cX0_sortOf_2 0 = .ok (.aload_n 0, 1) := dk_42 (dk_at dksX0_sortOf_2_0 0 rfl rfl)
theorem dX0_sortOf_2_1 : decode cX0_sortOf_2 1 = .ok (.iload_n 1, 1) := dk_27 (dk_at dksX0_sortOf_2_0 1 rfl rfl)
theorem dX0_sortOf_2_2 : decode cX0_sortOf_2 2 = .ok (.iload_n 2, 1) := dk_28 (dk_at dksX0_sortOf_2_0 2 rfl rfl)
theorem dX0_sortOf_2_3 : decode cX0_sortOf_2 3 = .ok (.invokevirtual 214, 3) := dk_182 0 214 (dk_at dksX0_sortOf_2_0 3 rfl rfl)
theorem dX0_sortOf_2_6 : decode cX0_sortOf_2 6 = .ok (.ifCond .ne 10, 3) := dk_154 0 10 (dk_at dksX0_sortOf_2_0 6 rfl rfl)
theorem dX0_sortOf_2_9 : decode cX0_sortOf_2 9 = .ok (.aload_n 0, 1) := dk_42 (dk_at dksX0_sortOf_2_0 9 rfl rfl)
theorem dX0_sortOf_2_10 : decode cX0_sortOf_2 10 = .ok (.bipush (-2), 2) := dk_16 254 (dk_at dksX0_sortOf_2_0 10 rfl rfl)
theorem dX0_sortOf_2_12 : decode cX0_sortOf_2 12 = .ok (.invokevirtual 81, 3) := dk_182 0 81 (dk_at dksX0_sortOf_2_0 12 rfl rfl)
theorem dX0_sortOf_2_15 : decode cX0_sortOf_2 15 = .ok (.ireturn, 1) := dk_172 (dk_at dksX0_sortOf_2_0 15 rfl rfl)
theorem dX0_sortOf_2_16 : decode cX0_sortOf_2 16 = .ok (.aload_n 0, 1) := dk_42 (dk_at dksX0_sortOf_2_0 16 rfl rfl)
theorem dX0_sortOf_2_17 : decode cX0_sortOf_2 17 = .ok (.getfield 20, 3) := dk_180 0 20 (dk_at dksX0_sortOf_2_0 17 rfl rfl)
theorem dX0_sortOf_2_20 : decode cX0_sortOf_2 20 = .ok (.getfield 49, 3) := dk_180 0 49 (dk_at dksX0_sortOf_2_0 20 rfl rfl)
theorem dX0_sortOf_2_23 : decode cX0_sortOf_2 23 = .ok (.iload_n 1, 1) := dk_27 (dk_at dksX0_sortOf_2_0 23 rfl rfl)
theorem dX0_sortOf_2_24 : decode cX0_sortOf_2 24 = .ok (.aaload, 1) := dk_50 (dk_at dksX0_sortOf_2_1 0 rfl rfl)
theorem dX0_sortOf_2_25 : decode cX0_sortOf_2 25 = .ok (.astore 4, 2) := dk_58 4 (dk_at dksX0_sortOf_2_1 1 rfl rfl)
theorem dX0_sortOf_2_27 : decode cX0_sortOf_2 27 = .ok (.iload_n 3, 1) := dk_29 (dk_at dksX0_sortOf_2_1 3 rfl rfl)
theorem dX0_sortOf_2_28 : decode cX0_sortOf_2 28 = .ok (.tableswitch 76 0 4 #[36, 44, 52, 60, 68], 36) := by decide +kernel
theorem dX0_sortOf_2_64 : decode cX0_sortOf_2 64 = .ok (.aload 4, 2) := dk_25 4 (dk_at dksX0_sortOf_2_3 0 rfl rfl)
theorem dX0_sortOf_2_66 : decode cX0_sortOf_2 66 = .ok (.getfield 217, 3) := dk_180 0 217 (dk_at dksX0_sortOf_2_3 2 rfl rfl)
theorem dX0_sortOf_2_69 : decode cX0_sortOf_2 69 = .ok (.iload_n 2, 1) := dk_28 (dk_at dksX0_sortOf_2_3 5 rfl rfl)
theorem dX0_sortOf_2_70 : decode cX0_sortOf_2 70 = .ok (.iaload, 1) := dk_46 (dk_at dksX0_sortOf_2_3 6 rfl rfl)
theorem dX0_sortOf_2_71 : decode cX0_sortOf_2 71 = .ok (.ireturn, 1) := dk_172 (dk_at dksX0_sortOf_2_3 7 rfl rfl)
theorem dX0_sortOf_2_72 : decode cX0_sortOf_2 72 = .ok (.aload 4, 2) := dk_25 4 (dk_at dksX0_sortOf_2_3 8 rfl rfl)
theorem dX0_sortOf_2_74 : decode cX0_sortOf_2 74 = .ok (.getfield 219, 3) := dk_180 0 219 (dk_at dksX0_sortOf_2_3 10 rfl rfl)
theorem dX0_sortOf_2_77 : decode cX0_sortOf_2 77 = .ok (.iload_n 2, 1) := dk_28 (dk_at dksX0_sortOf_2_3 13 rfl rfl)
theorem dX0_sortOf_2_78 : decode cX0_sortOf_2 78 = .ok (.iaload, 1) := dk_46 (dk_at dksX0_sortOf_2_3 14 rfl rfl)
theorem dX0_sortOf_2_79 : decode cX0_sortOf_2 79 = .ok (.ireturn, 1) := dk_172 (dk_at dksX0_sortOf_2_3 15 rfl rfl)
theorem dX0_sortOf_2_80 : decode cX0_sortOf_2 80 = .ok (.aload 4, 2) := dk_25 4 (dk_at dksX0_sortOf_2_3 16 rfl rfl)
theorem dX0_sortOf_2_82 : decode cX0_sortOf_2 82 = .ok (.getfield 222, 3) := dk_180 0 222 (dk_at dksX0_sortOf_2_3 18 rfl rfl)
theorem dX0_sortOf_2_85 : decode cX0_sortOf_2 85 = .ok (.iload_n 2, 1) := dk_28 (dk_at dksX0_sortOf_2_3 21 rfl rfl)
theorem dX0_sortOf_2_86 : decode cX0_sortOf_2 86 = .ok (.iaload, 1) := dk_46 (dk_at dksX0_sortOf_2_3 22 rfl rfl)
theorem dX0_sortOf_2_87 : decode cX0_sortOf_2 87 = .ok (.ireturn, 1) := dk_172 (dk_at dksX0_sortOf_2_3 23 rfl rfl)
theorem dX0_sortOf_2_88 : decode cX0_sortOf_2 88 = .ok (.aload 4, 2) := dk_25 4 (dk_at dksX0_sortOf_2_4 0 rfl rfl)
theorem dX0_sortOf_2_90 : decode cX0_sortOf_2 90 = .ok (.getfield 225, 3) := dk_180 0 225 (dk_at dksX0_sortOf_2_4 2 rfl rfl)
theorem dX0_sortOf_2_93 : decode cX0_sortOf_2 93 = .ok (.iload_n 2, 1) := dk_28 (dk_at dksX0_sortOf_2_4 5 rfl rfl)
theorem dX0_sortOf_2_94 : decode cX0_sortOf_2 94 = .ok (.iaload, 1) := dk_46 (dk_at dksX0_sortOf_2_4 6 rfl rfl)
theorem dX0_sortOf_2_95 : decode cX0_sortOf_2 95 = .ok (.ireturn, 1) := dk_172 (dk_at dksX0_sortOf_2_4 7 rfl rfl)
theorem dX0_sortOf_2_96 : decode cX0_sortOf_2 96 = .ok (.aload 4, 2) := dk_25 4 (dk_at dksX0_sortOf_2_4 8 rfl rfl)
theorem dX0_sortOf_2_98 : decode cX0_sortOf_2 98 = .ok (.getfield 228, 3) := dk_180 0 228 (dk_at dksX0_sortOf_2_4 10 rfl rfl)
theorem dX0_sortOf_2_101 : decode cX0_sortOf_2 101 = .ok (.iload_n 2, 1) := dk_28 (dk_at dksX0_sortOf_2_4 13 rfl rfl)
theorem dX0_sortOf_2_102 : decode cX0_sortOf_2 102 = .ok (.iaload, 1) := dk_46 (dk_at dksX0_sortOf_2_4 14 rfl rfl)
theorem dX0_sortOf_2_103 : decode cX0_sortOf_2 103 = .ok (.ireturn, 1) := dk_172 (dk_at dksX0_sortOf_2_4 15 rfl rfl)
theorem dX0_sortOf_2_104 : decode cX0_sortOf_2 104 = .ok (.aload_n 0, 1) := dk_42 (dk_at dksX0_sortOf_2_4 16 rfl rfl)
theorem dX0_sortOf_2_105 : decode cX0_sortOf_2 105 = .ok (.bipush (-2), 2) := dk_16 254 (dk_at dksX0_sortOf_2_4 17 rfl rfl)
theorem dX0_sortOf_2_107 : decode cX0_sortOf_2 107 = .ok (.invokevirtual 81, 3) := dk_182 0 81 (dk_at dksX0_sortOf_2_4 19 rfl rfl)
theorem dX0_sortOf_2_110 : decode cX0_sortOf_2 110 = .ok (.ireturn, 1) := dk_172 (dk_at dksX0_sortOf_2_4 22 rfl rfl)
abbrev cX0_isSort : ByteArray := prog_1_method_9_code
def yX0_isSort : MethodName := ⟨RX0, "isSort", "(II)Z"⟩
def dkwX0_isSort_1 : List UInt8 := [184, 0, 37, 153, 0, 7, 4, 167, 0, 4, 3, 172]
abbrev dktX0_isSort_1 : List UInt8 := dkwX0_isSort_1 ++ []
def dkwX0_isSort_0 : List UInt8 := [42, 27, 182, 0, 45, 153, 0, 29, 28, 3, 42, 180, 0, 20, 180, 0, 49, 27, 50, 180, 0, 53, 4, 100]
abbrev dktX0_isSort_0 : List UInt8 := dkwX0_isSort_0 ++ dktX0_isSort_1
theorem dksX0_isSort_0 : cX0_isSort.data.toList.drop 0 = dktX0_isSort_0 := by decide +kernel
theorem dksX0_isSort_1 : cX0_isSort.data.toList.drop 24 = dktX0_isSort_1 := dk_seg dksX0_isSort_0 24 rfl rfl
theorem dX0_isSort_0 : decode cX0_isSort 0 = .ok (.aload_n 0, 1) := dk_42 (dk_at dksX0_isSort_0 0 rfl rfl)
theorem dX0_isSort_1 : decode cX0_isSort 1 = .ok (.iload_n 1, 1) := dk_27 (dk_at dksX0_isSort_0 1 rfl rfl)
theorem dX0_isSort_2 : decode cX0_isSort 2 = .ok (.invokevirtual 45, 3) := dk_182 0 45 (dk_at dksX0_isSort_0 2 rfl rfl)
theorem dX0_isSort_5 : decode cX0_isSort 5 = .ok (.ifCond .eq 29, 3) := dk_153 0 29 (dk_at dksX0_isSort_0 5 rfl rfl)
theorem dX0_isSort_8 : decode cX0_isSort 8 = .ok (.iload_n 2, 1) := dk_28 (dk_at dksX0_isSort_0 8 rfl rfl)
theorem dX0_isSort_9 : decode cX0_isSort 9 = .ok (.iconst 0, 1) := dk_3 (dk_at dksX0_isSort_0 9 rfl rfl)
theorem dX0_isSort_10 : decode cX0_isSort 10 = .ok (.aload_n 0, 1) := dk_42 (dk_at dksX0_isSort_0 10 rfl rfl)
theorem dX0_isSort_11 : decode cX0_isSort 11 = .ok (.getfield 20, 3) := dk_180 0 20 (dk_at dksX0_isSort_0 11 rfl rfl)
theorem dX0_isSort_14 : decode cX0_isSort 14 = .ok (.getfield 49, 3) := dk_180 0 49 (dk_at dksX0_isSort_0 14 rfl rfl)
theorem dX0_isSort_17 : decode cX0_isSort 17 = .ok (.iload_n 1, 1) := dk_27 (dk_at dksX0_isSort_0 17 rfl rfl)
theorem dX0_isSort_18 : decode cX0_isSort 18 = .ok (.aaload, 1) := dk_50 (dk_at dksX0_isSort_0 18 rfl rfl)
theorem dX0_isSort_19 : decode cX0_isSort 19 = .ok (.getfield 53, 3) := dk_180 0 53 (dk_at dksX0_isSort_0 19 rfl rfl)
theorem dX0_isSort_22 : decode cX0_isSort 22 = .ok (.iconst 1, 1) := dk_4 (dk_at dksX0_isSort_0 22 rfl rfl)
theorem dX0_isSort_23 : decode cX0_isSort 23 = .ok (.isub, 1) := dk_100 (dk_at dksX0_isSort_0 23 rfl rfl)
theorem dX0_isSort_24 : decode cX0_isSort 24 = .ok (.invokestatic 37, 3) := dk_184 0 37 (dk_at dksX0_isSort_1 0 rfl rfl)
theorem dX0_isSort_27 : decode cX0_isSort 27 = .ok (.ifCond .eq 7, 3) := dk_153 0 7 (dk_at dksX0_isSort_1 3 rfl rfl)
theorem dX0_isSort_30 : decode cX0_isSort 30 = .ok (.iconst 1, 1) := dk_4 (dk_at dksX0_isSort_1 6 rfl rfl)
theorem dX0_isSort_31 : decode cX0_isSort 31 = .ok (.goto 4, 3) := dk_167 0 4 (dk_at dksX0_isSort_1 7 rfl rfl)
theorem dX0_isSort_34 : decode cX0_isSort 34 = .ok (.iconst 0, 1) := dk_3 (dk_at dksX0_isSort_1 10 rfl rfl)
theorem dX0_isSort_35 : decode cX0_isSort 35 = .ok (.ireturn, 1) := dk_172 (dk_at dksX0_isSort_1 11 rfl rfl)
abbrev cX0_alter : ByteArray := prog_1_method_34_code
def yX0_alter : MethodName := ⟨RX0, "alter", "(III)I"⟩
def dkwX0_alter_7 : List UInt8 := [181, 0, 211, 25, 5, 182, 0, 231, 21, 6, 172]
abbrev dktX0_alter_7 : List UInt8 := dkwX0_alter_7 ++ []
def dkwX0_alter_6 : List UInt8 := [25, 5, 180, 0, 208, 181, 0, 208, 25, 5, 28, 5, 160, 0, 7, 29, 167, 0, 8, 25, 5, 180, 0, 211]
abbrev dktX0_alter_6 : List UInt8 := dkwX0_alter_6 ++ dktX0_alter_7
def dkwX0_alter_5 : List UInt8 := [29, 167, 0, 8, 25, 5, 180, 0, 205, 181, 0, 205, 25, 5, 28, 4, 160, 0, 7, 29, 167, 0, 8]
abbrev dktX0_alter_5 : List UInt8 := dkwX0_alter_5 ++ dktX0_alter_6
def dkwX0_alter_4 : List UInt8 := [160, 0, 11, 25, 5, 180, 0, 208, 167, 0, 8, 25, 5, 180, 0, 211, 54, 6, 25, 5, 28, 154, 0, 7]
abbrev dktX0_alter_4 : List UInt8 := dkwX0_alter_4 ++ dktX0_alter_5
def dkwX0_alter_3 : List UInt8 := [180, 0, 20, 180, 0, 49, 27, 50, 58, 5, 28, 154, 0, 11, 25, 5, 180, 0, 205, 167, 0, 21, 28, 4]
abbrev dktX0_alter_3 : List UInt8 := dkwX0_alter_3 ++ dktX0_alter_4
def dkwX0_alter_2 : List UInt8 := [3, 54, 4, 42, 27, 182, 0, 45, 153, 0, 8, 21, 4, 154, 0, 10, 42, 16, 254, 182, 0, 81, 172, 42]
abbrev dktX0_alter_2 : List UInt8 := dkwX0_alter_2 ++ dktX0_alter_3
def dkwX0_alter_1 : List UInt8 := [184, 0, 37, 167, 0, 22, 28, 5, 160, 0, 16, 29, 3, 6, 184, 0, 37, 153, 0, 7, 4, 167, 0, 4]
abbrev dktX0_alter_1 : List UInt8 := dkwX0_alter_1 ++ dktX0_alter_2
def dkwX0_alter_0 : List UInt8 := [28, 154, 0, 13, 29, 3, 16, 99, 184, 0, 37, 167, 0, 37, 28, 4, 160, 0, 13, 29, 4, 16, 40]
abbrev dktX0_alter_0 : List UInt8 := dkwX0_alter_0 ++ dktX0_alter_1
theorem dksX0_alter_0 : cX0_alter.data.toList.drop 0 = dktX0_alter_0 := by decide +kernel
theorem dksX0_alter_1 : cX0_alter.data.toList.drop 23 = dktX0_alter_1 := dk_seg dksX0_alter_0 23 rfl rfl
theorem dksX0_alter_2 : cX0_alter.data.toList.drop 47 = dktX0_alter_2 := dk_seg dksX0_alter_1 24 rfl rfl
theorem dksX0_alter_3 : cX0_alter.data.toList.drop 71 = dktX0_alter_3 := dk_seg dksX0_alter_2 24 rfl rfl
theorem dksX0_alter_4 : cX0_alter.data.toList.drop 95 = dktX0_alter_4 := dk_seg dksX0_alter_3 24 rfl rfl
theorem dksX0_alter_5 : cX0_alter.data.toList.drop 119 = dktX0_alter_5 := dk_seg dksX0_alter_4 24 rfl rfl
theorem dksX0_alter_6 : cX0_alter.data.toList.drop 142 = dktX0_alter_6 := dk_seg dksX0_alter_5 23 rfl rfl
theorem dksX0_alter_7 : cX0_alter.data.toList.drop 166 = dktX0_alter_7 := dk_seg dksX0_alter_6 24 rfl rfl
theorem dX0_alter_0 : decode cX0_alter 0 = .ok (.iload_n 2, 1) := dk_28 (dk_at dksX0_alter_0 0 rfl rfl)
theorem dX0_alter_1 : decode cX0_alter 1 = .ok (.ifCond .ne 13, 3) := dk_154 0 13 (dk_at dksX0_alter_0 1 rfl rfl)
theorem dX0_alter_4 : decode cX0_alter 4 = .ok (.iload_n 3, 1) := dk_29 (dk_at dksX0_alter_0 4 rfl rfl)
theorem dX0_alter_5 : decode cX0_alter 5 = .ok (.iconst 0, 1) := dk_3 (dk_at dksX0_alter_0 5 rfl rfl)
theorem dX0_alter_6 : decode cX0_alter 6 = .ok (.bipush 99, 2) := dk_16 99 (dk_at dksX0_alter_0 6 rfl rfl)
theorem dX0_alter_8 : decode cX0_alter 8 = .ok (.invokestatic 37, 3) := dk_184 0 37 (dk_at dksX0_alter_0 8 rfl rfl)
theorem dX0_alter_11 : decode cX0_alter 11 = .ok (.goto 37, 3) := dk_167 0 37 (dk_at dksX0_alter_0 11 rfl rfl)
theorem dX0_alter_14 : decode cX0_alter 14 = .ok (.iload_n 2, 1) := dk_28 (dk_at dksX0_alter_0 14 rfl rfl)
theorem dX0_alter_15 : decode cX0_alter 15 = .ok (.iconst 1, 1) := dk_4 (dk_at dksX0_alter_0 15 rfl rfl)
theorem dX0_alter_16 : decode cX0_alter 16 = .ok (.if_icmp .ne 13, 3) := dk_160 0 13 (dk_at dksX0_alter_0 16 rfl rfl)
theorem dX0_alter_19 : decode cX0_alter 19 = .ok (.iload_n 3, 1) := dk_29 (dk_at dksX0_alter_0 19 rfl rfl)
theorem dX0_alter_20 : decode cX0_alter 20 = .ok (.iconst 1, 1) := dk_4 (dk_at dksX0_alter_0 20 rfl rfl)
theorem dX0_alter_21 : decode cX0_alter 21 = .ok (.bipush 40, 2) := dk_16 40 (dk_at dksX0_alter_0 21 rfl rfl)
theorem dX0_alter_23 : decode cX0_alter 23 = .ok (.invokestatic 37, 3) := dk_184 0 37 (dk_at dksX0_alter_1 0 rfl rfl)
theorem dX0_alter_26 : decode cX0_alter 26 = .ok (.goto 22, 3) := dk_167 0 22 (dk_at dksX0_alter_1 3 rfl rfl)
theorem dX0_alter_29 : decode cX0_alter 29 = .ok (.iload_n 2, 1) := dk_28 (dk_at dksX0_alter_1 6 rfl rfl)
theorem dX0_alter_30 : decode cX0_alter 30 = .ok (.iconst 2, 1) := dk_5 (dk_at dksX0_alter_1 7 rfl rfl)
theorem dX0_alter_31 : decode cX0_alter 31 = .ok (.if_icmp .ne 16, 3) := dk_160 0 16 (dk_at dksX0_alter_1 8 rfl rfl)
theorem dX0_alter_34 : decode cX0_alter 34 = .ok (.iload_n 3, 1) := dk_29 (dk_at dksX0_alter_1 11 rfl rfl)
theorem dX0_alter_35 : decode cX0_alter 35 = .ok (.iconst 0, 1) := dk_3 (dk_at dksX0_alter_1 12 rfl rfl)
theorem dX0_alter_36 : decode cX0_alter 36 = .ok (.iconst 3, 1) := dk_6 (dk_at dksX0_alter_1 13 rfl rfl)
theorem dX0_alter_37 : decode cX0_alter 37 = .ok (.invokestatic 37, 3) := dk_184 0 37 (dk_at dksX0_alter_1 14 rfl rfl)
theorem dX0_alter_40 : decode cX0_alter 40 = .ok (.ifCond .eq 7, 3) := dk_153 0 7 (dk_at dksX0_alter_1 17 rfl rfl)
theorem dX0_alter_43 : decode cX0_alter 43 = .ok (.iconst 1, 1) := dk_4 (dk_at dksX0_alter_1 20 rfl rfl)
theorem dX0_alter_44 : decode cX0_alter 44 = .ok (.goto 4, 3) := dk_167 0 4 (dk_at dksX0_alter_1 21 rfl rfl)
theorem dX0_alter_47 : decode cX0_alter 47 = .ok (.iconst 0, 1) := dk_3 (dk_at dksX0_alter_2 0 rfl rfl)
theorem dX0_alter_48 : decode cX0_alter 48 = .ok (.istore 4, 2) := dk_54 4 (dk_at dksX0_alter_2 1 rfl rfl)
theorem dX0_alter_50 : decode cX0_alter 50 = .ok (.aload_n 0, 1) := dk_42 (dk_at dksX0_alter_2 3 rfl rfl)
theorem dX0_alter_51 : decode cX0_alter 51 = .ok (.iload_n 1, 1) := dk_27 (dk_at dksX0_alter_2 4 rfl rfl)
theorem dX0_alter_52 : decode cX0_alter 52 = .ok (.invokevirtual 45, 3) := dk_182 0 45 (dk_at dksX0_alter_2 5 rfl rfl)
theorem dX0_alter_55 : decode cX0_alter 55 = .ok (.ifCond .eq 8, 3) := dk_153 0 8 (dk_at dksX0_alter_2 8 rfl rfl)
theorem dX0_alter_58 : decode cX0_alter 58 = .ok (.iload 4, 2) := dk_21 4 (dk_at dksX0_alter_2 11 rfl rfl)
theorem dX0_alter_60 : decode cX0_alter 60 = .ok (.ifCond .ne 10, 3) := dk_154 0 10 (dk_at dksX0_alter_2 13 rfl rfl)
theorem dX0_alter_63 : decode cX0_alter 63 = .ok (.aload_n 0, 1) := dk_42 (dk_at dksX0_alter_2 16 rfl rfl)
theorem dX0_alter_64 : decode cX0_alter 64 = .ok (.bipush (-2), 2) := dk_16 254 (dk_at dksX0_alter_2 17 rfl rfl)
theorem dX0_alter_66 : decode cX0_alter 66 = .ok (.invokevirtual 81, 3) := dk_182 0 81 (dk_at dksX0_alter_2 19 rfl rfl)
theorem dX0_alter_69 : decode cX0_alter 69 = .ok (.ireturn, 1) := dk_172 (dk_at dksX0_alter_2 22 rfl rfl)
theorem dX0_alter_70 : decode cX0_alter 70 = .ok (.aload_n 0, 1) := dk_42 (dk_at dksX0_alter_2 23 rfl rfl)
theorem dX0_alter_71 : decode cX0_alter 71 = .ok (.getfield 20, 3) := dk_180 0 20 (dk_at dksX0_alter_3 0 rfl rfl)
theorem dX0_alter_74 : decode cX0_alter 74 = .ok (.getfield 49, 3) := dk_180 0 49 (dk_at dksX0_alter_3 3 rfl rfl)
theorem dX0_alter_77 : decode cX0_alter 77 = .ok (.iload_n 1, 1) := dk_27 (dk_at dksX0_alter_3 6 rfl rfl)
theorem dX0_alter_78 : decode cX0_alter 78 = .ok (.aaload, 1) := dk_50 (dk_at dksX0_alter_3 7 rfl rfl)
theorem dX0_alter_79 : decode cX0_alter 79 = .ok (.astore 5, 2) := dk_58 5 (dk_at dksX0_alter_3 8 rfl rfl)
theorem dX0_alter_81 : decode cX0_alter 81 = .ok (.iload_n 2, 1) := dk_28 (dk_at dksX0_alter_3 10 rfl rfl)
theorem dX0_alter_82 : decode cX0_alter 82 = .ok (.ifCond .ne 11, 3) := dk_154 0 11 (dk_at dksX0_alter_3 11 rfl rfl)
theorem dX0_alter_85 : decode cX0_alter 85 = .ok (.aload 5, 2) := dk_25 5 (dk_at dksX0_alter_3 14 rfl rfl)
theorem dX0_alter_87 : decode cX0_alter 87 = .ok (.getfield 205, 3) := dk_180 0 205 (dk_at dksX0_alter_3 16 rfl rfl)
theorem dX0_alter_90 : decode cX0_alter 90 = .ok (.goto 21, 3) := dk_167 0 21 (dk_at dksX0_alter_3 19 rfl rfl)
theorem dX0_alter_93 : decode cX0_alter 93 = .ok (.iload_n 2, 1) := dk_28 (dk_at dksX0_alter_3 22 rfl rfl)
theorem dX0_alter_94 : decode cX0_alter 94 = .ok (.iconst 1, 1) := dk_4 (dk_at dksX0_alter_3 23 rfl rfl)
theorem dX0_alter_95 : decode cX0_alter 95 = .ok (.if_icmp .ne 11, 3) := dk_160 0 11 (dk_at dksX0_alter_4 0 rfl rfl)
theorem dX0_alter_98 : decode cX0_alter 98 = .ok (.aload 5, 2) := dk_25 5 (dk_at dksX0_alter_4 3 rfl rfl)
theorem dX0_alter_100 : decode cX0_alter 100 = .ok (.getfield 208, 3) := dk_180 0 208 (dk_at dksX0_alter_4 5 rfl rfl)
theorem dX0_alter_103 : decode cX0_alter 103 = .ok (.goto 8, 3) := dk_167 0 8 (dk_at dksX0_alter_4 8 rfl rfl)
theorem dX0_alter_106 : decode cX0_alter 106 = .ok (.aload 5, 2) := dk_25 5 (dk_at dksX0_alter_4 11 rfl rfl)
theorem dX0_alter_108 : decode cX0_alter 108 = .ok (.getfield 211, 3) := dk_180 0 211 (dk_at dksX0_alter_4 13 rfl rfl)
theorem dX0_alter_111 : decode cX0_alter 111 = .ok (.istore 6, 2) := dk_54 6 (dk_at dksX0_alter_4 16 rfl rfl)
theorem dX0_alter_113 : decode cX0_alter 113 = .ok (.aload 5, 2) := dk_25 5 (dk_at dksX0_alter_4 18 rfl rfl)
theorem dX0_alter_115 : decode cX0_alter 115 = .ok (.iload_n 2, 1) := dk_28 (dk_at dksX0_alter_4 20 rfl rfl)
theorem dX0_alter_116 : decode cX0_alter 116 = .ok (.ifCond .ne 7, 3) := dk_154 0 7 (dk_at dksX0_alter_4 21 rfl rfl)
theorem dX0_alter_119 : decode cX0_alter 119 = .ok (.iload_n 3, 1) := dk_29 (dk_at dksX0_alter_5 0 rfl rfl)
theorem dX0_alter_120 : decode cX0_alter 120 = .ok (.goto 8, 3) := dk_167 0 8 (dk_at dksX0_alter_5 1 rfl rfl)
theorem dX0_alter_123 : decode cX0_alter 123 = .ok (.aload 5, 2) := dk_25 5 (dk_at dksX0_alter_5 4 rfl rfl)
theorem dX0_alter_125 : decode cX0_alter 125 = .ok (.getfield 205, 3) := dk_180 0 205 (dk_at dksX0_alter_5 6 rfl rfl)
theorem dX0_alter_128 : decode cX0_alter 128 = .ok (.putfield 205, 3) := dk_181 0 205 (dk_at dksX0_alter_5 9 rfl rfl)
theorem dX0_alter_131 : decode cX0_alter 131 = .ok (.aload 5, 2) := dk_25 5 (dk_at dksX0_alter_5 12 rfl rfl)
theorem dX0_alter_133 : decode cX0_alter 133 = .ok (.iload_n 2, 1) := dk_28 (dk_at dksX0_alter_5 14 rfl rfl)
theorem dX0_alter_134 : decode cX0_alter 134 = .ok (.iconst 1, 1) := dk_4 (dk_at dksX0_alter_5 15 rfl rfl)
theorem dX0_alter_135 : decode cX0_alter 135 = .ok (.if_icmp .ne 7, 3) := dk_160 0 7 (dk_at dksX0_alter_5 16 rfl rfl)
theorem dX0_alter_138 : decode cX0_alter 138 = .ok (.iload_n 3, 1) := dk_29 (dk_at dksX0_alter_5 19 rfl rfl)
theorem dX0_alter_139 : decode cX0_alter 139 = .ok (.goto 8, 3) := dk_167 0 8 (dk_at dksX0_alter_5 20 rfl rfl)
theorem dX0_alter_142 : decode cX0_alter 142 = .ok (.aload 5, 2) := dk_25 5 (dk_at dksX0_alter_6 0 rfl rfl)
theorem dX0_alter_144 : decode cX0_alter 144 = .ok (.getfield 208, 3) := dk_180 0 208 (dk_at dksX0_alter_6 2 rfl rfl)
theorem dX0_alter_147 : decode cX0_alter 147 = .ok (.putfield 208, 3) := dk_181 0 208 (dk_at dksX0_alter_6 5 rfl rfl)
theorem dX0_alter_150 : decode cX0_alter 150 = .ok (.aload 5, 2) := dk_25 5 (dk_at dksX0_alter_6 8 rfl rfl)
theorem dX0_alter_152 : decode cX0_alter 152 = .ok (.iload_n 2, 1) := dk_28 (dk_at dksX0_alter_6 10 rfl rfl)
theorem dX0_alter_153 : decode cX0_alter 153 = .ok (.iconst 2, 1) := dk_5 (dk_at dksX0_alter_6 11 rfl rfl)
theorem dX0_alter_154 : decode cX0_alter 154 = .ok (.if_icmp .ne 7, 3) := dk_160 0 7 (dk_at dksX0_alter_6 12 rfl rfl)
theorem dX0_alter_157 : decode cX0_alter 157 = .ok (.iload_n 3, 1) := dk_29 (dk_at dksX0_alter_6 15 rfl rfl)
theorem dX0_alter_158 : decode cX0_alter 158 = .ok (.goto 8, 3) := dk_167 0 8 (dk_at dksX0_alter_6 16 rfl rfl)
theorem dX0_alter_161 : decode cX0_alter 161 = .ok (.aload 5, 2) := dk_25 5 (dk_at dksX0_alter_6 19 rfl rfl)
theorem dX0_alter_163 : decode cX0_alter 163 = .ok (.getfield 211, 3) := dk_180 0 211 (dk_at dksX0_alter_6 21 rfl rfl)
theorem dX0_alter_166 : decode cX0_alter 166 = .ok (.putfield 211, 3) := dk_181 0 211 (dk_at dksX0_alter_7 0 rfl rfl)
theorem dX0_alter_169 : decode cX0_alter 169 = .ok (.aload 5, 2) := dk_25 5 (dk_at dksX0_alter_7 3 rfl rfl)
theorem dX0_alter_171 : decode cX0_alter 171 = .ok (.invokevirtual 231, 3) := dk_182 0 231 (dk_at dksX0_alter_7 5 rfl rfl)
theorem dX0_alter_174 : decode cX0_alter 174 = .ok (.iload 6, 2) := dk_21 6 (dk_at dksX0_alter_7 8 rfl rfl)
theorem dX0_alter_176 : decode cX0_alter 176 = .ok (.ireturn, 1) := dk_172 (dk_at dksX0_alter_7 10 rfl rfl)
abbrev cX0_change : ByteArray := prog_1_method_35_code
def yX0_change : MethodName := ⟨RX0, "change", "(IIII)I"⟩
def dkwX0_change_5 : List UInt8 := [54, 7, 25, 6, 28, 21, 4, 79, 25, 5, 182, 0, 231, 21, 7, 172]
abbrev dktX0_change_5 : List UInt8 := dkwX0_change_5 ++ []
def dkwX0_change_4 : List UInt8 := [29, 5, 160, 0, 11, 25, 5, 180, 0, 225, 167, 0, 8, 25, 5, 180, 0, 228, 58, 6, 25, 6, 28, 46]
abbrev dktX0_change_4 : List UInt8 := dkwX0_change_4 ++ dktX0_change_5
def dkwX0_change_3 : List UInt8 := [154, 0, 11, 25, 5, 180, 0, 219, 167, 0, 34, 29, 4, 160, 0, 11, 25, 5, 180, 0, 222, 167, 0, 21]
abbrev dktX0_change_3 : List UInt8 := dkwX0_change_3 ++ dktX0_change_4
def dkwX0_change_2 : List UInt8 := [154, 0, 10, 42, 16, 254, 182, 0, 81, 172, 42, 180, 0, 20, 180, 0, 49, 27, 50, 58, 5, 29]
abbrev dktX0_change_2 : List UInt8 := dkwX0_change_2 ++ dktX0_change_3
def dkwX0_change_1 : List UInt8 := [154, 0, 7, 7, 167, 0, 15, 29, 4, 160, 0, 8, 16, 9, 167, 0, 5, 16, 99, 184, 0, 37]
abbrev dktX0_change_1 : List UInt8 := dkwX0_change_1 ++ dktX0_change_2
def dkwX0_change_0 : List UInt8 := [42, 27, 28, 182, 0, 214, 153, 0, 41, 29, 3, 6, 184, 0, 37, 153, 0, 32, 21, 4, 3, 29]
abbrev dktX0_change_0 : List UInt8 := dkwX0_change_0 ++ dktX0_change_1
theorem dksX0_change_0 : cX0_change.data.toList.drop 0 = dktX0_change_0 := by decide +kernel
theorem dksX0_change_1 : cX0_change.data.toList.drop 22 = dktX0_change_1 := dk_seg dksX0_change_0 22 rfl rfl
theorem dksX0_change_2 : cX0_change.data.toList.drop 44 = dktX0_change_2 := dk_seg dksX0_change_1 22 rfl rfl
theorem dksX0_change_3 : cX0_change.data.toList.drop 66 = dktX0_change_3 := dk_seg dksX0_change_2 22 rfl rfl
theorem dksX0_change_4 : cX0_change.data.toList.drop 90 = dktX0_change_4 := dk_seg dksX0_change_3 24 rfl rfl
theorem dksX0_change_5 : cX0_change.data.toList.drop 114 = dktX0_change_5 := dk_seg dksX0_change_4 24 rfl rfl
theorem dX0_change_0 : decode cX0_change 0 = .ok (.aload_n 0, 1) := dk_42 (dk_at dksX0_change_0 0 rfl rfl)
theorem dX0_change_1 : decode cX0_change 1 = .ok (.iload_n 1, 1) := dk_27 (dk_at dksX0_change_0 1 rfl rfl)
theorem dX0_change_2 : decode cX0_change 2 = .ok (.iload_n 2, 1) := dk_28 (dk_at dksX0_change_0 2 rfl rfl)
theorem dX0_change_3 : decode cX0_change 3 = .ok (.invokevirtual 214, 3) := dk_182 0 214 (dk_at dksX0_change_0 3 rfl rfl)
theorem dX0_change_6 : decode cX0_change 6 = .ok (.ifCond .eq 41, 3) := dk_153 0 41 (dk_at dksX0_change_0 6 rfl rfl)
theorem dX0_change_9 : decode cX0_change 9 = .ok (.iload_n 3, 1) := dk_29 (dk_at dksX0_change_0 9 rfl rfl)
theorem dX0_change_10 : decode cX0_change 10 = .ok (.iconst 0, 1) := dk_3 (dk_at dksX0_change_0 10 rfl rfl)
theorem dX0_change_11 : decode cX0_change 11 = .ok (.iconst 3, 1) := dk_6 (dk_at dksX0_change_0 11 rfl rfl)
theorem dX0_change_12 : decode cX0_change 12 = .ok (.invokestatic 37, 3) := dk_184 0 37 (dk_at dksX0_change_0 12 rfl rfl)
theorem dX0_change_15 : decode cX0_change 15 = .ok (.ifCond .eq 32, 3) := dk_153 0 32 (dk_at dksX0_change_0 15 rfl rfl)
theorem dX0_change_18 : decode cX0_change 18 = .ok (.iload 4, 2) := dk_21 4 (dk_at dksX0_change_0 18 rfl rfl)
theorem dX0_change_20 : decode cX0_change 20 = .ok (.iconst 0, 1) := dk_3 (dk_at dksX0_change_0 20 rfl rfl)
theorem dX0_change_21 : decode cX0_change 21 = .ok (.iload_n 3, 1) := dk_29 (dk_at dksX0_change_0 21 rfl rfl)
theorem dX0_change_22 : decode cX0_change 22 = .ok (.ifCond .ne 7, 3) := dk_154 0 7 (dk_at dksX0_change_1 0 rfl rfl)
theorem dX0_change_25 : decode cX0_change 25 = .ok (.iconst 4, 1) := dk_7 (dk_at dksX0_change_1 3 rfl rfl)
theorem dX0_change_26 : decode cX0_change 26 = .ok (.goto 15, 3) := dk_167 0 15 (dk_at dksX0_change_1 4 rfl rfl)
theorem dX0_change_29 : decode cX0_change 29 = .ok (.iload_n 3, 1) := dk_29 (dk_at dksX0_change_1 7 rfl rfl)
theorem dX0_change_30 : decode cX0_change 30 = .ok (.iconst 1, 1) := dk_4 (dk_at dksX0_change_1 8 rfl rfl)
theorem dX0_change_31 : decode cX0_change 31 = .ok (.if_icmp .ne 8, 3) := dk_160 0 8 (dk_at dksX0_change_1 9 rfl rfl)
theorem dX0_change_34 : decode cX0_change 34 = .ok (.bipush 9, 2) := dk_16 9 (dk_at dksX0_change_1 12 rfl rfl)
theorem dX0_change_36 : decode cX0_change 36 = .ok (.goto 5, 3) := dk_167 0 5 (dk_at dksX0_change_1 14 rfl rfl)
theorem dX0_change_39 : decode cX0_change 39 = .ok (.bipush 99, 2) := dk_16 99 (dk_at dksX0_change_1 17 rfl rfl)
theorem dX0_change_41 : decode cX0_change 41 = .ok (.invokestatic 37, 3) := dk_184 0 37 (dk_at dksX0_change_1 19 rfl rfl)
theorem dX0_change_44 : decode cX0_change 44 = .ok (.ifCond .ne 10, 3) := dk_154 0 10 (dk_at dksX0_change_2 0 rfl rfl)
theorem dX0_change_47 : decode cX0_change 47 = .ok (.aload_n 0, 1) := dk_42 (dk_at dksX0_change_2 3 rfl rfl)
theorem dX0_change_48 : decode cX0_change 48 = .ok (.bipush (-2), 2) := dk_16 254 (dk_at dksX0_change_2 4 rfl rfl)
theorem dX0_change_50 : decode cX0_change 50 = .ok (.invokevirtual 81, 3) := dk_182 0 81 (dk_at dksX0_change_2 6 rfl rfl)
theorem dX0_change_53 : decode cX0_change 53 = .ok (.ireturn, 1) := dk_172 (dk_at dksX0_change_2 9 rfl rfl)
theorem dX0_change_54 : decode cX0_change 54 = .ok (.aload_n 0, 1) := dk_42 (dk_at dksX0_change_2 10 rfl rfl)
theorem dX0_change_55 : decode cX0_change 55 = .ok (.getfield 20, 3) := dk_180 0 20 (dk_at dksX0_change_2 11 rfl rfl)
theorem dX0_change_58 : decode cX0_change 58 = .ok (.getfield 49, 3) := dk_180 0 49 (dk_at dksX0_change_2 14 rfl rfl)
theorem dX0_change_61 : decode cX0_change 61 = .ok (.iload_n 1, 1) := dk_27 (dk_at dksX0_change_2 17 rfl rfl)
theorem dX0_change_62 : decode cX0_change 62 = .ok (.aaload, 1) := dk_50 (dk_at dksX0_change_2 18 rfl rfl)
theorem dX0_change_63 : decode cX0_change 63 = .ok (.astore 5, 2) := dk_58 5 (dk_at dksX0_change_2 19 rfl rfl)
theorem dX0_change_65 : decode cX0_change 65 = .ok (.iload_n 3, 1) := dk_29 (dk_at dksX0_change_2 21 rfl rfl)
theorem dX0_change_66 : decode cX0_change 66 = .ok (.ifCond .ne 11, 3) := dk_154 0 11 (dk_at dksX0_change_3 0 rfl rfl)
theorem dX0_change_69 : decode cX0_change 69 = .ok (.aload 5, 2) := dk_25 5 (dk_at dksX0_change_3 3 rfl rfl)
theorem dX0_change_71 : decode cX0_change 71 = .ok (.getfield 219, 3) := dk_180 0 219 (dk_at dksX0_change_3 5 rfl rfl)
theorem dX0_change_74 : decode cX0_change 74 = .ok (.goto 34, 3) := dk_167 0 34 (dk_at dksX0_change_3 8 rfl rfl)
theorem dX0_change_77 : decode cX0_change 77 = .ok (.iload_n 3, 1) := dk_29 (dk_at dksX0_change_3 11 rfl rfl)
theorem dX0_change_78 : decode cX0_change 78 = .ok (.iconst 1, 1) := dk_4 (dk_at dksX0_change_3 12 rfl rfl)
theorem dX0_change_79 : decode cX0_change 79 = .ok (.if_icmp .ne 11, 3) := dk_160 0 11 (dk_at dksX0_change_3 13 rfl rfl)
theorem dX0_change_82 : decode cX0_change 82 = .ok (.aload 5, 2) := dk_25 5 (dk_at dksX0_change_3 16 rfl rfl)
theorem dX0_change_84 : decode cX0_change 84 = .ok (.getfield 222, 3) := dk_180 0 222 (dk_at dksX0_change_3 18 rfl rfl)
theorem dX0_change_87 : decode cX0_change 87 = .ok (.goto 21, 3) := dk_167 0 21 (dk_at dksX0_change_3 21 rfl rfl)
theorem dX0_change_90 : decode cX0_change 90 = .ok (.iload_n 3, 1) := dk_29 (dk_at dksX0_change_4 0 rfl rfl)
theorem dX0_change_91 : decode cX0_change 91 = .ok (.iconst 2, 1) := dk_5 (dk_at dksX0_change_4 1 rfl rfl)
theorem dX0_change_92 : decode cX0_change 92 = .ok (.if_icmp .ne 11, 3) := dk_160 0 11 (dk_at dksX0_change_4 2 rfl rfl)
theorem dX0_change_95 : decode cX0_change 95 = .ok (.aload 5, 2) := dk_25 5 (dk_at dksX0_change_4 5 rfl rfl)
theorem dX0_change_97 : decode cX0_change 97 = .ok (.getfield 225, 3) := dk_180 0 225 (dk_at dksX0_change_4 7 rfl rfl)
theorem dX0_change_100 : decode cX0_change 100 = .ok (.goto 8, 3) := dk_167 0 8 (dk_at dksX0_change_4 10 rfl rfl)
theorem dX0_change_103 : decode cX0_change 103 = .ok (.aload 5, 2) := dk_25 5 (dk_at dksX0_change_4 13 rfl rfl)
theorem dX0_change_105 : decode cX0_change 105 = .ok (.getfield 228, 3) := dk_180 0 228 (dk_at dksX0_change_4 15 rfl rfl)
theorem dX0_change_108 : decode cX0_change 108 = .ok (.astore 6, 2) := dk_58 6 (dk_at dksX0_change_4 18 rfl rfl)
theorem dX0_change_110 : decode cX0_change 110 = .ok (.aload 6, 2) := dk_25 6 (dk_at dksX0_change_4 20 rfl rfl)
theorem dX0_change_112 : decode cX0_change 112 = .ok (.iload_n 2, 1) := dk_28 (dk_at dksX0_change_4 22 rfl rfl)
theorem dX0_change_113 : decode cX0_change 113 = .ok (.iaload, 1) := dk_46 (dk_at dksX0_change_4 23 rfl rfl)
theorem dX0_change_114 : decode cX0_change 114 = .ok (.istore 7, 2) := dk_54 7 (dk_at dksX0_change_5 0 rfl rfl)
theorem dX0_change_116 : decode cX0_change 116 = .ok (.aload 6, 2) := dk_25 6 (dk_at dksX0_change_5 2 rfl rfl)
theorem dX0_change_118 : decode cX0_change 118 = .ok (.iload_n 2, 1) := dk_28 (dk_at dksX0_change_5 4 rfl rfl)
theorem dX0_change_119 : decode cX0_change 119 = .ok (.iload 4, 2) := dk_21 4 (dk_at dksX0_change_5 5 rfl rfl)
theorem dX0_change_121 : decode cX0_change 121 = .ok (.iastore, 1) := dk_79 (dk_at dksX0_change_5 7 rfl rfl)
theorem dX0_change_122 : decode cX0_change 122 = .ok (.aload 5, 2) := dk_25 5 (dk_at dksX0_change_5 8 rfl rfl)
theorem dX0_change_124 : decode cX0_change 124 = .ok (.invokevirtual 231, 3) := dk_182 0 231 (dk_at dksX0_change_5 10 rfl rfl)
theorem dX0_change_127 : decode cX0_change 127 = .ok (.iload 7, 2) := dk_21 7 (dk_at dksX0_change_5 13 rfl rfl)
theorem dX0_change_129 : decode cX0_change 129 = .ok (.ireturn, 1) := dk_172 (dk_at dksX0_change_5 15 rfl rfl)
abbrev cX0_of : ByteArray := prog_1_method_36_code
def yX0_of : MethodName := ⟨RX0, "of", "(II)I"⟩
def dkwX0_of_1 : List UInt8 := [167, 0, 9, 42, 16, 254, 182, 0, 81, 172]
abbrev dktX0_of_1 : List UInt8 := dkwX0_of_1 ++ []
def dkwX0_of_0 : List UInt8 := [27, 3, 16, 124, 184, 0, 37, 153, 0, 20, 28, 3, 5, 184, 0, 37, 153, 0, 11, 27, 28, 184, 0, 7]
abbrev dktX0_of_0 : List UInt8 := dkwX0_of_0 ++ dktX0_of_1
theorem dksX0_of_0 : cX0_of.data.toList.drop 0 = dktX0_of_0 := by decide +kernel
theorem dksX0_of_1 : cX0_of.data.toList.drop 24 = dktX0_of_1 := dk_seg dksX0_of_0 24 rfl rfl
theorem dX0_of_0 : decode cX0_of 0 = .ok (.iload_n 1, 1) := dk_27 (dk_at dksX0_of_0 0 rfl rfl)
theorem dX0_of_1 : decode cX0_of 1 = .ok (.iconst 0, 1) := dk_3 (dk_at dksX0_of_0 1 rfl rfl)
theorem dX0_of_2 : decode cX0_of 2 = .ok (.bipush 124, 2) := dk_16 124 (dk_at dksX0_of_0 2 rfl rfl)
theorem dX0_of_4 : decode cX0_of 4 = .ok (.invokestatic 37, 3) := dk_184 0 37 (dk_at dksX0_of_0 4 rfl rfl)
theorem dX0_of_7 : decode cX0_of 7 = .ok (.ifCond .eq 20, 3) := dk_153 0 20 (dk_at dksX0_of_0 7 rfl rfl)
theorem dX0_of_10 : decode cX0_of 10 = .ok (.iload_n 2, 1) := dk_28 (dk_at dksX0_of_0 10 rfl rfl)
theorem dX0_of_11 : decode cX0_of 11 = .ok (.iconst 0, 1) := dk_3 (dk_at dksX0_of_0 11 rfl rfl)
theorem dX0_of_12 : decode cX0_of 12 = .ok (.iconst 2, 1) := dk_5 (dk_at dksX0_of_0 12 rfl rfl)
theorem dX0_of_13 : decode cX0_of 13 = .ok (.invokestatic 37, 3) := dk_184 0 37 (dk_at dksX0_of_0 13 rfl rfl)
theorem dX0_of_16 : decode cX0_of 16 = .ok (.ifCond .eq 11, 3) := dk_153 0 11 (dk_at dksX0_of_0 16 rfl rfl)
theorem dX0_of_19 : decode cX0_of 19 = .ok (.iload_n 1, 1) := dk_27 (dk_at dksX0_of_0 19 rfl rfl)
theorem dX0_of_20 : decode cX0_of 20 = .ok (.iload_n 2, 1) := dk_28 (dk_at dksX0_of_0 20 rfl rfl)
theorem dX0_of_21 : decode cX0_of 21 = .ok (.invokestatic 7, 3) := dk_184 0 7 (dk_at dksX0_of_0 21 rfl rfl)
theorem dX0_of_24 : decode cX0_of 24 = .ok (.goto 9, 3) := dk_167 0 9 (dk_at dksX0_of_1 0 rfl rfl)
theorem dX0_of_27 : decode cX0_of 27 = .ok (.aload_n 0, 1) := dk_42 (dk_at dksX0_of_1 3 rfl rfl)
theorem dX0_of_28 : decode cX0_of 28 = .ok (.bipush (-2), 2) := dk_16 254 (dk_at dksX0_of_1 4 rfl rfl)
theorem dX0_of_30 : decode cX0_of 30 = .ok (.invokevirtual 81, 3) := dk_182 0 81 (dk_at dksX0_of_1 6 rfl rfl)
theorem dX0_of_33 : decode cX0_of 33 = .ok (.ireturn, 1) := dk_172 (dk_at dksX0_of_1 9 rfl rfl)
abbrev cX0_standing : ByteArray := prog_1_method_1_code
def yX0_standing : MethodName := ⟨RX0, "standing", "(II)I"⟩
def dkwX0_standing_0 : List UInt8 := [26, 178, 0, 1, 27, 46, 108, 8, 112, 172]
abbrev dktX0_standing_0 : List UInt8 := dkwX0_standing_0 ++ []
theorem dksX0_standing_0 : cX0_standing.data.toList.drop 0 = dktX0_standing_0 := by decide +kernel
theorem dX0_standing_0 : decode cX0_standing 0 = .ok (.iload_n 0, 1) := dk_26 (dk_at dksX0_standing_0 0 rfl rfl)
theorem dX0_standing_1 : decode cX0_standing 1 = .ok (.getstatic 1, 3) := dk_178 0 1 (dk_at dksX0_standing_0 1 rfl rfl)
theorem dX0_standing_4 : decode cX0_standing 4 = .ok (.iload_n 1, 1) := dk_27 (dk_at dksX0_standing_0 4 rfl rfl)
theorem dX0_standing_5 : decode cX0_standing 5 = .ok (.iaload, 1) := dk_46 (dk_at dksX0_standing_0 5 rfl rfl)
theorem dX0_standing_6 : decode cX0_standing 6 = .ok (.idiv, 1) := dk_108 (dk_at dksX0_standing_0 6 rfl rfl)
theorem dX0_standing_7 : decode cX0_standing 7 = .ok (.iconst 5, 1) := dk_8 (dk_at dksX0_standing_0 7 rfl rfl)
theorem dX0_standing_8 : decode cX0_standing 8 = .ok (.irem, 1) := dk_112 (dk_at dksX0_standing_0 8 rfl rfl)
theorem dX0_standing_9 : decode cX0_standing 9 = .ok (.ireturn, 1) := dk_172 (dk_at dksX0_standing_0 9 rfl rfl)
abbrev cX0_space : ByteArray := prog_1_method_37_code
def yX0_space : MethodName := ⟨RX0, "space", "(II)I"⟩
def dkwX0_space_1 : List UInt8 := [167, 0, 9, 42, 16, 254, 182, 0, 81, 172]
abbrev dktX0_space_1 : List UInt8 := dkwX0_space_1 ++ []
def dkwX0_space_0 : List UInt8 := [42, 27, 28, 182, 0, 234, 153, 0, 19, 42, 180, 0, 20, 180, 0, 49, 27, 50, 28, 182, 0, 237]
abbrev dktX0_space_0 : List UInt8 := dkwX0_space_0 ++ dktX0_space_1
theorem dksX0_space_0 : cX0_space.data.toList.drop 0 = dktX0_space_0 := by decide +kernel
theorem dksX0_space_1 : cX0_space.data.toList.drop 22 = dktX0_space_1 := dk_seg dksX0_space_0 22 rfl rfl
theorem dX0_space_0 : decode cX0_space 0 = .ok (.aload_n 0, 1) := dk_42 (dk_at dksX0_space_0 0 rfl rfl)
theorem dX0_space_1 : decode cX0_space 1 = .ok (.iload_n 1, 1) := dk_27 (dk_at dksX0_space_0 1 rfl rfl)
theorem dX0_space_2 : decode cX0_space 2 = .ok (.iload_n 2, 1) := dk_28 (dk_at dksX0_space_0 2 rfl rfl)
theorem dX0_space_3 : decode cX0_space 3 = .ok (.invokevirtual 234, 3) := dk_182 0 234 (dk_at dksX0_space_0 3 rfl rfl)
theorem dX0_space_6 : decode cX0_space 6 = .ok (.ifCond .eq 19, 3) := dk_153 0 19 (dk_at dksX0_space_0 6 rfl rfl)
theorem dX0_space_9 : decode cX0_space 9 = .ok (.aload_n 0, 1) := dk_42 (dk_at dksX0_space_0 9 rfl rfl)
theorem dX0_space_10 : decode cX0_space 10 = .ok (.getfield 20, 3) := dk_180 0 20 (dk_at dksX0_space_0 10 rfl rfl)
theorem dX0_space_13 : decode cX0_space 13 = .ok (.getfield 49, 3) := dk_180 0 49 (dk_at dksX0_space_0 13 rfl rfl)
theorem dX0_space_16 : decode cX0_space 16 = .ok (.iload_n 1, 1) := dk_27 (dk_at dksX0_space_0 16 rfl rfl)
theorem dX0_space_17 : decode cX0_space 17 = .ok (.aaload, 1) := dk_50 (dk_at dksX0_space_0 17 rfl rfl)
theorem dX0_space_18 : decode cX0_space 18 = .ok (.iload_n 2, 1) := dk_28 (dk_at dksX0_space_0 18 rfl rfl)
theorem dX0_space_19 : decode cX0_space 19 = .ok (.invokevirtual 237, 3) := dk_182 0 237 (dk_at dksX0_space_0 19 rfl rfl)
theorem dX0_space_22 : decode cX0_space 22 = .ok (.goto 9, 3) := dk_167 0 9 (dk_at dksX0_space_1 0 rfl rfl)
theorem dX0_space_25 : decode cX0_space 25 = .ok (.aload_n 0, 1) := dk_42 (dk_at dksX0_space_1 3 rfl rfl)
theorem dX0_space_26 : decode cX0_space 26 = .ok (.bipush (-2), 2) := dk_16 254 (dk_at dksX0_space_1 4 rfl rfl)
theorem dX0_space_28 : decode cX0_space 28 = .ok (.invokevirtual 81, 3) := dk_182 0 81 (dk_at dksX0_space_1 6 rfl rfl)
theorem dX0_space_31 : decode cX0_space 31 = .ok (.ireturn, 1) := dk_172 (dk_at dksX0_space_1 9 rfl rfl)
abbrev cX0_isState : ByteArray := prog_1_method_10_code
def yX0_isState : MethodName := ⟨RX0, "isState", "(II)Z"⟩
def dkwX0_isState_1 : List UInt8 := [184, 0, 37, 153, 0, 7, 4, 167, 0, 4, 3, 172]
abbrev dktX0_isState_1 : List UInt8 := dkwX0_isState_1 ++ []
def dkwX0_isState_0 : List UInt8 := [42, 27, 182, 0, 45, 153, 0, 29, 28, 3, 42, 180, 0, 20, 180, 0, 49, 27, 50, 182, 0, 58, 4, 100]
abbrev dktX0_isState_0 : List UInt8 := dkwX0_isState_0 ++ dktX0_isState_1
theorem dksX0_isState_0 : cX0_isState.data.toList.drop 0 = dktX0_isState_0 := by decide +kernel
theorem dksX0_isState_1 : cX0_isState.data.toList.drop 24 = dktX0_isState_1 := dk_seg dksX0_isState_0 24 rfl rfl
theorem dX0_isState_0 : decode cX0_isState 0 = .ok (.aload_n 0, 1) := dk_42 (dk_at dksX0_isState_0 0 rfl rfl)
theorem dX0_isState_1 : decode cX0_isState 1 = .ok (.iload_n 1, 1) := dk_27 (dk_at dksX0_isState_0 1 rfl rfl)
theorem dX0_isState_2 : decode cX0_isState 2 = .ok (.invokevirtual 45, 3) := dk_182 0 45 (dk_at dksX0_isState_0 2 rfl rfl)
theorem dX0_isState_5 : decode cX0_isState 5 = .ok (.ifCond .eq 29, 3) := dk_153 0 29 (dk_at dksX0_isState_0 5 rfl rfl)
theorem dX0_isState_8 : decode cX0_isState 8 = .ok (.iload_n 2, 1) := dk_28 (dk_at dksX0_isState_0 8 rfl rfl)
theorem dX0_isState_9 : decode cX0_isState 9 = .ok (.iconst 0, 1) := dk_3 (dk_at dksX0_isState_0 9 rfl rfl)
theorem dX0_isState_10 : decode cX0_isState 10 = .ok (.aload_n 0, 1) := dk_42 (dk_at dksX0_isState_0 10 rfl rfl)
theorem dX0_isState_11 : decode cX0_isState 11 = .ok (.getfield 20, 3) := dk_180 0 20 (dk_at dksX0_isState_0 11 rfl rfl)
theorem dX0_isState_14 : decode cX0_isState 14 = .ok (.getfield 49, 3) := dk_180 0 49 (dk_at dksX0_isState_0 14 rfl rfl)
theorem dX0_isState_17 : decode cX0_isState 17 = .ok (.iload_n 1, 1) := dk_27 (dk_at dksX0_isState_0 17 rfl rfl)
theorem dX0_isState_18 : decode cX0_isState 18 = .ok (.aaload, 1) := dk_50 (dk_at dksX0_isState_0 18 rfl rfl)
theorem dX0_isState_19 : decode cX0_isState 19 = .ok (.invokevirtual 58, 3) := dk_182 0 58 (dk_at dksX0_isState_0 19 rfl rfl)
theorem dX0_isState_22 : decode cX0_isState 22 = .ok (.iconst 1, 1) := dk_4 (dk_at dksX0_isState_0 22 rfl rfl)
theorem dX0_isState_23 : decode cX0_isState 23 = .ok (.isub, 1) := dk_100 (dk_at dksX0_isState_0 23 rfl rfl)
theorem dX0_isState_24 : decode cX0_isState 24 = .ok (.invokestatic 37, 3) := dk_184 0 37 (dk_at dksX0_isState_1 0 rfl rfl)
theorem dX0_isState_27 : decode cX0_isState 27 = .ok (.ifCond .eq 7, 3) := dk_153 0 7 (dk_at dksX0_isState_1 3 rfl rfl)
theorem dX0_isState_30 : decode cX0_isState 30 = .ok (.iconst 1, 1) := dk_4 (dk_at dksX0_isState_1 6 rfl rfl)
theorem dX0_isState_31 : decode cX0_isState 31 = .ok (.goto 4, 3) := dk_167 0 4 (dk_at dksX0_isState_1 7 rfl rfl)
theorem dX0_isState_34 : decode cX0_isState 34 = .ok (.iconst 0, 1) := dk_3 (dk_at dksX0_isState_1 10 rfl rfl)
theorem dX0_isState_35 : decode cX0_isState 35 = .ok (.ireturn, 1) := dk_172 (dk_at dksX0_isState_1 11 rfl rfl)
abbrev cX0_scale : ByteArray := prog_1_method_38_code
def yX0_scale : MethodName := ⟨RX0, "scale", "(II)J"⟩
def dkwX0_scale_1 : List UInt8 := [167, 0, 10, 42, 16, 254, 182, 0, 81, 133, 173]
abbrev dktX0_scale_1 : List UInt8 := dkwX0_scale_1 ++ []
def dkwX0_scale_0 : List UInt8 := [42, 27, 3, 28, 182, 0, 239, 153, 0, 19, 42, 180, 0, 20, 180, 0, 49, 27, 50, 28, 182, 0, 242]
abbrev dktX0_scale_0 : List UInt8 := dkwX0_scale_0 ++ dktX0_scale_1
theorem dksX0_scale_0 : cX0_scale.data.toList.drop 0 = dktX0_scale_0 := by decide +kernel
theorem dksX0_scale_1 : cX0_scale.data.toList.drop 23 = dktX0_scale_1 := dk_seg dksX0_scale_0 23 rfl rfl
theorem dX0_scale_0 : decode cX0_scale 0 = .ok (.aload_n 0, 1) := dk_42 (dk_at dksX0_scale_0 0 rfl rfl)
theorem dX0_scale_1 : decode cX0_scale 1 = .ok (.iload_n 1, 1) := dk_27 (dk_at dksX0_scale_0 1 rfl rfl)
theorem dX0_scale_2 : decode cX0_scale 2 = .ok (.iconst 0, 1) := dk_3 (dk_at dksX0_scale_0 2 rfl rfl)
theorem dX0_scale_3 : decode cX0_scale 3 = .ok (.iload_n 2, 1) := dk_28 (dk_at dksX0_scale_0 3 rfl rfl)
theorem dX0_scale_4 : decode cX0_scale 4 = .ok (.invokevirtual 239, 3) := dk_182 0 239 (dk_at dksX0_scale_0 4 rfl rfl)
theorem dX0_scale_7 : decode cX0_scale 7 = .ok (.ifCond .eq 19, 3) := dk_153 0 19 (dk_at dksX0_scale_0 7 rfl rfl)
theorem dX0_scale_10 : decode cX0_scale 10 = .ok (.aload_n 0, 1) := dk_42 (dk_at dksX0_scale_0 10 rfl rfl)
theorem dX0_scale_11 : decode cX0_scale 11 = .ok (.getfield 20, 3) := dk_180 0 20 (dk_at dksX0_scale_0 11 rfl rfl)
theorem dX0_scale_14 : decode cX0_scale 14 = .ok (.getfield 49, 3) := dk_180 0 49 (dk_at dksX0_scale_0 14 rfl rfl)
theorem dX0_scale_17 : decode cX0_scale 17 = .ok (.iload_n 1, 1) := dk_27 (dk_at dksX0_scale_0 17 rfl rfl)
theorem dX0_scale_18 : decode cX0_scale 18 = .ok (.aaload, 1) := dk_50 (dk_at dksX0_scale_0 18 rfl rfl)
theorem dX0_scale_19 : decode cX0_scale 19 = .ok (.iload_n 2, 1) := dk_28 (dk_at dksX0_scale_0 19 rfl rfl)
theorem dX0_scale_20 : decode cX0_scale 20 = .ok (.invokevirtual 242, 3) := dk_182 0 242 (dk_at dksX0_scale_0 20 rfl rfl)
theorem dX0_scale_23 : decode cX0_scale 23 = .ok (.goto 10, 3) := dk_167 0 10 (dk_at dksX0_scale_1 0 rfl rfl)
theorem dX0_scale_26 : decode cX0_scale 26 = .ok (.aload_n 0, 1) := dk_42 (dk_at dksX0_scale_1 3 rfl rfl)
theorem dX0_scale_27 : decode cX0_scale 27 = .ok (.bipush (-2), 2) := dk_16 254 (dk_at dksX0_scale_1 4 rfl rfl)
theorem dX0_scale_29 : decode cX0_scale 29 = .ok (.invokevirtual 81, 3) := dk_182 0 81 (dk_at dksX0_scale_1 6 rfl rfl)
theorem dX0_scale_32 : decode cX0_scale 32 = .ok (.i2l, 1) := dk_133 (dk_at dksX0_scale_1 9 rfl rfl)
theorem dX0_scale_33 : decode cX0_scale 33 = .ok (.lreturn, 1) := dk_173 (dk_at dksX0_scale_1 10 rfl rfl)
abbrev cX0_isLeft : ByteArray := prog_1_method_11_code
def yX0_isLeft : MethodName := ⟨RX0, "isLeft", "(III)Z"⟩
def dkwX0_isLeft_1 : List UInt8 := [184, 0, 37, 153, 0, 7, 4, 167, 0, 4, 3, 172]
abbrev dktX0_isLeft_1 : List UInt8 := dkwX0_isLeft_1 ++ []
def dkwX0_isLeft_0 : List UInt8 := [42, 27, 182, 0, 45, 153, 0, 27, 29, 28, 42, 180, 0, 20, 180, 0, 49, 27, 50, 180, 0, 62]
abbrev dktX0_isLeft_0 : List UInt8 := dkwX0_isLeft_0 ++ dktX0_isLeft_1
theorem dksX0_isLeft_0 : cX0_isLeft.data.toList.drop 0 = dktX0_isLeft_0 := by decide +kernel
theorem dksX0_isLeft_1 : cX0_isLeft.data.toList.drop 22 = dktX0_isLeft_1 := dk_seg dksX0_isLeft_0 22 rfl rfl
theorem dX0_isLeft_0 : decode cX0_isLeft 0 = .ok (.aload_n 0, 1) := dk_42 (dk_at dksX0_isLeft_0 0 rfl rfl)
theorem dX0_isLeft_1 : decode cX0_isLeft 1 = .ok (.iload_n 1, 1) := dk_27 (dk_at dksX0_isLeft_0 1 rfl rfl)
theorem dX0_isLeft_2 : decode cX0_isLeft 2 = .ok (.invokevirtual 45, 3) := dk_182 0 45 (dk_at dksX0_isLeft_0 2 rfl rfl)
theorem dX0_isLeft_5 : decode cX0_isLeft 5 = .ok (.ifCond .eq 27, 3) := dk_153 0 27 (dk_at dksX0_isLeft_0 5 rfl rfl)
theorem dX0_isLeft_8 : decode cX0_isLeft 8 = .ok (.iload_n 3, 1) := dk_29 (dk_at dksX0_isLeft_0 8 rfl rfl)
theorem dX0_isLeft_9 : decode cX0_isLeft 9 = .ok (.iload_n 2, 1) := dk_28 (dk_at dksX0_isLeft_0 9 rfl rfl)
theorem dX0_isLeft_10 : decode cX0_isLeft 10 = .ok (.aload_n 0, 1) := dk_42 (dk_at dksX0_isLeft_0 10 rfl rfl)
theorem dX0_isLeft_11 : decode cX0_isLeft 11 = .ok (.getfield 20, 3) := dk_180 0 20 (dk_at dksX0_isLeft_0 11 rfl rfl)
theorem dX0_isLeft_14 : decode cX0_isLeft 14 = .ok (.getfield 49, 3) := dk_180 0 49 (dk_at dksX0_isLeft_0 14 rfl rfl)
theorem dX0_isLeft_17 : decode cX0_isLeft 17 = .ok (.iload_n 1, 1) := dk_27 (dk_at dksX0_isLeft_0 17 rfl rfl)
theorem dX0_isLeft_18 : decode cX0_isLeft 18 = .ok (.aaload, 1) := dk_50 (dk_at dksX0_isLeft_0 18 rfl rfl)
theorem dX0_isLeft_19 : decode cX0_isLeft 19 = .ok (.getfield 62, 3) := dk_180 0 62 (dk_at dksX0_isLeft_0 19 rfl rfl)
theorem dX0_isLeft_22 : decode cX0_isLeft 22 = .ok (.invokestatic 37, 3) := dk_184 0 37 (dk_at dksX0_isLeft_1 0 rfl rfl)
theorem dX0_isLeft_25 : decode cX0_isLeft 25 = .ok (.ifCond .eq 7, 3) := dk_153 0 7 (dk_at dksX0_isLeft_1 3 rfl rfl)
theorem dX0_isLeft_28 : decode cX0_isLeft 28 = .ok (.iconst 1, 1) := dk_4 (dk_at dksX0_isLeft_1 6 rfl rfl)
theorem dX0_isLeft_29 : decode cX0_isLeft 29 = .ok (.goto 4, 3) := dk_167 0 4 (dk_at dksX0_isLeft_1 7 rfl rfl)
theorem dX0_isLeft_32 : decode cX0_isLeft 32 = .ok (.iconst 0, 1) := dk_3 (dk_at dksX0_isLeft_1 10 rfl rfl)
theorem dX0_isLeft_33 : decode cX0_isLeft 33 = .ok (.ireturn, 1) := dk_172 (dk_at dksX0_isLeft_1 11 rfl rfl)
abbrev cX0_cost : ByteArray := prog_1_method_39_code
def yX0_cost : MethodName := ⟨RX0, "cost", "(III)J"⟩
def dkwX0_cost_1 : List UInt8 := [180, 0, 49, 27, 50, 28, 29, 182, 0, 246, 167, 0, 10, 42, 16, 254, 182, 0, 81, 133, 173]
abbrev dktX0_cost_1 : List UInt8 := dkwX0_cost_1 ++ []
def dkwX0_cost_0 : List UInt8 := [42, 27, 3, 28, 182, 0, 239, 153, 0, 29, 42, 27, 29, 182, 0, 234, 153, 0, 20, 42, 180, 0, 20]
abbrev dktX0_cost_0 : List UInt8 := dkwX0_cost_0 ++ dktX0_cost_1
theorem dksX0_cost_0 : cX0_cost.data.toList.drop 0 = dktX0_cost_0 := by decide +kernel
theorem dksX0_cost_1 : cX0_cost.data.toList.drop 23 = dktX0_cost_1 := dk_seg dksX0_cost_0 23 rfl rfl
theorem dX0_cost_0 : decode cX0_cost 0 = .ok (.aload_n 0, 1) := dk_42 (dk_at dksX0_cost_0 0 rfl rfl)
theorem dX0_cost_1 : decode cX0_cost 1 = .ok (.iload_n 1, 1) := dk_27 (dk_at dksX0_cost_0 1 rfl rfl)
theorem dX0_cost_2 : decode cX0_cost 2 = .ok (.iconst 0, 1) := dk_3 (dk_at dksX0_cost_0 2 rfl rfl)
theorem dX0_cost_3 : decode cX0_cost 3 = .ok (.iload_n 2, 1) := dk_28 (dk_at dksX0_cost_0 3 rfl rfl)
theorem dX0_cost_4 : decode cX0_cost 4 = .ok (.invokevirtual 239, 3) := dk_182 0 239 (dk_at dksX0_cost_0 4 rfl rfl)
theorem dX0_cost_7 : decode cX0_cost 7 = .ok (.ifCond .eq 29, 3) := dk_153 0 29 (dk_at dksX0_cost_0 7 rfl rfl)
theorem dX0_cost_10 : decode cX0_cost 10 = .ok (.aload_n 0, 1) := dk_42 (dk_at dksX0_cost_0 10 rfl rfl)
theorem dX0_cost_11 : decode cX0_cost 11 = .ok (.iload_n 1, 1) := dk_27 (dk_at dksX0_cost_0 11 rfl rfl)
theorem dX0_cost_12 : decode cX0_cost 12 = .ok (.iload_n 3, 1) := dk_29 (dk_at dksX0_cost_0 12 rfl rfl)
theorem dX0_cost_13 : decode cX0_cost 13 = .ok (.invokevirtual 234, 3) := dk_182 0 234 (dk_at dksX0_cost_0 13 rfl rfl)
theorem dX0_cost_16 : decode cX0_cost 16 = .ok (.ifCond .eq 20, 3) := dk_153 0 20 (dk_at dksX0_cost_0 16 rfl rfl)
theorem dX0_cost_19 : decode cX0_cost 19 = .ok (.aload_n 0, 1) := dk_42 (dk_at dksX0_cost_0 19 rfl rfl)
theorem dX0_cost_20 : decode cX0_cost 20 = .ok (.getfield 20, 3) := dk_180 0 20 (dk_at dksX0_cost_0 20 rfl rfl)
theorem dX0_cost_23 : decode cX0_cost 23 = .ok (.getfield 49, 3) := dk_180 0 49 (dk_at dksX0_cost_1 0 rfl rfl)
theorem dX0_cost_26 : decode cX0_cost 26 = .ok (.iload_n 1, 1) := dk_27 (dk_at dksX0_cost_1 3 rfl rfl)
theorem dX0_cost_27 : decode cX0_cost 27 = .ok (.aaload, 1) := dk_50 (dk_at dksX0_cost_1 4 rfl rfl)
theorem dX0_cost_28 : decode cX0_cost 28 = .ok (.iload_n 2, 1) := dk_28 (dk_at dksX0_cost_1 5 rfl rfl)
theorem dX0_cost_29 : decode cX0_cost 29 = .ok (.iload_n 3, 1) := dk_29 (dk_at dksX0_cost_1 6 rfl rfl)
theorem dX0_cost_30 : decode cX0_cost 30 = .ok (.invokevirtual 246, 3) := dk_182 0 246 (dk_at dksX0_cost_1 7 rfl rfl)
theorem dX0_cost_33 : decode cX0_cost 33 = .ok (.goto 10, 3) := dk_167 0 10 (dk_at dksX0_cost_1 10 rfl rfl)
theorem dX0_cost_36 : decode cX0_cost 36 = .ok (.aload_n 0, 1) := dk_42 (dk_at dksX0_cost_1 13 rfl rfl)
theorem dX0_cost_37 : decode cX0_cost 37 = .ok (.bipush (-2), 2) := dk_16 254 (dk_at dksX0_cost_1 14 rfl rfl)
theorem dX0_cost_39 : decode cX0_cost 39 = .ok (.invokevirtual 81, 3) := dk_182 0 81 (dk_at dksX0_cost_1 16 rfl rfl)
theorem dX0_cost_42 : decode cX0_cost 42 = .ok (.i2l, 1) := dk_133 (dk_at dksX0_cost_1 19 rfl rfl)
theorem dX0_cost_43 : decode cX0_cost 43 = .ok (.lreturn, 1) := dk_173 (dk_at dksX0_cost_1 20 rfl rfl)
abbrev cX0_isOf : ByteArray := prog_1_method_2_code
def yX0_isOf : MethodName := ⟨RX0, "isOf", "(II)Z"⟩
def dkwX0_isOf_1 : List UInt8 := [132, 2, 1, 167, 255, 233, 4, 172]
abbrev dktX0_isOf_1 : List UInt8 := dkwX0_isOf_1 ++ []
def dkwX0_isOf_0 : List UInt8 := [3, 61, 28, 6, 162, 0, 24, 26, 28, 184, 0, 7, 27, 28, 184, 0, 7, 164, 0, 5, 3, 172]
abbrev dktX0_isOf_0 : List UInt8 := dkwX0_isOf_0 ++ dktX0_isOf_1
theorem dksX0_isOf_0 : cX0_isOf.data.toList.drop 0 = dktX0_isOf_0 := by decide +kernel
theorem dksX0_isOf_1 : cX0_isOf.data.toList.drop 22 = dktX0_isOf_1 := dk_seg dksX0_isOf_0 22 rfl rfl
theorem dX0_isOf_0 : decode cX0_isOf 0 = .ok (.iconst 0, 1) := dk_3 (dk_at dksX0_isOf_0 0 rfl rfl)
theorem dX0_isOf_1 : decode cX0_isOf 1 = .ok (.istore_n 2, 1) := dk_61 (dk_at dksX0_isOf_0 1 rfl rfl)
theorem dX0_isOf_2 : decode cX0_isOf 2 = .ok (.iload_n 2, 1) := dk_28 (dk_at dksX0_isOf_0 2 rfl rfl)
theorem dX0_isOf_3 : decode cX0_isOf 3 = .ok (.iconst 3, 1) := dk_6 (dk_at dksX0_isOf_0 3 rfl rfl)
theorem dX0_isOf_4 : decode cX0_isOf 4 = .ok (.if_icmp .ge 24, 3) := dk_162 0 24 (dk_at dksX0_isOf_0 4 rfl rfl)
theorem dX0_isOf_7 : decode cX0_isOf 7 = .ok (.iload_n 0, 1) := dk_26 (dk_at dksX0_isOf_0 7 rfl rfl)
theorem dX0_isOf_8 : decode cX0_isOf 8 = .ok (.iload_n 2, 1) := dk_28 (dk_at dksX0_isOf_0 8 rfl rfl)
theorem dX0_isOf_9 : decode cX0_isOf 9 = .ok (.invokestatic 7, 3) := dk_184 0 7 (dk_at dksX0_isOf_0 9 rfl rfl)
theorem dX0_isOf_12 : decode cX0_isOf 12 = .ok (.iload_n 1, 1) := dk_27 (dk_at dksX0_isOf_0 12 rfl rfl)
theorem dX0_isOf_13 : decode cX0_isOf 13 = .ok (.iload_n 2, 1) := dk_28 (dk_at dksX0_isOf_0 13 rfl rfl)
theorem dX0_isOf_14 : decode cX0_isOf 14 = .ok (.invokestatic 7, 3) := dk_184 0 7 (dk_at dksX0_isOf_0 14 rfl rfl)
theorem dX0_isOf_17 : decode cX0_isOf 17 = .ok (.if_icmp .le 5, 3) := dk_164 0 5 (dk_at dksX0_isOf_0 17 rfl rfl)
theorem dX0_isOf_20 : decode cX0_isOf 20 = .ok (.iconst 0, 1) := dk_3 (dk_at dksX0_isOf_0 20 rfl rfl)
theorem dX0_isOf_21 : decode cX0_isOf 21 = .ok (.ireturn, 1) := dk_172 (dk_at dksX0_isOf_0 21 rfl rfl)
theorem dX0_isOf_22 : decode cX0_isOf 22 = .ok (.iinc 2 1, 3) := dk_132 2 1 (dk_at dksX0_isOf_1 0 rfl rfl)
theorem dX0_isOf_25 : decode cX0_isOf 25 = .ok (.goto (-23), 3) := dk_167 255 233 (dk_at dksX0_isOf_1 3 rfl rfl)
theorem dX0_isOf_28 : decode cX0_isOf 28 = .ok (.iconst 1, 1) := dk_4 (dk_at dksX0_isOf_1 6 rfl rfl)
theorem dX0_isOf_29 : decode cX0_isOf 29 = .ok (.ireturn, 1) := dk_172 (dk_at dksX0_isOf_1 7 rfl rfl)
abbrev cX0_best : ByteArray := prog_1_method_40_code
def yX0_best : MethodName := ⟨RX0, "best", "(III)I"⟩
def dkwX0_best_1 : List UInt8 := [180, 0, 49, 27, 50, 28, 29, 182, 0, 250, 167, 0, 9, 42, 16, 254, 182, 0, 81, 172]
abbrev dktX0_best_1 : List UInt8 := dkwX0_best_1 ++ []
def dkwX0_best_0 : List UInt8 := [42, 27, 4, 28, 182, 0, 239, 153, 0, 29, 42, 27, 29, 182, 0, 234, 153, 0, 20, 42, 180, 0, 20]
abbrev dktX0_best_0 : List UInt8 := dkwX0_best_0 ++ dktX0_best_1
theorem dksX0_best_0 : cX0_best.data.toList.drop 0 = dktX0_best_0 := by decide +kernel
theorem dksX0_best_1 : cX0_best.data.toList.drop 23 = dktX0_best_1 := dk_seg dksX0_best_0 23 rfl rfl
theorem dX0_best_0 : decode cX0_best 0 = .ok (.aload_n 0, 1) := dk_42 (dk_at dksX0_best_0 0 rfl rfl)
theorem dX0_best_1 : decode cX0_best 1 = .ok (.iload_n 1, 1) := dk_27 (dk_at dksX0_best_0 1 rfl rfl)
theorem dX0_best_2 : decode cX0_best 2 = .ok (.iconst 1, 1) := dk_4 (dk_at dksX0_best_0 2 rfl rfl)
theorem dX0_best_3 : decode cX0_best 3 = .ok (.iload_n 2, 1) := dk_28 (dk_at dksX0_best_0 3 rfl rfl)
theorem dX0_best_4 : decode cX0_best 4 = .ok (.invokevirtual 239, 3) := dk_182 0 239 (dk_at dksX0_best_0 4 rfl rfl)
theorem dX0_best_7 : decode cX0_best 7 = .ok (.ifCond .eq 29, 3) := dk_153 0 29 (dk_at dksX0_best_0 7 rfl rfl)
theorem dX0_best_10 : decode cX0_best 10 = .ok (.aload_n 0, 1) := dk_42 (dk_at dksX0_best_0 10 rfl rfl)
theorem dX0_best_11 : decode cX0_best 11 = .ok (.iload_n 1, 1) := dk_27 (dk_at dksX0_best_0 11 rfl rfl)
theorem dX0_best_12 : decode cX0_best 12 = .ok (.iload_n 3, 1) := dk_29 (dk_at dksX0_best_0 12 rfl rfl)
theorem dX0_best_13 : decode cX0_best 13 = .ok (.invokevirtual 234, 3) := dk_182 0 234 (dk_at dksX0_best_0 13 rfl rfl)
theorem dX0_best_16 : decode cX0_best 16 = .ok (.ifCond .eq 20, 3) := dk_153 0 20 (dk_at dksX0_best_0 16 rfl rfl)
theorem dX0_best_19 : decode cX0_best 19 = .ok (.aload_n 0, 1) := dk_42 (dk_at dksX0_best_0 19 rfl rfl)
theorem dX0_best_20 : decode cX0_best 20 = .ok (.getfield 20, 3) := dk_180 0 20 (dk_at dksX0_best_0 20 rfl rfl)
theorem dX0_best_23 : decode cX0_best 23 = .ok (.getfield 49, 3) := dk_180 0 49 (dk_at dksX0_best_1 0 rfl rfl)
theorem dX0_best_26 : decode cX0_best 26 = .ok (.iload_n 1, 1) := dk_27 (dk_at dksX0_best_1 3 rfl rfl)
theorem dX0_best_27 : decode cX0_best 27 = .ok (.aaload, 1) := dk_50 (dk_at dksX0_best_1 4 rfl rfl)
theorem dX0_best_28 : decode cX0_best 28 = .ok (.iload_n 2, 1) := dk_28 (dk_at dksX0_best_1 5 rfl rfl)
theorem dX0_best_29 : decode cX0_best 29 = .ok (.iload_n 3, 1) := dk_29 (dk_at dksX0_best_1 6 rfl rfl)
theorem dX0_best_30 : decode cX0_best 30 = .ok (.invokevirtual 250, 3) := dk_182 0 250 (dk_at dksX0_best_1 7 rfl rfl)
theorem dX0_best_33 : decode cX0_best 33 = .ok (.goto 9, 3) := dk_167 0 9 (dk_at dksX0_best_1 10 rfl rfl)
theorem dX0_best_36 : decode cX0_best 36 = .ok (.aload_n 0, 1) := dk_42 (dk_at dksX0_best_1 13 rfl rfl)
theorem dX0_best_37 : decode cX0_best 37 = .ok (.bipush (-2), 2) := dk_16 254 (dk_at dksX0_best_1 14 rfl rfl)
theorem dX0_best_39 : decode cX0_best 39 = .ok (.invokevirtual 81, 3) := dk_182 0 81 (dk_at dksX0_best_1 16 rfl rfl)
theorem dX0_best_42 : decode cX0_best 42 = .ok (.ireturn, 1) := dk_172 (dk_at dksX0_best_1 19 rfl rfl)
abbrev cX0_fill : ByteArray := prog_1_method_41_code
def yX0_fill : MethodName := ⟨RX0, "fill", "(II)I"⟩
def dkwX0_fill_1 : List UInt8 := [167, 0, 9, 42, 16, 254, 182, 0, 81, 172]
abbrev dktX0_fill_1 : List UInt8 := dkwX0_fill_1 ++ []
def dkwX0_fill_0 : List UInt8 := [42, 27, 28, 182, 0, 234, 153, 0, 19, 42, 180, 0, 20, 180, 0, 49, 27, 50, 28, 182, 0, 253]
abbrev dktX0_fill_0 : List UInt8 := dkwX0_fill_0 ++ dktX0_fill_1
theorem dksX0_fill_0 : cX0_fill.data.toList.drop 0 = dktX0_fill_0 := by decide +kernel
theorem dksX0_fill_1 : cX0_fill.data.toList.drop 22 = dktX0_fill_1 := dk_seg dksX0_fill_0 22 rfl rfl
theorem dX0_fill_0 : decode cX0_fill 0 = .ok (.aload_n 0, 1) := dk_42 (dk_at dksX0_fill_0 0 rfl rfl)
theorem dX0_fill_1 : decode cX0_fill 1 = .ok (.iload_n 1, 1) := dk_27 (dk_at dksX0_fill_0 1 rfl rfl)
theorem dX0_fill_2 : decode cX0_fill 2 = .ok (.iload_n 2, 1) := dk_28 (dk_at dksX0_fill_0 2 rfl rfl)
theorem dX0_fill_3 : decode cX0_fill 3 = .ok (.invokevirtual 234, 3) := dk_182 0 234 (dk_at dksX0_fill_0 3 rfl rfl)
theorem dX0_fill_6 : decode cX0_fill 6 = .ok (.ifCond .eq 19, 3) := dk_153 0 19 (dk_at dksX0_fill_0 6 rfl rfl)
theorem dX0_fill_9 : decode cX0_fill 9 = .ok (.aload_n 0, 1) := dk_42 (dk_at dksX0_fill_0 9 rfl rfl)
theorem dX0_fill_10 : decode cX0_fill 10 = .ok (.getfield 20, 3) := dk_180 0 20 (dk_at dksX0_fill_0 10 rfl rfl)
theorem dX0_fill_13 : decode cX0_fill 13 = .ok (.getfield 49, 3) := dk_180 0 49 (dk_at dksX0_fill_0 13 rfl rfl)
theorem dX0_fill_16 : decode cX0_fill 16 = .ok (.iload_n 1, 1) := dk_27 (dk_at dksX0_fill_0 16 rfl rfl)
theorem dX0_fill_17 : decode cX0_fill 17 = .ok (.aaload, 1) := dk_50 (dk_at dksX0_fill_0 17 rfl rfl)
theorem dX0_fill_18 : decode cX0_fill 18 = .ok (.iload_n 2, 1) := dk_28 (dk_at dksX0_fill_0 18 rfl rfl)
theorem dX0_fill_19 : decode cX0_fill 19 = .ok (.invokevirtual 253, 3) := dk_182 0 253 (dk_at dksX0_fill_0 19 rfl rfl)
theorem dX0_fill_22 : decode cX0_fill 22 = .ok (.goto 9, 3) := dk_167 0 9 (dk_at dksX0_fill_1 0 rfl rfl)
theorem dX0_fill_25 : decode cX0_fill 25 = .ok (.aload_n 0, 1) := dk_42 (dk_at dksX0_fill_1 3 rfl rfl)
theorem dX0_fill_26 : decode cX0_fill 26 = .ok (.bipush (-2), 2) := dk_16 254 (dk_at dksX0_fill_1 4 rfl rfl)
theorem dX0_fill_28 : decode cX0_fill 28 = .ok (.invokevirtual 81, 3) := dk_182 0 81 (dk_at dksX0_fill_1 6 rfl rfl)
theorem dX0_fill_31 : decode cX0_fill 31 = .ok (.ireturn, 1) := dk_172 (dk_at dksX0_fill_1 9 rfl rfl)
abbrev cX0_load : ByteArray := prog_1_method_42_code
def yX0_load : MethodName := ⟨RX0, "load", "(IIII)I"⟩
def dkwX0_load_2 : List UInt8 := [50, 29, 28, 182, 1, 0, 172, 58, 5, 42, 25, 5, 180, 0, 110, 182, 0, 81, 172]
abbrev dktX0_load_2 : List UInt8 := dkwX0_load_2 ++ []
def dkwX0_load_1 : List UInt8 := [154, 0, 10, 42, 16, 254, 182, 0, 81, 172, 42, 21, 4, 182, 0, 175, 42, 180, 0, 20, 180, 0, 49, 27]
abbrev dktX0_load_1 : List UInt8 := dkwX0_load_1 ++ dktX0_load_2
def dkwX0_load_0 : List UInt8 := [42, 27, 4, 28, 182, 0, 239, 153, 0, 20, 42, 27, 29, 182, 0, 234, 153, 0, 11, 21, 4, 184, 0, 78]
abbrev dktX0_load_0 : List UInt8 := dkwX0_load_0 ++ dktX0_load_1
theorem dksX0_load_0 : cX0_load.data.toList.drop 0 = dktX0_load_0 := by decide +kernel
theorem dksX0_load_1 : cX0_load.data.toList.drop 24 = dktX0_load_1 := dk_seg dksX0_load_0 24 rfl rfl
theorem dksX0_load_2 : cX0_load.data.toList.drop 48 = dktX0_load_2 := dk_seg dksX0_load_1 24 rfl rfl
theorem dX0_load_0 : decode cX0_load 0 = .ok (.aload_n 0, 1) := dk_42 (dk_at dksX0_load_0 0 rfl rfl)
theorem dX0_load_1 : decode cX0_load 1 = .ok (.iload_n 1, 1) := dk_27 (dk_at dksX0_load_0 1 rfl rfl)
theorem dX0_load_2 : decode cX0_load 2 = .ok (.iconst 1, 1) := dk_4 (dk_at dksX0_load_0 2 rfl rfl)
theorem dX0_load_3 : decode cX0_load 3 = .ok (.iload_n 2, 1) := dk_28 (dk_at dksX0_load_0 3 rfl rfl)
theorem dX0_load_4 : decode cX0_load 4 = .ok (.invokevirtual 239, 3) := dk_182 0 239 (dk_at dksX0_load_0 4 rfl rfl)
theorem dX0_load_7 : decode cX0_load 7 = .ok (.ifCond .eq 20, 3) := dk_153 0 20 (dk_at dksX0_load_0 7 rfl rfl)
theorem dX0_load_10 : decode cX0_load 10 = .ok (.aload_n 0, 1) := dk_42 (dk_at dksX0_load_0 10 rfl rfl)
theorem dX0_load_11 : decode cX0_load 11 = .ok (.iload_n 1, 1) := dk_27 (dk_at dksX0_load_0 11 rfl rfl)
theorem dX0_load_12 : decode cX0_load 12 = .ok (.iload_n 3, 1) := dk_29 (dk_at dksX0_load_0 12 rfl rfl)
theorem dX0_load_13 : decode cX0_load 13 = .ok (.invokevirtual 234, 3) := dk_182 0 234 (dk_at dksX0_load_0 13 rfl rfl)
theorem dX0_load_16 : decode cX0_load 16 = .ok (.ifCond .eq 11, 3) := dk_153 0 11 (dk_at dksX0_load_0 16 rfl rfl)
theorem dX0_load_19 : decode cX0_load 19 = .ok (.iload 4, 2) := dk_21 4 (dk_at dksX0_load_0 19 rfl rfl)
theorem dX0_load_21 : decode cX0_load 21 = .ok (.invokestatic 78, 3) := dk_184 0 78 (dk_at dksX0_load_0 21 rfl rfl)
theorem dX0_load_24 : decode cX0_load 24 = .ok (.ifCond .ne 10, 3) := dk_154 0 10 (dk_at dksX0_load_1 0 rfl rfl)
theorem dX0_load_27 : decode cX0_load 27 = .ok (.aload_n 0, 1) := dk_42 (dk_at dksX0_load_1 3 rfl rfl)
theorem dX0_load_28 : decode cX0_load 28 = .ok (.bipush (-2), 2) := dk_16 254 (dk_at dksX0_load_1 4 rfl rfl)
theorem dX0_load_30 : decode cX0_load 30 = .ok (.invokevirtual 81, 3) := dk_182 0 81 (dk_at dksX0_load_1 6 rfl rfl)
theorem dX0_load_33 : decode cX0_load 33 = .ok (.ireturn, 1) := dk_172 (dk_at dksX0_load_1 9 rfl rfl)
theorem dX0_load_34 : decode cX0_load 34 = .ok (.aload_n 0, 1) := dk_42 (dk_at dksX0_load_1 10 rfl rfl)
theorem dX0_load_35 : decode cX0_load 35 = .ok (.iload 4, 2) := dk_21 4 (dk_at dksX0_load_1 11 rfl rfl)
theorem dX0_load_37 : decode cX0_load 37 = .ok (.invokevirtual 175, 3) := dk_182 0 175 (dk_at dksX0_load_1 13 rfl rfl)
theorem dX0_load_40 : decode cX0_load 40 = .ok (.aload_n 0, 1) := dk_42 (dk_at dksX0_load_1 16 rfl rfl)
theorem dX0_load_41 : decode cX0_load 41 = .ok (.getfield 20, 3) := dk_180 0 20 (dk_at dksX0_load_1 17 rfl rfl)
theorem dX0_load_44 : decode cX0_load 44 = .ok (.getfield 49, 3) := dk_180 0 49 (dk_at dksX0_load_1 20 rfl rfl)
theorem dX0_load_47 : decode cX0_load 47 = .ok (.iload_n 1, 1) := dk_27 (dk_at dksX0_load_1 23 rfl rfl)
theorem dX0_load_48 : decode cX0_load 48 = .ok (.aaload, 1) := dk_50 (dk_at dksX0_load_2 0 rfl rfl)
theorem dX0_load_49 : decode cX0_load 49 = .ok (.iload_n 3, 1) := dk_29 (dk_at dksX0_load_2 1 rfl rfl)
theorem dX0_load_50 : decode cX0_load 50 = .ok (.iload_n 2, 1) := dk_28 (dk_at dksX0_load_2 2 rfl rfl)
theorem dX0_load_51 : decode cX0_load 51 = .ok (.invokevirtual 256, 3) := dk_182 1 0 (dk_at dksX0_load_2 3 rfl rfl)
theorem dX0_load_54 : decode cX0_load 54 = .ok (.ireturn, 1) := dk_172 (dk_at dksX0_load_2 6 rfl rfl)
theorem dX0_load_55 : decode cX0_load 55 = .ok (.astore 5, 2) := dk_58 5 (dk_at dksX0_load_2 7 rfl rfl)
theorem dX0_load_57 : decode cX0_load 57 = .ok (.aload_n 0, 1) := dk_42 (dk_at dksX0_load_2 9 rfl rfl)
theorem dX0_load_58 : decode cX0_load 58 = .ok (.aload 5, 2) := dk_25 5 (dk_at dksX0_load_2 10 rfl rfl)
theorem dX0_load_60 : decode cX0_load 60 = .ok (.getfield 110, 3) := dk_180 0 110 (dk_at dksX0_load_2 12 rfl rfl)
theorem dX0_load_63 : decode cX0_load 63 = .ok (.invokevirtual 81, 3) := dk_182 0 81 (dk_at dksX0_load_2 15 rfl rfl)
theorem dX0_load_66 : decode cX0_load 66 = .ok (.ireturn, 1) := dk_172 (dk_at dksX0_load_2 18 rfl rfl)
abbrev cX0_mean : ByteArray := prog_1_method_44_code
def yX0_mean : MethodName := ⟨RX0, "mean", "(IIII)J"⟩
def dkwX0_mean_0 : List UInt8 := [42, 27, 28, 29, 21, 4, 182, 1, 8, 173, 58, 5, 42, 25, 5, 180, 0, 110, 182, 0, 81, 133, 173]
abbrev dktX0_mean_0 : List UInt8 := dkwX0_mean_0 ++ []
theorem dksX0_mean_0 : cX0_mean.data.toList.drop 0 = dktX0_mean_0 := by decide +kernel
theorem dX0_mean_0 : decode cX0_mean 0 = .ok (.aload_n 0, 1) := dk_42 (dk_at dksX0_mean_0 0 rfl rfl)
theorem dX0_mean_1 : decode cX0_mean 1 = .ok (.iload_n 1, 1) := dk_27 (dk_at dksX0_mean_0 1 rfl rfl)
theorem dX0_mean_2 : decode cX0_mean 2 = .ok (.iload_n 2, 1) := dk_28 (dk_at dksX0_mean_0 2 rfl rfl)
theorem dX0_mean_3 : decode cX0_mean 3 = .ok (.iload_n 3, 1) := dk_29 (dk_at dksX0_mean_0 3 rfl rfl)
theorem dX0_mean_4 : decode cX0_mean 4 = .ok (.iload 4, 2) := dk_21 4 (dk_at dksX0_mean_0 4 rfl rfl)
theorem dX0_mean_6 : decode cX0_mean 6 = .ok (.invokevirtual 264, 3) := dk_182 1 8 (dk_at dksX0_mean_0 6 rfl rfl)
theorem dX0_mean_9 : decode cX0_mean 9 = .ok (.lreturn, 1) := dk_173 (dk_at dksX0_mean_0 9 rfl rfl)
theorem dX0_mean_10 : decode cX0_mean 10 = .ok (.astore 5, 2) := dk_58 5 (dk_at dksX0_mean_0 10 rfl rfl)
theorem dX0_mean_12 : decode cX0_mean 12 = .ok (.aload_n 0, 1) := dk_42 (dk_at dksX0_mean_0 12 rfl rfl)
theorem dX0_mean_13 : decode cX0_mean 13 = .ok (.aload 5, 2) := dk_25 5 (dk_at dksX0_mean_0 13 rfl rfl)
theorem dX0_mean_15 : decode cX0_mean 15 = .ok (.getfield 110, 3) := dk_180 0 110 (dk_at dksX0_mean_0 15 rfl rfl)
theorem dX0_mean_18 : decode cX0_mean 18 = .ok (.invokevirtual 81, 3) := dk_182 0 81 (dk_at dksX0_mean_0 18 rfl rfl)
theorem dX0_mean_21 : decode cX0_mean 21 = .ok (.i2l, 1) := dk_133 (dk_at dksX0_mean_0 21 rfl rfl)
theorem dX0_mean_22 : decode cX0_mean 22 = .ok (.lreturn, 1) := dk_173 (dk_at dksX0_mean_0 22 rfl rfl)
abbrev cX0_meanBy : ByteArray := prog_1_method_43_code
def yX0_meanBy : MethodName := ⟨RX0, "meanBy", "(IIII)J"⟩
def dkwX0_meanBy_2 : List UInt8 := [21, 4, 182, 0, 175, 28, 29, 182, 1, 4, 173]
abbrev dktX0_meanBy_2 : List UInt8 := dkwX0_meanBy_2 ++ []
def dkwX0_meanBy_1 : List UInt8 := [154, 0, 13, 187, 0, 97, 89, 16, 254, 183, 0, 99, 191, 42, 180, 0, 20, 180, 0, 49, 27, 50, 42]
abbrev dktX0_meanBy_1 : List UInt8 := dkwX0_meanBy_1 ++ dktX0_meanBy_2
def dkwX0_meanBy_0 : List UInt8 := [42, 27, 3, 28, 182, 0, 239, 153, 0, 20, 42, 27, 29, 182, 0, 234, 153, 0, 11, 21, 4, 184, 0, 78]
abbrev dktX0_meanBy_0 : List UInt8 := dkwX0_meanBy_0 ++ dktX0_meanBy_1
theorem dksX0_meanBy_0 : cX0_meanBy.data.toList.drop 0 = dktX0_meanBy_0 := by decide +kernel
theorem dksX0_meanBy_1 : cX0_meanBy.data.toList.drop 24 = dktX0_meanBy_1 := dk_seg dksX0_meanBy_0 24 rfl rfl
theorem dksX0_meanBy_2 : cX0_meanBy.data.toList.drop 47 = dktX0_meanBy_2 := dk_seg dksX0_meanBy_1 23 rfl rfl
theorem dX0_meanBy_0 : decode cX0_meanBy 0 = .ok (.aload_n 0, 1) := dk_42 (dk_at dksX0_meanBy_0 0 rfl rfl)
theorem dX0_meanBy_1 : decode cX0_meanBy 1 = .ok (.iload_n 1, 1) := dk_27 (dk_at dksX0_meanBy_0 1 rfl rfl)
theorem dX0_meanBy_2 : decode cX0_meanBy 2 = .ok (.iconst 0, 1) := dk_3 (dk_at dksX0_meanBy_0 2 rfl rfl)
theorem dX0_meanBy_3 : decode cX0_meanBy 3 = .ok (.iload_n 2, 1) := dk_28 (dk_at dksX0_meanBy_0 3 rfl rfl)
theorem dX0_meanBy_4 : decode cX0_meanBy 4 = .ok (.invokevirtual 239, 3) := dk_182 0 239 (dk_at dksX0_meanBy_0 4 rfl rfl)
theorem dX0_meanBy_7 : decode cX0_meanBy 7 = .ok (.ifCond .eq 20, 3) := dk_153 0 20 (dk_at dksX0_meanBy_0 7 rfl rfl)
theorem dX0_meanBy_10 : decode cX0_meanBy 10 = .ok (.aload_n 0, 1) := dk_42 (dk_at dksX0_meanBy_0 10 rfl rfl)
theorem dX0_meanBy_11 : decode cX0_meanBy 11 = .ok (.iload_n 1, 1) := dk_27 (dk_at dksX0_meanBy_0 11 rfl rfl)
theorem dX0_meanBy_12 : decode cX0_meanBy 12 = .ok (.iload_n 3, 1) := dk_29 (dk_at dksX0_meanBy_0 12 rfl rfl)
theorem dX0_meanBy_13 : decode cX0_meanBy 13 = .ok (.invokevirtual 234, 3) := dk_182 0 234 (dk_at dksX0_meanBy_0 13 rfl rfl)
theorem dX0_meanBy_16 : decode cX0_meanBy 16 = .ok (.ifCond .eq 11, 3) := dk_153 0 11 (dk_at dksX0_meanBy_0 16 rfl rfl)
theorem dX0_meanBy_19 : decode cX0_meanBy 19 = .ok (.iload 4, 2) := dk_21 4 (dk_at dksX0_meanBy_0 19 rfl rfl)
theorem dX0_meanBy_21 : decode cX0_meanBy 21 = .ok (.invokestatic 78, 3) := dk_184 0 78 (dk_at dksX0_meanBy_0 21 rfl rfl)
theorem dX0_meanBy_24 : decode cX0_meanBy 24 = .ok (.ifCond .ne 13, 3) := dk_154 0 13 (dk_at dksX0_meanBy_1 0 rfl rfl)
theorem dX0_meanBy_27 : decode cX0_meanBy 27 = .ok (.new 97, 3) := dk_187 0 97 (dk_at dksX0_meanBy_1 3 rfl rfl)
theorem dX0_meanBy_30 : decode cX0_meanBy 30 = .ok (.dup, 1) := dk_89 (dk_at dksX0_meanBy_1 6 rfl rfl)
theorem dX0_meanBy_31 : decode cX0_meanBy 31 = .ok (.bipush (-2), 2) := dk_16 254 (dk_at dksX0_meanBy_1 7 rfl rfl)
theorem dX0_meanBy_33 : decode cX0_meanBy 33 = .ok (.invokespecial 99, 3) := dk_183 0 99 (dk_at dksX0_meanBy_1 9 rfl rfl)
theorem dX0_meanBy_36 : decode cX0_meanBy 36 = .ok (.athrow, 1) := dk_191 (dk_at dksX0_meanBy_1 12 rfl rfl)
theorem dX0_meanBy_37 : decode cX0_meanBy 37 = .ok (.aload_n 0, 1) := dk_42 (dk_at dksX0_meanBy_1 13 rfl rfl)
theorem dX0_meanBy_38 : decode cX0_meanBy 38 = .ok (.getfield 20, 3) := dk_180 0 20 (dk_at dksX0_meanBy_1 14 rfl rfl)
theorem dX0_meanBy_41 : decode cX0_meanBy 41 = .ok (.getfield 49, 3) := dk_180 0 49 (dk_at dksX0_meanBy_1 17 rfl rfl)
theorem dX0_meanBy_44 : decode cX0_meanBy 44 = .ok (.iload_n 1, 1) := dk_27 (dk_at dksX0_meanBy_1 20 rfl rfl)
theorem dX0_meanBy_45 : decode cX0_meanBy 45 = .ok (.aaload, 1) := dk_50 (dk_at dksX0_meanBy_1 21 rfl rfl)
theorem dX0_meanBy_46 : decode cX0_meanBy 46 = .ok (.aload_n 0, 1) := dk_42 (dk_at dksX0_meanBy_1 22 rfl rfl)
theorem dX0_meanBy_47 : decode cX0_meanBy 47 = .ok (.iload 4, 2) := dk_21 4 (dk_at dksX0_meanBy_2 0 rfl rfl)
theorem dX0_meanBy_49 : decode cX0_meanBy 49 = .ok (.invokevirtual 175, 3) := dk_182 0 175 (dk_at dksX0_meanBy_2 2 rfl rfl)
theorem dX0_meanBy_52 : decode cX0_meanBy 52 = .ok (.iload_n 2, 1) := dk_28 (dk_at dksX0_meanBy_2 5 rfl rfl)
theorem dX0_meanBy_53 : decode cX0_meanBy 53 = .ok (.iload_n 3, 1) := dk_29 (dk_at dksX0_meanBy_2 6 rfl rfl)
theorem dX0_meanBy_54 : decode cX0_meanBy 54 = .ok (.invokevirtual 260, 3) := dk_182 1 4 (dk_at dksX0_meanBy_2 7 rfl rfl)
theorem dX0_meanBy_57 : decode cX0_meanBy 57 = .ok (.lreturn, 1) := dk_173 (dk_at dksX0_meanBy_2 10 rfl rfl)
abbrev cX0_lose : ByteArray := prog_1_method_45_code
def yX0_lose : MethodName := ⟨RX0, "lose", "(IIII)J"⟩
def dkwX0_lose_1 : List UInt8 := [173, 58, 5, 42, 25, 5, 180, 0, 110, 182, 0, 81, 133, 173]
abbrev dktX0_lose_1 : List UInt8 := dkwX0_lose_1 ++ []
def dkwX0_lose_0 : List UInt8 := [42, 27, 28, 29, 21, 4, 182, 1, 8, 42, 180, 0, 20, 180, 0, 49, 27, 50, 28, 29, 182, 0, 246, 101]
abbrev dktX0_lose_0 : List UInt8 := dkwX0_lose_0 ++ dktX0_lose_1
theorem dksX0_lose_0 : cX0_lose.data.toList.drop 0 = dktX0_lose_0 := by decide +kernel
theorem dksX0_lose_1 : cX0_lose.data.toList.drop 24 = dktX0_lose_1 := dk_seg dksX0_lose_0 24 rfl rfl
theorem dX0_lose_0 : decode cX0_lose 0 = .ok (.aload_n 0, 1) := dk_42 (dk_at dksX0_lose_0 0 rfl rfl)
theorem dX0_lose_1 : decode cX0_lose 1 = .ok (.iload_n 1, 1) := dk_27 (dk_at dksX0_lose_0 1 rfl rfl)
theorem dX0_lose_2 : decode cX0_lose 2 = .ok (.iload_n 2, 1) := dk_28 (dk_at dksX0_lose_0 2 rfl rfl)
theorem dX0_lose_3 : decode cX0_lose 3 = .ok (.iload_n 3, 1) := dk_29 (dk_at dksX0_lose_0 3 rfl rfl)
theorem dX0_lose_4 : decode cX0_lose 4 = .ok (.iload 4, 2) := dk_21 4 (dk_at dksX0_lose_0 4 rfl rfl)
theorem dX0_lose_6 : decode cX0_lose 6 = .ok (.invokevirtual 264, 3) := dk_182 1 8 (dk_at dksX0_lose_0 6 rfl rfl)
theorem dX0_lose_9 : decode cX0_lose 9 = .ok (.aload_n 0, 1) := dk_42 (dk_at dksX0_lose_0 9 rfl rfl)
theorem dX0_lose_10 : decode cX0_lose 10 = .ok (.getfield 20, 3) := dk_180 0 20 (dk_at dksX0_lose_0 10 rfl rfl)
theorem dX0_lose_13 : decode cX0_lose 13 = .ok (.getfield 49, 3) := dk_180 0 49 (dk_at dksX0_lose_0 13 rfl rfl)
theorem dX0_lose_16 : decode cX0_lose 16 = .ok (.iload_n 1, 1) := dk_27 (dk_at dksX0_lose_0 16 rfl rfl)
theorem dX0_lose_17 : decode cX0_lose 17 = .ok (.aaload, 1) := dk_50 (dk_at dksX0_lose_0 17 rfl rfl)
theorem dX0_lose_18 : decode cX0_lose 18 = .ok (.iload_n 2, 1) := dk_28 (dk_at dksX0_lose_0 18 rfl rfl)
theorem dX0_lose_19 : decode cX0_lose 19 = .ok (.iload_n 3, 1) := dk_29 (dk_at dksX0_lose_0 19 rfl rfl)
theorem dX0_lose_20 : decode cX0_lose 20 = .ok (.invokevirtual 246, 3) := dk_182 0 246 (dk_at dksX0_lose_0 20 rfl rfl)
theorem dX0_lose_23 : decode cX0_lose 23 = .ok (.lsub, 1) := dk_101 (dk_at dksX0_lose_0 23 rfl rfl)
theorem dX0_lose_24 : decode cX0_lose 24 = .ok (.lreturn, 1) := dk_173 (dk_at dksX0_lose_1 0 rfl rfl)
theorem dX0_lose_25 : decode cX0_lose 25 = .ok (.astore 5, 2) := dk_58 5 (dk_at dksX0_lose_1 1 rfl rfl)
theorem dX0_lose_27 : decode cX0_lose 27 = .ok (.aload_n 0, 1) := dk_42 (dk_at dksX0_lose_1 3 rfl rfl)
theorem dX0_lose_28 : decode cX0_lose 28 = .ok (.aload 5, 2) := dk_25 5 (dk_at dksX0_lose_1 4 rfl rfl)
theorem dX0_lose_30 : decode cX0_lose 30 = .ok (.getfield 110, 3) := dk_180 0 110 (dk_at dksX0_lose_1 6 rfl rfl)
theorem dX0_lose_33 : decode cX0_lose 33 = .ok (.invokevirtual 81, 3) := dk_182 0 81 (dk_at dksX0_lose_1 9 rfl rfl)
theorem dX0_lose_36 : decode cX0_lose 36 = .ok (.i2l, 1) := dk_133 (dk_at dksX0_lose_1 12 rfl rfl)
theorem dX0_lose_37 : decode cX0_lose 37 = .ok (.lreturn, 1) := dk_173 (dk_at dksX0_lose_1 13 rfl rfl)
abbrev cX0_boy : ByteArray := prog_1_method_46_code
def yX0_boy : MethodName := ⟨RX0, "boy", "(I)I"⟩
def dkwX0_boy_5 : List UInt8 := [182, 0, 81, 167, 0, 4, 29, 172]
abbrev dktX0_boy_5 : List UInt8 := dkwX0_boy_5 ++ []
def dkwX0_boy_4 : List UInt8 := [156, 0, 10, 22, 7, 55, 4, 21, 6, 62, 132, 6, 1, 167, 255, 183, 29, 2, 160, 0, 12, 42, 16, 251]
abbrev dktX0_boy_4 : List UInt8 := dkwX0_boy_4 ++ dktX0_boy_5
def dkwX0_boy_3 : List UInt8 := [192, 0, 95, 44, 180, 0, 62, 3, 182, 1, 4, 55, 7, 29, 2, 159, 0, 11, 22, 7, 22, 4, 148]
abbrev dktX0_boy_3 : List UInt8 := dkwX0_boy_3 ++ dktX0_boy_4
def dkwX0_boy_2 : List UInt8 := [180, 0, 89, 193, 0, 95, 154, 0, 6, 167, 0, 47, 44, 42, 180, 0, 26, 21, 6, 50, 180, 0, 89]
abbrev dktX0_boy_2 : List UInt8 := dkwX0_boy_2 ++ dktX0_boy_3
def dkwX0_boy_1 : List UInt8 := [77, 2, 62, 9, 55, 4, 3, 54, 6, 21, 6, 16, 8, 162, 0, 72, 42, 180, 0, 26, 21, 6, 50]
abbrev dktX0_boy_1 : List UInt8 := dkwX0_boy_1 ++ dktX0_boy_2
def dkwX0_boy_0 : List UInt8 := [42, 27, 182, 0, 45, 154, 0, 10, 42, 16, 254, 182, 0, 81, 172, 42, 180, 0, 20, 180, 0, 49, 27, 50]
abbrev dktX0_boy_0 : List UInt8 := dkwX0_boy_0 ++ dktX0_boy_1
theorem dksX0_boy_0 : cX0_boy.data.toList.drop 0 = dktX0_boy_0 := by decide +kernel
theorem dksX0_boy_1 : cX0_boy.data.toList.drop 24 = dktX0_boy_1 := dk_seg dksX0_boy_0 24 rfl rfl
theorem dksX0_boy_2 : cX0_boy.data.toList.drop 47 = dktX0_boy_2 := dk_seg dksX0_boy_1 23 rfl rfl
theorem dksX0_boy_3 : cX0_boy.data.toList.drop 70 = dktX0_boy_3 := dk_seg dksX0_boy_2 23 rfl rfl
theorem dksX0_boy_4 : cX0_boy.data.toList.drop 93 = dktX0_boy_4 := dk_seg dksX0_boy_3 23 rfl rfl
theorem dksX0_boy_5 : cX0_boy.data.toList.drop 117 = dktX0_boy_5 := dk_seg dksX0_boy_4 24 rfl rfl
theorem dX0_boy_0 : decode cX0_boy 0 = .ok (.aload_n 0, 1) := dk_42 (dk_at dksX0_boy_0 0 rfl rfl)
theorem dX0_boy_1 : decode cX0_boy 1 = .ok (.iload_n 1, 1) := dk_27 (dk_at dksX0_boy_0 1 rfl rfl)
theorem dX0_boy_2 : decode cX0_boy 2 = .ok (.invokevirtual 45, 3) := dk_182 0 45 (dk_at dksX0_boy_0 2 rfl rfl)
theorem dX0_boy_5 : decode cX0_boy 5 = .ok (.ifCond .ne 10, 3) := dk_154 0 10 (dk_at dksX0_boy_0 5 rfl rfl)
theorem dX0_boy_8 : decode cX0_boy 8 = .ok (.aload_n 0, 1) := dk_42 (dk_at dksX0_boy_0 8 rfl rfl)
theorem dX0_boy_9 : decode cX0_boy 9 = .ok (.bipush (-2), 2) := dk_16 254 (dk_at dksX0_boy_0 9 rfl rfl)
theorem dX0_boy_11 : decode cX0_boy 11 = .ok (.invokevirtual 81, 3) := dk_182 0 81 (dk_at dksX0_boy_0 11 rfl rfl)
theorem dX0_boy_14 : decode cX0_boy 14 = .ok (.ireturn, 1) := dk_172 (dk_at dksX0_boy_0 14 rfl rfl)
theorem dX0_boy_15 : decode cX0_boy 15 = .ok (.aload_n 0, 1) := dk_42 (dk_at dksX0_boy_0 15 rfl rfl)
theorem dX0_boy_16 : decode cX0_boy 16 = .ok (.getfield 20, 3) := dk_180 0 20 (dk_at dksX0_boy_0 16 rfl rfl)
theorem dX0_boy_19 : decode cX0_boy 19 = .ok (.getfield 49, 3) := dk_180 0 49 (dk_at dksX0_boy_0 19 rfl rfl)
theorem dX0_boy_22 : decode cX0_boy 22 = .ok (.iload_n 1, 1) := dk_27 (dk_at dksX0_boy_0 22 rfl rfl)
theorem dX0_boy_23 : decode cX0_boy 23 = .ok (.aaload, 1) := dk_50 (dk_at dksX0_boy_0 23 rfl rfl)
theorem dX0_boy_24 : decode cX0_boy 24 = .ok (.astore_n 2, 1) := dk_77 (dk_at dksX0_boy_1 0 rfl rfl)
theorem dX0_boy_25 : decode cX0_boy 25 = .ok (.iconst (-1), 1) := dk_2 (dk_at dksX0_boy_1 1 rfl rfl)
theorem dX0_boy_26 : decode cX0_boy 26 = .ok (.istore_n 3, 1) := dk_62 (dk_at dksX0_boy_1 2 rfl rfl)
theorem dX0_boy_27 : decode cX0_boy 27 = .ok (.lconst 0, 1) := dk_9 (dk_at dksX0_boy_1 3 rfl rfl)
theorem dX0_boy_28 : decode cX0_boy 28 = .ok (.lstore 4, 2) := dk_55 4 (dk_at dksX0_boy_1 4 rfl rfl)
theorem dX0_boy_30 : decode cX0_boy 30 = .ok (.iconst 0, 1) := dk_3 (dk_at dksX0_boy_1 6 rfl rfl)
theorem dX0_boy_31 : decode cX0_boy 31 = .ok (.istore 6, 2) := dk_54 6 (dk_at dksX0_boy_1 7 rfl rfl)
theorem dX0_boy_33 : decode cX0_boy 33 = .ok (.iload 6, 2) := dk_21 6 (dk_at dksX0_boy_1 9 rfl rfl)
theorem dX0_boy_35 : decode cX0_boy 35 = .ok (.bipush 8, 2) := dk_16 8 (dk_at dksX0_boy_1 11 rfl rfl)
theorem dX0_boy_37 : decode cX0_boy 37 = .ok (.if_icmp .ge 72, 3) := dk_162 0 72 (dk_at dksX0_boy_1 13 rfl rfl)
theorem dX0_boy_40 : decode cX0_boy 40 = .ok (.aload_n 0, 1) := dk_42 (dk_at dksX0_boy_1 16 rfl rfl)
theorem dX0_boy_41 : decode cX0_boy 41 = .ok (.getfield 26, 3) := dk_180 0 26 (dk_at dksX0_boy_1 17 rfl rfl)
theorem dX0_boy_44 : decode cX0_boy 44 = .ok (.iload 6, 2) := dk_21 6 (dk_at dksX0_boy_1 20 rfl rfl)
theorem dX0_boy_46 : decode cX0_boy 46 = .ok (.aaload, 1) := dk_50 (dk_at dksX0_boy_1 22 rfl rfl)
theorem dX0_boy_47 : decode cX0_boy 47 = .ok (.getfield 89, 3) := dk_180 0 89 (dk_at dksX0_boy_2 0 rfl rfl)
theorem dX0_boy_50 : decode cX0_boy 50 = .ok (.instanceof 95, 3) := dk_193 0 95 (dk_at dksX0_boy_2 3 rfl rfl)
theorem dX0_boy_53 : decode cX0_boy 53 = .ok (.ifCond .ne 6, 3) := dk_154 0 6 (dk_at dksX0_boy_2 6 rfl rfl)
theorem dX0_boy_56 : decode cX0_boy 56 = .ok (.goto 47, 3) := dk_167 0 47 (dk_at dksX0_boy_2 9 rfl rfl)
theorem dX0_boy_59 : decode cX0_boy 59 = .ok (.aload_n 2, 1) := dk_44 (dk_at dksX0_boy_2 12 rfl rfl)
theorem dX0_boy_60 : decode cX0_boy 60 = .ok (.aload_n 0, 1) := dk_42 (dk_at dksX0_boy_2 13 rfl rfl)
theorem dX0_boy_61 : decode cX0_boy 61 = .ok (.getfield 26, 3) := dk_180 0 26 (dk_at dksX0_boy_2 14 rfl rfl)
theorem dX0_boy_64 : decode cX0_boy 64 = .ok (.iload 6, 2) := dk_21 6 (dk_at dksX0_boy_2 17 rfl rfl)
theorem dX0_boy_66 : decode cX0_boy 66 = .ok (.aaload, 1) := dk_50 (dk_at dksX0_boy_2 19 rfl rfl)
theorem dX0_boy_67 : decode cX0_boy 67 = .ok (.getfield 89, 3) := dk_180 0 89 (dk_at dksX0_boy_2 20 rfl rfl)
theorem dX0_boy_70 : decode cX0_boy 70 = .ok (.checkcast 95, 3) := dk_192 0 95 (dk_at dksX0_boy_3 0 rfl rfl)
theorem dX0_boy_73 : decode cX0_boy 73 = .ok (.aload_n 2, 1) := dk_44 (dk_at dksX0_boy_3 3 rfl rfl)
theorem dX0_boy_74 : decode cX0_boy 74 = .ok (.getfield 62, 3) := dk_180 0 62 (dk_at dksX0_boy_3 4 rfl rfl)
theorem dX0_boy_77 : decode cX0_boy 77 = .ok (.iconst 0, 1) := dk_3 (dk_at dksX0_boy_3 7 rfl rfl)
theorem dX0_boy_78 : decode cX0_boy 78 = .ok (.invokevirtual 260, 3) := dk_182 1 4 (dk_at dksX0_boy_3 8 rfl rfl)
theorem dX0_boy_81 : decode cX0_boy 81 = .ok (.lstore 7, 2) := dk_55 7 (dk_at dksX0_boy_3 11 rfl rfl)
theorem dX0_boy_83 : decode cX0_boy 83 = .ok (.iload_n 3, 1) := dk_29 (dk_at dksX0_boy_3 13 rfl rfl)
theorem dX0_boy_84 : decode cX0_boy 84 = .ok (.iconst (-1), 1) := dk_2 (dk_at dksX0_boy_3 14 rfl rfl)
theorem dX0_boy_85 : decode cX0_boy 85 = .ok (.if_icmp .eq 11, 3) := dk_159 0 11 (dk_at dksX0_boy_3 15 rfl rfl)
theorem dX0_boy_88 : decode cX0_boy 88 = .ok (.lload 7, 2) := dk_22 7 (dk_at dksX0_boy_3 18 rfl rfl)
theorem dX0_boy_90 : decode cX0_boy 90 = .ok (.lload 4, 2) := dk_22 4 (dk_at dksX0_boy_3 20 rfl rfl)
theorem dX0_boy_92 : decode cX0_boy 92 = .ok (.lcmp, 1) := dk_148 (dk_at dksX0_boy_3 22 rfl rfl)
theorem dX0_boy_93 : decode cX0_boy 93 = .ok (.ifCond .ge 10, 3) := dk_156 0 10 (dk_at dksX0_boy_4 0 rfl rfl)
theorem dX0_boy_96 : decode cX0_boy 96 = .ok (.lload 7, 2) := dk_22 7 (dk_at dksX0_boy_4 3 rfl rfl)
theorem dX0_boy_98 : decode cX0_boy 98 = .ok (.lstore 4, 2) := dk_55 4 (dk_at dksX0_boy_4 5 rfl rfl)
theorem dX0_boy_100 : decode cX0_boy 100 = .ok (.iload 6, 2) := dk_21 6 (dk_at dksX0_boy_4 7 rfl rfl)
theorem dX0_boy_102 : decode cX0_boy 102 = .ok (.istore_n 3, 1) := dk_62 (dk_at dksX0_boy_4 9 rfl rfl)
theorem dX0_boy_103 : decode cX0_boy 103 = .ok (.iinc 6 1, 3) := dk_132 6 1 (dk_at dksX0_boy_4 10 rfl rfl)
theorem dX0_boy_106 : decode cX0_boy 106 = .ok (.goto (-73), 3) := dk_167 255 183 (dk_at dksX0_boy_4 13 rfl rfl)
theorem dX0_boy_109 : decode cX0_boy 109 = .ok (.iload_n 3, 1) := dk_29 (dk_at dksX0_boy_4 16 rfl rfl)
theorem dX0_boy_110 : decode cX0_boy 110 = .ok (.iconst (-1), 1) := dk_2 (dk_at dksX0_boy_4 17 rfl rfl)
theorem dX0_boy_111 : decode cX0_boy 111 = .ok (.if_icmp .ne 12, 3) := dk_160 0 12 (dk_at dksX0_boy_4 18 rfl rfl)
theorem dX0_boy_114 : decode cX0_boy 114 = .ok (.aload_n 0, 1) := dk_42 (dk_at dksX0_boy_4 21 rfl rfl)
theorem dX0_boy_115 : decode cX0_boy 115 = .ok (.bipush (-5), 2) := dk_16 251 (dk_at dksX0_boy_4 22 rfl rfl)
theorem dX0_boy_117 : decode cX0_boy 117 = .ok (.invokevirtual 81, 3) := dk_182 0 81 (dk_at dksX0_boy_5 0 rfl rfl)
theorem dX0_boy_120 : decode cX0_boy 120 = .ok (.goto 4, 3) := dk_167 0 4 (dk_at dksX0_boy_5 3 rfl rfl)
theorem dX0_boy_123 : decode cX0_boy 123 = .ok (.iload_n 3, 1) := dk_29 (dk_at dksX0_boy_5 6 rfl rfl)
theorem dX0_boy_124 : decode cX0_boy 124 = .ok (.ireturn, 1) := dk_172 (dk_at dksX0_boy_5 7 rfl rfl)
abbrev cX0_waits : ByteArray := prog_1_method_47_code
def yX0_waits : MethodName := ⟨RX0, "waits", "(III)J"⟩
def dkwX0_waits_2 : List UInt8 := [182, 1, 12, 182, 1, 16, 25, 4, 28, 29, 182, 0, 246, 101, 173]
abbrev dktX0_waits_2 : List UInt8 := dkwX0_waits_2 ++ []
def dkwX0_waits_1 : List UInt8 := [182, 0, 81, 133, 173, 42, 180, 0, 20, 180, 0, 49, 27, 50, 58, 4, 25, 4, 29, 3, 28, 25, 4]
abbrev dktX0_waits_1 : List UInt8 := dkwX0_waits_1 ++ dktX0_waits_2
def dkwX0_waits_0 : List UInt8 := [42, 27, 4, 28, 182, 0, 239, 153, 0, 12, 42, 27, 29, 182, 0, 234, 154, 0, 11, 42, 16, 254]
abbrev dktX0_waits_0 : List UInt8 := dkwX0_waits_0 ++ dktX0_waits_1
theorem dksX0_waits_0 : cX0_waits.data.toList.drop 0 = dktX0_waits_0 := by decide +kernel
theorem dksX0_waits_1 : cX0_waits.data.toList.drop 22 = dktX0_waits_1 := dk_seg dksX0_waits_0 22 rfl rfl
theorem dksX0_waits_2 : cX0_waits.data.toList.drop 45 = dktX0_waits_2 := dk_seg dksX0_waits_1 23 rfl rfl
theorem dX0_waits_0 : decode cX0_waits 0 = .ok (.aload_n 0, 1) := dk_42 (dk_at dksX0_waits_0 0 rfl rfl)
theorem dX0_waits_1 : decode cX0_waits 1 = .ok (.iload_n 1, 1) := dk_27 (dk_at dksX0_waits_0 1 rfl rfl)
theorem dX0_waits_2 : decode cX0_waits 2 = .ok (.iconst 1, 1) := dk_4 (dk_at dksX0_waits_0 2 rfl rfl)
theorem dX0_waits_3 : decode cX0_waits 3 = .ok (.iload_n 2, 1) := dk_28 (dk_at dksX0_waits_0 3 rfl rfl)
theorem dX0_waits_4 : decode cX0_waits 4 = .ok (.invokevirtual 239, 3) := dk_182 0 239 (dk_at dksX0_waits_0 4 rfl rfl)
theorem dX0_waits_7 : decode cX0_waits 7 = .ok (.ifCond .eq 12, 3) := dk_153 0 12 (dk_at dksX0_waits_0 7 rfl rfl)
theorem dX0_waits_10 : decode cX0_waits 10 = .ok (.aload_n 0, 1) := dk_42 (dk_at dksX0_waits_0 10 rfl rfl)
theorem dX0_waits_11 : decode cX0_waits 11 = .ok (.iload_n 1, 1) := dk_27 (dk_at dksX0_waits_0 11 rfl rfl)
theorem dX0_waits_12 : decode cX0_waits 12 = .ok (.iload_n 3, 1) := dk_29 (dk_at dksX0_waits_0 12 rfl rfl)
theorem dX0_waits_13 : decode cX0_waits 13 = .ok (.invokevirtual 234, 3) := dk_182 0 234 (dk_at dksX0_waits_0 13 rfl rfl)
theorem dX0_waits_16 : decode cX0_waits 16 = .ok (.ifCond .ne 11, 3) := dk_154 0 11 (dk_at dksX0_waits_0 16 rfl rfl)
theorem dX0_waits_19 : decode cX0_waits 19 = .ok (.aload_n 0, 1) := dk_42 (dk_at dksX0_waits_0 19 rfl rfl)
theorem dX0_waits_20 : decode cX0_waits 20 = .ok (.bipush (-2), 2) := dk_16 254 (dk_at dksX0_waits_0 20 rfl rfl)
theorem dX0_waits_22 : decode cX0_waits 22 = .ok (.invokevirtual 81, 3) := dk_182 0 81 (dk_at dksX0_waits_1 0 rfl rfl)
theorem dX0_waits_25 : decode cX0_waits 25 = .ok (.i2l, 1) := dk_133 (dk_at dksX0_waits_1 3 rfl rfl)
theorem dX0_waits_26 : decode cX0_waits 26 = .ok (.lreturn, 1) := dk_173 (dk_at dksX0_waits_1 4 rfl rfl)
theorem dX0_waits_27 : decode cX0_waits 27 = .ok (.aload_n 0, 1) := dk_42 (dk_at dksX0_waits_1 5 rfl rfl)
theorem dX0_waits_28 : decode cX0_waits 28 = .ok (.getfield 20, 3) := dk_180 0 20 (dk_at dksX0_waits_1 6 rfl rfl)
theorem dX0_waits_31 : decode cX0_waits 31 = .ok (.getfield 49, 3) := dk_180 0 49 (dk_at dksX0_waits_1 9 rfl rfl)
theorem dX0_waits_34 : decode cX0_waits 34 = .ok (.iload_n 1, 1) := dk_27 (dk_at dksX0_waits_1 12 rfl rfl)
theorem dX0_waits_35 : decode cX0_waits 35 = .ok (.aaload, 1) := dk_50 (dk_at dksX0_waits_1 13 rfl rfl)
theorem dX0_waits_36 : decode cX0_waits 36 = .ok (.astore 4, 2) := dk_58 4 (dk_at dksX0_waits_1 14 rfl rfl)
theorem dX0_waits_38 : decode cX0_waits 38 = .ok (.aload 4, 2) := dk_25 4 (dk_at dksX0_waits_1 16 rfl rfl)
theorem dX0_waits_40 : decode cX0_waits 40 = .ok (.iload_n 3, 1) := dk_29 (dk_at dksX0_waits_1 18 rfl rfl)
theorem dX0_waits_41 : decode cX0_waits 41 = .ok (.iconst 0, 1) := dk_3 (dk_at dksX0_waits_1 19 rfl rfl)
theorem dX0_waits_42 : decode cX0_waits 42 = .ok (.iload_n 2, 1) := dk_28 (dk_at dksX0_waits_1 20 rfl rfl)
theorem dX0_waits_43 : decode cX0_waits 43 = .ok (.aload 4, 2) := dk_25 4 (dk_at dksX0_waits_1 21 rfl rfl)
theorem dX0_waits_45 : decode cX0_waits 45 = .ok (.invokevirtual 268, 3) := dk_182 1 12 (dk_at dksX0_waits_2 0 rfl rfl)
theorem dX0_waits_48 : decode cX0_waits 48 = .ok (.invokevirtual 272, 3) := dk_182 1 16 (dk_at dksX0_waits_2 3 rfl rfl)
theorem dX0_waits_51 : decode cX0_waits 51 = .ok (.aload 4, 2) := dk_25 4 (dk_at dksX0_waits_2 6 rfl rfl)
theorem dX0_waits_53 : decode cX0_waits 53 = .ok (.iload_n 2, 1) := dk_28 (dk_at dksX0_waits_2 8 rfl rfl)
theorem dX0_waits_54 : decode cX0_waits 54 = .ok (.iload_n 3, 1) := dk_29 (dk_at dksX0_waits_2 9 rfl rfl)
theorem dX0_waits_55 : decode cX0_waits 55 = .ok (.invokevirtual 246, 3) := dk_182 0 246 (dk_at dksX0_waits_2 10 rfl rfl)
theorem dX0_waits_58 : decode cX0_waits 58 = .ok (.lsub, 1) := dk_101 (dk_at dksX0_waits_2 13 rfl rfl)
theorem dX0_waits_59 : decode cX0_waits 59 = .ok (.lreturn, 1) := dk_173 (dk_at dksX0_waits_2 14 rfl rfl)
abbrev cX0_once : ByteArray := prog_1_method_48_code
def yX0_once : MethodName := ⟨RX0, "once", "(III)J"⟩
def dkwX0_once_2 : List UInt8 := [182, 0, 253, 28, 25, 4, 182, 1, 12, 182, 1, 16, 25, 4, 28, 29, 182, 0, 246, 101, 173]
abbrev dktX0_once_2 : List UInt8 := dkwX0_once_2 ++ []
def dkwX0_once_1 : List UInt8 := [182, 0, 81, 133, 173, 42, 180, 0, 20, 180, 0, 49, 27, 50, 58, 4, 25, 4, 29, 25, 4, 29]
abbrev dktX0_once_1 : List UInt8 := dkwX0_once_1 ++ dktX0_once_2
def dkwX0_once_0 : List UInt8 := [42, 27, 4, 28, 182, 0, 239, 153, 0, 12, 42, 27, 29, 182, 0, 234, 154, 0, 11, 42, 16, 254]
abbrev dktX0_once_0 : List UInt8 := dkwX0_once_0 ++ dktX0_once_1
theorem dksX0_once_0 : cX0_once.data.toList.drop 0 = dktX0_once_0 := by decide +kernel
theorem dksX0_once_1 : cX0_once.data.toList.drop 22 = dktX0_once_1 := dk_seg dksX0_once_0 22 rfl rfl
theorem dksX0_once_2 : cX0_once.data.toList.drop 44 = dktX0_once_2 := dk_seg dksX0_once_1 22 rfl rfl
theorem dX0_once_0 : decode cX0_once 0 = .ok (.aload_n 0, 1) := dk_42 (dk_at dksX0_once_0 0 rfl rfl)
theorem dX0_once_1 : decode cX0_once 1 = .ok (.iload_n 1, 1) := dk_27 (dk_at dksX0_once_0 1 rfl rfl)
theorem dX0_once_2 : decode cX0_once 2 = .ok (.iconst 1, 1) := dk_4 (dk_at dksX0_once_0 2 rfl rfl)
theorem dX0_once_3 : decode cX0_once 3 = .ok (.iload_n 2, 1) := dk_28 (dk_at dksX0_once_0 3 rfl rfl)
theorem dX0_once_4 : decode cX0_once 4 = .ok (.invokevirtual 239, 3) := dk_182 0 239 (dk_at dksX0_once_0 4 rfl rfl)
theorem dX0_once_7 : decode cX0_once 7 = .ok (.ifCond .eq 12, 3) := dk_153 0 12 (dk_at dksX0_once_0 7 rfl rfl)
theorem dX0_once_10 : decode cX0_once 10 = .ok (.aload_n 0, 1) := dk_42 (dk_at dksX0_once_0 10 rfl rfl)
theorem dX0_once_11 : decode cX0_once 11 = .ok (.iload_n 1, 1) := dk_27 (dk_at dksX0_once_0 11 rfl rfl)
theorem dX0_once_12 : decode cX0_once 12 = .ok (.iload_n 3, 1) := dk_29 (dk_at dksX0_once_0 12 rfl rfl)
theorem dX0_once_13 : decode cX0_once 13 = .ok (.invokevirtual 234, 3) := dk_182 0 234 (dk_at dksX0_once_0 13 rfl rfl)
theorem dX0_once_16 : decode cX0_once 16 = .ok (.ifCond .ne 11, 3) := dk_154 0 11 (dk_at dksX0_once_0 16 rfl rfl)
theorem dX0_once_19 : decode cX0_once 19 = .ok (.aload_n 0, 1) := dk_42 (dk_at dksX0_once_0 19 rfl rfl)
theorem dX0_once_20 : decode cX0_once 20 = .ok (.bipush (-2), 2) := dk_16 254 (dk_at dksX0_once_0 20 rfl rfl)
theorem dX0_once_22 : decode cX0_once 22 = .ok (.invokevirtual 81, 3) := dk_182 0 81 (dk_at dksX0_once_1 0 rfl rfl)
theorem dX0_once_25 : decode cX0_once 25 = .ok (.i2l, 1) := dk_133 (dk_at dksX0_once_1 3 rfl rfl)
theorem dX0_once_26 : decode cX0_once 26 = .ok (.lreturn, 1) := dk_173 (dk_at dksX0_once_1 4 rfl rfl)
theorem dX0_once_27 : decode cX0_once 27 = .ok (.aload_n 0, 1) := dk_42 (dk_at dksX0_once_1 5 rfl rfl)
theorem dX0_once_28 : decode cX0_once 28 = .ok (.getfield 20, 3) := dk_180 0 20 (dk_at dksX0_once_1 6 rfl rfl)
theorem dX0_once_31 : decode cX0_once 31 = .ok (.getfield 49, 3) := dk_180 0 49 (dk_at dksX0_once_1 9 rfl rfl)
theorem dX0_once_34 : decode cX0_once 34 = .ok (.iload_n 1, 1) := dk_27 (dk_at dksX0_once_1 12 rfl rfl)
theorem dX0_once_35 : decode cX0_once 35 = .ok (.aaload, 1) := dk_50 (dk_at dksX0_once_1 13 rfl rfl)
theorem dX0_once_36 : decode cX0_once 36 = .ok (.astore 4, 2) := dk_58 4 (dk_at dksX0_once_1 14 rfl rfl)
theorem dX0_once_38 : decode cX0_once 38 = .ok (.aload 4, 2) := dk_25 4 (dk_at dksX0_once_1 16 rfl rfl)
theorem dX0_once_40 : decode cX0_once 40 = .ok (.iload_n 3, 1) := dk_29 (dk_at dksX0_once_1 18 rfl rfl)
theorem dX0_once_41 : decode cX0_once 41 = .ok (.aload 4, 2) := dk_25 4 (dk_at dksX0_once_1 19 rfl rfl)
theorem dX0_once_43 : decode cX0_once 43 = .ok (.iload_n 3, 1) := dk_29 (dk_at dksX0_once_1 21 rfl rfl)
theorem dX0_once_44 : decode cX0_once 44 = .ok (.invokevirtual 253, 3) := dk_182 0 253 (dk_at dksX0_once_2 0 rfl rfl)
theorem dX0_once_47 : decode cX0_once 47 = .ok (.iload_n 2, 1) := dk_28 (dk_at dksX0_once_2 3 rfl rfl)
theorem dX0_once_48 : decode cX0_once 48 = .ok (.aload 4, 2) := dk_25 4 (dk_at dksX0_once_2 4 rfl rfl)
theorem dX0_once_50 : decode cX0_once 50 = .ok (.invokevirtual 268, 3) := dk_182 1 12 (dk_at dksX0_once_2 6 rfl rfl)
theorem dX0_once_53 : decode cX0_once 53 = .ok (.invokevirtual 272, 3) := dk_182 1 16 (dk_at dksX0_once_2 9 rfl rfl)
theorem dX0_once_56 : decode cX0_once 56 = .ok (.aload 4, 2) := dk_25 4 (dk_at dksX0_once_2 12 rfl rfl)
theorem dX0_once_58 : decode cX0_once 58 = .ok (.iload_n 2, 1) := dk_28 (dk_at dksX0_once_2 14 rfl rfl)
theorem dX0_once_59 : decode cX0_once 59 = .ok (.iload_n 3, 1) := dk_29 (dk_at dksX0_once_2 15 rfl rfl)
theorem dX0_once_60 : decode cX0_once 60 = .ok (.invokevirtual 246, 3) := dk_182 0 246 (dk_at dksX0_once_2 16 rfl rfl)
theorem dX0_once_63 : decode cX0_once 63 = .ok (.lsub, 1) := dk_101 (dk_at dksX0_once_2 19 rfl rfl)
theorem dX0_once_64 : decode cX0_once 64 = .ok (.lreturn, 1) := dk_173 (dk_at dksX0_once_2 20 rfl rfl)
abbrev cX0_dear : ByteArray := prog_1_method_49_code
def yX0_dear : MethodName := ⟨RX0, "dear", "(IIII)J"⟩
def dkwX0_dear_3 : List UInt8 := [182, 0, 246, 25, 5, 28, 29, 182, 0, 246, 101, 173]
abbrev dktX0_dear_3 : List UInt8 := dkwX0_dear_3 ++ []
def dkwX0_dear_2 : List UInt8 := [42, 180, 0, 20, 180, 0, 49, 27, 50, 58, 5, 25, 5, 28, 29, 178, 0, 1, 21, 4, 46, 96]
abbrev dktX0_dear_2 : List UInt8 := dkwX0_dear_2 ++ dktX0_dear_3
def dkwX0_dear_1 : List UInt8 := [182, 0, 214, 153, 0, 13, 29, 21, 4, 184, 0, 7, 7, 160, 0, 11, 42, 16, 254, 182, 0, 81, 133, 173]
abbrev dktX0_dear_1 : List UInt8 := dkwX0_dear_1 ++ dktX0_dear_2
def dkwX0_dear_0 : List UInt8 := [42, 27, 3, 28, 182, 0, 239, 153, 0, 32, 42, 27, 29, 182, 0, 234, 153, 0, 23, 42, 27, 21, 4]
abbrev dktX0_dear_0 : List UInt8 := dkwX0_dear_0 ++ dktX0_dear_1
theorem dksX0_dear_0 : cX0_dear.data.toList.drop 0 = dktX0_dear_0 := by decide +kernel
theorem dksX0_dear_1 : cX0_dear.data.toList.drop 23 = dktX0_dear_1 := dk_seg dksX0_dear_0 23 rfl rfl
theorem dksX0_dear_2 : cX0_dear.data.toList.drop 47 = dktX0_dear_2 := dk_seg dksX0_dear_1 24 rfl rfl
theorem dksX0_dear_3 : cX0_dear.data.toList.drop 69 = dktX0_dear_3 := dk_seg dksX0_dear_2 22 rfl rfl
theorem dX0_dear_0 : decode cX0_dear 0 = .ok (.aload_n 0, 1) := dk_42 (dk_at dksX0_dear_0 0 rfl rfl)
theorem dX0_dear_1 : decode cX0_dear 1 = .ok (.iload_n 1, 1) := dk_27 (dk_at dksX0_dear_0 1 rfl rfl)
theorem dX0_dear_2 : decode cX0_dear 2 = .ok (.iconst 0, 1) := dk_3 (dk_at dksX0_dear_0 2 rfl rfl)
theorem dX0_dear_3 : decode cX0_dear 3 = .ok (.iload_n 2, 1) := dk_28 (dk_at dksX0_dear_0 3 rfl rfl)
theorem dX0_dear_4 : decode cX0_dear 4 = .ok (.invokevirtual 239, 3) := dk_182 0 239 (dk_at dksX0_dear_0 4 rfl rfl)
theorem dX0_dear_7 : decode cX0_dear 7 = .ok (.ifCond .eq 32, 3) := dk_153 0 32 (dk_at dksX0_dear_0 7 rfl rfl)
theorem dX0_dear_10 : decode cX0_dear 10 = .ok (.aload_n 0, 1) := dk_42 (dk_at dksX0_dear_0 10 rfl rfl)
theorem dX0_dear_11 : decode cX0_dear 11 = .ok (.iload_n 1, 1) := dk_27 (dk_at dksX0_dear_0 11 rfl rfl)
theorem dX0_dear_12 : decode cX0_dear 12 = .ok (.iload_n 3, 1) := dk_29 (dk_at dksX0_dear_0 12 rfl rfl)
theorem dX0_dear_13 : decode cX0_dear 13 = .ok (.invokevirtual 234, 3) := dk_182 0 234 (dk_at dksX0_dear_0 13 rfl rfl)
theorem dX0_dear_16 : decode cX0_dear 16 = .ok (.ifCond .eq 23, 3) := dk_153 0 23 (dk_at dksX0_dear_0 16 rfl rfl)
theorem dX0_dear_19 : decode cX0_dear 19 = .ok (.aload_n 0, 1) := dk_42 (dk_at dksX0_dear_0 19 rfl rfl)
theorem dX0_dear_20 : decode cX0_dear 20 = .ok (.iload_n 1, 1) := dk_27 (dk_at dksX0_dear_0 20 rfl rfl)
theorem dX0_dear_21 : decode cX0_dear 21 = .ok (.iload 4, 2) := dk_21 4 (dk_at dksX0_dear_0 21 rfl rfl)
theorem dX0_dear_23 : decode cX0_dear 23 = .ok (.invokevirtual 214, 3) := dk_182 0 214 (dk_at dksX0_dear_1 0 rfl rfl)
theorem dX0_dear_26 : decode cX0_dear 26 = .ok (.ifCond .eq 13, 3) := dk_153 0 13 (dk_at dksX0_dear_1 3 rfl rfl)
theorem dX0_dear_29 : decode cX0_dear 29 = .ok (.iload_n 3, 1) := dk_29 (dk_at dksX0_dear_1 6 rfl rfl)
theorem dX0_dear_30 : decode cX0_dear 30 = .ok (.iload 4, 2) := dk_21 4 (dk_at dksX0_dear_1 7 rfl rfl)
theorem dX0_dear_32 : decode cX0_dear 32 = .ok (.invokestatic 7, 3) := dk_184 0 7 (dk_at dksX0_dear_1 9 rfl rfl)
theorem dX0_dear_35 : decode cX0_dear 35 = .ok (.iconst 4, 1) := dk_7 (dk_at dksX0_dear_1 12 rfl rfl)
theorem dX0_dear_36 : decode cX0_dear 36 = .ok (.if_icmp .ne 11, 3) := dk_160 0 11 (dk_at dksX0_dear_1 13 rfl rfl)
theorem dX0_dear_39 : decode cX0_dear 39 = .ok (.aload_n 0, 1) := dk_42 (dk_at dksX0_dear_1 16 rfl rfl)
theorem dX0_dear_40 : decode cX0_dear 40 = .ok (.bipush (-2), 2) := dk_16 254 (dk_at dksX0_dear_1 17 rfl rfl)
theorem dX0_dear_42 : decode cX0_dear 42 = .ok (.invokevirtual 81, 3) := dk_182 0 81 (dk_at dksX0_dear_1 19 rfl rfl)
theorem dX0_dear_45 : decode cX0_dear 45 = .ok (.i2l, 1) := dk_133 (dk_at dksX0_dear_1 22 rfl rfl)
theorem dX0_dear_46 : decode cX0_dear 46 = .ok (.lreturn, 1) := dk_173 (dk_at dksX0_dear_1 23 rfl rfl)
theorem dX0_dear_47 : decode cX0_dear 47 = .ok (.aload_n 0, 1) := dk_42 (dk_at dksX0_dear_2 0 rfl rfl)
theorem dX0_dear_48 : decode cX0_dear 48 = .ok (.getfield 20, 3) := dk_180 0 20 (dk_at dksX0_dear_2 1 rfl rfl)
theorem dX0_dear_51 : decode cX0_dear 51 = .ok (.getfield 49, 3) := dk_180 0 49 (dk_at dksX0_dear_2 4 rfl rfl)
theorem dX0_dear_54 : decode cX0_dear 54 = .ok (.iload_n 1, 1) := dk_27 (dk_at dksX0_dear_2 7 rfl rfl)
theorem dX0_dear_55 : decode cX0_dear 55 = .ok (.aaload, 1) := dk_50 (dk_at dksX0_dear_2 8 rfl rfl)
theorem dX0_dear_56 : decode cX0_dear 56 = .ok (.astore 5, 2) := dk_58 5 (dk_at dksX0_dear_2 9 rfl rfl)
theorem dX0_dear_58 : decode cX0_dear 58 = .ok (.aload 5, 2) := dk_25 5 (dk_at dksX0_dear_2 11 rfl rfl)
theorem dX0_dear_60 : decode cX0_dear 60 = .ok (.iload_n 2, 1) := dk_28 (dk_at dksX0_dear_2 13 rfl rfl)
theorem dX0_dear_61 : decode cX0_dear 61 = .ok (.iload_n 3, 1) := dk_29 (dk_at dksX0_dear_2 14 rfl rfl)
theorem dX0_dear_62 : decode cX0_dear 62 = .ok (.getstatic 1, 3) := dk_178 0 1 (dk_at dksX0_dear_2 15 rfl rfl)
theorem dX0_dear_65 : decode cX0_dear 65 = .ok (.iload 4, 2) := dk_21 4 (dk_at dksX0_dear_2 18 rfl rfl)
theorem dX0_dear_67 : decode cX0_dear 67 = .ok (.iaload, 1) := dk_46 (dk_at dksX0_dear_2 20 rfl rfl)
theorem dX0_dear_68 : decode cX0_dear 68 = .ok (.iadd, 1) := dk_96 (dk_at dksX0_dear_2 21 rfl rfl)
theorem dX0_dear_69 : decode cX0_dear 69 = .ok (.invokevirtual 246, 3) := dk_182 0 246 (dk_at dksX0_dear_3 0 rfl rfl)
theorem dX0_dear_72 : decode cX0_dear 72 = .ok (.aload 5, 2) := dk_25 5 (dk_at dksX0_dear_3 3 rfl rfl)
theorem dX0_dear_74 : decode cX0_dear 74 = .ok (.iload_n 2, 1) := dk_28 (dk_at dksX0_dear_3 5 rfl rfl)
theorem dX0_dear_75 : decode cX0_dear 75 = .ok (.iload_n 3, 1) := dk_29 (dk_at dksX0_dear_3 6 rfl rfl)
theorem dX0_dear_76 : decode cX0_dear 76 = .ok (.invokevirtual 246, 3) := dk_182 0 246 (dk_at dksX0_dear_3 7 rfl rfl)
theorem dX0_dear_79 : decode cX0_dear 79 = .ok (.lsub, 1) := dk_101 (dk_at dksX0_dear_3 10 rfl rfl)
theorem dX0_dear_80 : decode cX0_dear 80 = .ok (.lreturn, 1) := dk_173 (dk_at dksX0_dear_3 11 rfl rfl)
abbrev cX0_chance : ByteArray := prog_1_method_51_code
def yX0_chance : MethodName := ⟨RX0, "chance", "(IIII)J"⟩
def dkwX0_chance_2 : List UInt8 := [47, 173, 58, 5, 42, 25, 5, 180, 0, 110, 182, 0, 81, 133, 173]
abbrev dktX0_chance_2 : List UInt8 := dkwX0_chance_2 ++ []
def dkwX0_chance_1 : List UInt8 := [3, 21, 4, 182, 1, 20, 58, 5, 42, 180, 0, 20, 180, 0, 49, 27, 50, 25, 5, 28, 182, 1, 24, 29]
abbrev dktX0_chance_1 : List UInt8 := dkwX0_chance_1 ++ dktX0_chance_2
def dkwX0_chance_0 : List UInt8 := [42, 42, 27, 3, 28, 182, 0, 239, 153, 0, 16, 42, 27, 29, 182, 0, 234, 153, 0, 7, 4, 167, 0, 4]
abbrev dktX0_chance_0 : List UInt8 := dkwX0_chance_0 ++ dktX0_chance_1
theorem dksX0_chance_0 : cX0_chance.data.toList.drop 0 = dktX0_chance_0 := by decide +kernel
theorem dksX0_chance_1 : cX0_chance.data.toList.drop 24 = dktX0_chance_1 := dk_seg dksX0_chance_0 24 rfl rfl
theorem dksX0_chance_2 : cX0_chance.data.toList.drop 48 = dktX0_chance_2 := dk_seg dksX0_chance_1 24 rfl rfl
theorem dX0_chance_0 : decode cX0_chance 0 = .ok (.aload_n 0, 1) := dk_42 (dk_at dksX0_chance_0 0 rfl rfl)
theorem dX0_chance_1 : decode cX0_chance 1 = .ok (.aload_n 0, 1) := dk_42 (dk_at dksX0_chance_0 1 rfl rfl)
theorem dX0_chance_2 : decode cX0_chance 2 = .ok (.iload_n 1, 1) := dk_27 (dk_at dksX0_chance_0 2 rfl rfl)
theorem dX0_chance_3 : decode cX0_chance 3 = .ok (.iconst 0, 1) := dk_3 (dk_at dksX0_chance_0 3 rfl rfl)
theorem dX0_chance_4 : decode cX0_chance 4 = .ok (.iload_n 2, 1) := dk_28 (dk_at dksX0_chance_0 4 rfl rfl)
theorem dX0_chance_5 : decode cX0_chance 5 = .ok (.invokevirtual 239, 3) := dk_182 0 239 (dk_at dksX0_chance_0 5 rfl rfl)
theorem dX0_chance_8 : decode cX0_chance 8 = .ok (.ifCond .eq 16, 3) := dk_153 0 16 (dk_at dksX0_chance_0 8 rfl rfl)
theorem dX0_chance_11 : decode cX0_chance 11 = .ok (.aload_n 0, 1) := dk_42 (dk_at dksX0_chance_0 11 rfl rfl)
theorem dX0_chance_12 : decode cX0_chance 12 = .ok (.iload_n 1, 1) := dk_27 (dk_at dksX0_chance_0 12 rfl rfl)
theorem dX0_chance_13 : decode cX0_chance 13 = .ok (.iload_n 3, 1) := dk_29 (dk_at dksX0_chance_0 13 rfl rfl)
theorem dX0_chance_14 : decode cX0_chance 14 = .ok (.invokevirtual 234, 3) := dk_182 0 234 (dk_at dksX0_chance_0 14 rfl rfl)
theorem dX0_chance_17 : decode cX0_chance 17 = .ok (.ifCond .eq 7, 3) := dk_153 0 7 (dk_at dksX0_chance_0 17 rfl rfl)
theorem dX0_chance_20 : decode cX0_chance 20 = .ok (.iconst 1, 1) := dk_4 (dk_at dksX0_chance_0 20 rfl rfl)
theorem dX0_chance_21 : decode cX0_chance 21 = .ok (.goto 4, 3) := dk_167 0 4 (dk_at dksX0_chance_0 21 rfl rfl)
theorem dX0_chance_24 : decode cX0_chance 24 = .ok (.iconst 0, 1) := dk_3 (dk_at dksX0_chance_1 0 rfl rfl)
theorem dX0_chance_25 : decode cX0_chance 25 = .ok (.iload 4, 2) := dk_21 4 (dk_at dksX0_chance_1 1 rfl rfl)
theorem dX0_chance_27 : decode cX0_chance 27 = .ok (.invokevirtual 276, 3) := dk_182 1 20 (dk_at dksX0_chance_1 3 rfl rfl)
theorem dX0_chance_30 : decode cX0_chance 30 = .ok (.astore 5, 2) := dk_58 5 (dk_at dksX0_chance_1 6 rfl rfl)
theorem dX0_chance_32 : decode cX0_chance 32 = .ok (.aload_n 0, 1) := dk_42 (dk_at dksX0_chance_1 8 rfl rfl)
theorem dX0_chance_33 : decode cX0_chance 33 = .ok (.getfield 20, 3) := dk_180 0 20 (dk_at dksX0_chance_1 9 rfl rfl)
theorem dX0_chance_36 : decode cX0_chance 36 = .ok (.getfield 49, 3) := dk_180 0 49 (dk_at dksX0_chance_1 12 rfl rfl)
theorem dX0_chance_39 : decode cX0_chance 39 = .ok (.iload_n 1, 1) := dk_27 (dk_at dksX0_chance_1 15 rfl rfl)
theorem dX0_chance_40 : decode cX0_chance 40 = .ok (.aaload, 1) := dk_50 (dk_at dksX0_chance_1 16 rfl rfl)
theorem dX0_chance_41 : decode cX0_chance 41 = .ok (.aload 5, 2) := dk_25 5 (dk_at dksX0_chance_1 17 rfl rfl)
theorem dX0_chance_43 : decode cX0_chance 43 = .ok (.iload_n 2, 1) := dk_28 (dk_at dksX0_chance_1 19 rfl rfl)
theorem dX0_chance_44 : decode cX0_chance 44 = .ok (.invokevirtual 280, 3) := dk_182 1 24 (dk_at dksX0_chance_1 20 rfl rfl)
theorem dX0_chance_47 : decode cX0_chance 47 = .ok (.iload_n 3, 1) := dk_29 (dk_at dksX0_chance_1 23 rfl rfl)
theorem dX0_chance_48 : decode cX0_chance 48 = .ok (.laload, 1) := dk_47 (dk_at dksX0_chance_2 0 rfl rfl)
theorem dX0_chance_49 : decode cX0_chance 49 = .ok (.lreturn, 1) := dk_173 (dk_at dksX0_chance_2 1 rfl rfl)
theorem dX0_chance_50 : decode cX0_chance 50 = .ok (.astore 5, 2) := dk_58 5 (dk_at dksX0_chance_2 2 rfl rfl)
theorem dX0_chance_52 : decode cX0_chance 52 = .ok (.aload_n 0, 1) := dk_42 (dk_at dksX0_chance_2 4 rfl rfl)
theorem dX0_chance_53 : decode cX0_chance 53 = .ok (.aload 5, 2) := dk_25 5 (dk_at dksX0_chance_2 5 rfl rfl)
theorem dX0_chance_55 : decode cX0_chance 55 = .ok (.getfield 110, 3) := dk_180 0 110 (dk_at dksX0_chance_2 7 rfl rfl)
theorem dX0_chance_58 : decode cX0_chance 58 = .ok (.invokevirtual 81, 3) := dk_182 0 81 (dk_at dksX0_chance_2 10 rfl rfl)
theorem dX0_chance_61 : decode cX0_chance 61 = .ok (.i2l, 1) := dk_133 (dk_at dksX0_chance_2 13 rfl rfl)
theorem dX0_chance_62 : decode cX0_chance 62 = .ok (.lreturn, 1) := dk_173 (dk_at dksX0_chance_2 14 rfl rfl)
abbrev cX0_ruleFor : ByteArray := prog_1_method_50_code
def yX0_ruleFor : MethodName := ⟨RX0, "ruleFor", "(ZI)LSendTheBox$Rule;"⟩
def dkwX0_ruleFor_1 : List UInt8 := [182, 0, 175, 176]
abbrev dktX0_ruleFor_1 : List UInt8 := dkwX0_ruleFor_1 ++ []
def dkwX0_ruleFor_0 : List UInt8 := [27, 153, 0, 10, 28, 184, 0, 78, 154, 0, 13, 187, 0, 97, 89, 16, 254, 183, 0, 99, 191, 42, 28]
abbrev dktX0_ruleFor_0 : List UInt8 := dkwX0_ruleFor_0 ++ dktX0_ruleFor_1
theorem dksX0_ruleFor_0 : cX0_ruleFor.data.toList.drop 0 = dktX0_ruleFor_0 := by decide +kernel
theorem dksX0_ruleFor_1 : cX0_ruleFor.data.toList.drop 23 = dktX0_ruleFor_1 := dk_seg dksX0_ruleFor_0 23 rfl rfl
theorem dX0_ruleFor_0 : decode cX0_ruleFor 0 = .ok (.iload_n 1, 1) := dk_27 (dk_at dksX0_ruleFor_0 0 rfl rfl)
theorem dX0_ruleFor_1 : decode cX0_ruleFor 1 = .ok (.ifCond .eq 10, 3) := dk_153 0 10 (dk_at dksX0_ruleFor_0 1 rfl rfl)
theorem dX0_ruleFor_4 : decode cX0_ruleFor 4 = .ok (.iload_n 2, 1) := dk_28 (dk_at dksX0_ruleFor_0 4 rfl rfl)
theorem dX0_ruleFor_5 : decode cX0_ruleFor 5 = .ok (.invokestatic 78, 3) := dk_184 0 78 (dk_at dksX0_ruleFor_0 5 rfl rfl)
theorem dX0_ruleFor_8 : decode cX0_ruleFor 8 = .ok (.ifCond .ne 13, 3) := dk_154 0 13 (dk_at dksX0_ruleFor_0 8 rfl rfl)
theorem dX0_ruleFor_11 : decode cX0_ruleFor 11 = .ok (.new 97, 3) := dk_187 0 97 (dk_at dksX0_ruleFor_0 11 rfl rfl)
theorem dX0_ruleFor_14 : decode cX0_ruleFor 14 = .ok (.dup, 1) := dk_89 (dk_at dksX0_ruleFor_0 14 rfl rfl)
theorem dX0_ruleFor_15 : decode cX0_ruleFor 15 = .ok (.bipush (-2), 2) := dk_16 254 (dk_at dksX0_ruleFor_0 15 rfl rfl)
theorem dX0_ruleFor_17 : decode cX0_ruleFor 17 = .ok (.invokespecial 99, 3) := dk_183 0 99 (dk_at dksX0_ruleFor_0 17 rfl rfl)
theorem dX0_ruleFor_20 : decode cX0_ruleFor 20 = .ok (.athrow, 1) := dk_191 (dk_at dksX0_ruleFor_0 20 rfl rfl)
theorem dX0_ruleFor_21 : decode cX0_ruleFor 21 = .ok (.aload_n 0, 1) := dk_42 (dk_at dksX0_ruleFor_0 21 rfl rfl)
theorem dX0_ruleFor_22 : decode cX0_ruleFor 22 = .ok (.iload_n 2, 1) := dk_28 (dk_at dksX0_ruleFor_0 22 rfl rfl)
theorem dX0_ruleFor_23 : decode cX0_ruleFor 23 = .ok (.invokevirtual 175, 3) := dk_182 0 175 (dk_at dksX0_ruleFor_1 0 rfl rfl)
theorem dX0_ruleFor_26 : decode cX0_ruleFor 26 = .ok (.areturn, 1) := dk_176 (dk_at dksX0_ruleFor_1 3 rfl rfl)
abbrev cX0_reach : ByteArray := prog_1_method_52_code
def yX0_reach : MethodName := ⟨RX0, "reach", "(III)I"⟩
def dkwX0_reach_3 : List UInt8 := [21, 6, 172, 58, 4, 42, 25, 4, 180, 0, 110, 182, 0, 81, 172]
abbrev dktX0_reach_3 : List UInt8 := dkwX0_reach_3 ++ []
def dkwX0_reach_2 : List UInt8 := [25, 5, 21, 7, 47, 9, 148, 158, 0, 7, 4, 167, 0, 4, 3, 96, 54, 6, 132, 7, 1, 167, 255, 226]
abbrev dktX0_reach_2 : List UInt8 := dkwX0_reach_2 ++ dktX0_reach_3
def dkwX0_reach_1 : List UInt8 := [25, 4, 28, 182, 1, 24, 58, 5, 3, 54, 6, 3, 54, 7, 21, 7, 16, 125, 162, 0, 29, 21, 6]
abbrev dktX0_reach_1 : List UInt8 := dkwX0_reach_1 ++ dktX0_reach_2
def dkwX0_reach_0 : List UInt8 := [42, 42, 27, 3, 28, 182, 0, 239, 29, 182, 1, 20, 58, 4, 42, 180, 0, 20, 180, 0, 49, 27, 50]
abbrev dktX0_reach_0 : List UInt8 := dkwX0_reach_0 ++ dktX0_reach_1
theorem dksX0_reach_0 : cX0_reach.data.toList.drop 0 = dktX0_reach_0 := by decide +kernel
theorem dksX0_reach_1 : cX0_reach.data.toList.drop 23 = dktX0_reach_1 := dk_seg dksX0_reach_0 23 rfl rfl
theorem dksX0_reach_2 : cX0_reach.data.toList.drop 46 = dktX0_reach_2 := dk_seg dksX0_reach_1 23 rfl rfl
theorem dksX0_reach_3 : cX0_reach.data.toList.drop 70 = dktX0_reach_3 := dk_seg dksX0_reach_2 24 rfl rfl
theorem dX0_reach_0 : decode cX0_reach 0 = .ok (.aload_n 0, 1) := dk_42 (dk_at dksX0_reach_0 0 rfl rfl)
theorem dX0_reach_1 : decode cX0_reach 1 = .ok (.aload_n 0, 1) := dk_42 (dk_at dksX0_reach_0 1 rfl rfl)
theorem dX0_reach_2 : decode cX0_reach 2 = .ok (.iload_n 1, 1) := dk_27 (dk_at dksX0_reach_0 2 rfl rfl)
theorem dX0_reach_3 : decode cX0_reach 3 = .ok (.iconst 0, 1) := dk_3 (dk_at dksX0_reach_0 3 rfl rfl)
theorem dX0_reach_4 : decode cX0_reach 4 = .ok (.iload_n 2, 1) := dk_28 (dk_at dksX0_reach_0 4 rfl rfl)
theorem dX0_reach_5 : decode cX0_reach 5 = .ok (.invokevirtual 239, 3) := dk_182 0 239 (dk_at dksX0_reach_0 5 rfl rfl)
theorem dX0_reach_8 : decode cX0_reach 8 = .ok (.iload_n 3, 1) := dk_29 (dk_at dksX0_reach_0 8 rfl rfl)
theorem dX0_reach_9 : decode cX0_reach 9 = .ok (.invokevirtual 276, 3) := dk_182 1 20 (dk_at dksX0_reach_0 9 rfl rfl)
theorem dX0_reach_12 : decode cX0_reach 12 = .ok (.astore 4, 2) := dk_58 4 (dk_at dksX0_reach_0 12 rfl rfl)
theorem dX0_reach_14 : decode cX0_reach 14 = .ok (.aload_n 0, 1) := dk_42 (dk_at dksX0_reach_0 14 rfl rfl)
theorem dX0_reach_15 : decode cX0_reach 15 = .ok (.getfield 20, 3) := dk_180 0 20 (dk_at dksX0_reach_0 15 rfl rfl)
theorem dX0_reach_18 : decode cX0_reach 18 = .ok (.getfield 49, 3) := dk_180 0 49 (dk_at dksX0_reach_0 18 rfl rfl)
theorem dX0_reach_21 : decode cX0_reach 21 = .ok (.iload_n 1, 1) := dk_27 (dk_at dksX0_reach_0 21 rfl rfl)
theorem dX0_reach_22 : decode cX0_reach 22 = .ok (.aaload, 1) := dk_50 (dk_at dksX0_reach_0 22 rfl rfl)
theorem dX0_reach_23 : decode cX0_reach 23 = .ok (.aload 4, 2) := dk_25 4 (dk_at dksX0_reach_1 0 rfl rfl)
theorem dX0_reach_25 : decode cX0_reach 25 = .ok (.iload_n 2, 1) := dk_28 (dk_at dksX0_reach_1 2 rfl rfl)
theorem dX0_reach_26 : decode cX0_reach 26 = .ok (.invokevirtual 280, 3) := dk_182 1 24 (dk_at dksX0_reach_1 3 rfl rfl)
theorem dX0_reach_29 : decode cX0_reach 29 = .ok (.astore 5, 2) := dk_58 5 (dk_at dksX0_reach_1 6 rfl rfl)
theorem dX0_reach_31 : decode cX0_reach 31 = .ok (.iconst 0, 1) := dk_3 (dk_at dksX0_reach_1 8 rfl rfl)
theorem dX0_reach_32 : decode cX0_reach 32 = .ok (.istore 6, 2) := dk_54 6 (dk_at dksX0_reach_1 9 rfl rfl)
theorem dX0_reach_34 : decode cX0_reach 34 = .ok (.iconst 0, 1) := dk_3 (dk_at dksX0_reach_1 11 rfl rfl)
theorem dX0_reach_35 : decode cX0_reach 35 = .ok (.istore 7, 2) := dk_54 7 (dk_at dksX0_reach_1 12 rfl rfl)
theorem dX0_reach_37 : decode cX0_reach 37 = .ok (.iload 7, 2) := dk_21 7 (dk_at dksX0_reach_1 14 rfl rfl)
theorem dX0_reach_39 : decode cX0_reach 39 = .ok (.bipush 125, 2) := dk_16 125 (dk_at dksX0_reach_1 16 rfl rfl)
theorem dX0_reach_41 : decode cX0_reach 41 = .ok (.if_icmp .ge 29, 3) := dk_162 0 29 (dk_at dksX0_reach_1 18 rfl rfl)
theorem dX0_reach_44 : decode cX0_reach 44 = .ok (.iload 6, 2) := dk_21 6 (dk_at dksX0_reach_1 21 rfl rfl)
theorem dX0_reach_46 : decode cX0_reach 46 = .ok (.aload 5, 2) := dk_25 5 (dk_at dksX0_reach_2 0 rfl rfl)
theorem dX0_reach_48 : decode cX0_reach 48 = .ok (.iload 7, 2) := dk_21 7 (dk_at dksX0_reach_2 2 rfl rfl)
theorem dX0_reach_50 : decode cX0_reach 50 = .ok (.laload, 1) := dk_47 (dk_at dksX0_reach_2 4 rfl rfl)
theorem dX0_reach_51 : decode cX0_reach 51 = .ok (.lconst 0, 1) := dk_9 (dk_at dksX0_reach_2 5 rfl rfl)
theorem dX0_reach_52 : decode cX0_reach 52 = .ok (.lcmp, 1) := dk_148 (dk_at dksX0_reach_2 6 rfl rfl)
theorem dX0_reach_53 : decode cX0_reach 53 = .ok (.ifCond .le 7, 3) := dk_158 0 7 (dk_at dksX0_reach_2 7 rfl rfl)
theorem dX0_reach_56 : decode cX0_reach 56 = .ok (.iconst 1, 1) := dk_4 (dk_at dksX0_reach_2 10 rfl rfl)
theorem dX0_reach_57 : decode cX0_reach 57 = .ok (.goto 4, 3) := dk_167 0 4 (dk_at dksX0_reach_2 11 rfl rfl)
theorem dX0_reach_60 : decode cX0_reach 60 = .ok (.iconst 0, 1) := dk_3 (dk_at dksX0_reach_2 14 rfl rfl)
theorem dX0_reach_61 : decode cX0_reach 61 = .ok (.iadd, 1) := dk_96 (dk_at dksX0_reach_2 15 rfl rfl)
theorem dX0_reach_62 : decode cX0_reach 62 = .ok (.istore 6, 2) := dk_54 6 (dk_at dksX0_reach_2 16 rfl rfl)
theorem dX0_reach_64 : decode cX0_reach 64 = .ok (.iinc 7 1, 3) := dk_132 7 1 (dk_at dksX0_reach_2 18 rfl rfl)
theorem dX0_reach_67 : decode cX0_reach 67 = .ok (.goto (-30), 3) := dk_167 255 226 (dk_at dksX0_reach_2 21 rfl rfl)
theorem dX0_reach_70 : decode cX0_reach 70 = .ok (.iload 6, 2) := dk_21 6 (dk_at dksX0_reach_3 0 rfl rfl)
theorem dX0_reach_72 : decode cX0_reach 72 = .ok (.ireturn, 1) := dk_172 (dk_at dksX0_reach_3 2 rfl rfl)
theorem dX0_reach_73 : decode cX0_reach 73 = .ok (.astore 4, 2) := dk_58 4 (dk_at dksX0_reach_3 3 rfl rfl)
theorem dX0_reach_75 : decode cX0_reach 75 = .ok (.aload_n 0, 1) := dk_42 (dk_at dksX0_reach_3 5 rfl rfl)
theorem dX0_reach_76 : decode cX0_reach 76 = .ok (.aload 4, 2) := dk_25 4 (dk_at dksX0_reach_3 6 rfl rfl)
theorem dX0_reach_78 : decode cX0_reach 78 = .ok (.getfield 110, 3) := dk_180 0 110 (dk_at dksX0_reach_3 8 rfl rfl)
theorem dX0_reach_81 : decode cX0_reach 81 = .ok (.invokevirtual 81, 3) := dk_182 0 81 (dk_at dksX0_reach_3 11 rfl rfl)
theorem dX0_reach_84 : decode cX0_reach 84 = .ok (.ireturn, 1) := dk_172 (dk_at dksX0_reach_3 14 rfl rfl)
abbrev cX0_held : ByteArray := prog_1_method_53_code
def yX0_held : MethodName := ⟨RX0, "held", "(III)J"⟩
def dkwX0_held_1 : List UInt8 := [28, 182, 1, 28, 173, 58, 4, 42, 25, 4, 180, 0, 110, 182, 0, 81, 133, 173]
abbrev dktX0_held_1 : List UInt8 := dkwX0_held_1 ++ []
def dkwX0_held_0 : List UInt8 := [42, 42, 27, 28, 182, 0, 214, 29, 182, 1, 20, 58, 4, 42, 180, 0, 20, 180, 0, 49, 27, 50, 25, 4]
abbrev dktX0_held_0 : List UInt8 := dkwX0_held_0 ++ dktX0_held_1
theorem dksX0_held_0 : cX0_held.data.toList.drop 0 = dktX0_held_0 := by decide +kernel
theorem dksX0_held_1 : cX0_held.data.toList.drop 24 = dktX0_held_1 := dk_seg dksX0_held_0 24 rfl rfl
theorem dX0_held_0 : decode cX0_held 0 = .ok (.aload_n 0, 1) := dk_42 (dk_at dksX0_held_0 0 rfl rfl)
theorem dX0_held_1 : decode cX0_held 1 = .ok (.aload_n 0, 1) := dk_42 (dk_at dksX0_held_0 1 rfl rfl)
theorem dX0_held_2 : decode cX0_held 2 = .ok (.iload_n 1, 1) := dk_27 (dk_at dksX0_held_0 2 rfl rfl)
theorem dX0_held_3 : decode cX0_held 3 = .ok (.iload_n 2, 1) := dk_28 (dk_at dksX0_held_0 3 rfl rfl)
theorem dX0_held_4 : decode cX0_held 4 = .ok (.invokevirtual 214, 3) := dk_182 0 214 (dk_at dksX0_held_0 4 rfl rfl)
theorem dX0_held_7 : decode cX0_held 7 = .ok (.iload_n 3, 1) := dk_29 (dk_at dksX0_held_0 7 rfl rfl)
theorem dX0_held_8 : decode cX0_held 8 = .ok (.invokevirtual 276, 3) := dk_182 1 20 (dk_at dksX0_held_0 8 rfl rfl)
theorem dX0_held_11 : decode cX0_held 11 = .ok (.astore 4, 2) := dk_58 4 (dk_at dksX0_held_0 11 rfl rfl)
theorem dX0_held_13 : decode cX0_held 13 = .ok (.aload_n 0, 1) := dk_42 (dk_at dksX0_held_0 13 rfl rfl)
theorem dX0_held_14 : decode cX0_held 14 = .ok (.getfield 20, 3) := dk_180 0 20 (dk_at dksX0_held_0 14 rfl rfl)
theorem dX0_held_17 : decode cX0_held 17 = .ok (.getfield 49, 3) := dk_180 0 49 (dk_at dksX0_held_0 17 rfl rfl)
theorem dX0_held_20 : decode cX0_held 20 = .ok (.iload_n 1, 1) := dk_27 (dk_at dksX0_held_0 20 rfl rfl)
theorem dX0_held_21 : decode cX0_held 21 = .ok (.aaload, 1) := dk_50 (dk_at dksX0_held_0 21 rfl rfl)
theorem dX0_held_22 : decode cX0_held 22 = .ok (.aload 4, 2) := dk_25 4 (dk_at dksX0_held_0 22 rfl rfl)
theorem dX0_held_24 : decode cX0_held 24 = .ok (.iload_n 2, 1) := dk_28 (dk_at dksX0_held_1 0 rfl rfl)
theorem dX0_held_25 : decode cX0_held 25 = .ok (.invokevirtual 284, 3) := dk_182 1 28 (dk_at dksX0_held_1 1 rfl rfl)
theorem dX0_held_28 : decode cX0_held 28 = .ok (.lreturn, 1) := dk_173 (dk_at dksX0_held_1 4 rfl rfl)
theorem dX0_held_29 : decode cX0_held 29 = .ok (.astore 4, 2) := dk_58 4 (dk_at dksX0_held_1 5 rfl rfl)
theorem dX0_held_31 : decode cX0_held 31 = .ok (.aload_n 0, 1) := dk_42 (dk_at dksX0_held_1 7 rfl rfl)
theorem dX0_held_32 : decode cX0_held 32 = .ok (.aload 4, 2) := dk_25 4 (dk_at dksX0_held_1 8 rfl rfl)
theorem dX0_held_34 : decode cX0_held 34 = .ok (.getfield 110, 3) := dk_180 0 110 (dk_at dksX0_held_1 10 rfl rfl)
theorem dX0_held_37 : decode cX0_held 37 = .ok (.invokevirtual 81, 3) := dk_182 0 81 (dk_at dksX0_held_1 13 rfl rfl)
theorem dX0_held_40 : decode cX0_held 40 = .ok (.i2l, 1) := dk_133 (dk_at dksX0_held_1 16 rfl rfl)
theorem dX0_held_41 : decode cX0_held 41 = .ok (.lreturn, 1) := dk_173 (dk_at dksX0_held_1 17 rfl rfl)
abbrev cX0_boxes : ByteArray := prog_1_method_54_code
def yX0_boxes : MethodName := ⟨RX0, "boxes", "(II)J"⟩
def dkwX0_boxes_1 : List UInt8 := [182, 1, 28, 173, 78, 42, 45, 180, 0, 110, 182, 0, 81, 133, 173]
abbrev dktX0_boxes_1 : List UInt8 := dkwX0_boxes_1 ++ []
def dkwX0_boxes_0 : List UInt8 := [42, 42, 27, 182, 0, 45, 28, 182, 1, 20, 78, 42, 180, 0, 20, 180, 0, 49, 27, 50, 45, 2]
abbrev dktX0_boxes_0 : List UInt8 := dkwX0_boxes_0 ++ dktX0_boxes_1
theorem dksX0_boxes_0 : cX0_boxes.data.toList.drop 0 = dktX0_boxes_0 := by decide +kernel
theorem dksX0_boxes_1 : cX0_boxes.data.toList.drop 22 = dktX0_boxes_1 := dk_seg dksX0_boxes_0 22 rfl rfl
theorem dX0_boxes_0 : decode cX0_boxes 0 = .ok (.aload_n 0, 1) := dk_42 (dk_at dksX0_boxes_0 0 rfl rfl)
theorem dX0_boxes_1 : decode cX0_boxes 1 = .ok (.aload_n 0, 1) := dk_42 (dk_at dksX0_boxes_0 1 rfl rfl)
theorem dX0_boxes_2 : decode cX0_boxes 2 = .ok (.iload_n 1, 1) := dk_27 (dk_at dksX0_boxes_0 2 rfl rfl)
theorem dX0_boxes_3 : decode cX0_boxes 3 = .ok (.invokevirtual 45, 3) := dk_182 0 45 (dk_at dksX0_boxes_0 3 rfl rfl)
theorem dX0_boxes_6 : decode cX0_boxes 6 = .ok (.iload_n 2, 1) := dk_28 (dk_at dksX0_boxes_0 6 rfl rfl)
theorem dX0_boxes_7 : decode cX0_boxes 7 = .ok (.invokevirtual 276, 3) := dk_182 1 20 (dk_at dksX0_boxes_0 7 rfl rfl)
theorem dX0_boxes_10 : decode cX0_boxes 10 = .ok (.astore_n 3, 1) := dk_78 (dk_at dksX0_boxes_0 10 rfl rfl)
theorem dX0_boxes_11 : decode cX0_boxes 11 = .ok (.aload_n 0, 1) := dk_42 (dk_at dksX0_boxes_0 11 rfl rfl)
theorem dX0_boxes_12 : decode cX0_boxes 12 = .ok (.getfield 20, 3) := dk_180 0 20 (dk_at dksX0_boxes_0 12 rfl rfl)
theorem dX0_boxes_15 : decode cX0_boxes 15 = .ok (.getfield 49, 3) := dk_180 0 49 (dk_at dksX0_boxes_0 15 rfl rfl)
theorem dX0_boxes_18 : decode cX0_boxes 18 = .ok (.iload_n 1, 1) := dk_27 (dk_at dksX0_boxes_0 18 rfl rfl)
theorem dX0_boxes_19 : decode cX0_boxes 19 = .ok (.aaload, 1) := dk_50 (dk_at dksX0_boxes_0 19 rfl rfl)
theorem dX0_boxes_20 : decode cX0_boxes 20 = .ok (.aload_n 3, 1) := dk_45 (dk_at dksX0_boxes_0 20 rfl rfl)
theorem dX0_boxes_21 : decode cX0_boxes 21 = .ok (.iconst (-1), 1) := dk_2 (dk_at dksX0_boxes_0 21 rfl rfl)
theorem dX0_boxes_22 : decode cX0_boxes 22 = .ok (.invokevirtual 284, 3) := dk_182 1 28 (dk_at dksX0_boxes_1 0 rfl rfl)
theorem dX0_boxes_25 : decode cX0_boxes 25 = .ok (.lreturn, 1) := dk_173 (dk_at dksX0_boxes_1 3 rfl rfl)
theorem dX0_boxes_26 : decode cX0_boxes 26 = .ok (.astore_n 3, 1) := dk_78 (dk_at dksX0_boxes_1 4 rfl rfl)
theorem dX0_boxes_27 : decode cX0_boxes 27 = .ok (.aload_n 0, 1) := dk_42 (dk_at dksX0_boxes_1 5 rfl rfl)
theorem dX0_boxes_28 : decode cX0_boxes 28 = .ok (.aload_n 3, 1) := dk_45 (dk_at dksX0_boxes_1 6 rfl rfl)
theorem dX0_boxes_29 : decode cX0_boxes 29 = .ok (.getfield 110, 3) := dk_180 0 110 (dk_at dksX0_boxes_1 7 rfl rfl)
theorem dX0_boxes_32 : decode cX0_boxes 32 = .ok (.invokevirtual 81, 3) := dk_182 0 81 (dk_at dksX0_boxes_1 10 rfl rfl)
theorem dX0_boxes_35 : decode cX0_boxes 35 = .ok (.i2l, 1) := dk_133 (dk_at dksX0_boxes_1 13 rfl rfl)
theorem dX0_boxes_36 : decode cX0_boxes 36 = .ok (.lreturn, 1) := dk_173 (dk_at dksX0_boxes_1 14 rfl rfl)
abbrev cX0_plain : ByteArray := prog_1_method_55_code
def yX0_plain : MethodName := ⟨RX0, "plain", "(I)I"⟩
def dkwX0_plain_4 : List UInt8 := [55, 4, 21, 7, 62, 132, 7, 1, 167, 255, 201, 29, 172]
abbrev dktX0_plain_4 : List UInt8 := dkwX0_plain_4 ++ []
def dkwX0_plain_3 : List UInt8 := [180, 0, 62, 3, 182, 1, 4, 55, 8, 29, 2, 159, 0, 11, 22, 8, 22, 4, 148, 156, 0, 10, 22, 8]
abbrev dktX0_plain_3 : List UInt8 := dkwX0_plain_3 ++ dktX0_plain_4
def dkwX0_plain_2 : List UInt8 := [21, 7, 16, 99, 21, 6, 184, 1, 32, 163, 0, 49, 44, 187, 0, 142, 89, 21, 7, 183, 0, 144, 44]
abbrev dktX0_plain_2 : List UInt8 := dkwX0_plain_2 ++ dktX0_plain_3
def dkwX0_plain_1 : List UInt8 := [77, 2, 62, 9, 55, 4, 44, 44, 182, 0, 58, 4, 100, 182, 0, 237, 4, 96, 54, 6, 3, 54, 7]
abbrev dktX0_plain_1 : List UInt8 := dkwX0_plain_1 ++ dktX0_plain_2
def dkwX0_plain_0 : List UInt8 := [42, 27, 182, 0, 45, 154, 0, 10, 42, 16, 254, 182, 0, 81, 172, 42, 180, 0, 20, 180, 0, 49, 27, 50]
abbrev dktX0_plain_0 : List UInt8 := dkwX0_plain_0 ++ dktX0_plain_1
theorem dksX0_plain_0 : cX0_plain.data.toList.drop 0 = dktX0_plain_0 := by decide +kernel
theorem dksX0_plain_1 : cX0_plain.data.toList.drop 24 = dktX0_plain_1 := dk_seg dksX0_plain_0 24 rfl rfl
theorem dksX0_plain_2 : cX0_plain.data.toList.drop 47 = dktX0_plain_2 := dk_seg dksX0_plain_1 23 rfl rfl
theorem dksX0_plain_3 : cX0_plain.data.toList.drop 70 = dktX0_plain_3 := dk_seg dksX0_plain_2 23 rfl rfl
theorem dksX0_plain_4 : cX0_plain.data.toList.drop 94 = dktX0_plain_4 := dk_seg dksX0_plain_3 24 rfl rfl
theorem dX0_plain_0 : decode cX0_plain 0 = .ok (.aload_n 0, 1) := dk_42 (dk_at dksX0_plain_0 0 rfl rfl)
theorem dX0_plain_1 : decode cX0_plain 1 = .ok (.iload_n 1, 1) := dk_27 (dk_at dksX0_plain_0 1 rfl rfl)
theorem dX0_plain_2 : decode cX0_plain 2 = .ok (.invokevirtual 45, 3) := dk_182 0 45 (dk_at dksX0_plain_0 2 rfl rfl)
theorem dX0_plain_5 : decode cX0_plain 5 = .ok (.ifCond .ne 10, 3) := dk_154 0 10 (dk_at dksX0_plain_0 5 rfl rfl)
theorem dX0_plain_8 : decode cX0_plain 8 = .ok (.aload_n 0, 1) := dk_42 (dk_at dksX0_plain_0 8 rfl rfl)
theorem dX0_plain_9 : decode cX0_plain 9 = .ok (.bipush (-2), 2) := dk_16 254 (dk_at dksX0_plain_0 9 rfl rfl)
theorem dX0_plain_11 : decode cX0_plain 11 = .ok (.invokevirtual 81, 3) := dk_182 0 81 (dk_at dksX0_plain_0 11 rfl rfl)
theorem dX0_plain_14 : decode cX0_plain 14 = .ok (.ireturn, 1) := dk_172 (dk_at dksX0_plain_0 14 rfl rfl)
theorem dX0_plain_15 : decode cX0_plain 15 = .ok (.aload_n 0, 1) := dk_42 (dk_at dksX0_plain_0 15 rfl rfl)
theorem dX0_plain_16 : decode cX0_plain 16 = .ok (.getfield 20, 3) := dk_180 0 20 (dk_at dksX0_plain_0 16 rfl rfl)
theorem dX0_plain_19 : decode cX0_plain 19 = .ok (.getfield 49, 3) := dk_180 0 49 (dk_at dksX0_plain_0 19 rfl rfl)
theorem dX0_plain_22 : decode cX0_plain 22 = .ok (.iload_n 1, 1) := dk_27 (dk_at dksX0_plain_0 22 rfl rfl)
theorem dX0_plain_23 : decode cX0_plain 23 = .ok (.aaload, 1) := dk_50 (dk_at dksX0_plain_0 23 rfl rfl)
theorem dX0_plain_24 : decode cX0_plain 24 = .ok (.astore_n 2, 1) := dk_77 (dk_at dksX0_plain_1 0 rfl rfl)
theorem dX0_plain_25 : decode cX0_plain 25 = .ok (.iconst (-1), 1) := dk_2 (dk_at dksX0_plain_1 1 rfl rfl)
theorem dX0_plain_26 : decode cX0_plain 26 = .ok (.istore_n 3, 1) := dk_62 (dk_at dksX0_plain_1 2 rfl rfl)
theorem dX0_plain_27 : decode cX0_plain 27 = .ok (.lconst 0, 1) := dk_9 (dk_at dksX0_plain_1 3 rfl rfl)
theorem dX0_plain_28 : decode cX0_plain 28 = .ok (.lstore 4, 2) := dk_55 4 (dk_at dksX0_plain_1 4 rfl rfl)
theorem dX0_plain_30 : decode cX0_plain 30 = .ok (.aload_n 2, 1) := dk_44 (dk_at dksX0_plain_1 6 rfl rfl)
theorem dX0_plain_31 : decode cX0_plain 31 = .ok (.aload_n 2, 1) := dk_44 (dk_at dksX0_plain_1 7 rfl rfl)
theorem dX0_plain_32 : decode cX0_plain 32 = .ok (.invokevirtual 58, 3) := dk_182 0 58 (dk_at dksX0_plain_1 8 rfl rfl)
theorem dX0_plain_35 : decode cX0_plain 35 = .ok (.iconst 1, 1) := dk_4 (dk_at dksX0_plain_1 11 rfl rfl)
theorem dX0_plain_36 : decode cX0_plain 36 = .ok (.isub, 1) := dk_100 (dk_at dksX0_plain_1 12 rfl rfl)
theorem dX0_plain_37 : decode cX0_plain 37 = .ok (.invokevirtual 237, 3) := dk_182 0 237 (dk_at dksX0_plain_1 13 rfl rfl)
theorem dX0_plain_40 : decode cX0_plain 40 = .ok (.iconst 1, 1) := dk_4 (dk_at dksX0_plain_1 16 rfl rfl)
theorem dX0_plain_41 : decode cX0_plain 41 = .ok (.iadd, 1) := dk_96 (dk_at dksX0_plain_1 17 rfl rfl)
theorem dX0_plain_42 : decode cX0_plain 42 = .ok (.istore 6, 2) := dk_54 6 (dk_at dksX0_plain_1 18 rfl rfl)
theorem dX0_plain_44 : decode cX0_plain 44 = .ok (.iconst 0, 1) := dk_3 (dk_at dksX0_plain_1 20 rfl rfl)
theorem dX0_plain_45 : decode cX0_plain 45 = .ok (.istore 7, 2) := dk_54 7 (dk_at dksX0_plain_1 21 rfl rfl)
theorem dX0_plain_47 : decode cX0_plain 47 = .ok (.iload 7, 2) := dk_21 7 (dk_at dksX0_plain_2 0 rfl rfl)
theorem dX0_plain_49 : decode cX0_plain 49 = .ok (.bipush 99, 2) := dk_16 99 (dk_at dksX0_plain_2 2 rfl rfl)
theorem dX0_plain_51 : decode cX0_plain 51 = .ok (.iload 6, 2) := dk_21 6 (dk_at dksX0_plain_2 4 rfl rfl)
theorem dX0_plain_53 : decode cX0_plain 53 = .ok (.invokestatic 288, 3) := dk_184 1 32 (dk_at dksX0_plain_2 6 rfl rfl)
theorem dX0_plain_56 : decode cX0_plain 56 = .ok (.if_icmp .gt 49, 3) := dk_163 0 49 (dk_at dksX0_plain_2 9 rfl rfl)
theorem dX0_plain_59 : decode cX0_plain 59 = .ok (.aload_n 2, 1) := dk_44 (dk_at dksX0_plain_2 12 rfl rfl)
theorem dX0_plain_60 : decode cX0_plain 60 = .ok (.new 142, 3) := dk_187 0 142 (dk_at dksX0_plain_2 13 rfl rfl)
theorem dX0_plain_63 : decode cX0_plain 63 = .ok (.dup, 1) := dk_89 (dk_at dksX0_plain_2 16 rfl rfl)
theorem dX0_plain_64 : decode cX0_plain 64 = .ok (.iload 7, 2) := dk_21 7 (dk_at dksX0_plain_2 17 rfl rfl)
theorem dX0_plain_66 : decode cX0_plain 66 = .ok (.invokespecial 144, 3) := dk_183 0 144 (dk_at dksX0_plain_2 19 rfl rfl)
theorem dX0_plain_69 : decode cX0_plain 69 = .ok (.aload_n 2, 1) := dk_44 (dk_at dksX0_plain_2 22 rfl rfl)
theorem dX0_plain_70 : decode cX0_plain 70 = .ok (.getfield 62, 3) := dk_180 0 62 (dk_at dksX0_plain_3 0 rfl rfl)
theorem dX0_plain_73 : decode cX0_plain 73 = .ok (.iconst 0, 1) := dk_3 (dk_at dksX0_plain_3 3 rfl rfl)
theorem dX0_plain_74 : decode cX0_plain 74 = .ok (.invokevirtual 260, 3) := dk_182 1 4 (dk_at dksX0_plain_3 4 rfl rfl)
theorem dX0_plain_77 : decode cX0_plain 77 = .ok (.lstore 8, 2) := dk_55 8 (dk_at dksX0_plain_3 7 rfl rfl)
theorem dX0_plain_79 : decode cX0_plain 79 = .ok (.iload_n 3, 1) := dk_29 (dk_at dksX0_plain_3 9 rfl rfl)
theorem dX0_plain_80 : decode cX0_plain 80 = .ok (.iconst (-1), 1) := dk_2 (dk_at dksX0_plain_3 10 rfl rfl)
theorem dX0_plain_81 : decode cX0_plain 81 = .ok (.if_icmp .eq 11, 3) := dk_159 0 11 (dk_at dksX0_plain_3 11 rfl rfl)
theorem dX0_plain_84 : decode cX0_plain 84 = .ok (.lload 8, 2) := dk_22 8 (dk_at dksX0_plain_3 14 rfl rfl)
theorem dX0_plain_86 : decode cX0_plain 86 = .ok (.lload 4, 2) := dk_22 4 (dk_at dksX0_plain_3 16 rfl rfl)
theorem dX0_plain_88 : decode cX0_plain 88 = .ok (.lcmp, 1) := dk_148 (dk_at dksX0_plain_3 18 rfl rfl)
theorem dX0_plain_89 : decode cX0_plain 89 = .ok (.ifCond .ge 10, 3) := dk_156 0 10 (dk_at dksX0_plain_3 19 rfl rfl)
theorem dX0_plain_92 : decode cX0_plain 92 = .ok (.lload 8, 2) := dk_22 8 (dk_at dksX0_plain_3 22 rfl rfl)
theorem dX0_plain_94 : decode cX0_plain 94 = .ok (.lstore 4, 2) := dk_55 4 (dk_at dksX0_plain_4 0 rfl rfl)
theorem dX0_plain_96 : decode cX0_plain 96 = .ok (.iload 7, 2) := dk_21 7 (dk_at dksX0_plain_4 2 rfl rfl)
theorem dX0_plain_98 : decode cX0_plain 98 = .ok (.istore_n 3, 1) := dk_62 (dk_at dksX0_plain_4 4 rfl rfl)
theorem dX0_plain_99 : decode cX0_plain 99 = .ok (.iinc 7 1, 3) := dk_132 7 1 (dk_at dksX0_plain_4 5 rfl rfl)
theorem dX0_plain_102 : decode cX0_plain 102 = .ok (.goto (-55), 3) := dk_167 255 201 (dk_at dksX0_plain_4 8 rfl rfl)
theorem dX0_plain_105 : decode cX0_plain 105 = .ok (.iload_n 3, 1) := dk_29 (dk_at dksX0_plain_4 11 rfl rfl)
theorem dX0_plain_106 : decode cX0_plain 106 = .ok (.ireturn, 1) := dk_172 (dk_at dksX0_plain_4 12 rfl rfl)
abbrev cX0_every : ByteArray := prog_1_method_56_code
def yX0_every : MethodName := ⟨RX0, "every", "(I)I"⟩
def dkwX0_every_3 : List UInt8 := [156, 0, 10, 22, 7, 55, 4, 21, 6, 62, 132, 6, 1, 167, 255, 206, 29, 172]
abbrev dktX0_every_3 : List UInt8 := dkwX0_every_3 ++ []
def dkwX0_every_2 : List UInt8 := [183, 0, 147, 44, 180, 0, 62, 3, 182, 1, 4, 55, 7, 29, 2, 159, 0, 11, 22, 7, 22, 4, 148]
abbrev dktX0_every_2 : List UInt8 := dkwX0_every_2 ++ dktX0_every_3
def dkwX0_every_1 : List UInt8 := [77, 2, 62, 9, 55, 4, 4, 54, 6, 21, 6, 16, 6, 163, 0, 49, 44, 187, 0, 145, 89, 21, 6]
abbrev dktX0_every_1 : List UInt8 := dkwX0_every_1 ++ dktX0_every_2
def dkwX0_every_0 : List UInt8 := [42, 27, 182, 0, 45, 154, 0, 10, 42, 16, 254, 182, 0, 81, 172, 42, 180, 0, 20, 180, 0, 49, 27, 50]
abbrev dktX0_every_0 : List UInt8 := dkwX0_every_0 ++ dktX0_every_1
theorem dksX0_every_0 : cX0_every.data.toList.drop 0 = dktX0_every_0 := by decide +kernel
theorem dksX0_every_1 : cX0_every.data.toList.drop 24 = dktX0_every_1 := dk_seg dksX0_every_0 24 rfl rfl
theorem dksX0_every_2 : cX0_every.data.toList.drop 47 = dktX0_every_2 := dk_seg dksX0_every_1 23 rfl rfl
theorem dksX0_every_3 : cX0_every.data.toList.drop 70 = dktX0_every_3 := dk_seg dksX0_every_2 23 rfl rfl
theorem dX0_every_0 : decode cX0_every 0 = .ok (.aload_n 0, 1) := dk_42 (dk_at dksX0_every_0 0 rfl rfl)
theorem dX0_every_1 : decode cX0_every 1 = .ok (.iload_n 1, 1) := dk_27 (dk_at dksX0_every_0 1 rfl rfl)
theorem dX0_every_2 : decode cX0_every 2 = .ok (.invokevirtual 45, 3) := dk_182 0 45 (dk_at dksX0_every_0 2 rfl rfl)
theorem dX0_every_5 : decode cX0_every 5 = .ok (.ifCond .ne 10, 3) := dk_154 0 10 (dk_at dksX0_every_0 5 rfl rfl)
theorem dX0_every_8 : decode cX0_every 8 = .ok (.aload_n 0, 1) := dk_42 (dk_at dksX0_every_0 8 rfl rfl)
theorem dX0_every_9 : decode cX0_every 9 = .ok (.bipush (-2), 2) := dk_16 254 (dk_at dksX0_every_0 9 rfl rfl)
theorem dX0_every_11 : decode cX0_every 11 = .ok (.invokevirtual 81, 3) := dk_182 0 81 (dk_at dksX0_every_0 11 rfl rfl)
theorem dX0_every_14 : decode cX0_every 14 = .ok (.ireturn, 1) := dk_172 (dk_at dksX0_every_0 14 rfl rfl)
theorem dX0_every_15 : decode cX0_every 15 = .ok (.aload_n 0, 1) := dk_42 (dk_at dksX0_every_0 15 rfl rfl)
theorem dX0_every_16 : decode cX0_every 16 = .ok (.getfield 20, 3) := dk_180 0 20 (dk_at dksX0_every_0 16 rfl rfl)
theorem dX0_every_19 : decode cX0_every 19 = .ok (.getfield 49, 3) := dk_180 0 49 (dk_at dksX0_every_0 19 rfl rfl)
theorem dX0_every_22 : decode cX0_every 22 = .ok (.iload_n 1, 1) := dk_27 (dk_at dksX0_every_0 22 rfl rfl)
theorem dX0_every_23 : decode cX0_every 23 = .ok (.aaload, 1) := dk_50 (dk_at dksX0_every_0 23 rfl rfl)
theorem dX0_every_24 : decode cX0_every 24 = .ok (.astore_n 2, 1) := dk_77 (dk_at dksX0_every_1 0 rfl rfl)
theorem dX0_every_25 : decode cX0_every 25 = .ok (.iconst (-1), 1) := dk_2 (dk_at dksX0_every_1 1 rfl rfl)
theorem dX0_every_26 : decode cX0_every 26 = .ok (.istore_n 3, 1) := dk_62 (dk_at dksX0_every_1 2 rfl rfl)
theorem dX0_every_27 : decode cX0_every 27 = .ok (.lconst 0, 1) := dk_9 (dk_at dksX0_every_1 3 rfl rfl)
theorem dX0_every_28 : decode cX0_every 28 = .ok (.lstore 4, 2) := dk_55 4 (dk_at dksX0_every_1 4 rfl rfl)
theorem dX0_every_30 : decode cX0_every 30 = .ok (.iconst 1, 1) := dk_4 (dk_at dksX0_every_1 6 rfl rfl)
theorem dX0_every_31 : decode cX0_every 31 = .ok (.istore 6, 2) := dk_54 6 (dk_at dksX0_every_1 7 rfl rfl)
theorem dX0_every_33 : decode cX0_every 33 = .ok (.iload 6, 2) := dk_21 6 (dk_at dksX0_every_1 9 rfl rfl)
theorem dX0_every_35 : decode cX0_every 35 = .ok (.bipush 6, 2) := dk_16 6 (dk_at dksX0_every_1 11 rfl rfl)
theorem dX0_every_37 : decode cX0_every 37 = .ok (.if_icmp .gt 49, 3) := dk_163 0 49 (dk_at dksX0_every_1 13 rfl rfl)
theorem dX0_every_40 : decode cX0_every 40 = .ok (.aload_n 2, 1) := dk_44 (dk_at dksX0_every_1 16 rfl rfl)
theorem dX0_every_41 : decode cX0_every 41 = .ok (.new 145, 3) := dk_187 0 145 (dk_at dksX0_every_1 17 rfl rfl)
theorem dX0_every_44 : decode cX0_every 44 = .ok (.dup, 1) := dk_89 (dk_at dksX0_every_1 20 rfl rfl)
theorem dX0_every_45 : decode cX0_every 45 = .ok (.iload 6, 2) := dk_21 6 (dk_at dksX0_every_1 21 rfl rfl)
theorem dX0_every_47 : decode cX0_every 47 = .ok (.invokespecial 147, 3) := dk_183 0 147 (dk_at dksX0_every_2 0 rfl rfl)
theorem dX0_every_50 : decode cX0_every 50 = .ok (.aload_n 2, 1) := dk_44 (dk_at dksX0_every_2 3 rfl rfl)
theorem dX0_every_51 : decode cX0_every 51 = .ok (.getfield 62, 3) := dk_180 0 62 (dk_at dksX0_every_2 4 rfl rfl)
theorem dX0_every_54 : decode cX0_every 54 = .ok (.iconst 0, 1) := dk_3 (dk_at dksX0_every_2 7 rfl rfl)
theorem dX0_every_55 : decode cX0_every 55 = .ok (.invokevirtual 260, 3) := dk_182 1 4 (dk_at dksX0_every_2 8 rfl rfl)
theorem dX0_every_58 : decode cX0_every 58 = .ok (.lstore 7, 2) := dk_55 7 (dk_at dksX0_every_2 11 rfl rfl)
theorem dX0_every_60 : decode cX0_every 60 = .ok (.iload_n 3, 1) := dk_29 (dk_at dksX0_every_2 13 rfl rfl)
theorem dX0_every_61 : decode cX0_every 61 = .ok (.iconst (-1), 1) := dk_2 (dk_at dksX0_every_2 14 rfl rfl)
theorem dX0_every_62 : decode cX0_every 62 = .ok (.if_icmp .eq 11, 3) := dk_159 0 11 (dk_at dksX0_every_2 15 rfl rfl)
theorem dX0_every_65 : decode cX0_every 65 = .ok (.lload 7, 2) := dk_22 7 (dk_at dksX0_every_2 18 rfl rfl)
theorem dX0_every_67 : decode cX0_every 67 = .ok (.lload 4, 2) := dk_22 4 (dk_at dksX0_every_2 20 rfl rfl)
theorem dX0_every_69 : decode cX0_every 69 = .ok (.lcmp, 1) := dk_148 (dk_at dksX0_every_2 22 rfl rfl)
theorem dX0_every_70 : decode cX0_every 70 = .ok (.ifCond .ge 10, 3) := dk_156 0 10 (dk_at dksX0_every_3 0 rfl rfl)
theorem dX0_every_73 : decode cX0_every 73 = .ok (.lload 7, 2) := dk_22 7 (dk_at dksX0_every_3 3 rfl rfl)
theorem dX0_every_75 : decode cX0_every 75 = .ok (.lstore 4, 2) := dk_55 4 (dk_at dksX0_every_3 5 rfl rfl)
theorem dX0_every_77 : decode cX0_every 77 = .ok (.iload 6, 2) := dk_21 6 (dk_at dksX0_every_3 7 rfl rfl)
theorem dX0_every_79 : decode cX0_every 79 = .ok (.istore_n 3, 1) := dk_62 (dk_at dksX0_every_3 9 rfl rfl)
theorem dX0_every_80 : decode cX0_every 80 = .ok (.iinc 6 1, 3) := dk_132 6 1 (dk_at dksX0_every_3 10 rfl rfl)
theorem dX0_every_83 : decode cX0_every 83 = .ok (.goto (-50), 3) := dk_167 255 206 (dk_at dksX0_every_3 13 rfl rfl)
theorem dX0_every_86 : decode cX0_every 86 = .ok (.iload_n 3, 1) := dk_29 (dk_at dksX0_every_3 16 rfl rfl)
theorem dX0_every_87 : decode cX0_every 87 = .ok (.ireturn, 1) := dk_172 (dk_at dksX0_every_3 17 rfl rfl)
abbrev cX0_promise : ByteArray := prog_1_method_57_code
def yX0_promise : MethodName := ⟨RX0, "promise", "(II)J"⟩
def dkwX0_promise_1 : List UInt8 := [180, 0, 49, 27, 50, 78, 45, 28, 182, 1, 37, 45, 45, 180, 0, 62, 3, 182, 0, 246, 101, 173]
abbrev dktX0_promise_1 : List UInt8 := dkwX0_promise_1 ++ []
def dkwX0_promise_0 : List UInt8 := [42, 27, 4, 28, 182, 0, 239, 154, 0, 11, 42, 16, 254, 182, 0, 81, 133, 173, 42, 180, 0, 20]
abbrev dktX0_promise_0 : List UInt8 := dkwX0_promise_0 ++ dktX0_promise_1
theorem dksX0_promise_0 : cX0_promise.data.toList.drop 0 = dktX0_promise_0 := by decide +kernel
theorem dksX0_promise_1 : cX0_promise.data.toList.drop 22 = dktX0_promise_1 := dk_seg dksX0_promise_0 22 rfl rfl
theorem dX0_promise_0 : decode cX0_promise 0 = .ok (.aload_n 0, 1) := dk_42 (dk_at dksX0_promise_0 0 rfl rfl)
theorem dX0_promise_1 : decode cX0_promise 1 = .ok (.iload_n 1, 1) := dk_27 (dk_at dksX0_promise_0 1 rfl rfl)
theorem dX0_promise_2 : decode cX0_promise 2 = .ok (.iconst 1, 1) := dk_4 (dk_at dksX0_promise_0 2 rfl rfl)
theorem dX0_promise_3 : decode cX0_promise 3 = .ok (.iload_n 2, 1) := dk_28 (dk_at dksX0_promise_0 3 rfl rfl)
theorem dX0_promise_4 : decode cX0_promise 4 = .ok (.invokevirtual 239, 3) := dk_182 0 239 (dk_at dksX0_promise_0 4 rfl rfl)
theorem dX0_promise_7 : decode cX0_promise 7 = .ok (.ifCond .ne 11, 3) := dk_154 0 11 (dk_at dksX0_promise_0 7 rfl rfl)
theorem dX0_promise_10 : decode cX0_promise 10 = .ok (.aload_n 0, 1) := dk_42 (dk_at dksX0_promise_0 10 rfl rfl)
theorem dX0_promise_11 : decode cX0_promise 11 = .ok (.bipush (-2), 2) := dk_16 254 (dk_at dksX0_promise_0 11 rfl rfl)
theorem dX0_promise_13 : decode cX0_promise 13 = .ok (.invokevirtual 81, 3) := dk_182 0 81 (dk_at dksX0_promise_0 13 rfl rfl)
theorem dX0_promise_16 : decode cX0_promise 16 = .ok (.i2l, 1) := dk_133 (dk_at dksX0_promise_0 16 rfl rfl)
theorem dX0_promise_17 : decode cX0_promise 17 = .ok (.lreturn, 1) := dk_173 (dk_at dksX0_promise_0 17 rfl rfl)
theorem dX0_promise_18 : decode cX0_promise 18 = .ok (.aload_n 0, 1) := dk_42 (dk_at dksX0_promise_0 18 rfl rfl)
theorem dX0_promise_19 : decode cX0_promise 19 = .ok (.getfield 20, 3) := dk_180 0 20 (dk_at dksX0_promise_0 19 rfl rfl)
theorem dX0_promise_22 : decode cX0_promise 22 = .ok (.getfield 49, 3) := dk_180 0 49 (dk_at dksX0_promise_1 0 rfl rfl)
theorem dX0_promise_25 : decode cX0_promise 25 = .ok (.iload_n 1, 1) := dk_27 (dk_at dksX0_promise_1 3 rfl rfl)
theorem dX0_promise_26 : decode cX0_promise 26 = .ok (.aaload, 1) := dk_50 (dk_at dksX0_promise_1 4 rfl rfl)
theorem dX0_promise_27 : decode cX0_promise 27 = .ok (.astore_n 3, 1) := dk_78 (dk_at dksX0_promise_1 5 rfl rfl)
theorem dX0_promise_28 : decode cX0_promise 28 = .ok (.aload_n 3, 1) := dk_45 (dk_at dksX0_promise_1 6 rfl rfl)
theorem dX0_promise_29 : decode cX0_promise 29 = .ok (.iload_n 2, 1) := dk_28 (dk_at dksX0_promise_1 7 rfl rfl)
theorem dX0_promise_30 : decode cX0_promise 30 = .ok (.invokevirtual 293, 3) := dk_182 1 37 (dk_at dksX0_promise_1 8 rfl rfl)
theorem dX0_promise_33 : decode cX0_promise 33 = .ok (.aload_n 3, 1) := dk_45 (dk_at dksX0_promise_1 11 rfl rfl)
theorem dX0_promise_34 : decode cX0_promise 34 = .ok (.aload_n 3, 1) := dk_45 (dk_at dksX0_promise_1 12 rfl rfl)
theorem dX0_promise_35 : decode cX0_promise 35 = .ok (.getfield 62, 3) := dk_180 0 62 (dk_at dksX0_promise_1 13 rfl rfl)
theorem dX0_promise_38 : decode cX0_promise 38 = .ok (.iconst 0, 1) := dk_3 (dk_at dksX0_promise_1 16 rfl rfl)
theorem dX0_promise_39 : decode cX0_promise 39 = .ok (.invokevirtual 246, 3) := dk_182 0 246 (dk_at dksX0_promise_1 17 rfl rfl)
theorem dX0_promise_42 : decode cX0_promise 42 = .ok (.lsub, 1) := dk_101 (dk_at dksX0_promise_1 20 rfl rfl)
theorem dX0_promise_43 : decode cX0_promise 43 = .ok (.lreturn, 1) := dk_173 (dk_at dksX0_promise_1 21 rfl rfl)
abbrev cX0_shape : ByteArray := prog_1_method_60_code
def yX0_shape : MethodName := ⟨RX0, "shape", "(II)I"⟩
def dkwX0_shape_2 : List UInt8 := [184, 1, 44, 2, 160, 0, 6, 21, 5, 172, 132, 5, 1, 167, 255, 232, 2, 172]
abbrev dktX0_shape_2 : List UInt8 := dkwX0_shape_2 ++ []
def dkwX0_shape_1 : List UInt8 := [27, 50, 78, 45, 28, 184, 1, 40, 54, 4, 3, 54, 5, 21, 5, 21, 4, 163, 0, 23, 45, 28, 21, 5]
abbrev dktX0_shape_1 : List UInt8 := dkwX0_shape_1 ++ dktX0_shape_2
def dkwX0_shape_0 : List UInt8 := [42, 27, 4, 28, 182, 0, 239, 154, 0, 10, 42, 16, 254, 182, 0, 81, 172, 42, 180, 0, 20, 180, 0, 49]
abbrev dktX0_shape_0 : List UInt8 := dkwX0_shape_0 ++ dktX0_shape_1
theorem dksX0_shape_0 : cX0_shape.data.toList.drop 0 = dktX0_shape_0 := by decide +kernel
theorem dksX0_shape_1 : cX0_shape.data.toList.drop 24 = dktX0_shape_1 := dk_seg dksX0_shape_0 24 rfl rfl
theorem dksX0_shape_2 : cX0_shape.data.toList.drop 48 = dktX0_shape_2 := dk_seg dksX0_shape_1 24 rfl rfl
theorem dX0_shape_0 : decode cX0_shape 0 = .ok (.aload_n 0, 1) := dk_42 (dk_at dksX0_shape_0 0 rfl rfl)
theorem dX0_shape_1 : decode cX0_shape 1 = .ok (.iload_n 1, 1) := dk_27 (dk_at dksX0_shape_0 1 rfl rfl)
theorem dX0_shape_2 : decode cX0_shape 2 = .ok (.iconst 1, 1) := dk_4 (dk_at dksX0_shape_0 2 rfl rfl)
theorem dX0_shape_3 : decode cX0_shape 3 = .ok (.iload_n 2, 1) := dk_28 (dk_at dksX0_shape_0 3 rfl rfl)
theorem dX0_shape_4 : decode cX0_shape 4 = .ok (.invokevirtual 239, 3) := dk_182 0 239 (dk_at dksX0_shape_0 4 rfl rfl)
theorem dX0_shape_7 : decode cX0_shape 7 = .ok (.ifCond .ne 10, 3) := dk_154 0 10 (dk_at dksX0_shape_0 7 rfl rfl)
theorem dX0_shape_10 : decode cX0_shape 10 = .ok (.aload_n 0, 1) := dk_42 (dk_at dksX0_shape_0 10 rfl rfl)
theorem dX0_shape_11 : decode cX0_shape 11 = .ok (.bipush (-2), 2) := dk_16 254 (dk_at dksX0_shape_0 11 rfl rfl)
theorem dX0_shape_13 : decode cX0_shape 13 = .ok (.invokevirtual 81, 3) := dk_182 0 81 (dk_at dksX0_shape_0 13 rfl rfl)
theorem dX0_shape_16 : decode cX0_shape 16 = .ok (.ireturn, 1) := dk_172 (dk_at dksX0_shape_0 16 rfl rfl)
theorem dX0_shape_17 : decode cX0_shape 17 = .ok (.aload_n 0, 1) := dk_42 (dk_at dksX0_shape_0 17 rfl rfl)
theorem dX0_shape_18 : decode cX0_shape 18 = .ok (.getfield 20, 3) := dk_180 0 20 (dk_at dksX0_shape_0 18 rfl rfl)
theorem dX0_shape_21 : decode cX0_shape 21 = .ok (.getfield 49, 3) := dk_180 0 49 (dk_at dksX0_shape_0 21 rfl rfl)
theorem dX0_shape_24 : decode cX0_shape 24 = .ok (.iload_n 1, 1) := dk_27 (dk_at dksX0_shape_1 0 rfl rfl)
theorem dX0_shape_25 : decode cX0_shape 25 = .ok (.aaload, 1) := dk_50 (dk_at dksX0_shape_1 1 rfl rfl)
theorem dX0_shape_26 : decode cX0_shape 26 = .ok (.astore_n 3, 1) := dk_78 (dk_at dksX0_shape_1 2 rfl rfl)
theorem dX0_shape_27 : decode cX0_shape 27 = .ok (.aload_n 3, 1) := dk_45 (dk_at dksX0_shape_1 3 rfl rfl)
theorem dX0_shape_28 : decode cX0_shape 28 = .ok (.iload_n 2, 1) := dk_28 (dk_at dksX0_shape_1 4 rfl rfl)
theorem dX0_shape_29 : decode cX0_shape 29 = .ok (.invokestatic 296, 3) := dk_184 1 40 (dk_at dksX0_shape_1 5 rfl rfl)
theorem dX0_shape_32 : decode cX0_shape 32 = .ok (.istore 4, 2) := dk_54 4 (dk_at dksX0_shape_1 8 rfl rfl)
theorem dX0_shape_34 : decode cX0_shape 34 = .ok (.iconst 0, 1) := dk_3 (dk_at dksX0_shape_1 10 rfl rfl)
theorem dX0_shape_35 : decode cX0_shape 35 = .ok (.istore 5, 2) := dk_54 5 (dk_at dksX0_shape_1 11 rfl rfl)
theorem dX0_shape_37 : decode cX0_shape 37 = .ok (.iload 5, 2) := dk_21 5 (dk_at dksX0_shape_1 13 rfl rfl)
theorem dX0_shape_39 : decode cX0_shape 39 = .ok (.iload 4, 2) := dk_21 4 (dk_at dksX0_shape_1 15 rfl rfl)
theorem dX0_shape_41 : decode cX0_shape 41 = .ok (.if_icmp .gt 23, 3) := dk_163 0 23 (dk_at dksX0_shape_1 17 rfl rfl)
theorem dX0_shape_44 : decode cX0_shape 44 = .ok (.aload_n 3, 1) := dk_45 (dk_at dksX0_shape_1 20 rfl rfl)
theorem dX0_shape_45 : decode cX0_shape 45 = .ok (.iload_n 2, 1) := dk_28 (dk_at dksX0_shape_1 21 rfl rfl)
theorem dX0_shape_46 : decode cX0_shape 46 = .ok (.iload 5, 2) := dk_21 5 (dk_at dksX0_shape_1 22 rfl rfl)
theorem dX0_shape_48 : decode cX0_shape 48 = .ok (.invokestatic 300, 3) := dk_184 1 44 (dk_at dksX0_shape_2 0 rfl rfl)
theorem dX0_shape_51 : decode cX0_shape 51 = .ok (.iconst (-1), 1) := dk_2 (dk_at dksX0_shape_2 3 rfl rfl)
theorem dX0_shape_52 : decode cX0_shape 52 = .ok (.if_icmp .ne 6, 3) := dk_160 0 6 (dk_at dksX0_shape_2 4 rfl rfl)
theorem dX0_shape_55 : decode cX0_shape 55 = .ok (.iload 5, 2) := dk_21 5 (dk_at dksX0_shape_2 7 rfl rfl)
theorem dX0_shape_57 : decode cX0_shape 57 = .ok (.ireturn, 1) := dk_172 (dk_at dksX0_shape_2 9 rfl rfl)
theorem dX0_shape_58 : decode cX0_shape 58 = .ok (.iinc 5 1, 3) := dk_132 5 1 (dk_at dksX0_shape_2 10 rfl rfl)
theorem dX0_shape_61 : decode cX0_shape 61 = .ok (.goto (-24), 3) := dk_167 255 232 (dk_at dksX0_shape_2 13 rfl rfl)
theorem dX0_shape_64 : decode cX0_shape 64 = .ok (.iconst (-1), 1) := dk_2 (dk_at dksX0_shape_2 16 rfl rfl)
theorem dX0_shape_65 : decode cX0_shape 65 = .ok (.ireturn, 1) := dk_172 (dk_at dksX0_shape_2 17 rfl rfl)
abbrev cX0_firstRoom : ByteArray := prog_1_method_58_code
def yX0_firstRoom : MethodName := ⟨RX0, "firstRoom", "(LSendTheBox$House;I)I"⟩
def dkwX0_firstRoom_2 : List UInt8 := [167, 255, 213, 28, 172]
abbrev dktX0_firstRoom_2 : List UInt8 := dkwX0_firstRoom_2 ++ []
def dkwX0_firstRoom_1 : List UInt8 := [160, 0, 11, 42, 29, 182, 0, 237, 167, 0, 12, 28, 42, 29, 182, 0, 237, 184, 1, 32, 61, 132, 3, 1]
abbrev dktX0_firstRoom_1 : List UInt8 := dkwX0_firstRoom_1 ++ dktX0_firstRoom_2
def dkwX0_firstRoom_0 : List UInt8 := [2, 61, 3, 62, 29, 42, 182, 0, 58, 162, 0, 41, 42, 27, 29, 182, 0, 250, 153, 0, 26, 28, 2]
abbrev dktX0_firstRoom_0 : List UInt8 := dkwX0_firstRoom_0 ++ dktX0_firstRoom_1
theorem dksX0_firstRoom_0 : cX0_firstRoom.data.toList.drop 0 = dktX0_firstRoom_0 := by decide +kernel
theorem dksX0_firstRoom_1 : cX0_firstRoom.data.toList.drop 23 = dktX0_firstRoom_1 := dk_seg dksX0_firstRoom_0 23 rfl rfl
theorem dksX0_firstRoom_2 : cX0_firstRoom.data.toList.drop 47 = dktX0_firstRoom_2 := dk_seg dksX0_firstRoom_1 24 rfl rfl
theorem dX0_firstRoom_0 : decode cX0_firstRoom 0 = .ok (.iconst (-1), 1) := dk_2 (dk_at dksX0_firstRoom_0 0 rfl rfl)
theorem dX0_firstRoom_1 : decode cX0_firstRoom 1 = .ok (.istore_n 2, 1) := dk_61 (dk_at dksX0_firstRoom_0 1 rfl rfl)
theorem dX0_firstRoom_2 : decode cX0_firstRoom 2 = .ok (.iconst 0, 1) := dk_3 (dk_at dksX0_firstRoom_0 2 rfl rfl)
theorem dX0_firstRoom_3 : decode cX0_firstRoom 3 = .ok (.istore_n 3, 1) := dk_62 (dk_at dksX0_firstRoom_0 3 rfl rfl)
theorem dX0_firstRoom_4 : decode cX0_firstRoom 4 = .ok (.iload_n 3, 1) := dk_29 (dk_at dksX0_firstRoom_0 4 rfl rfl)
theorem dX0_firstRoom_5 : decode cX0_firstRoom 5 = .ok (.aload_n 0, 1) := dk_42 (dk_at dksX0_firstRoom_0 5 rfl rfl)
theorem dX0_firstRoom_6 : decode cX0_firstRoom 6 = .ok (.invokevirtual 58, 3) := dk_182 0 58 (dk_at dksX0_firstRoom_0 6 rfl rfl)
theorem dX0_firstRoom_9 : decode cX0_firstRoom 9 = .ok (.if_icmp .ge 41, 3) := dk_162 0 41 (dk_at dksX0_firstRoom_0 9 rfl rfl)
theorem dX0_firstRoom_12 : decode cX0_firstRoom 12 = .ok (.aload_n 0, 1) := dk_42 (dk_at dksX0_firstRoom_0 12 rfl rfl)
theorem dX0_firstRoom_13 : decode cX0_firstRoom 13 = .ok (.iload_n 1, 1) := dk_27 (dk_at dksX0_firstRoom_0 13 rfl rfl)
theorem dX0_firstRoom_14 : decode cX0_firstRoom 14 = .ok (.iload_n 3, 1) := dk_29 (dk_at dksX0_firstRoom_0 14 rfl rfl)
theorem dX0_firstRoom_15 : decode cX0_firstRoom 15 = .ok (.invokevirtual 250, 3) := dk_182 0 250 (dk_at dksX0_firstRoom_0 15 rfl rfl)
theorem dX0_firstRoom_18 : decode cX0_firstRoom 18 = .ok (.ifCond .eq 26, 3) := dk_153 0 26 (dk_at dksX0_firstRoom_0 18 rfl rfl)
theorem dX0_firstRoom_21 : decode cX0_firstRoom 21 = .ok (.iload_n 2, 1) := dk_28 (dk_at dksX0_firstRoom_0 21 rfl rfl)
theorem dX0_firstRoom_22 : decode cX0_firstRoom 22 = .ok (.iconst (-1), 1) := dk_2 (dk_at dksX0_firstRoom_0 22 rfl rfl)
theorem dX0_firstRoom_23 : decode cX0_firstRoom 23 = .ok (.if_icmp .ne 11, 3) := dk_160 0 11 (dk_at dksX0_firstRoom_1 0 rfl rfl)
theorem dX0_firstRoom_26 : decode cX0_firstRoom 26 = .ok (.aload_n 0, 1) := dk_42 (dk_at dksX0_firstRoom_1 3 rfl rfl)
theorem dX0_firstRoom_27 : decode cX0_firstRoom 27 = .ok (.iload_n 3, 1) := dk_29 (dk_at dksX0_firstRoom_1 4 rfl rfl)
theorem dX0_firstRoom_28 : decode cX0_firstRoom 28 = .ok (.invokevirtual 237, 3) := dk_182 0 237 (dk_at dksX0_firstRoom_1 5 rfl rfl)
theorem dX0_firstRoom_31 : decode cX0_firstRoom 31 = .ok (.goto 12, 3) := dk_167 0 12 (dk_at dksX0_firstRoom_1 8 rfl rfl)
theorem dX0_firstRoom_34 : decode cX0_firstRoom 34 = .ok (.iload_n 2, 1) := dk_28 (dk_at dksX0_firstRoom_1 11 rfl rfl)
theorem dX0_firstRoom_35 : decode cX0_firstRoom 35 = .ok (.aload_n 0, 1) := dk_42 (dk_at dksX0_firstRoom_1 12 rfl rfl)
theorem dX0_firstRoom_36 : decode cX0_firstRoom 36 = .ok (.iload_n 3, 1) := dk_29 (dk_at dksX0_firstRoom_1 13 rfl rfl)
theorem dX0_firstRoom_37 : decode cX0_firstRoom 37 = .ok (.invokevirtual 237, 3) := dk_182 0 237 (dk_at dksX0_firstRoom_1 14 rfl rfl)
theorem dX0_firstRoom_40 : decode cX0_firstRoom 40 = .ok (.invokestatic 288, 3) := dk_184 1 32 (dk_at dksX0_firstRoom_1 17 rfl rfl)
theorem dX0_firstRoom_43 : decode cX0_firstRoom 43 = .ok (.istore_n 2, 1) := dk_61 (dk_at dksX0_firstRoom_1 20 rfl rfl)
theorem dX0_firstRoom_44 : decode cX0_firstRoom 44 = .ok (.iinc 3 1, 3) := dk_132 3 1 (dk_at dksX0_firstRoom_1 21 rfl rfl)
theorem dX0_firstRoom_47 : decode cX0_firstRoom 47 = .ok (.goto (-43), 3) := dk_167 255 213 (dk_at dksX0_firstRoom_2 0 rfl rfl)
theorem dX0_firstRoom_50 : decode cX0_firstRoom 50 = .ok (.iload_n 2, 1) := dk_28 (dk_at dksX0_firstRoom_2 3 rfl rfl)
theorem dX0_firstRoom_51 : decode cX0_firstRoom 51 = .ok (.ireturn, 1) := dk_172 (dk_at dksX0_firstRoom_2 4 rfl rfl)
abbrev cX0_odd : ByteArray := prog_1_method_59_code
def yX0_odd : MethodName := ⟨RX0, "odd", "(LSendTheBox$House;II)I"⟩
def dkwX0_odd_2 : List UInt8 := [167, 255, 212, 2, 172]
abbrev dktX0_odd_2 : List UInt8 := dkwX0_odd_2 ++ []
def dkwX0_odd_1 : List UInt8 := [42, 29, 182, 0, 237, 28, 161, 0, 7, 4, 167, 0, 4, 3, 159, 0, 5, 29, 172, 132, 3, 1]
abbrev dktX0_odd_1 : List UInt8 := dkwX0_odd_1 ++ dktX0_odd_2
def dkwX0_odd_0 : List UInt8 := [3, 62, 29, 42, 182, 0, 58, 162, 0, 42, 42, 27, 29, 182, 0, 250, 153, 0, 7, 4, 167, 0, 4, 3]
abbrev dktX0_odd_0 : List UInt8 := dkwX0_odd_0 ++ dktX0_odd_1
theorem dksX0_odd_0 : cX0_odd.data.toList.drop 0 = dktX0_odd_0 := by decide +kernel
theorem dksX0_odd_1 : cX0_odd.data.toList.drop 24 = dktX0_odd_1 := dk_seg dksX0_odd_0 24 rfl rfl
theorem dksX0_odd_2 : cX0_odd.data.toList.drop 46 = dktX0_odd_2 := dk_seg dksX0_odd_1 22 rfl rfl
theorem dX0_odd_0 : decode cX0_odd 0 = .ok (.iconst 0, 1) := dk_3 (dk_at dksX0_odd_0 0 rfl rfl)
theorem dX0_odd_1 : decode cX0_odd 1 = .ok (.istore_n 3, 1) := dk_62 (dk_at dksX0_odd_0 1 rfl rfl)
theorem dX0_odd_2 : decode cX0_odd 2 = .ok (.iload_n 3, 1) := dk_29 (dk_at dksX0_odd_0 2 rfl rfl)
theorem dX0_odd_3 : decode cX0_odd 3 = .ok (.aload_n 0, 1) := dk_42 (dk_at dksX0_odd_0 3 rfl rfl)
theorem dX0_odd_4 : decode cX0_odd 4 = .ok (.invokevirtual 58, 3) := dk_182 0 58 (dk_at dksX0_odd_0 4 rfl rfl)
theorem dX0_odd_7 : decode cX0_odd 7 = .ok (.if_icmp .ge 42, 3) := dk_162 0 42 (dk_at dksX0_odd_0 7 rfl rfl)
theorem dX0_odd_10 : decode cX0_odd 10 = .ok (.aload_n 0, 1) := dk_42 (dk_at dksX0_odd_0 10 rfl rfl)
theorem dX0_odd_11 : decode cX0_odd 11 = .ok (.iload_n 1, 1) := dk_27 (dk_at dksX0_odd_0 11 rfl rfl)
theorem dX0_odd_12 : decode cX0_odd 12 = .ok (.iload_n 3, 1) := dk_29 (dk_at dksX0_odd_0 12 rfl rfl)
theorem dX0_odd_13 : decode cX0_odd 13 = .ok (.invokevirtual 250, 3) := dk_182 0 250 (dk_at dksX0_odd_0 13 rfl rfl)
theorem dX0_odd_16 : decode cX0_odd 16 = .ok (.ifCond .eq 7, 3) := dk_153 0 7 (dk_at dksX0_odd_0 16 rfl rfl)
theorem dX0_odd_19 : decode cX0_odd 19 = .ok (.iconst 1, 1) := dk_4 (dk_at dksX0_odd_0 19 rfl rfl)
theorem dX0_odd_20 : decode cX0_odd 20 = .ok (.goto 4, 3) := dk_167 0 4 (dk_at dksX0_odd_0 20 rfl rfl)
theorem dX0_odd_23 : decode cX0_odd 23 = .ok (.iconst 0, 1) := dk_3 (dk_at dksX0_odd_0 23 rfl rfl)
theorem dX0_odd_24 : decode cX0_odd 24 = .ok (.aload_n 0, 1) := dk_42 (dk_at dksX0_odd_1 0 rfl rfl)
theorem dX0_odd_25 : decode cX0_odd 25 = .ok (.iload_n 3, 1) := dk_29 (dk_at dksX0_odd_1 1 rfl rfl)
theorem dX0_odd_26 : decode cX0_odd 26 = .ok (.invokevirtual 237, 3) := dk_182 0 237 (dk_at dksX0_odd_1 2 rfl rfl)
theorem dX0_odd_29 : decode cX0_odd 29 = .ok (.iload_n 2, 1) := dk_28 (dk_at dksX0_odd_1 5 rfl rfl)
theorem dX0_odd_30 : decode cX0_odd 30 = .ok (.if_icmp .lt 7, 3) := dk_161 0 7 (dk_at dksX0_odd_1 6 rfl rfl)
theorem dX0_odd_33 : decode cX0_odd 33 = .ok (.iconst 1, 1) := dk_4 (dk_at dksX0_odd_1 9 rfl rfl)
theorem dX0_odd_34 : decode cX0_odd 34 = .ok (.goto 4, 3) := dk_167 0 4 (dk_at dksX0_odd_1 10 rfl rfl)
theorem dX0_odd_37 : decode cX0_odd 37 = .ok (.iconst 0, 1) := dk_3 (dk_at dksX0_odd_1 13 rfl rfl)
theorem dX0_odd_38 : decode cX0_odd 38 = .ok (.if_icmp .eq 5, 3) := dk_159 0 5 (dk_at dksX0_odd_1 14 rfl rfl)
theorem dX0_odd_41 : decode cX0_odd 41 = .ok (.iload_n 3, 1) := dk_29 (dk_at dksX0_odd_1 17 rfl rfl)
theorem dX0_odd_42 : decode cX0_odd 42 = .ok (.ireturn, 1) := dk_172 (dk_at dksX0_odd_1 18 rfl rfl)
theorem dX0_odd_43 : decode cX0_odd 43 = .ok (.iinc 3 1, 3) := dk_132 3 1 (dk_at dksX0_odd_1 19 rfl rfl)
theorem dX0_odd_46 : decode cX0_odd 46 = .ok (.goto (-44), 3) := dk_167 255 212 (dk_at dksX0_odd_2 0 rfl rfl)
theorem dX0_odd_49 : decode cX0_odd 49 = .ok (.iconst (-1), 1) := dk_2 (dk_at dksX0_odd_2 3 rfl rfl)
theorem dX0_odd_50 : decode cX0_odd 50 = .ok (.ireturn, 1) := dk_172 (dk_at dksX0_odd_2 4 rfl rfl)
abbrev cX0_odd_2 : ByteArray := prog_1_method_61_code
def yX0_odd_2 : MethodName := ⟨RX0, "odd", "(II)I"⟩
def dkwX0_odd_2_2 : List UInt8 := [184, 1, 44, 172]
abbrev dktX0_odd_2_2 : List UInt8 := dkwX0_odd_2_2 ++ []
def dkwX0_odd_2_1 : List UInt8 := [27, 50, 78, 45, 28, 184, 1, 40, 54, 4, 21, 4, 2, 160, 0, 7, 2, 167, 0, 10, 45, 28, 21, 4]
abbrev dktX0_odd_2_1 : List UInt8 := dkwX0_odd_2_1 ++ dktX0_odd_2_2
def dkwX0_odd_2_0 : List UInt8 := [42, 27, 4, 28, 182, 0, 239, 154, 0, 10, 42, 16, 254, 182, 0, 81, 172, 42, 180, 0, 20, 180, 0, 49]
abbrev dktX0_odd_2_0 : List UInt8 := dkwX0_odd_2_0 ++ dktX0_odd_2_1
theorem dksX0_odd_2_0 : cX0_odd_2.data.toList.drop 0 = dktX0_odd_2_0 := by decide +kernel
theorem dksX0_odd_2_1 : cX0_odd_2.data.toList.drop 24 = dktX0_odd_2_1 := dk_seg dksX0_odd_2_0 24 rfl rfl
theorem dksX0_odd_2_2 : cX0_odd_2.data.toList.drop 48 = dktX0_odd_2_2 := dk_seg dksX0_odd_2_1 24 rfl rfl
theorem dX0_odd_2_0 : decode cX0_odd_2 0 = .ok (.aload_n 0, 1) := dk_42 (dk_at dksX0_odd_2_0 0 rfl rfl)
theorem dX0_odd_2_1 : decode cX0_odd_2 1 = .ok (.iload_n 1, 1) := dk_27 (dk_at dksX0_odd_2_0 1 rfl rfl)
theorem dX0_odd_2_2 : decode cX0_odd_2 2 = .ok (.iconst 1, 1) := dk_4 (dk_at dksX0_odd_2_0 2 rfl rfl)
theorem dX0_odd_2_3 : decode cX0_odd_2 3 = .ok (.iload_n 2, 1) := dk_28 (dk_at dksX0_odd_2_0 3 rfl rfl)
theorem dX0_odd_2_4 : decode cX0_odd_2 4 = .ok (.invokevirtual 239, 3) := dk_182 0 239 (dk_at dksX0_odd_2_0 4 rfl rfl)
theorem dX0_odd_2_7 : decode cX0_odd_2 7 = .ok (.ifCond .ne 10, 3) := dk_154 0 10 (dk_at dksX0_odd_2_0 7 rfl rfl)
theorem dX0_odd_2_10 : decode cX0_odd_2 10 = .ok (.aload_n 0, 1) := dk_42 (dk_at dksX0_odd_2_0 10 rfl rfl)
theorem dX0_odd_2_11 : decode cX0_odd_2 11 = .ok (.bipush (-2), 2) := dk_16 254 (dk_at dksX0_odd_2_0 11 rfl rfl)
theorem dX0_odd_2_13 : decode cX0_odd_2 13 = .ok (.invokevirtual 81, 3) := dk_182 0 81 (dk_at dksX0_odd_2_0 13 rfl rfl)
theorem dX0_odd_2_16 : decode cX0_odd_2 16 = .ok (.ireturn, 1) := dk_172 (dk_at dksX0_odd_2_0 16 rfl rfl)
theorem dX0_odd_2_17 : decode cX0_odd_2 17 = .ok (.aload_n 0, 1) := dk_42 (dk_at dksX0_odd_2_0 17 rfl rfl)
theorem dX0_odd_2_18 : decode cX0_odd_2 18 = .ok (.getfield 20, 3) := dk_180 0 20 (dk_at dksX0_odd_2_0 18 rfl rfl)
theorem dX0_odd_2_21 : decode cX0_odd_2 21 = .ok (.getfield 49, 3) := dk_180 0 49 (dk_at dksX0_odd_2_0 21 rfl rfl)
theorem dX0_odd_2_24 : decode cX0_odd_2 24 = .ok (.iload_n 1, 1) := dk_27 (dk_at dksX0_odd_2_1 0 rfl rfl)
theorem dX0_odd_2_25 : decode cX0_odd_2 25 = .ok (.aaload, 1) := dk_50 (dk_at dksX0_odd_2_1 1 rfl rfl)
theorem dX0_odd_2_26 : decode cX0_odd_2 26 = .ok (.astore_n 3, 1) := dk_78 (dk_at dksX0_odd_2_1 2 rfl rfl)
theorem dX0_odd_2_27 : decode cX0_odd_2 27 = .ok (.aload_n 3, 1) := dk_45 (dk_at dksX0_odd_2_1 3 rfl rfl)
theorem dX0_odd_2_28 : decode cX0_odd_2 28 = .ok (.iload_n 2, 1) := dk_28 (dk_at dksX0_odd_2_1 4 rfl rfl)
theorem dX0_odd_2_29 : decode cX0_odd_2 29 = .ok (.invokestatic 296, 3) := dk_184 1 40 (dk_at dksX0_odd_2_1 5 rfl rfl)
theorem dX0_odd_2_32 : decode cX0_odd_2 32 = .ok (.istore 4, 2) := dk_54 4 (dk_at dksX0_odd_2_1 8 rfl rfl)
theorem dX0_odd_2_34 : decode cX0_odd_2 34 = .ok (.iload 4, 2) := dk_21 4 (dk_at dksX0_odd_2_1 10 rfl rfl)
theorem dX0_odd_2_36 : decode cX0_odd_2 36 = .ok (.iconst (-1), 1) := dk_2 (dk_at dksX0_odd_2_1 12 rfl rfl)
theorem dX0_odd_2_37 : decode cX0_odd_2 37 = .ok (.if_icmp .ne 7, 3) := dk_160 0 7 (dk_at dksX0_odd_2_1 13 rfl rfl)
theorem dX0_odd_2_40 : decode cX0_odd_2 40 = .ok (.iconst (-1), 1) := dk_2 (dk_at dksX0_odd_2_1 16 rfl rfl)
theorem dX0_odd_2_41 : decode cX0_odd_2 41 = .ok (.goto 10, 3) := dk_167 0 10 (dk_at dksX0_odd_2_1 17 rfl rfl)
theorem dX0_odd_2_44 : decode cX0_odd_2 44 = .ok (.aload_n 3, 1) := dk_45 (dk_at dksX0_odd_2_1 20 rfl rfl)
theorem dX0_odd_2_45 : decode cX0_odd_2 45 = .ok (.iload_n 2, 1) := dk_28 (dk_at dksX0_odd_2_1 21 rfl rfl)
theorem dX0_odd_2_46 : decode cX0_odd_2 46 = .ok (.iload 4, 2) := dk_21 4 (dk_at dksX0_odd_2_1 22 rfl rfl)
theorem dX0_odd_2_48 : decode cX0_odd_2 48 = .ok (.invokestatic 300, 3) := dk_184 1 44 (dk_at dksX0_odd_2_2 0 rfl rfl)
theorem dX0_odd_2_51 : decode cX0_odd_2 51 = .ok (.ireturn, 1) := dk_172 (dk_at dksX0_odd_2_2 3 rfl rfl)
abbrev cX0_judge : ByteArray := prog_1_method_62_code
def yX0_judge : MethodName := ⟨RX0, "judge", "(III)I"⟩
def dkwX0_judge_7 : List UInt8 := [182, 0, 81, 172]
abbrev dktX0_judge_7 : List UInt8 := dkwX0_judge_7 ++ []
def dkwX0_judge_6 : List UInt8 := [167, 0, 4, 3, 172, 58, 5, 42, 25, 5, 180, 0, 110, 182, 0, 81, 172, 58, 5, 42, 16, 254]
abbrev dktX0_judge_6 : List UInt8 := dkwX0_judge_6 ++ dktX0_judge_7
def dkwX0_judge_5 : List UInt8 := [160, 0, 7, 4, 167, 0, 23, 25, 4, 21, 6, 182, 0, 237, 25, 4, 180, 0, 208, 164, 0, 7, 5]
abbrev dktX0_judge_5 : List UInt8 := dkwX0_judge_5 ++ dktX0_judge_6
def dkwX0_judge_4 : List UInt8 := [21, 6, 22, 9, 136, 178, 0, 1, 21, 8, 46, 104, 96, 54, 6, 132, 8, 1, 167, 255, 193, 21, 7, 4]
abbrev dktX0_judge_4 : List UInt8 := dkwX0_judge_4 ++ dktX0_judge_5
def dkwX0_judge_3 : List UInt8 := [148, 155, 0, 16, 22, 9, 28, 21, 8, 184, 0, 7, 133, 148, 158, 0, 9, 4, 54, 7, 167, 0, 18]
abbrev dktX0_judge_3 : List UInt8 := dkwX0_judge_3 ++ dktX0_judge_4
def dkwX0_judge_2 : List UInt8 := [54, 8, 21, 8, 25, 4, 180, 0, 53, 162, 0, 59, 25, 5, 21, 8, 184, 0, 127, 55, 9, 22, 9, 9]
abbrev dktX0_judge_2 : List UInt8 := dkwX0_judge_2 ++ dktX0_judge_3
def dkwX0_judge_1 : List UInt8 := [180, 0, 20, 180, 0, 49, 27, 50, 58, 4, 42, 29, 182, 0, 102, 58, 5, 3, 54, 6, 3, 54, 7, 3]
abbrev dktX0_judge_1 : List UInt8 := dkwX0_judge_1 ++ dktX0_judge_2
def dkwX0_judge_0 : List UInt8 := [42, 27, 28, 182, 0, 234, 153, 0, 10, 29, 184, 0, 78, 154, 0, 10, 42, 16, 254, 182, 0, 81, 172, 42]
abbrev dktX0_judge_0 : List UInt8 := dkwX0_judge_0 ++ dktX0_judge_1
theorem dksX0_judge_0 : cX0_judge.data.toList.drop 0 = dktX0_judge_0 := by decide +kernel
theorem dksX0_judge_1 : cX0_judge.data.toList.drop 24 = dktX0_judge_1 := dk_seg dksX0_judge_0 24 rfl rfl
theorem dksX0_judge_2 : cX0_judge.data.toList.drop 48 = dktX0_judge_2 := dk_seg dksX0_judge_1 24 rfl rfl
theorem dksX0_judge_3 : cX0_judge.data.toList.drop 72 = dktX0_judge_3 := dk_seg dksX0_judge_2 24 rfl rfl
theorem dksX0_judge_4 : cX0_judge.data.toList.drop 95 = dktX0_judge_4 := dk_seg dksX0_judge_3 23 rfl rfl
theorem dksX0_judge_5 : cX0_judge.data.toList.drop 119 = dktX0_judge_5 := dk_seg dksX0_judge_4 24 rfl rfl
theorem dksX0_judge_6 : cX0_judge.data.toList.drop 142 = dktX0_judge_6 := dk_seg dksX0_judge_5 23 rfl rfl
theorem dksX0_judge_7 : cX0_judge.data.toList.drop 164 = dktX0_judge_7 := dk_seg dksX0_judge_6 22 rfl rfl
theorem dX0_judge_0 : decode cX0_judge 0 = .ok (.aload_n 0, 1) := dk_42 (dk_at dksX0_judge_0 0 rfl rfl)
theorem dX0_judge_1 : decode cX0_judge 1 = .ok (.iload_n 1, 1) := dk_27 (dk_at dksX0_judge_0 1 rfl rfl)
theorem dX0_judge_2 : decode cX0_judge 2 = .ok (.iload_n 2, 1) := dk_28 (dk_at dksX0_judge_0 2 rfl rfl)
theorem dX0_judge_3 : decode cX0_judge 3 = .ok (.invokevirtual 234, 3) := dk_182 0 234 (dk_at dksX0_judge_0 3 rfl rfl)
theorem dX0_judge_6 : decode cX0_judge 6 = .ok (.ifCond .eq 10, 3) := dk_153 0 10 (dk_at dksX0_judge_0 6 rfl rfl)
theorem dX0_judge_9 : decode cX0_judge 9 = .ok (.iload_n 3, 1) := dk_29 (dk_at dksX0_judge_0 9 rfl rfl)
theorem dX0_judge_10 : decode cX0_judge 10 = .ok (.invokestatic 78, 3) := dk_184 0 78 (dk_at dksX0_judge_0 10 rfl rfl)
theorem dX0_judge_13 : decode cX0_judge 13 = .ok (.ifCond .ne 10, 3) := dk_154 0 10 (dk_at dksX0_judge_0 13 rfl rfl)
theorem dX0_judge_16 : decode cX0_judge 16 = .ok (.aload_n 0, 1) := dk_42 (dk_at dksX0_judge_0 16 rfl rfl)
theorem dX0_judge_17 : decode cX0_judge 17 = .ok (.bipush (-2), 2) := dk_16 254 (dk_at dksX0_judge_0 17 rfl rfl)
theorem dX0_judge_19 : decode cX0_judge 19 = .ok (.invokevirtual 81, 3) := dk_182 0 81 (dk_at dksX0_judge_0 19 rfl rfl)
theorem dX0_judge_22 : decode cX0_judge 22 = .ok (.ireturn, 1) := dk_172 (dk_at dksX0_judge_0 22 rfl rfl)
theorem dX0_judge_23 : decode cX0_judge 23 = .ok (.aload_n 0, 1) := dk_42 (dk_at dksX0_judge_0 23 rfl rfl)
theorem dX0_judge_24 : decode cX0_judge 24 = .ok (.getfield 20, 3) := dk_180 0 20 (dk_at dksX0_judge_1 0 rfl rfl)
theorem dX0_judge_27 : decode cX0_judge 27 = .ok (.getfield 49, 3) := dk_180 0 49 (dk_at dksX0_judge_1 3 rfl rfl)
theorem dX0_judge_30 : decode cX0_judge 30 = .ok (.iload_n 1, 1) := dk_27 (dk_at dksX0_judge_1 6 rfl rfl)
theorem dX0_judge_31 : decode cX0_judge 31 = .ok (.aaload, 1) := dk_50 (dk_at dksX0_judge_1 7 rfl rfl)
theorem dX0_judge_32 : decode cX0_judge 32 = .ok (.astore 4, 2) := dk_58 4 (dk_at dksX0_judge_1 8 rfl rfl)
theorem dX0_judge_34 : decode cX0_judge 34 = .ok (.aload_n 0, 1) := dk_42 (dk_at dksX0_judge_1 10 rfl rfl)
theorem dX0_judge_35 : decode cX0_judge 35 = .ok (.iload_n 3, 1) := dk_29 (dk_at dksX0_judge_1 11 rfl rfl)
theorem dX0_judge_36 : decode cX0_judge 36 = .ok (.invokevirtual 102, 3) := dk_182 0 102 (dk_at dksX0_judge_1 12 rfl rfl)
theorem dX0_judge_39 : decode cX0_judge 39 = .ok (.astore 5, 2) := dk_58 5 (dk_at dksX0_judge_1 15 rfl rfl)
theorem dX0_judge_41 : decode cX0_judge 41 = .ok (.iconst 0, 1) := dk_3 (dk_at dksX0_judge_1 17 rfl rfl)
theorem dX0_judge_42 : decode cX0_judge 42 = .ok (.istore 6, 2) := dk_54 6 (dk_at dksX0_judge_1 18 rfl rfl)
theorem dX0_judge_44 : decode cX0_judge 44 = .ok (.iconst 0, 1) := dk_3 (dk_at dksX0_judge_1 20 rfl rfl)
theorem dX0_judge_45 : decode cX0_judge 45 = .ok (.istore 7, 2) := dk_54 7 (dk_at dksX0_judge_1 21 rfl rfl)
theorem dX0_judge_47 : decode cX0_judge 47 = .ok (.iconst 0, 1) := dk_3 (dk_at dksX0_judge_1 23 rfl rfl)
theorem dX0_judge_48 : decode cX0_judge 48 = .ok (.istore 8, 2) := dk_54 8 (dk_at dksX0_judge_2 0 rfl rfl)
theorem dX0_judge_50 : decode cX0_judge 50 = .ok (.iload 8, 2) := dk_21 8 (dk_at dksX0_judge_2 2 rfl rfl)
theorem dX0_judge_52 : decode cX0_judge 52 = .ok (.aload 4, 2) := dk_25 4 (dk_at dksX0_judge_2 4 rfl rfl)
theorem dX0_judge_54 : decode cX0_judge 54 = .ok (.getfield 53, 3) := dk_180 0 53 (dk_at dksX0_judge_2 6 rfl rfl)
theorem dX0_judge_57 : decode cX0_judge 57 = .ok (.if_icmp .ge 59, 3) := dk_162 0 59 (dk_at dksX0_judge_2 9 rfl rfl)
theorem dX0_judge_60 : decode cX0_judge 60 = .ok (.aload 5, 2) := dk_25 5 (dk_at dksX0_judge_2 12 rfl rfl)
theorem dX0_judge_62 : decode cX0_judge 62 = .ok (.iload 8, 2) := dk_21 8 (dk_at dksX0_judge_2 14 rfl rfl)
theorem dX0_judge_64 : decode cX0_judge 64 = .ok (.invokestatic 127, 3) := dk_184 0 127 (dk_at dksX0_judge_2 16 rfl rfl)
theorem dX0_judge_67 : decode cX0_judge 67 = .ok (.lstore 9, 2) := dk_55 9 (dk_at dksX0_judge_2 19 rfl rfl)
theorem dX0_judge_69 : decode cX0_judge 69 = .ok (.lload 9, 2) := dk_22 9 (dk_at dksX0_judge_2 21 rfl rfl)
theorem dX0_judge_71 : decode cX0_judge 71 = .ok (.lconst 0, 1) := dk_9 (dk_at dksX0_judge_2 23 rfl rfl)
theorem dX0_judge_72 : decode cX0_judge 72 = .ok (.lcmp, 1) := dk_148 (dk_at dksX0_judge_3 0 rfl rfl)
theorem dX0_judge_73 : decode cX0_judge 73 = .ok (.ifCond .lt 16, 3) := dk_155 0 16 (dk_at dksX0_judge_3 1 rfl rfl)
theorem dX0_judge_76 : decode cX0_judge 76 = .ok (.lload 9, 2) := dk_22 9 (dk_at dksX0_judge_3 4 rfl rfl)
theorem dX0_judge_78 : decode cX0_judge 78 = .ok (.iload_n 2, 1) := dk_28 (dk_at dksX0_judge_3 6 rfl rfl)
theorem dX0_judge_79 : decode cX0_judge 79 = .ok (.iload 8, 2) := dk_21 8 (dk_at dksX0_judge_3 7 rfl rfl)
theorem dX0_judge_81 : decode cX0_judge 81 = .ok (.invokestatic 7, 3) := dk_184 0 7 (dk_at dksX0_judge_3 9 rfl rfl)
theorem dX0_judge_84 : decode cX0_judge 84 = .ok (.i2l, 1) := dk_133 (dk_at dksX0_judge_3 12 rfl rfl)
theorem dX0_judge_85 : decode cX0_judge 85 = .ok (.lcmp, 1) := dk_148 (dk_at dksX0_judge_3 13 rfl rfl)
theorem dX0_judge_86 : decode cX0_judge 86 = .ok (.ifCond .le 9, 3) := dk_158 0 9 (dk_at dksX0_judge_3 14 rfl rfl)
theorem dX0_judge_89 : decode cX0_judge 89 = .ok (.iconst 1, 1) := dk_4 (dk_at dksX0_judge_3 17 rfl rfl)
theorem dX0_judge_90 : decode cX0_judge 90 = .ok (.istore 7, 2) := dk_54 7 (dk_at dksX0_judge_3 18 rfl rfl)
theorem dX0_judge_92 : decode cX0_judge 92 = .ok (.goto 18, 3) := dk_167 0 18 (dk_at dksX0_judge_3 20 rfl rfl)
theorem dX0_judge_95 : decode cX0_judge 95 = .ok (.iload 6, 2) := dk_21 6 (dk_at dksX0_judge_4 0 rfl rfl)
theorem dX0_judge_97 : decode cX0_judge 97 = .ok (.lload 9, 2) := dk_22 9 (dk_at dksX0_judge_4 2 rfl rfl)
theorem dX0_judge_99 : decode cX0_judge 99 = .ok (.l2i, 1) := dk_136 (dk_at dksX0_judge_4 4 rfl rfl)
theorem dX0_judge_100 : decode cX0_judge 100 = .ok (.getstatic 1, 3) := dk_178 0 1 (dk_at dksX0_judge_4 5 rfl rfl)
theorem dX0_judge_103 : decode cX0_judge 103 = .ok (.iload 8, 2) := dk_21 8 (dk_at dksX0_judge_4 8 rfl rfl)
theorem dX0_judge_105 : decode cX0_judge 105 = .ok (.iaload, 1) := dk_46 (dk_at dksX0_judge_4 10 rfl rfl)
theorem dX0_judge_106 : decode cX0_judge 106 = .ok (.imul, 1) := dk_104 (dk_at dksX0_judge_4 11 rfl rfl)
theorem dX0_judge_107 : decode cX0_judge 107 = .ok (.iadd, 1) := dk_96 (dk_at dksX0_judge_4 12 rfl rfl)
theorem dX0_judge_108 : decode cX0_judge 108 = .ok (.istore 6, 2) := dk_54 6 (dk_at dksX0_judge_4 13 rfl rfl)
theorem dX0_judge_110 : decode cX0_judge 110 = .ok (.iinc 8 1, 3) := dk_132 8 1 (dk_at dksX0_judge_4 15 rfl rfl)
theorem dX0_judge_113 : decode cX0_judge 113 = .ok (.goto (-63), 3) := dk_167 255 193 (dk_at dksX0_judge_4 18 rfl rfl)
theorem dX0_judge_116 : decode cX0_judge 116 = .ok (.iload 7, 2) := dk_21 7 (dk_at dksX0_judge_4 21 rfl rfl)
theorem dX0_judge_118 : decode cX0_judge 118 = .ok (.iconst 1, 1) := dk_4 (dk_at dksX0_judge_4 23 rfl rfl)
theorem dX0_judge_119 : decode cX0_judge 119 = .ok (.if_icmp .ne 7, 3) := dk_160 0 7 (dk_at dksX0_judge_5 0 rfl rfl)
theorem dX0_judge_122 : decode cX0_judge 122 = .ok (.iconst 1, 1) := dk_4 (dk_at dksX0_judge_5 3 rfl rfl)
theorem dX0_judge_123 : decode cX0_judge 123 = .ok (.goto 23, 3) := dk_167 0 23 (dk_at dksX0_judge_5 4 rfl rfl)
theorem dX0_judge_126 : decode cX0_judge 126 = .ok (.aload 4, 2) := dk_25 4 (dk_at dksX0_judge_5 7 rfl rfl)
theorem dX0_judge_128 : decode cX0_judge 128 = .ok (.iload 6, 2) := dk_21 6 (dk_at dksX0_judge_5 9 rfl rfl)
theorem dX0_judge_130 : decode cX0_judge 130 = .ok (.invokevirtual 237, 3) := dk_182 0 237 (dk_at dksX0_judge_5 11 rfl rfl)
theorem dX0_judge_133 : decode cX0_judge 133 = .ok (.aload 4, 2) := dk_25 4 (dk_at dksX0_judge_5 14 rfl rfl)
theorem dX0_judge_135 : decode cX0_judge 135 = .ok (.getfield 208, 3) := dk_180 0 208 (dk_at dksX0_judge_5 16 rfl rfl)
theorem dX0_judge_138 : decode cX0_judge 138 = .ok (.if_icmp .le 7, 3) := dk_164 0 7 (dk_at dksX0_judge_5 19 rfl rfl)
theorem dX0_judge_141 : decode cX0_judge 141 = .ok (.iconst 2, 1) := dk_5 (dk_at dksX0_judge_5 22 rfl rfl)
theorem dX0_judge_142 : decode cX0_judge 142 = .ok (.goto 4, 3) := dk_167 0 4 (dk_at dksX0_judge_6 0 rfl rfl)
theorem dX0_judge_145 : decode cX0_judge 145 = .ok (.iconst 0, 1) := dk_3 (dk_at dksX0_judge_6 3 rfl rfl)
theorem dX0_judge_146 : decode cX0_judge 146 = .ok (.ireturn, 1) := dk_172 (dk_at dksX0_judge_6 4 rfl rfl)
theorem dX0_judge_147 : decode cX0_judge 147 = .ok (.astore 5, 2) := dk_58 5 (dk_at dksX0_judge_6 5 rfl rfl)
theorem dX0_judge_149 : decode cX0_judge 149 = .ok (.aload_n 0, 1) := dk_42 (dk_at dksX0_judge_6 7 rfl rfl)
theorem dX0_judge_150 : decode cX0_judge 150 = .ok (.aload 5, 2) := dk_25 5 (dk_at dksX0_judge_6 8 rfl rfl)
theorem dX0_judge_152 : decode cX0_judge 152 = .ok (.getfield 110, 3) := dk_180 0 110 (dk_at dksX0_judge_6 10 rfl rfl)
theorem dX0_judge_155 : decode cX0_judge 155 = .ok (.invokevirtual 81, 3) := dk_182 0 81 (dk_at dksX0_judge_6 13 rfl rfl)
theorem dX0_judge_158 : decode cX0_judge 158 = .ok (.ireturn, 1) := dk_172 (dk_at dksX0_judge_6 16 rfl rfl)
theorem dX0_judge_159 : decode cX0_judge 159 = .ok (.astore 5, 2) := dk_58 5 (dk_at dksX0_judge_6 17 rfl rfl)
theorem dX0_judge_161 : decode cX0_judge 161 = .ok (.aload_n 0, 1) := dk_42 (dk_at dksX0_judge_6 19 rfl rfl)
theorem dX0_judge_162 : decode cX0_judge 162 = .ok (.bipush (-2), 2) := dk_16 254 (dk_at dksX0_judge_6 20 rfl rfl)
theorem dX0_judge_164 : decode cX0_judge 164 = .ok (.invokevirtual 81, 3) := dk_182 0 81 (dk_at dksX0_judge_7 0 rfl rfl)
theorem dX0_judge_167 : decode cX0_judge 167 = .ok (.ireturn, 1) := dk_172 (dk_at dksX0_judge_7 3 rfl rfl)
abbrev cX0_join : ByteArray := prog_1_method_64_code
def yX0_join : MethodName := ⟨RX0, "join", "(II)I"⟩
def dkwX0_join_2 : List UInt8 := [89, 180, 0, 41, 90, 4, 96, 181, 0, 41, 172, 78, 42, 45, 180, 0, 110, 182, 0, 81, 172]
abbrev dktX0_join_2 : List UInt8 := dkwX0_join_2 ++ []
def dkwX0_join_1 : List UInt8 := [182, 0, 81, 172, 42, 180, 0, 20, 180, 0, 49, 42, 180, 0, 20, 180, 0, 41, 45, 83, 42, 180, 0, 20]
abbrev dktX0_join_1 : List UInt8 := dkwX0_join_1 ++ dktX0_join_2
def dkwX0_join_0 : List UInt8 := [42, 27, 28, 182, 1, 51, 78, 42, 180, 0, 20, 180, 0, 41, 16, 6, 160, 0, 10, 42, 16, 250]
abbrev dktX0_join_0 : List UInt8 := dkwX0_join_0 ++ dktX0_join_1
theorem dksX0_join_0 : cX0_join.data.toList.drop 0 = dktX0_join_0 := by decide +kernel
theorem dksX0_join_1 : cX0_join.data.toList.drop 22 = dktX0_join_1 := dk_seg dksX0_join_0 22 rfl rfl
theorem dksX0_join_2 : cX0_join.data.toList.drop 46 = dktX0_join_2 := dk_seg dksX0_join_1 24 rfl rfl
theorem dX0_join_0 : decode cX0_join 0 = .ok (.aload_n 0, 1) := dk_42 (dk_at dksX0_join_0 0 rfl rfl)
theorem dX0_join_1 : decode cX0_join 1 = .ok (.iload_n 1, 1) := dk_27 (dk_at dksX0_join_0 1 rfl rfl)
theorem dX0_join_2 : decode cX0_join 2 = .ok (.iload_n 2, 1) := dk_28 (dk_at dksX0_join_0 2 rfl rfl)
theorem dX0_join_3 : decode cX0_join 3 = .ok (.invokevirtual 307, 3) := dk_182 1 51 (dk_at dksX0_join_0 3 rfl rfl)
theorem dX0_join_6 : decode cX0_join 6 = .ok (.astore_n 3, 1) := dk_78 (dk_at dksX0_join_0 6 rfl rfl)
theorem dX0_join_7 : decode cX0_join 7 = .ok (.aload_n 0, 1) := dk_42 (dk_at dksX0_join_0 7 rfl rfl)
theorem dX0_join_8 : decode cX0_join 8 = .ok (.getfield 20, 3) := dk_180 0 20 (dk_at dksX0_join_0 8 rfl rfl)
theorem dX0_join_11 : decode cX0_join 11 = .ok (.getfield 41, 3) := dk_180 0 41 (dk_at dksX0_join_0 11 rfl rfl)
theorem dX0_join_14 : decode cX0_join 14 = .ok (.bipush 6, 2) := dk_16 6 (dk_at dksX0_join_0 14 rfl rfl)
theorem dX0_join_16 : decode cX0_join 16 = .ok (.if_icmp .ne 10, 3) := dk_160 0 10 (dk_at dksX0_join_0 16 rfl rfl)
theorem dX0_join_19 : decode cX0_join 19 = .ok (.aload_n 0, 1) := dk_42 (dk_at dksX0_join_0 19 rfl rfl)
theorem dX0_join_20 : decode cX0_join 20 = .ok (.bipush (-6), 2) := dk_16 250 (dk_at dksX0_join_0 20 rfl rfl)
theorem dX0_join_22 : decode cX0_join 22 = .ok (.invokevirtual 81, 3) := dk_182 0 81 (dk_at dksX0_join_1 0 rfl rfl)
theorem dX0_join_25 : decode cX0_join 25 = .ok (.ireturn, 1) := dk_172 (dk_at dksX0_join_1 3 rfl rfl)
theorem dX0_join_26 : decode cX0_join 26 = .ok (.aload_n 0, 1) := dk_42 (dk_at dksX0_join_1 4 rfl rfl)
theorem dX0_join_27 : decode cX0_join 27 = .ok (.getfield 20, 3) := dk_180 0 20 (dk_at dksX0_join_1 5 rfl rfl)
theorem dX0_join_30 : decode cX0_join 30 = .ok (.getfield 49, 3) := dk_180 0 49 (dk_at dksX0_join_1 8 rfl rfl)
theorem dX0_join_33 : decode cX0_join 33 = .ok (.aload_n 0, 1) := dk_42 (dk_at dksX0_join_1 11 rfl rfl)
theorem dX0_join_34 : decode cX0_join 34 = .ok (.getfield 20, 3) := dk_180 0 20 (dk_at dksX0_join_1 12 rfl rfl)
theorem dX0_join_37 : decode cX0_join 37 = .ok (.getfield 41, 3) := dk_180 0 41 (dk_at dksX0_join_1 15 rfl rfl)
theorem dX0_join_40 : decode cX0_join 40 = .ok (.aload_n 3, 1) := dk_45 (dk_at dksX0_join_1 18 rfl rfl)
theorem dX0_join_41 : decode cX0_join 41 = .ok (.aastore, 1) := dk_83 (dk_at dksX0_join_1 19 rfl rfl)
theorem dX0_join_42 : decode cX0_join 42 = .ok (.aload_n 0, 1) := dk_42 (dk_at dksX0_join_1 20 rfl rfl)
theorem dX0_join_43 : decode cX0_join 43 = .ok (.getfield 20, 3) := dk_180 0 20 (dk_at dksX0_join_1 21 rfl rfl)
theorem dX0_join_46 : decode cX0_join 46 = .ok (.dup, 1) := dk_89 (dk_at dksX0_join_2 0 rfl rfl)
theorem dX0_join_47 : decode cX0_join 47 = .ok (.getfield 41, 3) := dk_180 0 41 (dk_at dksX0_join_2 1 rfl rfl)
theorem dX0_join_50 : decode cX0_join 50 = .ok (.dup_x1, 1) := dk_90 (dk_at dksX0_join_2 4 rfl rfl)
theorem dX0_join_51 : decode cX0_join 51 = .ok (.iconst 1, 1) := dk_4 (dk_at dksX0_join_2 5 rfl rfl)
theorem dX0_join_52 : decode cX0_join 52 = .ok (.iadd, 1) := dk_96 (dk_at dksX0_join_2 6 rfl rfl)
theorem dX0_join_53 : decode cX0_join 53 = .ok (.putfield 41, 3) := dk_181 0 41 (dk_at dksX0_join_2 7 rfl rfl)
theorem dX0_join_56 : decode cX0_join 56 = .ok (.ireturn, 1) := dk_172 (dk_at dksX0_join_2 10 rfl rfl)
theorem dX0_join_57 : decode cX0_join 57 = .ok (.astore_n 3, 1) := dk_78 (dk_at dksX0_join_2 11 rfl rfl)
theorem dX0_join_58 : decode cX0_join 58 = .ok (.aload_n 0, 1) := dk_42 (dk_at dksX0_join_2 12 rfl rfl)
theorem dX0_join_59 : decode cX0_join 59 = .ok (.aload_n 3, 1) := dk_45 (dk_at dksX0_join_2 13 rfl rfl)
theorem dX0_join_60 : decode cX0_join 60 = .ok (.getfield 110, 3) := dk_180 0 110 (dk_at dksX0_join_2 14 rfl rfl)
theorem dX0_join_63 : decode cX0_join 63 = .ok (.invokevirtual 81, 3) := dk_182 0 81 (dk_at dksX0_join_2 17 rfl rfl)
theorem dX0_join_66 : decode cX0_join 66 = .ok (.ireturn, 1) := dk_172 (dk_at dksX0_join_2 20 rfl rfl)
abbrev cX0_joined : ByteArray := prog_1_method_63_code
def yX0_joined : MethodName := ⟨RX0, "joined", "(II)LSendTheBox$House;"⟩
def dkwX0_joined_4 : List UInt8 := [176]
abbrev dktX0_joined_4 : List UInt8 := dkwX0_joined_4 ++ []
def dkwX0_joined_3 : List UInt8 := [180, 0, 53, 96, 6, 164, 0, 13, 187, 0, 97, 89, 16, 251, 183, 0, 99, 191, 45, 25, 4, 182, 1, 47]
abbrev dktX0_joined_3 : List UInt8 := dkwX0_joined_3 ++ dktX0_joined_4
def dkwX0_joined_2 : List UInt8 := [28, 50, 58, 4, 45, 180, 0, 62, 25, 4, 180, 0, 62, 160, 0, 17, 45, 180, 0, 53, 25, 4]
abbrev dktX0_joined_2 : List UInt8 := dkwX0_joined_2 ++ dktX0_joined_3
def dkwX0_joined_1 : List UInt8 := [89, 16, 254, 183, 0, 99, 191, 42, 180, 0, 20, 180, 0, 49, 27, 50, 78, 42, 180, 0, 20, 180, 0, 49]
abbrev dktX0_joined_1 : List UInt8 := dkwX0_joined_1 ++ dktX0_joined_2
def dkwX0_joined_0 : List UInt8 := [42, 27, 182, 0, 45, 153, 0, 16, 42, 28, 182, 0, 45, 153, 0, 8, 27, 28, 160, 0, 13, 187, 0, 97]
abbrev dktX0_joined_0 : List UInt8 := dkwX0_joined_0 ++ dktX0_joined_1
theorem dksX0_joined_0 : cX0_joined.data.toList.drop 0 = dktX0_joined_0 := by decide +kernel
theorem dksX0_joined_1 : cX0_joined.data.toList.drop 24 = dktX0_joined_1 := dk_seg dksX0_joined_0 24 rfl rfl
theorem dksX0_joined_2 : cX0_joined.data.toList.drop 48 = dktX0_joined_2 := dk_seg dksX0_joined_1 24 rfl rfl
theorem dksX0_joined_3 : cX0_joined.data.toList.drop 70 = dktX0_joined_3 := dk_seg dksX0_joined_2 22 rfl rfl
theorem dksX0_joined_4 : cX0_joined.data.toList.drop 94 = dktX0_joined_4 := dk_seg dksX0_joined_3 24 rfl rfl
theorem dX0_joined_0 : decode cX0_joined 0 = .ok (.aload_n 0, 1) := dk_42 (dk_at dksX0_joined_0 0 rfl rfl)
theorem dX0_joined_1 : decode cX0_joined 1 = .ok (.iload_n 1, 1) := dk_27 (dk_at dksX0_joined_0 1 rfl rfl)
theorem dX0_joined_2 : decode cX0_joined 2 = .ok (.invokevirtual 45, 3) := dk_182 0 45 (dk_at dksX0_joined_0 2 rfl rfl)
theorem dX0_joined_5 : decode cX0_joined 5 = .ok (.ifCond .eq 16, 3) := dk_153 0 16 (dk_at dksX0_joined_0 5 rfl rfl)
theorem dX0_joined_8 : decode cX0_joined 8 = .ok (.aload_n 0, 1) := dk_42 (dk_at dksX0_joined_0 8 rfl rfl)
theorem dX0_joined_9 : decode cX0_joined 9 = .ok (.iload_n 2, 1) := dk_28 (dk_at dksX0_joined_0 9 rfl rfl)
theorem dX0_joined_10 : decode cX0_joined 10 = .ok (.invokevirtual 45, 3) := dk_182 0 45 (dk_at dksX0_joined_0 10 rfl rfl)
theorem dX0_joined_13 : decode cX0_joined 13 = .ok (.ifCond .eq 8, 3) := dk_153 0 8 (dk_at dksX0_joined_0 13 rfl rfl)
theorem dX0_joined_16 : decode cX0_joined 16 = .ok (.iload_n 1, 1) := dk_27 (dk_at dksX0_joined_0 16 rfl rfl)
theorem dX0_joined_17 : decode cX0_joined 17 = .ok (.iload_n 2, 1) := dk_28 (dk_at dksX0_joined_0 17 rfl rfl)
theorem dX0_joined_18 : decode cX0_joined 18 = .ok (.if_icmp .ne 13, 3) := dk_160 0 13 (dk_at dksX0_joined_0 18 rfl rfl)
theorem dX0_joined_21 : decode cX0_joined 21 = .ok (.new 97, 3) := dk_187 0 97 (dk_at dksX0_joined_0 21 rfl rfl)
theorem dX0_joined_24 : decode cX0_joined 24 = .ok (.dup, 1) := dk_89 (dk_at dksX0_joined_1 0 rfl rfl)
theorem dX0_joined_25 : decode cX0_joined 25 = .ok (.bipush (-2), 2) := dk_16 254 (dk_at dksX0_joined_1 1 rfl rfl)
theorem dX0_joined_27 : decode cX0_joined 27 = .ok (.invokespecial 99, 3) := dk_183 0 99 (dk_at dksX0_joined_1 3 rfl rfl)
theorem dX0_joined_30 : decode cX0_joined 30 = .ok (.athrow, 1) := dk_191 (dk_at dksX0_joined_1 6 rfl rfl)
theorem dX0_joined_31 : decode cX0_joined 31 = .ok (.aload_n 0, 1) := dk_42 (dk_at dksX0_joined_1 7 rfl rfl)
theorem dX0_joined_32 : decode cX0_joined 32 = .ok (.getfield 20, 3) := dk_180 0 20 (dk_at dksX0_joined_1 8 rfl rfl)
theorem dX0_joined_35 : decode cX0_joined 35 = .ok (.getfield 49, 3) := dk_180 0 49 (dk_at dksX0_joined_1 11 rfl rfl)
theorem dX0_joined_38 : decode cX0_joined 38 = .ok (.iload_n 1, 1) := dk_27 (dk_at dksX0_joined_1 14 rfl rfl)
theorem dX0_joined_39 : decode cX0_joined 39 = .ok (.aaload, 1) := dk_50 (dk_at dksX0_joined_1 15 rfl rfl)
theorem dX0_joined_40 : decode cX0_joined 40 = .ok (.astore_n 3, 1) := dk_78 (dk_at dksX0_joined_1 16 rfl rfl)
theorem dX0_joined_41 : decode cX0_joined 41 = .ok (.aload_n 0, 1) := dk_42 (dk_at dksX0_joined_1 17 rfl rfl)
theorem dX0_joined_42 : decode cX0_joined 42 = .ok (.getfield 20, 3) := dk_180 0 20 (dk_at dksX0_joined_1 18 rfl rfl)
theorem dX0_joined_45 : decode cX0_joined 45 = .ok (.getfield 49, 3) := dk_180 0 49 (dk_at dksX0_joined_1 21 rfl rfl)
theorem dX0_joined_48 : decode cX0_joined 48 = .ok (.iload_n 2, 1) := dk_28 (dk_at dksX0_joined_2 0 rfl rfl)
theorem dX0_joined_49 : decode cX0_joined 49 = .ok (.aaload, 1) := dk_50 (dk_at dksX0_joined_2 1 rfl rfl)
theorem dX0_joined_50 : decode cX0_joined 50 = .ok (.astore 4, 2) := dk_58 4 (dk_at dksX0_joined_2 2 rfl rfl)
theorem dX0_joined_52 : decode cX0_joined 52 = .ok (.aload_n 3, 1) := dk_45 (dk_at dksX0_joined_2 4 rfl rfl)
theorem dX0_joined_53 : decode cX0_joined 53 = .ok (.getfield 62, 3) := dk_180 0 62 (dk_at dksX0_joined_2 5 rfl rfl)
theorem dX0_joined_56 : decode cX0_joined 56 = .ok (.aload 4, 2) := dk_25 4 (dk_at dksX0_joined_2 8 rfl rfl)
theorem dX0_joined_58 : decode cX0_joined 58 = .ok (.getfield 62, 3) := dk_180 0 62 (dk_at dksX0_joined_2 10 rfl rfl)
theorem dX0_joined_61 : decode cX0_joined 61 = .ok (.if_icmp .ne 17, 3) := dk_160 0 17 (dk_at dksX0_joined_2 13 rfl rfl)
theorem dX0_joined_64 : decode cX0_joined 64 = .ok (.aload_n 3, 1) := dk_45 (dk_at dksX0_joined_2 16 rfl rfl)
theorem dX0_joined_65 : decode cX0_joined 65 = .ok (.getfield 53, 3) := dk_180 0 53 (dk_at dksX0_joined_2 17 rfl rfl)
theorem dX0_joined_68 : decode cX0_joined 68 = .ok (.aload 4, 2) := dk_25 4 (dk_at dksX0_joined_2 20 rfl rfl)
theorem dX0_joined_70 : decode cX0_joined 70 = .ok (.getfield 53, 3) := dk_180 0 53 (dk_at dksX0_joined_3 0 rfl rfl)
theorem dX0_joined_73 : decode cX0_joined 73 = .ok (.iadd, 1) := dk_96 (dk_at dksX0_joined_3 3 rfl rfl)
theorem dX0_joined_74 : decode cX0_joined 74 = .ok (.iconst 3, 1) := dk_6 (dk_at dksX0_joined_3 4 rfl rfl)
theorem dX0_joined_75 : decode cX0_joined 75 = .ok (.if_icmp .le 13, 3) := dk_164 0 13 (dk_at dksX0_joined_3 5 rfl rfl)
theorem dX0_joined_78 : decode cX0_joined 78 = .ok (.new 97, 3) := dk_187 0 97 (dk_at dksX0_joined_3 8 rfl rfl)
theorem dX0_joined_81 : decode cX0_joined 81 = .ok (.dup, 1) := dk_89 (dk_at dksX0_joined_3 11 rfl rfl)
theorem dX0_joined_82 : decode cX0_joined 82 = .ok (.bipush (-5), 2) := dk_16 251 (dk_at dksX0_joined_3 12 rfl rfl)
theorem dX0_joined_84 : decode cX0_joined 84 = .ok (.invokespecial 99, 3) := dk_183 0 99 (dk_at dksX0_joined_3 14 rfl rfl)
theorem dX0_joined_87 : decode cX0_joined 87 = .ok (.athrow, 1) := dk_191 (dk_at dksX0_joined_3 17 rfl rfl)
theorem dX0_joined_88 : decode cX0_joined 88 = .ok (.aload_n 3, 1) := dk_45 (dk_at dksX0_joined_3 18 rfl rfl)
theorem dX0_joined_89 : decode cX0_joined 89 = .ok (.aload 4, 2) := dk_25 4 (dk_at dksX0_joined_3 19 rfl rfl)
theorem dX0_joined_91 : decode cX0_joined 91 = .ok (.invokevirtual 303, 3) := dk_182 1 47 (dk_at dksX0_joined_3 21 rfl rfl)
theorem dX0_joined_94 : decode cX0_joined 94 = .ok (.areturn, 1) := dk_176 (dk_at dksX0_joined_4 0 rfl rfl)
abbrev cX0_saved : ByteArray := prog_1_method_65_code
def yX0_saved : MethodName := ⟨RX0, "saved", "(II)J"⟩
def dkwX0_saved_4 : List UInt8 := [182, 0, 246, 101, 184, 1, 54, 173, 78, 42, 45, 180, 0, 110, 182, 0, 81, 133, 173]
abbrev dktX0_saved_4 : List UInt8 := dkwX0_saved_4 ++ []
def dkwX0_saved_3 : List UInt8 := [180, 0, 62, 104, 25, 4, 180, 0, 53, 104, 121, 97, 55, 6, 9, 22, 6, 45, 45, 180, 0, 62, 3]
abbrev dktX0_saved_3 : List UInt8 := dkwX0_saved_3 ++ dktX0_saved_4
def dkwX0_saved_2 : List UInt8 := [104, 25, 5, 180, 0, 53, 104, 121, 25, 5, 25, 5, 180, 0, 62, 3, 182, 0, 246, 5, 25, 4]
abbrev dktX0_saved_2 : List UInt8 := dkwX0_saved_2 ++ dktX0_saved_3
def dkwX0_saved_1 : List UInt8 := [180, 0, 49, 28, 50, 58, 5, 25, 4, 25, 4, 180, 0, 62, 3, 182, 0, 246, 5, 25, 4, 180, 0, 62]
abbrev dktX0_saved_1 : List UInt8 := dkwX0_saved_1 ++ dktX0_saved_2
def dkwX0_saved_0 : List UInt8 := [42, 27, 28, 182, 1, 51, 78, 42, 180, 0, 20, 180, 0, 49, 27, 50, 58, 4, 42, 180, 0, 20]
abbrev dktX0_saved_0 : List UInt8 := dkwX0_saved_0 ++ dktX0_saved_1
theorem dksX0_saved_0 : cX0_saved.data.toList.drop 0 = dktX0_saved_0 := by decide +kernel
theorem dksX0_saved_1 : cX0_saved.data.toList.drop 22 = dktX0_saved_1 := dk_seg dksX0_saved_0 22 rfl rfl
theorem dksX0_saved_2 : cX0_saved.data.toList.drop 46 = dktX0_saved_2 := dk_seg dksX0_saved_1 24 rfl rfl
theorem dksX0_saved_3 : cX0_saved.data.toList.drop 68 = dktX0_saved_3 := dk_seg dksX0_saved_2 22 rfl rfl
theorem dksX0_saved_4 : cX0_saved.data.toList.drop 91 = dktX0_saved_4 := dk_seg dksX0_saved_3 23 rfl rfl
theorem dX0_saved_0 : decode cX0_saved 0 = .ok (.aload_n 0, 1) := dk_42 (dk_at dksX0_saved_0 0 rfl rfl)
theorem dX0_saved_1 : decode cX0_saved 1 = .ok (.iload_n 1, 1) := dk_27 (dk_at dksX0_saved_0 1 rfl rfl)
theorem dX0_saved_2 : decode cX0_saved 2 = .ok (.iload_n 2, 1) := dk_28 (dk_at dksX0_saved_0 2 rfl rfl)
theorem dX0_saved_3 : decode cX0_saved 3 = .ok (.invokevirtual 307, 3) := dk_182 1 51 (dk_at dksX0_saved_0 3 rfl rfl)
theorem dX0_saved_6 : decode cX0_saved 6 = .ok (.astore_n 3, 1) := dk_78 (dk_at dksX0_saved_0 6 rfl rfl)
theorem dX0_saved_7 : decode cX0_saved 7 = .ok (.aload_n 0, 1) := dk_42 (dk_at dksX0_saved_0 7 rfl rfl)
theorem dX0_saved_8 : decode cX0_saved 8 = .ok (.getfield 20, 3) := dk_180 0 20 (dk_at dksX0_saved_0 8 rfl rfl)
theorem dX0_saved_11 : decode cX0_saved 11 = .ok (.getfield 49, 3) := dk_180 0 49 (dk_at dksX0_saved_0 11 rfl rfl)
theorem dX0_saved_14 : decode cX0_saved 14 = .ok (.iload_n 1, 1) := dk_27 (dk_at dksX0_saved_0 14 rfl rfl)
theorem dX0_saved_15 : decode cX0_saved 15 = .ok (.aaload, 1) := dk_50 (dk_at dksX0_saved_0 15 rfl rfl)
theorem dX0_saved_16 : decode cX0_saved 16 = .ok (.astore 4, 2) := dk_58 4 (dk_at dksX0_saved_0 16 rfl rfl)
theorem dX0_saved_18 : decode cX0_saved 18 = .ok (.aload_n 0, 1) := dk_42 (dk_at dksX0_saved_0 18 rfl rfl)
theorem dX0_saved_19 : decode cX0_saved 19 = .ok (.getfield 20, 3) := dk_180 0 20 (dk_at dksX0_saved_0 19 rfl rfl)
theorem dX0_saved_22 : decode cX0_saved 22 = .ok (.getfield 49, 3) := dk_180 0 49 (dk_at dksX0_saved_1 0 rfl rfl)
theorem dX0_saved_25 : decode cX0_saved 25 = .ok (.iload_n 2, 1) := dk_28 (dk_at dksX0_saved_1 3 rfl rfl)
theorem dX0_saved_26 : decode cX0_saved 26 = .ok (.aaload, 1) := dk_50 (dk_at dksX0_saved_1 4 rfl rfl)
theorem dX0_saved_27 : decode cX0_saved 27 = .ok (.astore 5, 2) := dk_58 5 (dk_at dksX0_saved_1 5 rfl rfl)
theorem dX0_saved_29 : decode cX0_saved 29 = .ok (.aload 4, 2) := dk_25 4 (dk_at dksX0_saved_1 7 rfl rfl)
theorem dX0_saved_31 : decode cX0_saved 31 = .ok (.aload 4, 2) := dk_25 4 (dk_at dksX0_saved_1 9 rfl rfl)
theorem dX0_saved_33 : decode cX0_saved 33 = .ok (.getfield 62, 3) := dk_180 0 62 (dk_at dksX0_saved_1 11 rfl rfl)
theorem dX0_saved_36 : decode cX0_saved 36 = .ok (.iconst 0, 1) := dk_3 (dk_at dksX0_saved_1 14 rfl rfl)
theorem dX0_saved_37 : decode cX0_saved 37 = .ok (.invokevirtual 246, 3) := dk_182 0 246 (dk_at dksX0_saved_1 15 rfl rfl)
theorem dX0_saved_40 : decode cX0_saved 40 = .ok (.iconst 2, 1) := dk_5 (dk_at dksX0_saved_1 18 rfl rfl)
theorem dX0_saved_41 : decode cX0_saved 41 = .ok (.aload 4, 2) := dk_25 4 (dk_at dksX0_saved_1 19 rfl rfl)
theorem dX0_saved_43 : decode cX0_saved 43 = .ok (.getfield 62, 3) := dk_180 0 62 (dk_at dksX0_saved_1 21 rfl rfl)
theorem dX0_saved_46 : decode cX0_saved 46 = .ok (.imul, 1) := dk_104 (dk_at dksX0_saved_2 0 rfl rfl)
theorem dX0_saved_47 : decode cX0_saved 47 = .ok (.aload 5, 2) := dk_25 5 (dk_at dksX0_saved_2 1 rfl rfl)
theorem dX0_saved_49 : decode cX0_saved 49 = .ok (.getfield 53, 3) := dk_180 0 53 (dk_at dksX0_saved_2 3 rfl rfl)
theorem dX0_saved_52 : decode cX0_saved 52 = .ok (.imul, 1) := dk_104 (dk_at dksX0_saved_2 6 rfl rfl)
theorem dX0_saved_53 : decode cX0_saved 53 = .ok (.lshl, 1) := dk_121 (dk_at dksX0_saved_2 7 rfl rfl)
theorem dX0_saved_54 : decode cX0_saved 54 = .ok (.aload 5, 2) := dk_25 5 (dk_at dksX0_saved_2 8 rfl rfl)
theorem dX0_saved_56 : decode cX0_saved 56 = .ok (.aload 5, 2) := dk_25 5 (dk_at dksX0_saved_2 10 rfl rfl)
theorem dX0_saved_58 : decode cX0_saved 58 = .ok (.getfield 62, 3) := dk_180 0 62 (dk_at dksX0_saved_2 12 rfl rfl)
theorem dX0_saved_61 : decode cX0_saved 61 = .ok (.iconst 0, 1) := dk_3 (dk_at dksX0_saved_2 15 rfl rfl)
theorem dX0_saved_62 : decode cX0_saved 62 = .ok (.invokevirtual 246, 3) := dk_182 0 246 (dk_at dksX0_saved_2 16 rfl rfl)
theorem dX0_saved_65 : decode cX0_saved 65 = .ok (.iconst 2, 1) := dk_5 (dk_at dksX0_saved_2 19 rfl rfl)
theorem dX0_saved_66 : decode cX0_saved 66 = .ok (.aload 4, 2) := dk_25 4 (dk_at dksX0_saved_2 20 rfl rfl)
theorem dX0_saved_68 : decode cX0_saved 68 = .ok (.getfield 62, 3) := dk_180 0 62 (dk_at dksX0_saved_3 0 rfl rfl)
theorem dX0_saved_71 : decode cX0_saved 71 = .ok (.imul, 1) := dk_104 (dk_at dksX0_saved_3 3 rfl rfl)
theorem dX0_saved_72 : decode cX0_saved 72 = .ok (.aload 4, 2) := dk_25 4 (dk_at dksX0_saved_3 4 rfl rfl)
theorem dX0_saved_74 : decode cX0_saved 74 = .ok (.getfield 53, 3) := dk_180 0 53 (dk_at dksX0_saved_3 6 rfl rfl)
theorem dX0_saved_77 : decode cX0_saved 77 = .ok (.imul, 1) := dk_104 (dk_at dksX0_saved_3 9 rfl rfl)
theorem dX0_saved_78 : decode cX0_saved 78 = .ok (.lshl, 1) := dk_121 (dk_at dksX0_saved_3 10 rfl rfl)
theorem dX0_saved_79 : decode cX0_saved 79 = .ok (.ladd, 1) := dk_97 (dk_at dksX0_saved_3 11 rfl rfl)
theorem dX0_saved_80 : decode cX0_saved 80 = .ok (.lstore 6, 2) := dk_55 6 (dk_at dksX0_saved_3 12 rfl rfl)
theorem dX0_saved_82 : decode cX0_saved 82 = .ok (.lconst 0, 1) := dk_9 (dk_at dksX0_saved_3 14 rfl rfl)
theorem dX0_saved_83 : decode cX0_saved 83 = .ok (.lload 6, 2) := dk_22 6 (dk_at dksX0_saved_3 15 rfl rfl)
theorem dX0_saved_85 : decode cX0_saved 85 = .ok (.aload_n 3, 1) := dk_45 (dk_at dksX0_saved_3 17 rfl rfl)
theorem dX0_saved_86 : decode cX0_saved 86 = .ok (.aload_n 3, 1) := dk_45 (dk_at dksX0_saved_3 18 rfl rfl)
theorem dX0_saved_87 : decode cX0_saved 87 = .ok (.getfield 62, 3) := dk_180 0 62 (dk_at dksX0_saved_3 19 rfl rfl)
theorem dX0_saved_90 : decode cX0_saved 90 = .ok (.iconst 0, 1) := dk_3 (dk_at dksX0_saved_3 22 rfl rfl)
theorem dX0_saved_91 : decode cX0_saved 91 = .ok (.invokevirtual 246, 3) := dk_182 0 246 (dk_at dksX0_saved_4 0 rfl rfl)
theorem dX0_saved_94 : decode cX0_saved 94 = .ok (.lsub, 1) := dk_101 (dk_at dksX0_saved_4 3 rfl rfl)
theorem dX0_saved_95 : decode cX0_saved 95 = .ok (.invokestatic 310, 3) := dk_184 1 54 (dk_at dksX0_saved_4 4 rfl rfl)
theorem dX0_saved_98 : decode cX0_saved 98 = .ok (.lreturn, 1) := dk_173 (dk_at dksX0_saved_4 7 rfl rfl)
theorem dX0_saved_99 : decode cX0_saved 99 = .ok (.astore_n 3, 1) := dk_78 (dk_at dksX0_saved_4 8 rfl rfl)
theorem dX0_saved_100 : decode cX0_saved 100 = .ok (.aload_n 0, 1) := dk_42 (dk_at dksX0_saved_4 9 rfl rfl)
theorem dX0_saved_101 : decode cX0_saved 101 = .ok (.aload_n 3, 1) := dk_45 (dk_at dksX0_saved_4 10 rfl rfl)
theorem dX0_saved_102 : decode cX0_saved 102 = .ok (.getfield 110, 3) := dk_180 0 110 (dk_at dksX0_saved_4 11 rfl rfl)
theorem dX0_saved_105 : decode cX0_saved 105 = .ok (.invokevirtual 81, 3) := dk_182 0 81 (dk_at dksX0_saved_4 14 rfl rfl)
theorem dX0_saved_108 : decode cX0_saved 108 = .ok (.i2l, 1) := dk_133 (dk_at dksX0_saved_4 17 rfl rfl)
theorem dX0_saved_109 : decode cX0_saved 109 = .ok (.lreturn, 1) := dk_173 (dk_at dksX0_saved_4 18 rfl rfl)
abbrev cX0_seed : ByteArray := prog_1_method_66_code
def yX0_seed : MethodName := ⟨RX0, "seed", "(I)I"⟩
def dkwX0_seed_0 : List UInt8 := [42, 180, 0, 20, 180, 1, 58, 61, 42, 180, 0, 20, 27, 181, 1, 58, 28, 172]
abbrev dktX0_seed_0 : List UInt8 := dkwX0_seed_0 ++ []
theorem dksX0_seed_0 : cX0_seed.data.toList.drop 0 = dktX0_seed_0 := by decide +kernel
theorem dX0_seed_0 : decode cX0_seed 0 = .ok (.aload_n 0, 1) := dk_42 (dk_at dksX0_seed_0 0 rfl rfl)
theorem dX0_seed_1 : decode cX0_seed 1 = .ok (.getfield 20, 3) := dk_180 0 20 (dk_at dksX0_seed_0 1 rfl rfl)
theorem dX0_seed_4 : decode cX0_seed 4 = .ok (.getfield 314, 3) := dk_180 1 58 (dk_at dksX0_seed_0 4 rfl rfl)
theorem dX0_seed_7 : decode cX0_seed 7 = .ok (.istore_n 2, 1) := dk_61 (dk_at dksX0_seed_0 7 rfl rfl)
theorem dX0_seed_8 : decode cX0_seed 8 = .ok (.aload_n 0, 1) := dk_42 (dk_at dksX0_seed_0 8 rfl rfl)
theorem dX0_seed_9 : decode cX0_seed 9 = .ok (.getfield 20, 3) := dk_180 0 20 (dk_at dksX0_seed_0 9 rfl rfl)
theorem dX0_seed_12 : decode cX0_seed 12 = .ok (.iload_n 1, 1) := dk_27 (dk_at dksX0_seed_0 12 rfl rfl)
theorem dX0_seed_13 : decode cX0_seed 13 = .ok (.putfield 314, 3) := dk_181 1 58 (dk_at dksX0_seed_0 13 rfl rfl)
theorem dX0_seed_16 : decode cX0_seed 16 = .ok (.iload_n 2, 1) := dk_28 (dk_at dksX0_seed_0 16 rfl rfl)
theorem dX0_seed_17 : decode cX0_seed 17 = .ok (.ireturn, 1) := dk_172 (dk_at dksX0_seed_0 17 rfl rfl)
abbrev cX0_begin : ByteArray := prog_1_method_67_code
def yX0_begin : MethodName := ⟨RX0, "begin", "(II)I"⟩
def dkwX0_begin_3 : List UInt8 := [182, 0, 81, 172]
abbrev dktX0_begin_3 : List UInt8 := dkwX0_begin_3 ++ []
def dkwX0_begin_2 : List UInt8 := [183, 1, 66, 181, 1, 69, 42, 180, 0, 20, 180, 1, 69, 180, 1, 73, 172, 78, 42, 45, 180, 0, 110]
abbrev dktX0_begin_2 : List UInt8 := dkwX0_begin_2 ++ dktX0_begin_3
def dkwX0_begin_1 : List UInt8 := [180, 0, 20, 187, 1, 61, 89, 42, 180, 0, 20, 180, 0, 49, 27, 50, 182, 1, 63, 42, 28, 182, 0, 175]
abbrev dktX0_begin_1 : List UInt8 := dkwX0_begin_1 ++ dktX0_begin_2
def dkwX0_begin_0 : List UInt8 := [42, 27, 182, 0, 45, 153, 0, 10, 28, 184, 0, 78, 154, 0, 10, 42, 16, 254, 182, 0, 81, 172, 42]
abbrev dktX0_begin_0 : List UInt8 := dkwX0_begin_0 ++ dktX0_begin_1
theorem dksX0_begin_0 : cX0_begin.data.toList.drop 0 = dktX0_begin_0 := by decide +kernel
theorem dksX0_begin_1 : cX0_begin.data.toList.drop 23 = dktX0_begin_1 := dk_seg dksX0_begin_0 23 rfl rfl
theorem dksX0_begin_2 : cX0_begin.data.toList.drop 47 = dktX0_begin_2 := dk_seg dksX0_begin_1 24 rfl rfl
theorem dksX0_begin_3 : cX0_begin.data.toList.drop 70 = dktX0_begin_3 := dk_seg dksX0_begin_2 23 rfl rfl
theorem dX0_begin_0 : decode cX0_begin 0 = .ok (.aload_n 0, 1) := dk_42 (dk_at dksX0_begin_0 0 rfl rfl)
theorem dX0_begin_1 : decode cX0_begin 1 = .ok (.iload_n 1, 1) := dk_27 (dk_at dksX0_begin_0 1 rfl rfl)
theorem dX0_begin_2 : decode cX0_begin 2 = .ok (.invokevirtual 45, 3) := dk_182 0 45 (dk_at dksX0_begin_0 2 rfl rfl)
theorem dX0_begin_5 : decode cX0_begin 5 = .ok (.ifCond .eq 10, 3) := dk_153 0 10 (dk_at dksX0_begin_0 5 rfl rfl)
theorem dX0_begin_8 : decode cX0_begin 8 = .ok (.iload_n 2, 1) := dk_28 (dk_at dksX0_begin_0 8 rfl rfl)
theorem dX0_begin_9 : decode cX0_begin 9 = .ok (.invokestatic 78, 3) := dk_184 0 78 (dk_at dksX0_begin_0 9 rfl rfl)
theorem dX0_begin_12 : decode cX0_begin 12 = .ok (.ifCond .ne 10, 3) := dk_154 0 10 (dk_at dksX0_begin_0 12 rfl rfl)
theorem dX0_begin_15 : decode cX0_begin 15 = .ok (.aload_n 0, 1) := dk_42 (dk_at dksX0_begin_0 15 rfl rfl)
theorem dX0_begin_16 : decode cX0_begin 16 = .ok (.bipush (-2), 2) := dk_16 254 (dk_at dksX0_begin_0 16 rfl rfl)
theorem dX0_begin_18 : decode cX0_begin 18 = .ok (.invokevirtual 81, 3) := dk_182 0 81 (dk_at dksX0_begin_0 18 rfl rfl)
theorem dX0_begin_21 : decode cX0_begin 21 = .ok (.ireturn, 1) := dk_172 (dk_at dksX0_begin_0 21 rfl rfl)
theorem dX0_begin_22 : decode cX0_begin 22 = .ok (.aload_n 0, 1) := dk_42 (dk_at dksX0_begin_0 22 rfl rfl)
theorem dX0_begin_23 : decode cX0_begin 23 = .ok (.getfield 20, 3) := dk_180 0 20 (dk_at dksX0_begin_1 0 rfl rfl)
theorem dX0_begin_26 : decode cX0_begin 26 = .ok (.new 317, 3) := dk_187 1 61 (dk_at dksX0_begin_1 3 rfl rfl)
theorem dX0_begin_29 : decode cX0_begin 29 = .ok (.dup, 1) := dk_89 (dk_at dksX0_begin_1 6 rfl rfl)
theorem dX0_begin_30 : decode cX0_begin 30 = .ok (.aload_n 0, 1) := dk_42 (dk_at dksX0_begin_1 7 rfl rfl)
theorem dX0_begin_31 : decode cX0_begin 31 = .ok (.getfield 20, 3) := dk_180 0 20 (dk_at dksX0_begin_1 8 rfl rfl)
theorem dX0_begin_34 : decode cX0_begin 34 = .ok (.getfield 49, 3) := dk_180 0 49 (dk_at dksX0_begin_1 11 rfl rfl)
theorem dX0_begin_37 : decode cX0_begin 37 = .ok (.iload_n 1, 1) := dk_27 (dk_at dksX0_begin_1 14 rfl rfl)
theorem dX0_begin_38 : decode cX0_begin 38 = .ok (.aaload, 1) := dk_50 (dk_at dksX0_begin_1 15 rfl rfl)
theorem dX0_begin_39 : decode cX0_begin 39 = .ok (.invokevirtual 319, 3) := dk_182 1 63 (dk_at dksX0_begin_1 16 rfl rfl)
theorem dX0_begin_42 : decode cX0_begin 42 = .ok (.aload_n 0, 1) := dk_42 (dk_at dksX0_begin_1 19 rfl rfl)
theorem dX0_begin_43 : decode cX0_begin 43 = .ok (.iload_n 2, 1) := dk_28 (dk_at dksX0_begin_1 20 rfl rfl)
theorem dX0_begin_44 : decode cX0_begin 44 = .ok (.invokevirtual 175, 3) := dk_182 0 175 (dk_at dksX0_begin_1 21 rfl rfl)
theorem dX0_begin_47 : decode cX0_begin 47 = .ok (.invokespecial 322, 3) := dk_183 1 66 (dk_at dksX0_begin_2 0 rfl rfl)
theorem dX0_begin_50 : decode cX0_begin 50 = .ok (.putfield 325, 3) := dk_181 1 69 (dk_at dksX0_begin_2 3 rfl rfl)
theorem dX0_begin_53 : decode cX0_begin 53 = .ok (.aload_n 0, 1) := dk_42 (dk_at dksX0_begin_2 6 rfl rfl)
theorem dX0_begin_54 : decode cX0_begin 54 = .ok (.getfield 20, 3) := dk_180 0 20 (dk_at dksX0_begin_2 7 rfl rfl)
theorem dX0_begin_57 : decode cX0_begin 57 = .ok (.getfield 325, 3) := dk_180 1 69 (dk_at dksX0_begin_2 10 rfl rfl)
theorem dX0_begin_60 : decode cX0_begin 60 = .ok (.getfield 329, 3) := dk_180 1 73 (dk_at dksX0_begin_2 13 rfl rfl)
theorem dX0_begin_63 : decode cX0_begin 63 = .ok (.ireturn, 1) := dk_172 (dk_at dksX0_begin_2 16 rfl rfl)
theorem dX0_begin_64 : decode cX0_begin 64 = .ok (.astore_n 3, 1) := dk_78 (dk_at dksX0_begin_2 17 rfl rfl)
theorem dX0_begin_65 : decode cX0_begin 65 = .ok (.aload_n 0, 1) := dk_42 (dk_at dksX0_begin_2 18 rfl rfl)
theorem dX0_begin_66 : decode cX0_begin 66 = .ok (.aload_n 3, 1) := dk_45 (dk_at dksX0_begin_2 19 rfl rfl)
theorem dX0_begin_67 : decode cX0_begin 67 = .ok (.getfield 110, 3) := dk_180 0 110 (dk_at dksX0_begin_2 20 rfl rfl)
theorem dX0_begin_70 : decode cX0_begin 70 = .ok (.invokevirtual 81, 3) := dk_182 0 81 (dk_at dksX0_begin_3 0 rfl rfl)
theorem dX0_begin_73 : decode cX0_begin 73 = .ok (.ireturn, 1) := dk_172 (dk_at dksX0_begin_3 3 rfl rfl)
abbrev cX0_step : ByteArray := prog_1_method_68_code
def yX0_step : MethodName := ⟨RX0, "step", "(I)I"⟩
def dkwX0_step_3 : List UInt8 := [132, 4, 1, 167, 255, 229, 29, 172]
abbrev dktX0_step_3 : List UInt8 := dkwX0_step_3 ++ []
def dkwX0_step_2 : List UInt8 := [21, 4, 27, 162, 0, 27, 44, 180, 1, 73, 158, 0, 20, 29, 44, 42, 180, 0, 20, 182, 1, 75, 96, 62]
abbrev dktX0_step_2 : List UInt8 := dkwX0_step_2 ++ dktX0_step_3
def dkwX0_step_1 : List UInt8 := [77, 44, 198, 0, 10, 44, 180, 1, 73, 154, 0, 10, 42, 16, 251, 182, 0, 81, 172, 3, 62, 3, 54, 4]
abbrev dktX0_step_1 : List UInt8 := dkwX0_step_1 ++ dktX0_step_2
def dkwX0_step_0 : List UInt8 := [27, 4, 16, 6, 184, 0, 37, 154, 0, 10, 42, 16, 254, 182, 0, 81, 172, 42, 180, 0, 20, 180, 1, 69]
abbrev dktX0_step_0 : List UInt8 := dkwX0_step_0 ++ dktX0_step_1
theorem dksX0_step_0 : cX0_step.data.toList.drop 0 = dktX0_step_0 := by decide +kernel
theorem dksX0_step_1 : cX0_step.data.toList.drop 24 = dktX0_step_1 := dk_seg dksX0_step_0 24 rfl rfl
theorem dksX0_step_2 : cX0_step.data.toList.drop 48 = dktX0_step_2 := dk_seg dksX0_step_1 24 rfl rfl
theorem dksX0_step_3 : cX0_step.data.toList.drop 72 = dktX0_step_3 := dk_seg dksX0_step_2 24 rfl rfl
theorem dX0_step_0 : decode cX0_step 0 = .ok (.iload_n 1, 1) := dk_27 (dk_at dksX0_step_0 0 rfl rfl)
theorem dX0_step_1 : decode cX0_step 1 = .ok (.iconst 1, 1) := dk_4 (dk_at dksX0_step_0 1 rfl rfl)
theorem dX0_step_2 : decode cX0_step 2 = .ok (.bipush 6, 2) := dk_16 6 (dk_at dksX0_step_0 2 rfl rfl)
theorem dX0_step_4 : decode cX0_step 4 = .ok (.invokestatic 37, 3) := dk_184 0 37 (dk_at dksX0_step_0 4 rfl rfl)
theorem dX0_step_7 : decode cX0_step 7 = .ok (.ifCond .ne 10, 3) := dk_154 0 10 (dk_at dksX0_step_0 7 rfl rfl)
theorem dX0_step_10 : decode cX0_step 10 = .ok (.aload_n 0, 1) := dk_42 (dk_at dksX0_step_0 10 rfl rfl)
theorem dX0_step_11 : decode cX0_step 11 = .ok (.bipush (-2), 2) := dk_16 254 (dk_at dksX0_step_0 11 rfl rfl)
theorem dX0_step_13 : decode cX0_step 13 = .ok (.invokevirtual 81, 3) := dk_182 0 81 (dk_at dksX0_step_0 13 rfl rfl)
theorem dX0_step_16 : decode cX0_step 16 = .ok (.ireturn, 1) := dk_172 (dk_at dksX0_step_0 16 rfl rfl)
theorem dX0_step_17 : decode cX0_step 17 = .ok (.aload_n 0, 1) := dk_42 (dk_at dksX0_step_0 17 rfl rfl)
theorem dX0_step_18 : decode cX0_step 18 = .ok (.getfield 20, 3) := dk_180 0 20 (dk_at dksX0_step_0 18 rfl rfl)
theorem dX0_step_21 : decode cX0_step 21 = .ok (.getfield 325, 3) := dk_180 1 69 (dk_at dksX0_step_0 21 rfl rfl)
theorem dX0_step_24 : decode cX0_step 24 = .ok (.astore_n 2, 1) := dk_77 (dk_at dksX0_step_1 0 rfl rfl)
theorem dX0_step_25 : decode cX0_step 25 = .ok (.aload_n 2, 1) := dk_44 (dk_at dksX0_step_1 1 rfl rfl)
theorem dX0_step_26 : decode cX0_step 26 = .ok (.ifnull 10, 3) := dk_198 0 10 (dk_at dksX0_step_1 2 rfl rfl)
theorem dX0_step_29 : decode cX0_step 29 = .ok (.aload_n 2, 1) := dk_44 (dk_at dksX0_step_1 5 rfl rfl)
theorem dX0_step_30 : decode cX0_step 30 = .ok (.getfield 329, 3) := dk_180 1 73 (dk_at dksX0_step_1 6 rfl rfl)
theorem dX0_step_33 : decode cX0_step 33 = .ok (.ifCond .ne 10, 3) := dk_154 0 10 (dk_at dksX0_step_1 9 rfl rfl)
theorem dX0_step_36 : decode cX0_step 36 = .ok (.aload_n 0, 1) := dk_42 (dk_at dksX0_step_1 12 rfl rfl)
theorem dX0_step_37 : decode cX0_step 37 = .ok (.bipush (-5), 2) := dk_16 251 (dk_at dksX0_step_1 13 rfl rfl)
theorem dX0_step_39 : decode cX0_step 39 = .ok (.invokevirtual 81, 3) := dk_182 0 81 (dk_at dksX0_step_1 15 rfl rfl)
theorem dX0_step_42 : decode cX0_step 42 = .ok (.ireturn, 1) := dk_172 (dk_at dksX0_step_1 18 rfl rfl)
theorem dX0_step_43 : decode cX0_step 43 = .ok (.iconst 0, 1) := dk_3 (dk_at dksX0_step_1 19 rfl rfl)
theorem dX0_step_44 : decode cX0_step 44 = .ok (.istore_n 3, 1) := dk_62 (dk_at dksX0_step_1 20 rfl rfl)
theorem dX0_step_45 : decode cX0_step 45 = .ok (.iconst 0, 1) := dk_3 (dk_at dksX0_step_1 21 rfl rfl)
theorem dX0_step_46 : decode cX0_step 46 = .ok (.istore 4, 2) := dk_54 4 (dk_at dksX0_step_1 22 rfl rfl)
theorem dX0_step_48 : decode cX0_step 48 = .ok (.iload 4, 2) := dk_21 4 (dk_at dksX0_step_2 0 rfl rfl)
theorem dX0_step_50 : decode cX0_step 50 = .ok (.iload_n 1, 1) := dk_27 (dk_at dksX0_step_2 2 rfl rfl)
theorem dX0_step_51 : decode cX0_step 51 = .ok (.if_icmp .ge 27, 3) := dk_162 0 27 (dk_at dksX0_step_2 3 rfl rfl)
theorem dX0_step_54 : decode cX0_step 54 = .ok (.aload_n 2, 1) := dk_44 (dk_at dksX0_step_2 6 rfl rfl)
theorem dX0_step_55 : decode cX0_step 55 = .ok (.getfield 329, 3) := dk_180 1 73 (dk_at dksX0_step_2 7 rfl rfl)
theorem dX0_step_58 : decode cX0_step 58 = .ok (.ifCond .le 20, 3) := dk_158 0 20 (dk_at dksX0_step_2 10 rfl rfl)
theorem dX0_step_61 : decode cX0_step 61 = .ok (.iload_n 3, 1) := dk_29 (dk_at dksX0_step_2 13 rfl rfl)
theorem dX0_step_62 : decode cX0_step 62 = .ok (.aload_n 2, 1) := dk_44 (dk_at dksX0_step_2 14 rfl rfl)
theorem dX0_step_63 : decode cX0_step 63 = .ok (.aload_n 0, 1) := dk_42 (dk_at dksX0_step_2 15 rfl rfl)
theorem dX0_step_64 : decode cX0_step 64 = .ok (.getfield 20, 3) := dk_180 0 20 (dk_at dksX0_step_2 16 rfl rfl)
theorem dX0_step_67 : decode cX0_step 67 = .ok (.invokevirtual 331, 3) := dk_182 1 75 (dk_at dksX0_step_2 19 rfl rfl)
theorem dX0_step_70 : decode cX0_step 70 = .ok (.iadd, 1) := dk_96 (dk_at dksX0_step_2 22 rfl rfl)
theorem dX0_step_71 : decode cX0_step 71 = .ok (.istore_n 3, 1) := dk_62 (dk_at dksX0_step_2 23 rfl rfl)
theorem dX0_step_72 : decode cX0_step 72 = .ok (.iinc 4 1, 3) := dk_132 4 1 (dk_at dksX0_step_3 0 rfl rfl)
theorem dX0_step_75 : decode cX0_step 75 = .ok (.goto (-27), 3) := dk_167 255 229 (dk_at dksX0_step_3 3 rfl rfl)
theorem dX0_step_78 : decode cX0_step 78 = .ok (.iload_n 3, 1) := dk_29 (dk_at dksX0_step_3 6 rfl rfl)
theorem dX0_step_79 : decode cX0_step 79 = .ok (.ireturn, 1) := dk_172 (dk_at dksX0_step_3 7 rfl rfl)
abbrev cX0_parcels : ByteArray := prog_1_method_3_code
def yX0_parcels : MethodName := ⟨RX0, "parcels", "(I)I"⟩
def dkwX0_parcels_1 : List UInt8 := [172]
abbrev dktX0_parcels_1 : List UInt8 := dkwX0_parcels_1 ++ []
def dkwX0_parcels_0 : List UInt8 := [3, 60, 3, 61, 28, 6, 162, 0, 17, 27, 26, 28, 184, 0, 7, 96, 60, 132, 2, 1, 167, 255, 240, 27]
abbrev dktX0_parcels_0 : List UInt8 := dkwX0_parcels_0 ++ dktX0_parcels_1
theorem dksX0_parcels_0 : cX0_parcels.data.toList.drop 0 = dktX0_parcels_0 := by decide +kernel
theorem dksX0_parcels_1 : cX0_parcels.data.toList.drop 24 = dktX0_parcels_1 := dk_seg dksX0_parcels_0 24 rfl rfl
theorem dX0_parcels_0 : decode cX0_parcels 0 = .ok (.iconst 0, 1) := dk_3 (dk_at dksX0_parcels_0 0 rfl rfl)
theorem dX0_parcels_1 : decode cX0_parcels 1 = .ok (.istore_n 1, 1) := dk_60 (dk_at dksX0_parcels_0 1 rfl rfl)
theorem dX0_parcels_2 : decode cX0_parcels 2 = .ok (.iconst 0, 1) := dk_3 (dk_at dksX0_parcels_0 2 rfl rfl)
theorem dX0_parcels_3 : decode cX0_parcels 3 = .ok (.istore_n 2, 1) := dk_61 (dk_at dksX0_parcels_0 3 rfl rfl)
theorem dX0_parcels_4 : decode cX0_parcels 4 = .ok (.iload_n 2, 1) := dk_28 (dk_at dksX0_parcels_0 4 rfl rfl)
theorem dX0_parcels_5 : decode cX0_parcels 5 = .ok (.iconst 3, 1) := dk_6 (dk_at dksX0_parcels_0 5 rfl rfl)
theorem dX0_parcels_6 : decode cX0_parcels 6 = .ok (.if_icmp .ge 17, 3) := dk_162 0 17 (dk_at dksX0_parcels_0 6 rfl rfl)
theorem dX0_parcels_9 : decode cX0_parcels 9 = .ok (.iload_n 1, 1) := dk_27 (dk_at dksX0_parcels_0 9 rfl rfl)
theorem dX0_parcels_10 : decode cX0_parcels 10 = .ok (.iload_n 0, 1) := dk_26 (dk_at dksX0_parcels_0 10 rfl rfl)
theorem dX0_parcels_11 : decode cX0_parcels 11 = .ok (.iload_n 2, 1) := dk_28 (dk_at dksX0_parcels_0 11 rfl rfl)
theorem dX0_parcels_12 : decode cX0_parcels 12 = .ok (.invokestatic 7, 3) := dk_184 0 7 (dk_at dksX0_parcels_0 12 rfl rfl)
theorem dX0_parcels_15 : decode cX0_parcels 15 = .ok (.iadd, 1) := dk_96 (dk_at dksX0_parcels_0 15 rfl rfl)
theorem dX0_parcels_16 : decode cX0_parcels 16 = .ok (.istore_n 1, 1) := dk_60 (dk_at dksX0_parcels_0 16 rfl rfl)
theorem dX0_parcels_17 : decode cX0_parcels 17 = .ok (.iinc 2 1, 3) := dk_132 2 1 (dk_at dksX0_parcels_0 17 rfl rfl)
theorem dX0_parcels_20 : decode cX0_parcels 20 = .ok (.goto (-16), 3) := dk_167 255 240 (dk_at dksX0_parcels_0 20 rfl rfl)
theorem dX0_parcels_23 : decode cX0_parcels 23 = .ok (.iload_n 1, 1) := dk_27 (dk_at dksX0_parcels_0 23 rfl rfl)
theorem dX0_parcels_24 : decode cX0_parcels 24 = .ok (.ireturn, 1) := dk_172 (dk_at dksX0_parcels_1 0 rfl rfl)
abbrev cX0_week : ByteArray := prog_1_method_69_code
def yX0_week : MethodName := ⟨RX0, "week", "(I)I"⟩
def dkwX0_week_4 : List UInt8 := [172, 44, 180, 1, 91, 172]
abbrev dktX0_week_4 : List UInt8 := dkwX0_week_4 ++ []
def dkwX0_week_3 : List UInt8 := [44, 180, 1, 73, 172, 44, 180, 1, 79, 172, 44, 180, 1, 82, 172, 44, 180, 1, 85, 172, 44, 180, 1, 88]
abbrev dktX0_week_3 : List UInt8 := dkwX0_week_3 ++ dktX0_week_4
def dkwX0_week_2 : List UInt8 := [170, 0, 0, 0, 0, 0, 0, 61, 0, 0, 0, 0, 0, 0, 0, 4, 0, 0, 0, 36, 0, 0, 0, 41, 0, 0, 0, 46, 0, 0, 0, 51, 0, 0, 0, 56]
abbrev dktX0_week_2 : List UInt8 := dkwX0_week_2 ++ dktX0_week_3
def dkwX0_week_1 : List UInt8 := [44, 199, 0, 10, 42, 16, 251, 182, 0, 81, 172, 27]
abbrev dktX0_week_1 : List UInt8 := dkwX0_week_1 ++ dktX0_week_2
def dkwX0_week_0 : List UInt8 := [27, 3, 8, 184, 0, 37, 154, 0, 10, 42, 16, 254, 182, 0, 81, 172, 42, 180, 0, 20, 180, 1, 69, 77]
abbrev dktX0_week_0 : List UInt8 := dkwX0_week_0 ++ dktX0_week_1
theorem dksX0_week_0 : cX0_week.data.toList.drop 0 = dktX0_week_0 := by decide +kernel
theorem dksX0_week_1 : cX0_week.data.toList.drop 24 = dktX0_week_1 := dk_seg dksX0_week_0 24 rfl rfl
theorem dksX0_week_2 : cX0_week.data.toList.drop 36 = dktX0_week_2 := dk_seg dksX0_week_1 12 rfl rfl
theorem dksX0_week_3 : cX0_week.data.toList.drop 72 = dktX0_week_3 := dk_seg dksX0_week_2 36 rfl rfl
theorem dksX0_week_4 : cX0_week.data.toList.drop 96 = dktX0_week_4 := dk_seg dksX0_week_3 24 rfl rfl
theorem dX0_week_0 : decode cX0_week 0 = .ok (.iload_n 1, 1) := dk_27 (dk_at dksX0_week_0 0 rfl rfl)
theorem dX0_week_1 : decode cX0_week 1 = .ok (.iconst 0, 1) := dk_3 (dk_at dksX0_week_0 1 rfl rfl)
theorem dX0_week_2 : decode cX0_week 2 = .ok (.iconst 5, 1) := dk_8 (dk_at dksX0_week_0 2 rfl rfl)
theorem dX0_week_3 : decode cX0_week 3 = .ok (.invokestatic 37, 3) := dk_184 0 37 (dk_at dksX0_week_0 3 rfl rfl)
theorem dX0_week_6 : decode cX0_week 6 = .ok (.ifCond .ne 10, 3) := dk_154 0 10 (dk_at dksX0_week_0 6 rfl rfl)
theorem dX0_week_9 : decode cX0_week 9 = .ok (.aload_n 0, 1) := dk_42 (dk_at dksX0_week_0 9 rfl rfl)
theorem dX0_week_10 : decode cX0_week 10 = .ok (.bipush (-2), 2) := dk_16 254 (dk_at dksX0_week_0 10 rfl rfl)
theorem dX0_week_12 : decode cX0_week 12 = .ok (.invokevirtual 81, 3) := dk_182 0 81 (dk_at dksX0_week_0 12 rfl rfl)
theorem dX0_week_15 : decode cX0_week 15 = .ok (.ireturn, 1) := dk_172 (dk_at dksX0_week_0 15 rfl rfl)
theorem dX0_week_16 : decode cX0_week 16 = .ok (.aload_n 0, 1) := dk_42 (dk_at dksX0_week_0 16 rfl rfl)
theorem dX0_week_17 : decode cX0_week 17 = .ok (.getfield 20, 3) := dk_180 0 20 (dk_at dksX0_week_0 17 rfl rfl)
theorem dX0_week_20 : decode cX0_week 20 = .ok (.getfield 325, 3) := dk_180 1 69 (dk_at dksX0_week_0 20 rfl rfl)
theorem dX0_week_23 : decode cX0_week 23 = .ok (.astore_n 2, 1) := dk_77 (dk_at dksX0_week_0 23 rfl rfl)
theorem dX0_week_24 : decode cX0_week 24 = .ok (.aload_n 2, 1) := dk_44 (dk_at dksX0_week_1 0 rfl rfl)
theorem dX0_week_25 : decode cX0_week 25 = .ok (.ifnonnull 10, 3) := dk_199 0 10 (dk_at dksX0_week_1 1 rfl rfl)
theorem dX0_week_28 : decode cX0_week 28 = .ok (.aload_n 0, 1) := dk_42 (dk_at dksX0_week_1 4 rfl rfl)
theorem dX0_week_29 : decode cX0_week 29 = .ok (.bipush (-5), 2) := dk_16 251 (dk_at dksX0_week_1 5 rfl rfl)
theorem dX0_week_31 : decode cX0_week 31 = .ok (.invokevirtual 81, 3) := dk_182 0 81 (dk_at dksX0_week_1 7 rfl rfl)
theorem dX0_week_34 : decode cX0_week 34 = .ok (.ireturn, 1) := dk_172 (dk_at dksX0_week_1 10 rfl rfl)
theorem dX0_week_35 : decode cX0_week 35 = .ok (.iload_n 1, 1) := dk_27 (dk_at dksX0_week_1 11 rfl rfl)
theorem dX0_week_36 : decode cX0_week 36 = .ok (.tableswitch 61 0 4 #[36, 41, 46, 51, 56], 36) := by decide +kernel
theorem dX0_week_72 : decode cX0_week 72 = .ok (.aload_n 2, 1) := dk_44 (dk_at dksX0_week_3 0 rfl rfl)
theorem dX0_week_73 : decode cX0_week 73 = .ok (.getfield 329, 3) := dk_180 1 73 (dk_at dksX0_week_3 1 rfl rfl)
theorem dX0_week_76 : decode cX0_week 76 = .ok (.ireturn, 1) := dk_172 (dk_at dksX0_week_3 4 rfl rfl)
theorem dX0_week_77 : decode cX0_week 77 = .ok (.aload_n 2, 1) := dk_44 (dk_at dksX0_week_3 5 rfl rfl)
theorem dX0_week_78 : decode cX0_week 78 = .ok (.getfield 335, 3) := dk_180 1 79 (dk_at dksX0_week_3 6 rfl rfl)
theorem dX0_week_81 : decode cX0_week 81 = .ok (.ireturn, 1) := dk_172 (dk_at dksX0_week_3 9 rfl rfl)
theorem dX0_week_82 : decode cX0_week 82 = .ok (.aload_n 2, 1) := dk_44 (dk_at dksX0_week_3 10 rfl rfl)
theorem dX0_week_83 : decode cX0_week 83 = .ok (.getfield 338, 3) := dk_180 1 82 (dk_at dksX0_week_3 11 rfl rfl)
theorem dX0_week_86 : decode cX0_week 86 = .ok (.ireturn, 1) := dk_172 (dk_at dksX0_week_3 14 rfl rfl)
theorem dX0_week_87 : decode cX0_week 87 = .ok (.aload_n 2, 1) := dk_44 (dk_at dksX0_week_3 15 rfl rfl)
theorem dX0_week_88 : decode cX0_week 88 = .ok (.getfield 341, 3) := dk_180 1 85 (dk_at dksX0_week_3 16 rfl rfl)
theorem dX0_week_91 : decode cX0_week 91 = .ok (.ireturn, 1) := dk_172 (dk_at dksX0_week_3 19 rfl rfl)
theorem dX0_week_92 : decode cX0_week 92 = .ok (.aload_n 2, 1) := dk_44 (dk_at dksX0_week_3 20 rfl rfl)
theorem dX0_week_93 : decode cX0_week 93 = .ok (.getfield 344, 3) := dk_180 1 88 (dk_at dksX0_week_3 21 rfl rfl)
theorem dX0_week_96 : decode cX0_week 96 = .ok (.ireturn, 1) := dk_172 (dk_at dksX0_week_4 0 rfl rfl)
theorem dX0_week_97 : decode cX0_week 97 = .ok (.aload_n 2, 1) := dk_44 (dk_at dksX0_week_4 1 rfl rfl)
theorem dX0_week_98 : decode cX0_week 98 = .ok (.getfield 347, 3) := dk_180 1 91 (dk_at dksX0_week_4 2 rfl rfl)
theorem dX0_week_101 : decode cX0_week 101 = .ok (.ireturn, 1) := dk_172 (dk_at dksX0_week_4 5 rfl rfl)
abbrev cX0_weeks : ByteArray := prog_1_method_70_code
def yX0_weeks : MethodName := ⟨RX0, "weeks", "(III)I"⟩
def dkwX0_weeks_4 : List UInt8 := [167, 255, 234, 132, 6, 1, 167, 255, 202, 21, 5, 172, 58, 4, 42, 25, 4, 180, 0, 110, 182, 0, 81, 172]
abbrev dktX0_weeks_4 : List UInt8 := dkwX0_weeks_4 ++ []
def dkwX0_weeks_3 : List UInt8 := [58, 7, 25, 7, 180, 1, 73, 158, 0, 20, 21, 5, 25, 7, 42, 180, 0, 20, 182, 1, 75, 96, 54, 5]
abbrev dktX0_weeks_3 : List UInt8 := dkwX0_weeks_3 ++ dktX0_weeks_4
def dkwX0_weeks_2 : List UInt8 := [21, 6, 29, 162, 0, 54, 187, 1, 61, 89, 42, 180, 0, 20, 180, 0, 49, 27, 50, 25, 4, 183, 1, 66]
abbrev dktX0_weeks_2 : List UInt8 := dkwX0_weeks_2 ++ dktX0_weeks_3
def dkwX0_weeks_1 : List UInt8 := [154, 0, 10, 42, 16, 254, 182, 0, 81, 172, 42, 28, 182, 0, 175, 58, 4, 3, 54, 5, 3, 54, 6]
abbrev dktX0_weeks_1 : List UInt8 := dkwX0_weeks_1 ++ dktX0_weeks_2
def dkwX0_weeks_0 : List UInt8 := [42, 27, 182, 0, 45, 153, 0, 20, 28, 184, 0, 78, 153, 0, 13, 29, 4, 16, 50, 184, 0, 37]
abbrev dktX0_weeks_0 : List UInt8 := dkwX0_weeks_0 ++ dktX0_weeks_1
theorem dksX0_weeks_0 : cX0_weeks.data.toList.drop 0 = dktX0_weeks_0 := by decide +kernel
theorem dksX0_weeks_1 : cX0_weeks.data.toList.drop 22 = dktX0_weeks_1 := dk_seg dksX0_weeks_0 22 rfl rfl
theorem dksX0_weeks_2 : cX0_weeks.data.toList.drop 45 = dktX0_weeks_2 := dk_seg dksX0_weeks_1 23 rfl rfl
theorem dksX0_weeks_3 : cX0_weeks.data.toList.drop 69 = dktX0_weeks_3 := dk_seg dksX0_weeks_2 24 rfl rfl
theorem dksX0_weeks_4 : cX0_weeks.data.toList.drop 93 = dktX0_weeks_4 := dk_seg dksX0_weeks_3 24 rfl rfl
theorem dX0_weeks_0 : decode cX0_weeks 0 = .ok (.aload_n 0, 1) := dk_42 (dk_at dksX0_weeks_0 0 rfl rfl)
theorem dX0_weeks_1 : decode cX0_weeks 1 = .ok (.iload_n 1, 1) := dk_27 (dk_at dksX0_weeks_0 1 rfl rfl)
theorem dX0_weeks_2 : decode cX0_weeks 2 = .ok (.invokevirtual 45, 3) := dk_182 0 45 (dk_at dksX0_weeks_0 2 rfl rfl)
theorem dX0_weeks_5 : decode cX0_weeks 5 = .ok (.ifCond .eq 20, 3) := dk_153 0 20 (dk_at dksX0_weeks_0 5 rfl rfl)
theorem dX0_weeks_8 : decode cX0_weeks 8 = .ok (.iload_n 2, 1) := dk_28 (dk_at dksX0_weeks_0 8 rfl rfl)
theorem dX0_weeks_9 : decode cX0_weeks 9 = .ok (.invokestatic 78, 3) := dk_184 0 78 (dk_at dksX0_weeks_0 9 rfl rfl)
theorem dX0_weeks_12 : decode cX0_weeks 12 = .ok (.ifCond .eq 13, 3) := dk_153 0 13 (dk_at dksX0_weeks_0 12 rfl rfl)
theorem dX0_weeks_15 : decode cX0_weeks 15 = .ok (.iload_n 3, 1) := dk_29 (dk_at dksX0_weeks_0 15 rfl rfl)
theorem dX0_weeks_16 : decode cX0_weeks 16 = .ok (.iconst 1, 1) := dk_4 (dk_at dksX0_weeks_0 16 rfl rfl)
theorem dX0_weeks_17 : decode cX0_weeks 17 = .ok (.bipush 50, 2) := dk_16 50 (dk_at dksX0_weeks_0 17 rfl rfl)
theorem dX0_weeks_19 : decode cX0_weeks 19 = .ok (.invokestatic 37, 3) := dk_184 0 37 (dk_at dksX0_weeks_0 19 rfl rfl)
theorem dX0_weeks_22 : decode cX0_weeks 22 = .ok (.ifCond .ne 10, 3) := dk_154 0 10 (dk_at dksX0_weeks_1 0 rfl rfl)
theorem dX0_weeks_25 : decode cX0_weeks 25 = .ok (.aload_n 0, 1) := dk_42 (dk_at dksX0_weeks_1 3 rfl rfl)
theorem dX0_weeks_26 : decode cX0_weeks 26 = .ok (.bipush (-2), 2) := dk_16 254 (dk_at dksX0_weeks_1 4 rfl rfl)
theorem dX0_weeks_28 : decode cX0_weeks 28 = .ok (.invokevirtual 81, 3) := dk_182 0 81 (dk_at dksX0_weeks_1 6 rfl rfl)
theorem dX0_weeks_31 : decode cX0_weeks 31 = .ok (.ireturn, 1) := dk_172 (dk_at dksX0_weeks_1 9 rfl rfl)
theorem dX0_weeks_32 : decode cX0_weeks 32 = .ok (.aload_n 0, 1) := dk_42 (dk_at dksX0_weeks_1 10 rfl rfl)
theorem dX0_weeks_33 : decode cX0_weeks 33 = .ok (.iload_n 2, 1) := dk_28 (dk_at dksX0_weeks_1 11 rfl rfl)
theorem dX0_weeks_34 : decode cX0_weeks 34 = .ok (.invokevirtual 175, 3) := dk_182 0 175 (dk_at dksX0_weeks_1 12 rfl rfl)
theorem dX0_weeks_37 : decode cX0_weeks 37 = .ok (.astore 4, 2) := dk_58 4 (dk_at dksX0_weeks_1 15 rfl rfl)
theorem dX0_weeks_39 : decode cX0_weeks 39 = .ok (.iconst 0, 1) := dk_3 (dk_at dksX0_weeks_1 17 rfl rfl)
theorem dX0_weeks_40 : decode cX0_weeks 40 = .ok (.istore 5, 2) := dk_54 5 (dk_at dksX0_weeks_1 18 rfl rfl)
theorem dX0_weeks_42 : decode cX0_weeks 42 = .ok (.iconst 0, 1) := dk_3 (dk_at dksX0_weeks_1 20 rfl rfl)
theorem dX0_weeks_43 : decode cX0_weeks 43 = .ok (.istore 6, 2) := dk_54 6 (dk_at dksX0_weeks_1 21 rfl rfl)
theorem dX0_weeks_45 : decode cX0_weeks 45 = .ok (.iload 6, 2) := dk_21 6 (dk_at dksX0_weeks_2 0 rfl rfl)
theorem dX0_weeks_47 : decode cX0_weeks 47 = .ok (.iload_n 3, 1) := dk_29 (dk_at dksX0_weeks_2 2 rfl rfl)
theorem dX0_weeks_48 : decode cX0_weeks 48 = .ok (.if_icmp .ge 54, 3) := dk_162 0 54 (dk_at dksX0_weeks_2 3 rfl rfl)
theorem dX0_weeks_51 : decode cX0_weeks 51 = .ok (.new 317, 3) := dk_187 1 61 (dk_at dksX0_weeks_2 6 rfl rfl)
theorem dX0_weeks_54 : decode cX0_weeks 54 = .ok (.dup, 1) := dk_89 (dk_at dksX0_weeks_2 9 rfl rfl)
theorem dX0_weeks_55 : decode cX0_weeks 55 = .ok (.aload_n 0, 1) := dk_42 (dk_at dksX0_weeks_2 10 rfl rfl)
theorem dX0_weeks_56 : decode cX0_weeks 56 = .ok (.getfield 20, 3) := dk_180 0 20 (dk_at dksX0_weeks_2 11 rfl rfl)
theorem dX0_weeks_59 : decode cX0_weeks 59 = .ok (.getfield 49, 3) := dk_180 0 49 (dk_at dksX0_weeks_2 14 rfl rfl)
theorem dX0_weeks_62 : decode cX0_weeks 62 = .ok (.iload_n 1, 1) := dk_27 (dk_at dksX0_weeks_2 17 rfl rfl)
theorem dX0_weeks_63 : decode cX0_weeks 63 = .ok (.aaload, 1) := dk_50 (dk_at dksX0_weeks_2 18 rfl rfl)
theorem dX0_weeks_64 : decode cX0_weeks 64 = .ok (.aload 4, 2) := dk_25 4 (dk_at dksX0_weeks_2 19 rfl rfl)
theorem dX0_weeks_66 : decode cX0_weeks 66 = .ok (.invokespecial 322, 3) := dk_183 1 66 (dk_at dksX0_weeks_2 21 rfl rfl)
theorem dX0_weeks_69 : decode cX0_weeks 69 = .ok (.astore 7, 2) := dk_58 7 (dk_at dksX0_weeks_3 0 rfl rfl)
theorem dX0_weeks_71 : decode cX0_weeks 71 = .ok (.aload 7, 2) := dk_25 7 (dk_at dksX0_weeks_3 2 rfl rfl)
theorem dX0_weeks_73 : decode cX0_weeks 73 = .ok (.getfield 329, 3) := dk_180 1 73 (dk_at dksX0_weeks_3 4 rfl rfl)
theorem dX0_weeks_76 : decode cX0_weeks 76 = .ok (.ifCond .le 20, 3) := dk_158 0 20 (dk_at dksX0_weeks_3 7 rfl rfl)
theorem dX0_weeks_79 : decode cX0_weeks 79 = .ok (.iload 5, 2) := dk_21 5 (dk_at dksX0_weeks_3 10 rfl rfl)
theorem dX0_weeks_81 : decode cX0_weeks 81 = .ok (.aload 7, 2) := dk_25 7 (dk_at dksX0_weeks_3 12 rfl rfl)
theorem dX0_weeks_83 : decode cX0_weeks 83 = .ok (.aload_n 0, 1) := dk_42 (dk_at dksX0_weeks_3 14 rfl rfl)
theorem dX0_weeks_84 : decode cX0_weeks 84 = .ok (.getfield 20, 3) := dk_180 0 20 (dk_at dksX0_weeks_3 15 rfl rfl)
theorem dX0_weeks_87 : decode cX0_weeks 87 = .ok (.invokevirtual 331, 3) := dk_182 1 75 (dk_at dksX0_weeks_3 18 rfl rfl)
theorem dX0_weeks_90 : decode cX0_weeks 90 = .ok (.iadd, 1) := dk_96 (dk_at dksX0_weeks_3 21 rfl rfl)
theorem dX0_weeks_91 : decode cX0_weeks 91 = .ok (.istore 5, 2) := dk_54 5 (dk_at dksX0_weeks_3 22 rfl rfl)
theorem dX0_weeks_93 : decode cX0_weeks 93 = .ok (.goto (-22), 3) := dk_167 255 234 (dk_at dksX0_weeks_4 0 rfl rfl)
theorem dX0_weeks_96 : decode cX0_weeks 96 = .ok (.iinc 6 1, 3) := dk_132 6 1 (dk_at dksX0_weeks_4 3 rfl rfl)
theorem dX0_weeks_99 : decode cX0_weeks 99 = .ok (.goto (-54), 3) := dk_167 255 202 (dk_at dksX0_weeks_4 6 rfl rfl)
theorem dX0_weeks_102 : decode cX0_weeks 102 = .ok (.iload 5, 2) := dk_21 5 (dk_at dksX0_weeks_4 9 rfl rfl)
theorem dX0_weeks_104 : decode cX0_weeks 104 = .ok (.ireturn, 1) := dk_172 (dk_at dksX0_weeks_4 11 rfl rfl)
theorem dX0_weeks_105 : decode cX0_weeks 105 = .ok (.astore 4, 2) := dk_58 4 (dk_at dksX0_weeks_4 12 rfl rfl)
theorem dX0_weeks_107 : decode cX0_weeks 107 = .ok (.aload_n 0, 1) := dk_42 (dk_at dksX0_weeks_4 14 rfl rfl)
theorem dX0_weeks_108 : decode cX0_weeks 108 = .ok (.aload 4, 2) := dk_25 4 (dk_at dksX0_weeks_4 15 rfl rfl)
theorem dX0_weeks_110 : decode cX0_weeks 110 = .ok (.getfield 110, 3) := dk_180 0 110 (dk_at dksX0_weeks_4 17 rfl rfl)
theorem dX0_weeks_113 : decode cX0_weeks 113 = .ok (.invokevirtual 81, 3) := dk_182 0 81 (dk_at dksX0_weeks_4 20 rfl rfl)
theorem dX0_weeks_116 : decode cX0_weeks 116 = .ok (.ireturn, 1) := dk_172 (dk_at dksX0_weeks_4 23 rfl rfl)
abbrev cX0_image : ByteArray := prog_1_method_71_code
def yX0_image : MethodName := ⟨RX0, "image", "()I"⟩
def dkwX0_image_0 : List UInt8 := [42, 42, 180, 0, 20, 182, 1, 93, 181, 1, 96, 4, 172]
abbrev dktX0_image_0 : List UInt8 := dkwX0_image_0 ++ []
theorem dksX0_image_0 : cX0_image.data.toList.drop 0 = dktX0_image_0 := by decide +kernel
theorem dX0_image_0 : decode cX0_image 0 = .ok (.aload_n 0, 1) := dk_42 (dk_at dksX0_image_0 0 rfl rfl)
theorem dX0_image_1 : decode cX0_image 1 = .ok (.aload_n 0, 1) := dk_42 (dk_at dksX0_image_0 1 rfl rfl)
theorem dX0_image_2 : decode cX0_image 2 = .ok (.getfield 20, 3) := dk_180 0 20 (dk_at dksX0_image_0 2 rfl rfl)
theorem dX0_image_5 : decode cX0_image 5 = .ok (.invokevirtual 349, 3) := dk_182 1 93 (dk_at dksX0_image_0 5 rfl rfl)
theorem dX0_image_8 : decode cX0_image 8 = .ok (.putfield 352, 3) := dk_181 1 96 (dk_at dksX0_image_0 8 rfl rfl)
theorem dX0_image_11 : decode cX0_image 11 = .ok (.iconst 1, 1) := dk_4 (dk_at dksX0_image_0 11 rfl rfl)
theorem dX0_image_12 : decode cX0_image 12 = .ok (.ireturn, 1) := dk_172 (dk_at dksX0_image_0 12 rfl rfl)
abbrev cX0_back : ByteArray := prog_1_method_72_code
def yX0_back : MethodName := ⟨RX0, "back", "()I"⟩
def dkwX0_back_1 : List UInt8 := [181, 0, 20, 4, 172]
abbrev dktX0_back_1 : List UInt8 := dkwX0_back_1 ++ []
def dkwX0_back_0 : List UInt8 := [42, 180, 1, 96, 199, 0, 10, 42, 16, 251, 182, 0, 81, 172, 42, 42, 180, 1, 96, 182, 1, 93]
abbrev dktX0_back_0 : List UInt8 := dkwX0_back_0 ++ dktX0_back_1
theorem dksX0_back_0 : cX0_back.data.toList.drop 0 = dktX0_back_0 := by decide +kernel
theorem dksX0_back_1 : cX0_back.data.toList.drop 22 = dktX0_back_1 := dk_seg dksX0_back_0 22 rfl rfl
theorem dX0_back_0 : decode cX0_back 0 = .ok (.aload_n 0, 1) := dk_42 (dk_at dksX0_back_0 0 rfl rfl)
theorem dX0_back_1 : decode cX0_back 1 = .ok (.getfield 352, 3) := dk_180 1 96 (dk_at dksX0_back_0 1 rfl rfl)
theorem dX0_back_4 : decode cX0_back 4 = .ok (.ifnonnull 10, 3) := dk_199 0 10 (dk_at dksX0_back_0 4 rfl rfl)
theorem dX0_back_7 : decode cX0_back 7 = .ok (.aload_n 0, 1) := dk_42 (dk_at dksX0_back_0 7 rfl rfl)
theorem dX0_back_8 : decode cX0_back 8 = .ok (.bipush (-5), 2) := dk_16 251 (dk_at dksX0_back_0 8 rfl rfl)
theorem dX0_back_10 : decode cX0_back 10 = .ok (.invokevirtual 81, 3) := dk_182 0 81 (dk_at dksX0_back_0 10 rfl rfl)
theorem dX0_back_13 : decode cX0_back 13 = .ok (.ireturn, 1) := dk_172 (dk_at dksX0_back_0 13 rfl rfl)
theorem dX0_back_14 : decode cX0_back 14 = .ok (.aload_n 0, 1) := dk_42 (dk_at dksX0_back_0 14 rfl rfl)
theorem dX0_back_15 : decode cX0_back 15 = .ok (.aload_n 0, 1) := dk_42 (dk_at dksX0_back_0 15 rfl rfl)
theorem dX0_back_16 : decode cX0_back 16 = .ok (.getfield 352, 3) := dk_180 1 96 (dk_at dksX0_back_0 16 rfl rfl)
theorem dX0_back_19 : decode cX0_back 19 = .ok (.invokevirtual 349, 3) := dk_182 1 93 (dk_at dksX0_back_0 19 rfl rfl)
theorem dX0_back_22 : decode cX0_back 22 = .ok (.putfield 20, 3) := dk_181 0 20 (dk_at dksX0_back_1 0 rfl rfl)
theorem dX0_back_25 : decode cX0_back 25 = .ok (.iconst 1, 1) := dk_4 (dk_at dksX0_back_1 3 rfl rfl)
theorem dX0_back_26 : decode cX0_back 26 = .ok (.ireturn, 1) := dk_172 (dk_at dksX0_back_1 4 rfl rfl)
abbrev cX0_status : ByteArray := prog_1_method_74_code
def yX0_status : MethodName := ⟨RX0, "status", "(I)I"⟩
def dkwX0_status_3 : List UInt8 := [182, 1, 99, 172, 2, 172]
abbrev dktX0_status_3 : List UInt8 := dkwX0_status_3 ++ []
def dkwX0_status_2 : List UInt8 := [42, 180, 0, 20, 180, 0, 41, 172, 42, 180, 0, 188, 172, 42, 180, 0, 20, 180, 1, 58, 172, 42]
abbrev dktX0_status_2 : List UInt8 := dkwX0_status_2 ++ dktX0_status_3
def dkwX0_status_1 : List UInt8 := [170, 0, 0, 0, 0, 56, 0, 0, 0, 0, 0, 0, 0, 3, 0, 0, 0, 30, 0, 0, 0, 38, 0, 0, 0, 43, 0, 0, 0, 51]
abbrev dktX0_status_1 : List UInt8 := dkwX0_status_1 ++ dktX0_status_2
def dkwX0_status_0 : List UInt8 := [27, 16, 12, 16, 16, 184, 0, 37, 153, 0, 13, 42, 180, 0, 33, 27, 16, 10, 100, 46, 172, 27]
abbrev dktX0_status_0 : List UInt8 := dkwX0_status_0 ++ dktX0_status_1
theorem dksX0_status_0 : cX0_status.data.toList.drop 0 = dktX0_status_0 := by decide +kernel
theorem dksX0_status_1 : cX0_status.data.toList.drop 22 = dktX0_status_1 := dk_seg dksX0_status_0 22 rfl rfl
theorem dksX0_status_2 : cX0_status.data.toList.drop 52 = dktX0_status_2 := dk_seg dksX0_status_1 30 rfl rfl
theorem dksX0_status_3 : cX0_status.data.toList.drop 74 = dktX0_status_3 := dk_seg dksX0_status_2 22 rfl rfl
theorem dX0_status_0 : decode cX0_status 0 = .ok (.iload_n 1, 1) := dk_27 (dk_at dksX0_status_0 0 rfl rfl)
theorem dX0_status_1 : decode cX0_status 1 = .ok (.bipush 12, 2) := dk_16 12 (dk_at dksX0_status_0 1 rfl rfl)
theorem dX0_status_3 : decode cX0_status 3 = .ok (.bipush 16, 2) := dk_16 16 (dk_at dksX0_status_0 3 rfl rfl)
theorem dX0_status_5 : decode cX0_status 5 = .ok (.invokestatic 37, 3) := dk_184 0 37 (dk_at dksX0_status_0 5 rfl rfl)
theorem dX0_status_8 : decode cX0_status 8 = .ok (.ifCond .eq 13, 3) := dk_153 0 13 (dk_at dksX0_status_0 8 rfl rfl)
theorem dX0_status_11 : decode cX0_status 11 = .ok (.aload_n 0, 1) := dk_42 (dk_at dksX0_status_0 11 rfl rfl)
theorem dX0_status_12 : decode cX0_status 12 = .ok (.getfield 33, 3) := dk_180 0 33 (dk_at dksX0_status_0 12 rfl rfl)
theorem dX0_status_15 : decode cX0_status 15 = .ok (.iload_n 1, 1) := dk_27 (dk_at dksX0_status_0 15 rfl rfl)
theorem dX0_status_16 : decode cX0_status 16 = .ok (.bipush 10, 2) := dk_16 10 (dk_at dksX0_status_0 16 rfl rfl)
theorem dX0_status_18 : decode cX0_status 18 = .ok (.isub, 1) := dk_100 (dk_at dksX0_status_0 18 rfl rfl)
theorem dX0_status_19 : decode cX0_status 19 = .ok (.iaload, 1) := dk_46 (dk_at dksX0_status_0 19 rfl rfl)
theorem dX0_status_20 : decode cX0_status 20 = .ok (.ireturn, 1) := dk_172 (dk_at dksX0_status_0 20 rfl rfl)
theorem dX0_status_21 : decode cX0_status 21 = .ok (.iload_n 1, 1) := dk_27 (dk_at dksX0_status_0 21 rfl rfl)
theorem dX0_status_22 : decode cX0_status 22 = .ok (.tableswitch 56 0 3 #[30, 38, 43, 51], 30) := by decide +kernel
theorem dX0_status_52 : decode cX0_status 52 = .ok (.aload_n 0, 1) := dk_42 (dk_at dksX0_status_2 0 rfl rfl)
theorem dX0_status_53 : decode cX0_status 53 = .ok (.getfield 20, 3) := dk_180 0 20 (dk_at dksX0_status_2 1 rfl rfl)
theorem dX0_status_56 : decode cX0_status 56 = .ok (.getfield 41, 3) := dk_180 0 41 (dk_at dksX0_status_2 4 rfl rfl)
theorem dX0_status_59 : decode cX0_status 59 = .ok (.ireturn, 1) := dk_172 (dk_at dksX0_status_2 7 rfl rfl)
theorem dX0_status_60 : decode cX0_status 60 = .ok (.aload_n 0, 1) := dk_42 (dk_at dksX0_status_2 8 rfl rfl)
theorem dX0_status_61 : decode cX0_status 61 = .ok (.getfield 188, 3) := dk_180 0 188 (dk_at dksX0_status_2 9 rfl rfl)
theorem dX0_status_64 : decode cX0_status 64 = .ok (.ireturn, 1) := dk_172 (dk_at dksX0_status_2 12 rfl rfl)
theorem dX0_status_65 : decode cX0_status 65 = .ok (.aload_n 0, 1) := dk_42 (dk_at dksX0_status_2 13 rfl rfl)
theorem dX0_status_66 : decode cX0_status 66 = .ok (.getfield 20, 3) := dk_180 0 20 (dk_at dksX0_status_2 14 rfl rfl)
theorem dX0_status_69 : decode cX0_status 69 = .ok (.getfield 314, 3) := dk_180 1 58 (dk_at dksX0_status_2 17 rfl rfl)
theorem dX0_status_72 : decode cX0_status 72 = .ok (.ireturn, 1) := dk_172 (dk_at dksX0_status_2 20 rfl rfl)
theorem dX0_status_73 : decode cX0_status 73 = .ok (.aload_n 0, 1) := dk_42 (dk_at dksX0_status_2 21 rfl rfl)
theorem dX0_status_74 : decode cX0_status 74 = .ok (.invokevirtual 355, 3) := dk_182 1 99 (dk_at dksX0_status_3 0 rfl rfl)
theorem dX0_status_77 : decode cX0_status 77 = .ok (.ireturn, 1) := dk_172 (dk_at dksX0_status_3 3 rfl rfl)
theorem dX0_status_78 : decode cX0_status 78 = .ok (.iconst (-1), 1) := dk_2 (dk_at dksX0_status_3 4 rfl rfl)
theorem dX0_status_79 : decode cX0_status 79 = .ok (.ireturn, 1) := dk_172 (dk_at dksX0_status_3 5 rfl rfl)
abbrev cX0_held_2 : ByteArray := prog_1_method_73_code
def yX0_held_2 : MethodName := ⟨RX0, "held", "()I"⟩
def dkwX0_held_2_1 : List UInt8 := [167, 0, 4, 3, 96, 60, 132, 2, 1, 167, 255, 227, 27, 172]
abbrev dktX0_held_2_1 : List UInt8 := dkwX0_held_2_1 ++ []
def dkwX0_held_2_0 : List UInt8 := [3, 60, 3, 61, 28, 16, 8, 162, 0, 29, 27, 42, 180, 0, 26, 28, 50, 180, 0, 89, 198, 0, 7, 4]
abbrev dktX0_held_2_0 : List UInt8 := dkwX0_held_2_0 ++ dktX0_held_2_1
theorem dksX0_held_2_0 : cX0_held_2.data.toList.drop 0 = dktX0_held_2_0 := by decide +kernel
theorem dksX0_held_2_1 : cX0_held_2.data.toList.drop 24 = dktX0_held_2_1 := dk_seg dksX0_held_2_0 24 rfl rfl
theorem dX0_held_2_0 : decode cX0_held_2 0 = .ok (.iconst 0, 1) := dk_3 (dk_at dksX0_held_2_0 0 rfl rfl)
theorem dX0_held_2_1 : decode cX0_held_2 1 = .ok (.istore_n 1, 1) := dk_60 (dk_at dksX0_held_2_0 1 rfl rfl)
theorem dX0_held_2_2 : decode cX0_held_2 2 = .ok (.iconst 0, 1) := dk_3 (dk_at dksX0_held_2_0 2 rfl rfl)
theorem dX0_held_2_3 : decode cX0_held_2 3 = .ok (.istore_n 2, 1) := dk_61 (dk_at dksX0_held_2_0 3 rfl rfl)
theorem dX0_held_2_4 : decode cX0_held_2 4 = .ok (.iload_n 2, 1) := dk_28 (dk_at dksX0_held_2_0 4 rfl rfl)
theorem dX0_held_2_5 : decode cX0_held_2 5 = .ok (.bipush 8, 2) := dk_16 8 (dk_at dksX0_held_2_0 5 rfl rfl)
theorem dX0_held_2_7 : decode cX0_held_2 7 = .ok (.if_icmp .ge 29, 3) := dk_162 0 29 (dk_at dksX0_held_2_0 7 rfl rfl)
theorem dX0_held_2_10 : decode cX0_held_2 10 = .ok (.iload_n 1, 1) := dk_27 (dk_at dksX0_held_2_0 10 rfl rfl)
theorem dX0_held_2_11 : decode cX0_held_2 11 = .ok (.aload_n 0, 1) := dk_42 (dk_at dksX0_held_2_0 11 rfl rfl)
theorem dX0_held_2_12 : decode cX0_held_2 12 = .ok (.getfield 26, 3) := dk_180 0 26 (dk_at dksX0_held_2_0 12 rfl rfl)
theorem dX0_held_2_15 : decode cX0_held_2 15 = .ok (.iload_n 2, 1) := dk_28 (dk_at dksX0_held_2_0 15 rfl rfl)
theorem dX0_held_2_16 : decode cX0_held_2 16 = .ok (.aaload, 1) := dk_50 (dk_at dksX0_held_2_0 16 rfl rfl)
theorem dX0_held_2_17 : decode cX0_held_2 17 = .ok (.getfield 89, 3) := dk_180 0 89 (dk_at dksX0_held_2_0 17 rfl rfl)
theorem dX0_held_2_20 : decode cX0_held_2 20 = .ok (.ifnull 7, 3) := dk_198 0 7 (dk_at dksX0_held_2_0 20 rfl rfl)
theorem dX0_held_2_23 : decode cX0_held_2 23 = .ok (.iconst 1, 1) := dk_4 (dk_at dksX0_held_2_0 23 rfl rfl)
theorem dX0_held_2_24 : decode cX0_held_2 24 = .ok (.goto 4, 3) := dk_167 0 4 (dk_at dksX0_held_2_1 0 rfl rfl)
theorem dX0_held_2_27 : decode cX0_held_2 27 = .ok (.iconst 0, 1) := dk_3 (dk_at dksX0_held_2_1 3 rfl rfl)
theorem dX0_held_2_28 : decode cX0_held_2 28 = .ok (.iadd, 1) := dk_96 (dk_at dksX0_held_2_1 4 rfl rfl)
theorem dX0_held_2_29 : decode cX0_held_2 29 = .ok (.istore_n 1, 1) := dk_60 (dk_at dksX0_held_2_1 5 rfl rfl)
theorem dX0_held_2_30 : decode cX0_held_2 30 = .ok (.iinc 2 1, 3) := dk_132 2 1 (dk_at dksX0_held_2_1 6 rfl rfl)
theorem dX0_held_2_33 : decode cX0_held_2 33 = .ok (.goto (-29), 3) := dk_167 255 227 (dk_at dksX0_held_2_1 9 rfl rfl)
theorem dX0_held_2_36 : decode cX0_held_2 36 = .ok (.iload_n 1, 1) := dk_27 (dk_at dksX0_held_2_1 12 rfl rfl)
theorem dX0_held_2_37 : decode cX0_held_2 37 = .ok (.ireturn, 1) := dk_172 (dk_at dksX0_held_2_1 13 rfl rfl)
theorem q69 : (Jvm.Cond.initialized "SendTheBox") ∈ lw_all := lw_g (lw_at lw_m1 1 rfl) rfl
theorem q104 : (Jvm.Cond.instantiable "SendTheBox" (6 : Nat)) ∈ lw_all := lw_g (lw_at lw_m1 36 rfl) rfl
theorem q106 : (Jvm.Cond.instanceMethod ({ cls := "SendTheBox", name := "<init>", desc := "()V" } : Jvm.MethodName)) ∈ lw_all := lw_g (lw_at lw_m1 38 rfl) rfl
theorem q107 : (Jvm.Cond.code ({ cls := "SendTheBox", name := "<init>", desc := "()V" } : Jvm.MethodName) prog_1_method_4_code (2 : Nat) (Option.none : Option Jvm.ClassFile.FieldType)) ∈ lw_all := lw_g (lw_at lw_m1 39 rfl) rfl
theorem q108 : (Jvm.Cond.methodLink "SendTheBox" (11 : Nat) ({ cls := "java/lang/Object", name := "<init>", desc := "()V" } : Jvm.MethodName)) ∈ lw_all := lw_g (lw_at lw_m1 40 rfl) rfl
theorem q111 : (Jvm.Cond.classLink "SendTheBox" (17 : Nat) "SendTheBox$Kept") ∈ lw_all := lw_g (lw_at lw_m1 43 rfl) rfl
theorem q113 : (Jvm.Cond.methodLinkNest "SendTheBox" (19 : Nat) ({ cls := "SendTheBox$Kept", name := "<init>", desc := "()V" } : Jvm.MethodName) "SendTheBox") ∈ lw_tbl := lw_at lw_m1 45 rfl
theorem q120 : (Jvm.Cond.fieldLink "SendTheBox" (49 : Nat) "SendTheBox$Kept" "houses" "[LSendTheBox$House;") ∈ lw_all := lw_g (lw_at lw_m1 52 rfl) rfl
theorem q122 : (Jvm.Cond.fieldLink "SendTheBox" (41 : Nat) "SendTheBox$Kept" "many" "I") ∈ lw_all := lw_g (lw_at lw_m1 54 rfl) rfl
theorem q124 : (Jvm.Cond.fieldLink "SendTheBox" (314 : Nat) "SendTheBox$Kept" "seed" "I") ∈ lw_all := lw_g (lw_at lw_m1 56 rfl) rfl
theorem q126 : (Jvm.Cond.fieldLink "SendTheBox" (325 : Nat) "SendTheBox$Kept" "week" "LSendTheBox$Week;") ∈ lw_all := lw_g (lw_at lw_m1 58 rfl) rfl
theorem q136 : (Jvm.Cond.classLink "SendTheBox" (24 : Nat) "SendTheBox$Sheet") ∈ lw_all := lw_g (lw_at lw_m1 68 rfl) rfl
theorem q139 : (Jvm.Cond.methodLinkNest "SendTheBox" (36 : Nat) ({ cls := "SendTheBox$Sheet", name := "<init>", desc := "()V" } : Jvm.MethodName) "SendTheBox") ∈ lw_tbl := lw_at lw_m1 71 rfl
theorem q143 : (Jvm.Cond.fieldLink "SendTheBox" (89 : Nat) "SendTheBox$Sheet" "held" "Ljava/lang/Object;") ∈ lw_all := lw_g (lw_at lw_m1 75 rfl) rfl
theorem q148 : (Jvm.Cond.fieldLink "SendTheBox" (20 : Nat) "SendTheBox" "now" "LSendTheBox$Kept;") ∈ lw_all := lw_g (lw_at lw_m1 80 rfl) rfl
theorem q149 : (Jvm.Cond.fieldLink "SendTheBox" (352 : Nat) "SendTheBox" "image" "LSendTheBox$Kept;") ∈ lw_all := lw_g (lw_at lw_m1 81 rfl) rfl
theorem q150 : (Jvm.Cond.fieldLink "SendTheBox" (26 : Nat) "SendTheBox" "shelves" "[LSendTheBox$Sheet;") ∈ lw_all := lw_g (lw_at lw_m1 82 rfl) rfl
theorem q151 : (Jvm.Cond.fieldLink "SendTheBox" (30 : Nat) "SendTheBox" "tape" "[I") ∈ lw_all := lw_g (lw_at lw_m1 83 rfl) rfl
theorem q152 : (Jvm.Cond.fieldLink "SendTheBox" (188 : Nat) "SendTheBox" "size" "I") ∈ lw_all := lw_g (lw_at lw_m1 84 rfl) rfl
theorem q153 : (Jvm.Cond.fieldLink "SendTheBox" (33 : Nat) "SendTheBox" "refused" "[I") ∈ lw_all := lw_g (lw_at lw_m1 85 rfl) rfl
theorem q154 : (Jvm.Cond.lays "SendTheBox" "SendTheBox" "now" "LSendTheBox$Kept;") ∈ lw_all := lw_g (lw_at lw_m1 86 rfl) rfl
theorem q155 : (Jvm.Cond.soleField "SendTheBox" "now") ∈ lw_all := lw_g (lw_at lw_m1 87 rfl) rfl
theorem q156 : (Jvm.Cond.lays "SendTheBox" "SendTheBox" "image" "LSendTheBox$Kept;") ∈ lw_all := lw_g (lw_at lw_m1 88 rfl) rfl
theorem q157 : (Jvm.Cond.soleField "SendTheBox" "image") ∈ lw_all := lw_g (lw_at lw_m1 89 rfl) rfl
theorem q158 : (Jvm.Cond.laysFinal "SendTheBox" "SendTheBox" "shelves" "[LSendTheBox$Sheet;") ∈ lw_all := lw_g (lw_at lw_m1 90 rfl) rfl
theorem q159 : (Jvm.Cond.soleField "SendTheBox" "shelves") ∈ lw_all := lw_g (lw_at lw_m1 91 rfl) rfl
theorem q160 : (Jvm.Cond.laysFinal "SendTheBox" "SendTheBox" "tape" "[I") ∈ lw_all := lw_g (lw_at lw_m1 92 rfl) rfl
theorem q161 : (Jvm.Cond.soleField "SendTheBox" "tape") ∈ lw_all := lw_g (lw_at lw_m1 93 rfl) rfl
theorem q162 : (Jvm.Cond.lays "SendTheBox" "SendTheBox" "size" "I") ∈ lw_all := lw_g (lw_at lw_m1 94 rfl) rfl
theorem q163 : (Jvm.Cond.soleField "SendTheBox" "size") ∈ lw_all := lw_g (lw_at lw_m1 95 rfl) rfl
theorem q164 : (Jvm.Cond.laysFinal "SendTheBox" "SendTheBox" "refused" "[I") ∈ lw_all := lw_g (lw_at lw_m1 96 rfl) rfl
theorem q165 : (Jvm.Cond.soleField "SendTheBox" "refused") ∈ lw_all := lw_g (lw_at lw_m1 97 rfl) rfl
theorem q166 : (Jvm.Cond.superclass "SendTheBox" "java/lang/Object") ∈ lw_all := lw_g (lw_at lw_m1 98 rfl) rfl
theorem q168 : (Jvm.Cond.instanceMethod ({ cls := "SendTheBox", name := "row", desc := "(III)I" } : Jvm.MethodName)) ∈ lw_all := lw_g (lw_at lw_m1 100 rfl) rfl
theorem q169 : (Jvm.Cond.selects "SendTheBox" ({ cls := "SendTheBox", name := "row", desc := "(III)I" } : Jvm.MethodName) ({ cls := "SendTheBox", name := "row", desc := "(III)I" } : Jvm.MethodName)) ∈ lw_all := lw_g (lw_at lw_m1 101 rfl) rfl
theorem q170 : (Jvm.Cond.codeWith ({ cls := "SendTheBox", name := "row", desc := "(III)I" } : Jvm.MethodName) prog_1_method_17_code (5 : Nat) (Option.some Jvm.ClassFile.FieldType.int) [((29 : Nat), (43 : Nat), (46 : Nat), (93 : Nat))]) ∈ lw_all := lw_g (lw_at lw_m1 102 rfl) rfl
theorem q171 : (Jvm.Cond.classLink "SendTheBox" (93 : Nat) "java/lang/NegativeArraySizeException") ∈ lw_all := lw_g (lw_at lw_m1 103 rfl) rfl
theorem q259 : (Jvm.Cond.methodLink "SendTheBox" (78 : Nat) ({ cls := "SendTheBox", name := "isShelf", desc := "(I)Z" } : Jvm.MethodName)) ∈ lw_all := lw_g (lw_at lw_m1 191 rfl) rfl
theorem q260 : (Jvm.Cond.static ({ cls := "SendTheBox", name := "isShelf", desc := "(I)Z" } : Jvm.MethodName)) ∈ lw_all := lw_g (lw_at lw_m1 192 rfl) rfl
theorem q261 : (Jvm.Cond.code ({ cls := "SendTheBox", name := "isShelf", desc := "(I)Z" } : Jvm.MethodName) prog_1_method_7_code (1 : Nat) (Option.some Jvm.ClassFile.FieldType.boolean)) ∈ lw_all := lw_g (lw_at lw_m1 193 rfl) rfl
theorem q262 : (Jvm.Cond.methodLink "SendTheBox" (37 : Nat) ({ cls := "SendTheBox", name := "isIn", desc := "(III)Z" } : Jvm.MethodName)) ∈ lw_all := lw_g (lw_at lw_m1 194 rfl) rfl
theorem q263 : (Jvm.Cond.static ({ cls := "SendTheBox", name := "isIn", desc := "(III)Z" } : Jvm.MethodName)) ∈ lw_all := lw_g (lw_at lw_m1 195 rfl) rfl
theorem q264 : (Jvm.Cond.code ({ cls := "SendTheBox", name := "isIn", desc := "(III)Z" } : Jvm.MethodName) prog_1_method_6_code (3 : Nat) (Option.some Jvm.ClassFile.FieldType.boolean)) ∈ lw_all := lw_g (lw_at lw_m1 196 rfl) rfl
theorem q265 : (Jvm.Cond.methodLink "SendTheBox" (81 : Nat) ({ cls := "SendTheBox", name := "no", desc := "(I)I" } : Jvm.MethodName)) ∈ lw_all := lw_g (lw_at lw_m1 197 rfl) rfl
theorem q266 : (Jvm.Cond.privateMethod ({ cls := "SendTheBox", name := "no", desc := "(I)I" } : Jvm.MethodName)) ∈ lw_tbl := lw_at lw_m1 198 rfl
theorem q267 : (Jvm.Cond.instanceMethod ({ cls := "SendTheBox", name := "no", desc := "(I)I" } : Jvm.MethodName)) ∈ lw_all := lw_g (lw_at lw_m1 199 rfl) rfl
theorem q268 : (Jvm.Cond.code ({ cls := "SendTheBox", name := "no", desc := "(I)I" } : Jvm.MethodName) prog_1_method_5_code (2 : Nat) (Option.some Jvm.ClassFile.FieldType.int)) ∈ lw_all := lw_g (lw_at lw_m1 200 rfl) rfl
theorem q269 : (Jvm.Cond.methodLink "SendTheBox" (85 : Nat) ({ cls := "SendTheBox", name := "rowOf", desc := "(II)Ljava/lang/Object;" } : Jvm.MethodName)) ∈ lw_all := lw_g (lw_at lw_m1 201 rfl) rfl
theorem q270 : (Jvm.Cond.static ({ cls := "SendTheBox", name := "rowOf", desc := "(II)Ljava/lang/Object;" } : Jvm.MethodName)) ∈ lw_all := lw_g (lw_at lw_m1 202 rfl) rfl
theorem q271 : (Jvm.Cond.code ({ cls := "SendTheBox", name := "rowOf", desc := "(II)Ljava/lang/Object;" } : Jvm.MethodName) prog_1_method_12_code (2 : Nat) (Option.some (Jvm.ClassFile.FieldType.object "java/lang/Object"))) ∈ lw_all := lw_g (lw_at lw_m1 203 rfl) rfl
theorem q276 : (Jvm.Cond.instanceMethod ({ cls := "SendTheBox", name := "set", desc := "(IIJ)I" } : Jvm.MethodName)) ∈ lw_all := lw_g (lw_at lw_m1 208 rfl) rfl
theorem q277 : (Jvm.Cond.selects "SendTheBox" ({ cls := "SendTheBox", name := "set", desc := "(IIJ)I" } : Jvm.MethodName) ({ cls := "SendTheBox", name := "set", desc := "(IIJ)I" } : Jvm.MethodName)) ∈ lw_all := lw_g (lw_at lw_m1 209 rfl) rfl
theorem q278 : (Jvm.Cond.codeWith ({ cls := "SendTheBox", name := "set", desc := "(IIJ)I" } : Jvm.MethodName) prog_1_method_19_code (6 : Nat) (Option.some Jvm.ClassFile.FieldType.int) [((14 : Nat), (25 : Nat), (26 : Nat), (97 : Nat)), ((14 : Nat), (25 : Nat), (38 : Nat), (113 : Nat))]) ∈ lw_all := lw_g (lw_at lw_m1 210 rfl) rfl
theorem q279 : (Jvm.Cond.classLink "SendTheBox" (97 : Nat) "SendTheBox$Refused") ∈ lw_all := lw_g (lw_at lw_m1 211 rfl) rfl
theorem q280 : (Jvm.Cond.classLink "SendTheBox" (113 : Nat) "java/lang/ArrayIndexOutOfBoundsException") ∈ lw_all := lw_g (lw_at lw_m1 212 rfl) rfl
theorem q299 : (Jvm.Cond.methodLink "SendTheBox" (102 : Nat) ({ cls := "SendTheBox", name := "rowIn", desc := "(I)Ljava/lang/Object;" } : Jvm.MethodName)) ∈ lw_all := lw_g (lw_at lw_m1 231 rfl) rfl
theorem q300 : (Jvm.Cond.privateMethod ({ cls := "SendTheBox", name := "rowIn", desc := "(I)Ljava/lang/Object;" } : Jvm.MethodName)) ∈ lw_tbl := lw_at lw_m1 232 rfl
theorem q301 : (Jvm.Cond.instanceMethod ({ cls := "SendTheBox", name := "rowIn", desc := "(I)Ljava/lang/Object;" } : Jvm.MethodName)) ∈ lw_all := lw_g (lw_at lw_m1 233 rfl) rfl
theorem q302 : (Jvm.Cond.code ({ cls := "SendTheBox", name := "rowIn", desc := "(I)Ljava/lang/Object;" } : Jvm.MethodName) prog_1_method_18_code (3 : Nat) (Option.some (Jvm.ClassFile.FieldType.object "java/lang/Object"))) ∈ lw_all := lw_g (lw_at lw_m1 234 rfl) rfl
theorem q303 : (Jvm.Cond.classLink "SendTheBox" (95 : Nat) "SendTheBox$Rule") ∈ lw_all := lw_g (lw_at lw_m1 235 rfl) rfl
theorem q312 : (Jvm.Cond.methodLink "SendTheBox" (99 : Nat) ({ cls := "SendTheBox$Refused", name := "<init>", desc := "(I)V" } : Jvm.MethodName)) ∈ lw_all := lw_g (lw_at lw_m2 4 rfl) rfl
theorem q325 : (Jvm.Cond.fieldLink "SendTheBox" (110 : Nat) "SendTheBox$Refused" "by" "I") ∈ lw_all := lw_g (lw_at lw_m2 17 rfl) rfl
theorem q330 : (Jvm.Cond.methodLink "SendTheBox" (106 : Nat) ({ cls := "SendTheBox", name := "puts", desc := "(Ljava/lang/Object;IJ)V" } : Jvm.MethodName)) ∈ lw_all := lw_g (lw_at lw_m2 22 rfl) rfl
theorem q331 : (Jvm.Cond.static ({ cls := "SendTheBox", name := "puts", desc := "(Ljava/lang/Object;IJ)V" } : Jvm.MethodName)) ∈ lw_all := lw_g (lw_at lw_m2 23 rfl) rfl
theorem q332 : (Jvm.Cond.code ({ cls := "SendTheBox", name := "puts", desc := "(Ljava/lang/Object;IJ)V" } : Jvm.MethodName) prog_1_method_16_code (4 : Nat) (Option.none : Option Jvm.ClassFile.FieldType)) ∈ lw_all := lw_g (lw_at lw_m2 24 rfl) rfl
theorem q333 : (Jvm.Cond.methodLink "SendTheBox" (72 : Nat) ({ cls := "SendTheBox", name := "sortOf", desc := "(Ljava/lang/Object;)I" } : Jvm.MethodName)) ∈ lw_all := lw_g (lw_at lw_m2 25 rfl) rfl
theorem q334 : (Jvm.Cond.static ({ cls := "SendTheBox", name := "sortOf", desc := "(Ljava/lang/Object;)I" } : Jvm.MethodName)) ∈ lw_all := lw_g (lw_at lw_m2 26 rfl) rfl
theorem q335 : (Jvm.Cond.code ({ cls := "SendTheBox", name := "sortOf", desc := "(Ljava/lang/Object;)I" } : Jvm.MethodName) prog_1_method_13_code (1 : Nat) (Option.some Jvm.ClassFile.FieldType.int)) ∈ lw_all := lw_g (lw_at lw_m2 27 rfl) rfl
theorem q336 : (Jvm.Cond.classLink "SendTheBox" (65 : Nat) "[B") ∈ lw_all := lw_g (lw_at lw_m2 28 rfl) rfl
theorem q337 : (Jvm.Cond.classLink "SendTheBox" (67 : Nat) "[S") ∈ lw_all := lw_g (lw_at lw_m2 29 rfl) rfl
theorem q338 : (Jvm.Cond.classLink "SendTheBox" (69 : Nat) "[I") ∈ lw_all := lw_g (lw_at lw_m2 30 rfl) rfl
theorem q339 : (Jvm.Cond.classLink "SendTheBox" (70 : Nat) "[J") ∈ lw_all := lw_g (lw_at lw_m2 31 rfl) rfl
theorem q340 : (Jvm.Cond.classLink "SendTheBox" (76 : Nat) "[Z") ∈ lw_all := lw_g (lw_at lw_m2 32 rfl) rfl
theorem q342 : (Jvm.Cond.instanceMethod ({ cls := "SendTheBox", name := "copy", desc := "(IIIII)I" } : Jvm.MethodName)) ∈ lw_all := lw_g (lw_at lw_m2 34 rfl) rfl
theorem q343 : (Jvm.Cond.selects "SendTheBox" ({ cls := "SendTheBox", name := "copy", desc := "(IIIII)I" } : Jvm.MethodName) ({ cls := "SendTheBox", name := "copy", desc := "(IIIII)I" } : Jvm.MethodName)) ∈ lw_all := lw_g (lw_at lw_m2 35 rfl) rfl
theorem q344 : (Jvm.Cond.codeWith ({ cls := "SendTheBox", name := "copy", desc := "(IIIII)I" } : Jvm.MethodName) prog_1_method_20_code (9 : Nat) (Option.some Jvm.ClassFile.FieldType.int) [((66 : Nat), (80 : Nat), (81 : Nat), (121 : Nat)), ((66 : Nat), (80 : Nat), (90 : Nat), (123 : Nat)), ((66 : Nat), (80 : Nat), (99 : Nat), (125 : Nat))]) ∈ lw_all := lw_g (lw_at lw_m2 36 rfl) rfl
theorem q345 : (Jvm.Cond.classLink "SendTheBox" (121 : Nat) "java/lang/NullPointerException") ∈ lw_all := lw_g (lw_at lw_m2 37 rfl) rfl
theorem q370 : (Jvm.Cond.classLink "SendTheBox" (123 : Nat) "java/lang/ArrayStoreException") ∈ lw_all := lw_g (lw_at lw_m2 62 rfl) rfl
theorem q384 : (Jvm.Cond.classLink "SendTheBox" (125 : Nat) "java/lang/IndexOutOfBoundsException") ∈ lw_all := lw_g (lw_at lw_m2 76 rfl) rfl
theorem q385 : (Jvm.Cond.methodLink "SendTheBox" (115 : Nat) ({ cls := "java/lang/System", name := "arraycopy", desc := "(Ljava/lang/Object;ILjava/lang/Object;II)V" } : Jvm.MethodName)) ∈ lw_all := lw_g (lw_at lw_m2 77 rfl) rfl
theorem q389 : (Jvm.Cond.instanceMethod ({ cls := "SendTheBox", name := "element", desc := "(II)J" } : Jvm.MethodName)) ∈ lw_all := lw_g (lw_at lw_m2 81 rfl) rfl
theorem q390 : (Jvm.Cond.selects "SendTheBox" ({ cls := "SendTheBox", name := "element", desc := "(II)J" } : Jvm.MethodName) ({ cls := "SendTheBox", name := "element", desc := "(II)J" } : Jvm.MethodName)) ∈ lw_all := lw_g (lw_at lw_m2 82 rfl) rfl
theorem q391 : (Jvm.Cond.codeWith ({ cls := "SendTheBox", name := "element", desc := "(II)J" } : Jvm.MethodName) prog_1_method_21_code (4 : Nat) (Option.some Jvm.ClassFile.FieldType.long) [((9 : Nat), (18 : Nat), (19 : Nat), (97 : Nat)), ((9 : Nat), (18 : Nat), (22 : Nat), (113 : Nat))]) ∈ lw_all := lw_g (lw_at lw_m2 83 rfl) rfl
theorem q392 : (Jvm.Cond.methodLink "SendTheBox" (127 : Nat) ({ cls := "SendTheBox", name := "elementOf", desc := "(Ljava/lang/Object;I)J" } : Jvm.MethodName)) ∈ lw_all := lw_g (lw_at lw_m2 84 rfl) rfl
theorem q393 : (Jvm.Cond.static ({ cls := "SendTheBox", name := "elementOf", desc := "(Ljava/lang/Object;I)J" } : Jvm.MethodName)) ∈ lw_all := lw_g (lw_at lw_m2 85 rfl) rfl
theorem q394 : (Jvm.Cond.code ({ cls := "SendTheBox", name := "elementOf", desc := "(Ljava/lang/Object;I)J" } : Jvm.MethodName) prog_1_method_15_code (2 : Nat) (Option.some Jvm.ClassFile.FieldType.long)) ∈ lw_all := lw_g (lw_at lw_m2 86 rfl) rfl
theorem q396 : (Jvm.Cond.instanceMethod ({ cls := "SendTheBox", name := "holds", desc := "(I)I" } : Jvm.MethodName)) ∈ lw_all := lw_g (lw_at lw_m2 88 rfl) rfl
theorem q397 : (Jvm.Cond.selects "SendTheBox" ({ cls := "SendTheBox", name := "holds", desc := "(I)I" } : Jvm.MethodName) ({ cls := "SendTheBox", name := "holds", desc := "(I)I" } : Jvm.MethodName)) ∈ lw_all := lw_g (lw_at lw_m2 89 rfl) rfl
theorem q398 : (Jvm.Cond.code ({ cls := "SendTheBox", name := "holds", desc := "(I)I" } : Jvm.MethodName) prog_1_method_22_code (3 : Nat) (Option.some Jvm.ClassFile.FieldType.int)) ∈ lw_all := lw_g (lw_at lw_m2 90 rfl) rfl
theorem q399 : (Jvm.Cond.methodLink "SendTheBox" (131 : Nat) ({ cls := "SendTheBox$Rule", name := "kind", desc := "()I" } : Jvm.MethodName)) ∈ lw_all := lw_g (lw_at lw_m2 91 rfl) rfl
theorem q418 : (Jvm.Cond.instanceMethod ({ cls := "SendTheBox", name := "rule", desc := "(III)I" } : Jvm.MethodName)) ∈ lw_all := lw_g (lw_at lw_m2 110 rfl) rfl
theorem q419 : (Jvm.Cond.selects "SendTheBox" ({ cls := "SendTheBox", name := "rule", desc := "(III)I" } : Jvm.MethodName) ({ cls := "SendTheBox", name := "rule", desc := "(III)I" } : Jvm.MethodName)) ∈ lw_all := lw_g (lw_at lw_m2 111 rfl) rfl
theorem q420 : (Jvm.Cond.codeWith ({ cls := "SendTheBox", name := "rule", desc := "(III)I" } : Jvm.MethodName) prog_1_method_26_code (5 : Nat) (Option.some Jvm.ClassFile.FieldType.int) [((31 : Nat), (47 : Nat), (48 : Nat), (97 : Nat))]) ∈ lw_all := lw_g (lw_at lw_m2 112 rfl) rfl
theorem q421 : (Jvm.Cond.methodLink "SendTheBox" (165 : Nat) ({ cls := "SendTheBox", name := "may", desc := "(II)Z" } : Jvm.MethodName)) ∈ lw_all := lw_g (lw_at lw_m2 113 rfl) rfl
theorem q422 : (Jvm.Cond.static ({ cls := "SendTheBox", name := "may", desc := "(II)Z" } : Jvm.MethodName)) ∈ lw_all := lw_g (lw_at lw_m2 114 rfl) rfl
theorem q423 : (Jvm.Cond.code ({ cls := "SendTheBox", name := "may", desc := "(II)Z" } : Jvm.MethodName) prog_1_method_24_code (2 : Nat) (Option.some Jvm.ClassFile.FieldType.boolean)) ∈ lw_all := lw_g (lw_at lw_m2 115 rfl) rfl
theorem q424 : (Jvm.Cond.methodLink "SendTheBox" (169 : Nat) ({ cls := "SendTheBox", name := "ruleOf", desc := "(II)LSendTheBox$Rule;" } : Jvm.MethodName)) ∈ lw_all := lw_g (lw_at lw_m2 116 rfl) rfl
theorem q425 : (Jvm.Cond.privateMethod ({ cls := "SendTheBox", name := "ruleOf", desc := "(II)LSendTheBox$Rule;" } : Jvm.MethodName)) ∈ lw_tbl := lw_at lw_m2 117 rfl
theorem q426 : (Jvm.Cond.instanceMethod ({ cls := "SendTheBox", name := "ruleOf", desc := "(II)LSendTheBox$Rule;" } : Jvm.MethodName)) ∈ lw_all := lw_g (lw_at lw_m2 118 rfl) rfl
theorem q427 : (Jvm.Cond.code ({ cls := "SendTheBox", name := "ruleOf", desc := "(II)LSendTheBox$Rule;" } : Jvm.MethodName) prog_1_method_25_code (3 : Nat) (Option.some (Jvm.ClassFile.FieldType.object "SendTheBox$Rule"))) ∈ lw_all := lw_g (lw_at lw_m2 119 rfl) rfl
theorem q428 : (Jvm.Cond.classLink "SendTheBox" (142 : Nat) "SendTheBox$Full") ∈ lw_all := lw_g (lw_at lw_m2 120 rfl) rfl
theorem q430 : (Jvm.Cond.methodLink "SendTheBox" (144 : Nat) ({ cls := "SendTheBox$Full", name := "<init>", desc := "(I)V" } : Jvm.MethodName)) ∈ lw_all := lw_g (lw_at lw_m2 122 rfl) rfl
theorem q438 : (Jvm.Cond.fieldLink "SendTheBox" (179 : Nat) "SendTheBox$Full" "space" "I") ∈ lw_all := lw_g (lw_at lw_m2 130 rfl) rfl
theorem q442 : (Jvm.Cond.classLink "SendTheBox" (145 : Nat) "SendTheBox$Daily") ∈ lw_all := lw_g (lw_at lw_m2 134 rfl) rfl
theorem q444 : (Jvm.Cond.methodLink "SendTheBox" (147 : Nat) ({ cls := "SendTheBox$Daily", name := "<init>", desc := "(I)V" } : Jvm.MethodName)) ∈ lw_all := lw_g (lw_at lw_m2 136 rfl) rfl
theorem q452 : (Jvm.Cond.classLink "SendTheBox" (148 : Nat) "SendTheBox$Both") ∈ lw_all := lw_g (lw_at lw_m2 144 rfl) rfl
theorem q454 : (Jvm.Cond.methodLink "SendTheBox" (150 : Nat) ({ cls := "SendTheBox$Both", name := "<init>", desc := "(II)V" } : Jvm.MethodName)) ∈ lw_all := lw_g (lw_at lw_m2 146 rfl) rfl
theorem q465 : (Jvm.Cond.classLink "SendTheBox" (153 : Nat) "SendTheBox$Best") ∈ lw_all := lw_g (lw_at lw_m2 157 rfl) rfl
theorem q467 : (Jvm.Cond.methodLinkNest "SendTheBox" (155 : Nat) ({ cls := "SendTheBox$Best", name := "<init>", desc := "()V" } : Jvm.MethodName) "SendTheBox") ∈ lw_tbl := lw_at lw_m2 159 rfl
theorem q472 : (Jvm.Cond.classLink "SendTheBox" (156 : Nat) "SendTheBox$Told") ∈ lw_all := lw_g (lw_at lw_m2 164 rfl) rfl
theorem q474 : (Jvm.Cond.methodLink "SendTheBox" (158 : Nat) ({ cls := "SendTheBox", name := "cloned", desc := "(Ljava/lang/Object;)Ljava/lang/Object;" } : Jvm.MethodName)) ∈ lw_all := lw_g (lw_at lw_m2 166 rfl) rfl
theorem q475 : (Jvm.Cond.static ({ cls := "SendTheBox", name := "cloned", desc := "(Ljava/lang/Object;)Ljava/lang/Object;" } : Jvm.MethodName)) ∈ lw_all := lw_g (lw_at lw_m2 167 rfl) rfl
theorem q476 : (Jvm.Cond.code ({ cls := "SendTheBox", name := "cloned", desc := "(Ljava/lang/Object;)Ljava/lang/Object;" } : Jvm.MethodName) prog_1_method_23_code (1 : Nat) (Option.some (Jvm.ClassFile.FieldType.object "java/lang/Object"))) ∈ lw_all := lw_g (lw_at lw_m2 168 rfl) rfl
theorem q477 : (Jvm.Cond.methodLink "SendTheBox" (134 : Nat) ({ cls := "[B", name := "clone", desc := "()Ljava/lang/Object;" } : Jvm.MethodName)) ∈ lw_all := lw_g (lw_at lw_m2 169 rfl) rfl
theorem q483 : (Jvm.Cond.methodLink "SendTheBox" (138 : Nat) ({ cls := "[S", name := "clone", desc := "()Ljava/lang/Object;" } : Jvm.MethodName)) ∈ lw_all := lw_g (lw_at lw_m2 175 rfl) rfl
theorem q487 : (Jvm.Cond.methodLink "SendTheBox" (139 : Nat) ({ cls := "[I", name := "clone", desc := "()Ljava/lang/Object;" } : Jvm.MethodName)) ∈ lw_all := lw_g (lw_at lw_m2 179 rfl) rfl
theorem q491 : (Jvm.Cond.methodLink "SendTheBox" (140 : Nat) ({ cls := "[J", name := "clone", desc := "()Ljava/lang/Object;" } : Jvm.MethodName)) ∈ lw_all := lw_g (lw_at lw_m2 183 rfl) rfl
theorem q495 : (Jvm.Cond.methodLink "SendTheBox" (141 : Nat) ({ cls := "[Z", name := "clone", desc := "()Ljava/lang/Object;" } : Jvm.MethodName)) ∈ lw_all := lw_g (lw_at lw_m2 187 rfl) rfl
theorem q499 : (Jvm.Cond.methodLink "SendTheBox" (162 : Nat) ({ cls := "SendTheBox$Told", name := "<init>", desc := "(Ljava/lang/Object;)V" } : Jvm.MethodName)) ∈ lw_all := lw_g (lw_at lw_m2 191 rfl) rfl
theorem q504 : (Jvm.Cond.static ({ cls := "SendTheBox", name := "sizeOf", desc := "(Ljava/lang/Object;)I" } : Jvm.MethodName)) ∈ lw_all := lw_g (lw_at lw_m2 196 rfl) rfl
theorem q505 : (Jvm.Cond.code ({ cls := "SendTheBox", name := "sizeOf", desc := "(Ljava/lang/Object;)I" } : Jvm.MethodName) prog_1_method_14_code (1 : Nat) (Option.some Jvm.ClassFile.FieldType.int)) ∈ lw_all := lw_g (lw_at lw_m2 197 rfl) rfl
theorem q514 : (Jvm.Cond.instanceMethod ({ cls := "SendTheBox", name := "says", desc := "(II)I" } : Jvm.MethodName)) ∈ lw_all := lw_g (lw_at lw_m2 206 rfl) rfl
theorem q515 : (Jvm.Cond.selects "SendTheBox" ({ cls := "SendTheBox", name := "says", desc := "(II)I" } : Jvm.MethodName) ({ cls := "SendTheBox", name := "says", desc := "(II)I" } : Jvm.MethodName)) ∈ lw_all := lw_g (lw_at lw_m2 207 rfl) rfl
theorem q516 : (Jvm.Cond.codeWith ({ cls := "SendTheBox", name := "says", desc := "(II)I" } : Jvm.MethodName) prog_1_method_28_code (4 : Nat) (Option.some Jvm.ClassFile.FieldType.int) [((23 : Nat), (65 : Nat), (106 : Nat), (97 : Nat)), ((66 : Nat), (73 : Nat), (106 : Nat), (97 : Nat)), ((74 : Nat), (81 : Nat), (106 : Nat), (97 : Nat)), ((82 : Nat), (89 : Nat), (106 : Nat), (97 : Nat)), ((90 : Nat), (97 : Nat), (106 : Nat), (97 : Nat)), ((98 : Nat), (105 : Nat), (106 : Nat), (97 : Nat)), ((23 : Nat), (65 : Nat), (116 : Nat), (173 : Nat)), ((66 : Nat), (73 : Nat), (116 : Nat), (173 : Nat)), ((74 : Nat), (81 : Nat), (116 : Nat), (173 : Nat)), ((82 : Nat), (89 : Nat), (116 : Nat), (173 : Nat)), ((90 : Nat), (97 : Nat), (116 : Nat), (173 : Nat)), ((98 : Nat), (105 : Nat), (116 : Nat), (173 : Nat))]) ∈ lw_all := lw_g (lw_at lw_m2 208 rfl) rfl
theorem q517 : (Jvm.Cond.classLink "SendTheBox" (173 : Nat) "java/lang/ClassCastException") ∈ lw_all := lw_g (lw_at lw_m2 209 rfl) rfl
theorem q531 : (Jvm.Cond.methodLink "SendTheBox" (175 : Nat) ({ cls := "SendTheBox", name := "ruleIn", desc := "(I)LSendTheBox$Rule;" } : Jvm.MethodName)) ∈ lw_all := lw_g (lw_at lw_m2 223 rfl) rfl
theorem q532 : (Jvm.Cond.privateMethod ({ cls := "SendTheBox", name := "ruleIn", desc := "(I)LSendTheBox$Rule;" } : Jvm.MethodName)) ∈ lw_tbl := lw_at lw_m2 224 rfl
theorem q533 : (Jvm.Cond.instanceMethod ({ cls := "SendTheBox", name := "ruleIn", desc := "(I)LSendTheBox$Rule;" } : Jvm.MethodName)) ∈ lw_all := lw_g (lw_at lw_m2 225 rfl) rfl
theorem q534 : (Jvm.Cond.codeWith ({ cls := "SendTheBox", name := "ruleIn", desc := "(I)LSendTheBox$Rule;" } : Jvm.MethodName) prog_1_method_27_code (3 : Nat) (Option.some (Jvm.ClassFile.FieldType.object "SendTheBox$Rule")) [((0 : Nat), (28 : Nat), (29 : Nat), (173 : Nat))]) ∈ lw_all := lw_g (lw_at lw_m2 226 rfl) rfl
theorem q535 : (Jvm.Cond.methodLink "SendTheBox" (182 : Nat) ({ cls := "SendTheBox$Daily", name := "says", desc := "()I" } : Jvm.MethodName)) ∈ lw_all := lw_g (lw_at lw_m2 227 rfl) rfl
theorem q539 : (Jvm.Cond.methodLink "SendTheBox" (185 : Nat) ({ cls := "SendTheBox$Both", name := "says", desc := "()I" } : Jvm.MethodName)) ∈ lw_all := lw_g (lw_at lw_m2 231 rfl) rfl
theorem q544 : (Jvm.Cond.methodLink "SendTheBox" (186 : Nat) ({ cls := "SendTheBox$Best", name := "says", desc := "()I" } : Jvm.MethodName)) ∈ lw_all := lw_g (lw_at lw_m2 236 rfl) rfl
theorem q548 : (Jvm.Cond.methodLink "SendTheBox" (187 : Nat) ({ cls := "SendTheBox$Told", name := "says", desc := "()I" } : Jvm.MethodName)) ∈ lw_all := lw_g (lw_at lw_m3 0 rfl) rfl
theorem q553 : (Jvm.Cond.instanceMethod ({ cls := "SendTheBox", name := "feed", desc := "(II)I" } : Jvm.MethodName)) ∈ lw_all := lw_g (lw_at lw_m3 5 rfl) rfl
theorem q554 : (Jvm.Cond.selects "SendTheBox" ({ cls := "SendTheBox", name := "feed", desc := "(II)I" } : Jvm.MethodName) ({ cls := "SendTheBox", name := "feed", desc := "(II)I" } : Jvm.MethodName)) ∈ lw_all := lw_g (lw_at lw_m3 6 rfl) rfl
theorem q555 : (Jvm.Cond.code ({ cls := "SendTheBox", name := "feed", desc := "(II)I" } : Jvm.MethodName) prog_1_method_29_code (4 : Nat) (Option.some Jvm.ClassFile.FieldType.int)) ∈ lw_all := lw_g (lw_at lw_m3 7 rfl) rfl
theorem q557 : (Jvm.Cond.instanceMethod ({ cls := "SendTheBox", name := "wipe", desc := "()I" } : Jvm.MethodName)) ∈ lw_all := lw_g (lw_at lw_m3 9 rfl) rfl
theorem q558 : (Jvm.Cond.selects "SendTheBox" ({ cls := "SendTheBox", name := "wipe", desc := "()I" } : Jvm.MethodName) ({ cls := "SendTheBox", name := "wipe", desc := "()I" } : Jvm.MethodName)) ∈ lw_all := lw_g (lw_at lw_m3 10 rfl) rfl
theorem q559 : (Jvm.Cond.code ({ cls := "SendTheBox", name := "wipe", desc := "()I" } : Jvm.MethodName) prog_1_method_30_code (2 : Nat) (Option.some Jvm.ClassFile.FieldType.int)) ∈ lw_all := lw_g (lw_at lw_m3 11 rfl) rfl
theorem q561 : (Jvm.Cond.instanceMethod ({ cls := "SendTheBox", name := "house", desc := "()I" } : Jvm.MethodName)) ∈ lw_all := lw_g (lw_at lw_m3 13 rfl) rfl
theorem q562 : (Jvm.Cond.selects "SendTheBox" ({ cls := "SendTheBox", name := "house", desc := "()I" } : Jvm.MethodName) ({ cls := "SendTheBox", name := "house", desc := "()I" } : Jvm.MethodName)) ∈ lw_all := lw_g (lw_at lw_m3 14 rfl) rfl
theorem q563 : (Jvm.Cond.codeWith ({ cls := "SendTheBox", name := "house", desc := "()I" } : Jvm.MethodName) prog_1_method_31_code (4 : Nat) (Option.some Jvm.ClassFile.FieldType.int) [((19 : Nat), (67 : Nat), (74 : Nat), (200 : Nat)), ((19 : Nat), (67 : Nat), (97 : Nat), (0 : Nat)), ((74 : Nat), (90 : Nat), (97 : Nat), (0 : Nat))]) ∈ lw_all := lw_g (lw_at lw_m3 15 rfl) rfl
theorem q564 : (Jvm.Cond.classLink "SendTheBox" (200 : Nat) "SendTheBox$Fault") ∈ lw_all := lw_g (lw_at lw_m3 16 rfl) rfl
theorem q565 : (Jvm.Cond.classLink "SendTheBox" (191 : Nat) "SendTheBox$Reader") ∈ lw_all := lw_g (lw_at lw_m3 17 rfl) rfl
theorem q567 : (Jvm.Cond.methodLink "SendTheBox" (193 : Nat) ({ cls := "SendTheBox$Reader", name := "<init>", desc := "([II)V" } : Jvm.MethodName)) ∈ lw_all := lw_g (lw_at lw_m3 19 rfl) rfl
theorem q580 : (Jvm.Cond.fieldLink "SendTheBox" (62 : Nat) "SendTheBox$House" "days" "I") ∈ lw_all := lw_g (lw_at lw_m3 32 rfl) rfl
theorem q584 : (Jvm.Cond.fieldLink "SendTheBox" (205 : Nat) "SendTheBox$House" "box" "I") ∈ lw_all := lw_g (lw_at lw_m3 36 rfl) rfl
theorem q587 : (Jvm.Cond.fieldLink "SendTheBox" (208 : Nat) "SendTheBox$House" "room" "I") ∈ lw_all := lw_g (lw_at lw_m3 39 rfl) rfl
theorem q591 : (Jvm.Cond.fieldLink "SendTheBox" (211 : Nat) "SendTheBox$House" "full" "I") ∈ lw_all := lw_g (lw_at lw_m3 43 rfl) rfl
theorem q595 : (Jvm.Cond.fieldLink "SendTheBox" (53 : Nat) "SendTheBox$House" "sorts" "I") ∈ lw_all := lw_g (lw_at lw_m3 47 rfl) rfl
theorem q598 : (Jvm.Cond.fieldLink "SendTheBox" (217 : Nat) "SendTheBox$House" "size" "[I") ∈ lw_all := lw_g (lw_at lw_m3 50 rfl) rfl
theorem q602 : (Jvm.Cond.fieldLink "SendTheBox" (219 : Nat) "SendTheBox$House" "comes" "[I") ∈ lw_all := lw_g (lw_at lw_m3 54 rfl) rfl
theorem q605 : (Jvm.Cond.fieldLink "SendTheBox" (222 : Nat) "SendTheBox$House" "hold" "[I") ∈ lw_all := lw_g (lw_at lw_m3 57 rfl) rfl
theorem q609 : (Jvm.Cond.fieldLink "SendTheBox" (225 : Nat) "SendTheBox$House" "refuse" "[I") ∈ lw_all := lw_g (lw_at lw_m3 61 rfl) rfl
theorem q612 : (Jvm.Cond.fieldLink "SendTheBox" (228 : Nat) "SendTheBox$House" "left" "[I") ∈ lw_all := lw_g (lw_at lw_m3 64 rfl) rfl
theorem q677 : (Jvm.Cond.methodLink "SendTheBox" (196 : Nat) ({ cls := "SendTheBox$Reader", name := "read", desc := "()LSendTheBox$House;" } : Jvm.MethodName)) ∈ lw_all := lw_g (lw_at lw_m3 129 rfl) rfl
theorem q885 : (Jvm.Cond.fieldLink "SendTheBox" (202 : Nat) "SendTheBox$Fault" "place" "I") ∈ lw_all := lw_g (lw_at lw_m4 97 rfl) rfl
theorem q932 : (Jvm.Cond.instanceMethod ({ cls := "SendTheBox", name := "houseOf", desc := "(II)I" } : Jvm.MethodName)) ∈ lw_all := lw_g (lw_at lw_m4 144 rfl) rfl
theorem q933 : (Jvm.Cond.selects "SendTheBox" ({ cls := "SendTheBox", name := "houseOf", desc := "(II)I" } : Jvm.MethodName) ({ cls := "SendTheBox", name := "houseOf", desc := "(II)I" } : Jvm.MethodName)) ∈ lw_all := lw_g (lw_at lw_m4 145 rfl) rfl
theorem q934 : (Jvm.Cond.code ({ cls := "SendTheBox", name := "houseOf", desc := "(II)I" } : Jvm.MethodName) prog_1_method_32_code (4 : Nat) (Option.some Jvm.ClassFile.FieldType.int)) ∈ lw_all := lw_g (lw_at lw_m4 146 rfl) rfl
theorem q935 : (Jvm.Cond.methodLink "SendTheBox" (45 : Nat) ({ cls := "SendTheBox", name := "isHouse", desc := "(I)Z" } : Jvm.MethodName)) ∈ lw_all := lw_g (lw_at lw_m4 147 rfl) rfl
theorem q936 : (Jvm.Cond.privateMethod ({ cls := "SendTheBox", name := "isHouse", desc := "(I)Z" } : Jvm.MethodName)) ∈ lw_tbl := lw_at lw_m4 148 rfl
theorem q937 : (Jvm.Cond.instanceMethod ({ cls := "SendTheBox", name := "isHouse", desc := "(I)Z" } : Jvm.MethodName)) ∈ lw_all := lw_g (lw_at lw_m4 149 rfl) rfl
theorem q938 : (Jvm.Cond.code ({ cls := "SendTheBox", name := "isHouse", desc := "(I)Z" } : Jvm.MethodName) prog_1_method_8_code (2 : Nat) (Option.some Jvm.ClassFile.FieldType.boolean)) ∈ lw_all := lw_g (lw_at lw_m4 150 rfl) rfl
theorem q940 : (Jvm.Cond.instanceMethod ({ cls := "SendTheBox", name := "sortOf", desc := "(III)I" } : Jvm.MethodName)) ∈ lw_all := lw_g (lw_at lw_m4 152 rfl) rfl
theorem q941 : (Jvm.Cond.selects "SendTheBox" ({ cls := "SendTheBox", name := "sortOf", desc := "(III)I" } : Jvm.MethodName) ({ cls := "SendTheBox", name := "sortOf", desc := "(III)I" } : Jvm.MethodName)) ∈ lw_all := lw_g (lw_at lw_m4 153 rfl) rfl
theorem q942 : (Jvm.Cond.code ({ cls := "SendTheBox", name := "sortOf", desc := "(III)I" } : Jvm.MethodName) prog_1_method_33_code (5 : Nat) (Option.some Jvm.ClassFile.FieldType.int)) ∈ lw_all := lw_g (lw_at lw_m4 154 rfl) rfl
theorem q943 : (Jvm.Cond.methodLink "SendTheBox" (214 : Nat) ({ cls := "SendTheBox", name := "isSort", desc := "(II)Z" } : Jvm.MethodName)) ∈ lw_all := lw_g (lw_at lw_m4 155 rfl) rfl
theorem q944 : (Jvm.Cond.privateMethod ({ cls := "SendTheBox", name := "isSort", desc := "(II)Z" } : Jvm.MethodName)) ∈ lw_tbl := lw_at lw_m4 156 rfl
theorem q945 : (Jvm.Cond.instanceMethod ({ cls := "SendTheBox", name := "isSort", desc := "(II)Z" } : Jvm.MethodName)) ∈ lw_all := lw_g (lw_at lw_m4 157 rfl) rfl
theorem q946 : (Jvm.Cond.code ({ cls := "SendTheBox", name := "isSort", desc := "(II)Z" } : Jvm.MethodName) prog_1_method_9_code (3 : Nat) (Option.some Jvm.ClassFile.FieldType.boolean)) ∈ lw_all := lw_g (lw_at lw_m4 158 rfl) rfl
theorem q948 : (Jvm.Cond.instanceMethod ({ cls := "SendTheBox", name := "alter", desc := "(III)I" } : Jvm.MethodName)) ∈ lw_all := lw_g (lw_at lw_m4 160 rfl) rfl
theorem q949 : (Jvm.Cond.selects "SendTheBox" ({ cls := "SendTheBox", name := "alter", desc := "(III)I" } : Jvm.MethodName) ({ cls := "SendTheBox", name := "alter", desc := "(III)I" } : Jvm.MethodName)) ∈ lw_all := lw_g (lw_at lw_m4 161 rfl) rfl
theorem q950 : (Jvm.Cond.code ({ cls := "SendTheBox", name := "alter", desc := "(III)I" } : Jvm.MethodName) prog_1_method_34_code (7 : Nat) (Option.some Jvm.ClassFile.FieldType.int)) ∈ lw_all := lw_g (lw_at lw_m4 162 rfl) rfl
theorem q951 : (Jvm.Cond.methodLink "SendTheBox" (231 : Nat) ({ cls := "SendTheBox$House", name := "forgets", desc := "()V" } : Jvm.MethodName)) ∈ lw_all := lw_g (lw_at lw_m4 163 rfl) rfl
theorem q956 : (Jvm.Cond.instanceMethod ({ cls := "SendTheBox", name := "change", desc := "(IIII)I" } : Jvm.MethodName)) ∈ lw_all := lw_g (lw_at lw_m4 168 rfl) rfl
theorem q957 : (Jvm.Cond.selects "SendTheBox" ({ cls := "SendTheBox", name := "change", desc := "(IIII)I" } : Jvm.MethodName) ({ cls := "SendTheBox", name := "change", desc := "(IIII)I" } : Jvm.MethodName)) ∈ lw_all := lw_g (lw_at lw_m4 169 rfl) rfl
theorem q958 : (Jvm.Cond.code ({ cls := "SendTheBox", name := "change", desc := "(IIII)I" } : Jvm.MethodName) prog_1_method_35_code (8 : Nat) (Option.some Jvm.ClassFile.FieldType.int)) ∈ lw_all := lw_g (lw_at lw_m4 170 rfl) rfl
theorem q960 : (Jvm.Cond.instanceMethod ({ cls := "SendTheBox", name := "of", desc := "(II)I" } : Jvm.MethodName)) ∈ lw_all := lw_g (lw_at lw_m4 172 rfl) rfl
theorem q961 : (Jvm.Cond.selects "SendTheBox" ({ cls := "SendTheBox", name := "of", desc := "(II)I" } : Jvm.MethodName) ({ cls := "SendTheBox", name := "of", desc := "(II)I" } : Jvm.MethodName)) ∈ lw_all := lw_g (lw_at lw_m4 173 rfl) rfl
theorem q962 : (Jvm.Cond.code ({ cls := "SendTheBox", name := "of", desc := "(II)I" } : Jvm.MethodName) prog_1_method_36_code (3 : Nat) (Option.some Jvm.ClassFile.FieldType.int)) ∈ lw_all := lw_g (lw_at lw_m4 174 rfl) rfl
theorem q963 : (Jvm.Cond.methodLink "SendTheBox" (7 : Nat) ({ cls := "SendTheBox", name := "standing", desc := "(II)I" } : Jvm.MethodName)) ∈ lw_all := lw_g (lw_at lw_m4 175 rfl) rfl
theorem q964 : (Jvm.Cond.static ({ cls := "SendTheBox", name := "standing", desc := "(II)I" } : Jvm.MethodName)) ∈ lw_all := lw_g (lw_at lw_m4 176 rfl) rfl
theorem q965 : (Jvm.Cond.code ({ cls := "SendTheBox", name := "standing", desc := "(II)I" } : Jvm.MethodName) prog_1_method_1_code (2 : Nat) (Option.some Jvm.ClassFile.FieldType.int)) ∈ lw_all := lw_g (lw_at lw_m4 177 rfl) rfl
theorem q966 : (Jvm.Cond.fieldLink "SendTheBox" (1 : Nat) "SendTheBox" "PLACE" "[I") ∈ lw_all := lw_g (lw_at lw_m4 178 rfl) rfl
theorem q967 : (Jvm.Cond.laysStatic "SendTheBox" "PLACE" "[I") ∈ lw_tbl := lw_at lw_m4 179 rfl
theorem q969 : (Jvm.Cond.instanceMethod ({ cls := "SendTheBox", name := "space", desc := "(II)I" } : Jvm.MethodName)) ∈ lw_all := lw_g (lw_at lw_m4 181 rfl) rfl
theorem q970 : (Jvm.Cond.selects "SendTheBox" ({ cls := "SendTheBox", name := "space", desc := "(II)I" } : Jvm.MethodName) ({ cls := "SendTheBox", name := "space", desc := "(II)I" } : Jvm.MethodName)) ∈ lw_all := lw_g (lw_at lw_m4 182 rfl) rfl
theorem q971 : (Jvm.Cond.code ({ cls := "SendTheBox", name := "space", desc := "(II)I" } : Jvm.MethodName) prog_1_method_37_code (3 : Nat) (Option.some Jvm.ClassFile.FieldType.int)) ∈ lw_all := lw_g (lw_at lw_m4 183 rfl) rfl
theorem q972 : (Jvm.Cond.methodLink "SendTheBox" (234 : Nat) ({ cls := "SendTheBox", name := "isState", desc := "(II)Z" } : Jvm.MethodName)) ∈ lw_all := lw_g (lw_at lw_m4 184 rfl) rfl
theorem q973 : (Jvm.Cond.privateMethod ({ cls := "SendTheBox", name := "isState", desc := "(II)Z" } : Jvm.MethodName)) ∈ lw_tbl := lw_at lw_m4 185 rfl
theorem q974 : (Jvm.Cond.instanceMethod ({ cls := "SendTheBox", name := "isState", desc := "(II)Z" } : Jvm.MethodName)) ∈ lw_all := lw_g (lw_at lw_m4 186 rfl) rfl
theorem q975 : (Jvm.Cond.code ({ cls := "SendTheBox", name := "isState", desc := "(II)Z" } : Jvm.MethodName) prog_1_method_10_code (3 : Nat) (Option.some Jvm.ClassFile.FieldType.boolean)) ∈ lw_all := lw_g (lw_at lw_m4 187 rfl) rfl
theorem q976 : (Jvm.Cond.methodLink "SendTheBox" (58 : Nat) ({ cls := "SendTheBox$House", name := "states", desc := "()I" } : Jvm.MethodName)) ∈ lw_all := lw_g (lw_at lw_m4 188 rfl) rfl
theorem q980 : (Jvm.Cond.methodLink "SendTheBox" (237 : Nat) ({ cls := "SendTheBox$House", name := "space", desc := "(I)I" } : Jvm.MethodName)) ∈ lw_all := lw_g (lw_at lw_m4 192 rfl) rfl
theorem q986 : (Jvm.Cond.instanceMethod ({ cls := "SendTheBox", name := "scale", desc := "(II)J" } : Jvm.MethodName)) ∈ lw_all := lw_g (lw_at lw_m4 198 rfl) rfl
theorem q987 : (Jvm.Cond.selects "SendTheBox" ({ cls := "SendTheBox", name := "scale", desc := "(II)J" } : Jvm.MethodName) ({ cls := "SendTheBox", name := "scale", desc := "(II)J" } : Jvm.MethodName)) ∈ lw_all := lw_g (lw_at lw_m4 199 rfl) rfl
theorem q988 : (Jvm.Cond.code ({ cls := "SendTheBox", name := "scale", desc := "(II)J" } : Jvm.MethodName) prog_1_method_38_code (3 : Nat) (Option.some Jvm.ClassFile.FieldType.long)) ∈ lw_all := lw_g (lw_at lw_m4 200 rfl) rfl
theorem q989 : (Jvm.Cond.methodLink "SendTheBox" (239 : Nat) ({ cls := "SendTheBox", name := "isLeft", desc := "(III)Z" } : Jvm.MethodName)) ∈ lw_all := lw_g (lw_at lw_m4 201 rfl) rfl
theorem q990 : (Jvm.Cond.privateMethod ({ cls := "SendTheBox", name := "isLeft", desc := "(III)Z" } : Jvm.MethodName)) ∈ lw_tbl := lw_at lw_m4 202 rfl
theorem q991 : (Jvm.Cond.instanceMethod ({ cls := "SendTheBox", name := "isLeft", desc := "(III)Z" } : Jvm.MethodName)) ∈ lw_all := lw_g (lw_at lw_m4 203 rfl) rfl
theorem q992 : (Jvm.Cond.code ({ cls := "SendTheBox", name := "isLeft", desc := "(III)Z" } : Jvm.MethodName) prog_1_method_11_code (4 : Nat) (Option.some Jvm.ClassFile.FieldType.boolean)) ∈ lw_all := lw_g (lw_at lw_m4 204 rfl) rfl
theorem q993 : (Jvm.Cond.methodLink "SendTheBox" (242 : Nat) ({ cls := "SendTheBox$House", name := "scale", desc := "(I)J" } : Jvm.MethodName)) ∈ lw_all := lw_g (lw_at lw_m4 205 rfl) rfl
theorem q998 : (Jvm.Cond.instanceMethod ({ cls := "SendTheBox", name := "cost", desc := "(III)J" } : Jvm.MethodName)) ∈ lw_all := lw_g (lw_at lw_m4 210 rfl) rfl
theorem q999 : (Jvm.Cond.selects "SendTheBox" ({ cls := "SendTheBox", name := "cost", desc := "(III)J" } : Jvm.MethodName) ({ cls := "SendTheBox", name := "cost", desc := "(III)J" } : Jvm.MethodName)) ∈ lw_all := lw_g (lw_at lw_m4 211 rfl) rfl
theorem q1000 : (Jvm.Cond.code ({ cls := "SendTheBox", name := "cost", desc := "(III)J" } : Jvm.MethodName) prog_1_method_39_code (4 : Nat) (Option.some Jvm.ClassFile.FieldType.long)) ∈ lw_all := lw_g (lw_at lw_m4 212 rfl) rfl
theorem q1001 : (Jvm.Cond.methodLink "SendTheBox" (246 : Nat) ({ cls := "SendTheBox$House", name := "cost", desc := "(II)J" } : Jvm.MethodName)) ∈ lw_all := lw_g (lw_at lw_m4 213 rfl) rfl
theorem q1041 : (Jvm.Cond.static ({ cls := "SendTheBox", name := "isOf", desc := "(II)Z" } : Jvm.MethodName)) ∈ lw_all := lw_g (lw_at lw_m5 13 rfl) rfl
theorem q1042 : (Jvm.Cond.code ({ cls := "SendTheBox", name := "isOf", desc := "(II)Z" } : Jvm.MethodName) prog_1_method_2_code (3 : Nat) (Option.some Jvm.ClassFile.FieldType.boolean)) ∈ lw_all := lw_g (lw_at lw_m5 14 rfl) rfl
theorem q1045 : (Jvm.Cond.instanceMethod ({ cls := "SendTheBox", name := "best", desc := "(III)I" } : Jvm.MethodName)) ∈ lw_all := lw_g (lw_at lw_m5 17 rfl) rfl
theorem q1046 : (Jvm.Cond.selects "SendTheBox" ({ cls := "SendTheBox", name := "best", desc := "(III)I" } : Jvm.MethodName) ({ cls := "SendTheBox", name := "best", desc := "(III)I" } : Jvm.MethodName)) ∈ lw_all := lw_g (lw_at lw_m5 18 rfl) rfl
theorem q1047 : (Jvm.Cond.code ({ cls := "SendTheBox", name := "best", desc := "(III)I" } : Jvm.MethodName) prog_1_method_40_code (4 : Nat) (Option.some Jvm.ClassFile.FieldType.int)) ∈ lw_all := lw_g (lw_at lw_m5 19 rfl) rfl
theorem q1048 : (Jvm.Cond.methodLink "SendTheBox" (250 : Nat) ({ cls := "SendTheBox$House", name := "best", desc := "(II)I" } : Jvm.MethodName)) ∈ lw_all := lw_g (lw_at lw_m5 20 rfl) rfl
theorem q1053 : (Jvm.Cond.instanceMethod ({ cls := "SendTheBox", name := "fill", desc := "(II)I" } : Jvm.MethodName)) ∈ lw_all := lw_g (lw_at lw_m5 25 rfl) rfl
theorem q1054 : (Jvm.Cond.selects "SendTheBox" ({ cls := "SendTheBox", name := "fill", desc := "(II)I" } : Jvm.MethodName) ({ cls := "SendTheBox", name := "fill", desc := "(II)I" } : Jvm.MethodName)) ∈ lw_all := lw_g (lw_at lw_m5 26 rfl) rfl
theorem q1055 : (Jvm.Cond.code ({ cls := "SendTheBox", name := "fill", desc := "(II)I" } : Jvm.MethodName) prog_1_method_41_code (3 : Nat) (Option.some Jvm.ClassFile.FieldType.int)) ∈ lw_all := lw_g (lw_at lw_m5 27 rfl) rfl
theorem q1056 : (Jvm.Cond.methodLink "SendTheBox" (253 : Nat) ({ cls := "SendTheBox$House", name := "fill", desc := "(I)I" } : Jvm.MethodName)) ∈ lw_all := lw_g (lw_at lw_m5 28 rfl) rfl
theorem q1066 : (Jvm.Cond.instanceMethod ({ cls := "SendTheBox", name := "load", desc := "(IIII)I" } : Jvm.MethodName)) ∈ lw_all := lw_g (lw_at lw_m5 38 rfl) rfl
theorem q1067 : (Jvm.Cond.selects "SendTheBox" ({ cls := "SendTheBox", name := "load", desc := "(IIII)I" } : Jvm.MethodName) ({ cls := "SendTheBox", name := "load", desc := "(IIII)I" } : Jvm.MethodName)) ∈ lw_all := lw_g (lw_at lw_m5 39 rfl) rfl
theorem q1068 : (Jvm.Cond.codeWith ({ cls := "SendTheBox", name := "load", desc := "(IIII)I" } : Jvm.MethodName) prog_1_method_42_code (6 : Nat) (Option.some Jvm.ClassFile.FieldType.int) [((34 : Nat), (54 : Nat), (55 : Nat), (97 : Nat))]) ∈ lw_all := lw_g (lw_at lw_m5 40 rfl) rfl
theorem q1069 : (Jvm.Cond.methodLink "SendTheBox" (256 : Nat) ({ cls := "SendTheBox$Rule", name := "load", desc := "(LSendTheBox$House;II)I" } : Jvm.MethodName)) ∈ lw_all := lw_g (lw_at lw_m5 41 rfl) rfl
theorem q1106 : (Jvm.Cond.instanceMethod ({ cls := "SendTheBox", name := "mean", desc := "(IIII)J" } : Jvm.MethodName)) ∈ lw_all := lw_g (lw_at lw_m5 78 rfl) rfl
theorem q1107 : (Jvm.Cond.selects "SendTheBox" ({ cls := "SendTheBox", name := "mean", desc := "(IIII)J" } : Jvm.MethodName) ({ cls := "SendTheBox", name := "mean", desc := "(IIII)J" } : Jvm.MethodName)) ∈ lw_all := lw_g (lw_at lw_m5 79 rfl) rfl
theorem q1108 : (Jvm.Cond.codeWith ({ cls := "SendTheBox", name := "mean", desc := "(IIII)J" } : Jvm.MethodName) prog_1_method_44_code (6 : Nat) (Option.some Jvm.ClassFile.FieldType.long) [((0 : Nat), (9 : Nat), (10 : Nat), (97 : Nat))]) ∈ lw_all := lw_g (lw_at lw_m5 80 rfl) rfl
theorem q1109 : (Jvm.Cond.methodLink "SendTheBox" (264 : Nat) ({ cls := "SendTheBox", name := "meanBy", desc := "(IIII)J" } : Jvm.MethodName)) ∈ lw_all := lw_g (lw_at lw_m5 81 rfl) rfl
theorem q1110 : (Jvm.Cond.privateMethod ({ cls := "SendTheBox", name := "meanBy", desc := "(IIII)J" } : Jvm.MethodName)) ∈ lw_tbl := lw_at lw_m5 82 rfl
theorem q1111 : (Jvm.Cond.instanceMethod ({ cls := "SendTheBox", name := "meanBy", desc := "(IIII)J" } : Jvm.MethodName)) ∈ lw_all := lw_g (lw_at lw_m5 83 rfl) rfl
theorem q1112 : (Jvm.Cond.code ({ cls := "SendTheBox", name := "meanBy", desc := "(IIII)J" } : Jvm.MethodName) prog_1_method_43_code (5 : Nat) (Option.some Jvm.ClassFile.FieldType.long)) ∈ lw_all := lw_g (lw_at lw_m5 84 rfl) rfl
theorem q1113 : (Jvm.Cond.methodLink "SendTheBox" (260 : Nat) ({ cls := "SendTheBox$House", name := "mean", desc := "(LSendTheBox$Chooser;II)J" } : Jvm.MethodName)) ∈ lw_all := lw_g (lw_at lw_m5 85 rfl) rfl
theorem q1148 : (Jvm.Cond.instanceMethod ({ cls := "SendTheBox", name := "lose", desc := "(IIII)J" } : Jvm.MethodName)) ∈ lw_all := lw_g (lw_at lw_m5 120 rfl) rfl
theorem q1149 : (Jvm.Cond.selects "SendTheBox" ({ cls := "SendTheBox", name := "lose", desc := "(IIII)J" } : Jvm.MethodName) ({ cls := "SendTheBox", name := "lose", desc := "(IIII)J" } : Jvm.MethodName)) ∈ lw_all := lw_g (lw_at lw_m5 121 rfl) rfl
theorem q1150 : (Jvm.Cond.codeWith ({ cls := "SendTheBox", name := "lose", desc := "(IIII)J" } : Jvm.MethodName) prog_1_method_45_code (6 : Nat) (Option.some Jvm.ClassFile.FieldType.long) [((0 : Nat), (24 : Nat), (25 : Nat), (97 : Nat))]) ∈ lw_all := lw_g (lw_at lw_m5 122 rfl) rfl
theorem q1152 : (Jvm.Cond.instanceMethod ({ cls := "SendTheBox", name := "boy", desc := "(I)I" } : Jvm.MethodName)) ∈ lw_all := lw_g (lw_at lw_m5 124 rfl) rfl
theorem q1153 : (Jvm.Cond.selects "SendTheBox" ({ cls := "SendTheBox", name := "boy", desc := "(I)I" } : Jvm.MethodName) ({ cls := "SendTheBox", name := "boy", desc := "(I)I" } : Jvm.MethodName)) ∈ lw_all := lw_g (lw_at lw_m5 125 rfl) rfl
theorem q1154 : (Jvm.Cond.code ({ cls := "SendTheBox", name := "boy", desc := "(I)I" } : Jvm.MethodName) prog_1_method_46_code (9 : Nat) (Option.some Jvm.ClassFile.FieldType.int)) ∈ lw_all := lw_g (lw_at lw_m5 126 rfl) rfl
theorem q1156 : (Jvm.Cond.instanceMethod ({ cls := "SendTheBox", name := "waits", desc := "(III)J" } : Jvm.MethodName)) ∈ lw_all := lw_g (lw_at lw_m5 128 rfl) rfl
theorem q1157 : (Jvm.Cond.selects "SendTheBox" ({ cls := "SendTheBox", name := "waits", desc := "(III)J" } : Jvm.MethodName) ({ cls := "SendTheBox", name := "waits", desc := "(III)J" } : Jvm.MethodName)) ∈ lw_all := lw_g (lw_at lw_m5 129 rfl) rfl
theorem q1158 : (Jvm.Cond.code ({ cls := "SendTheBox", name := "waits", desc := "(III)J" } : Jvm.MethodName) prog_1_method_47_code (5 : Nat) (Option.some Jvm.ClassFile.FieldType.long)) ∈ lw_all := lw_g (lw_at lw_m5 130 rfl) rfl
theorem q1159 : (Jvm.Cond.methodLink "SendTheBox" (268 : Nat) ({ cls := "SendTheBox$House", name := "worths", desc := "()[J" } : Jvm.MethodName)) ∈ lw_all := lw_g (lw_at lw_m5 131 rfl) rfl
theorem q1160 : (Jvm.Cond.methodLink "SendTheBox" (272 : Nat) ({ cls := "SendTheBox$House", name := "sending", desc := "(III[J)J" } : Jvm.MethodName)) ∈ lw_all := lw_g (lw_at lw_m5 132 rfl) rfl
theorem q1162 : (Jvm.Cond.instanceMethod ({ cls := "SendTheBox", name := "once", desc := "(III)J" } : Jvm.MethodName)) ∈ lw_all := lw_g (lw_at lw_m5 134 rfl) rfl
theorem q1163 : (Jvm.Cond.selects "SendTheBox" ({ cls := "SendTheBox", name := "once", desc := "(III)J" } : Jvm.MethodName) ({ cls := "SendTheBox", name := "once", desc := "(III)J" } : Jvm.MethodName)) ∈ lw_all := lw_g (lw_at lw_m5 135 rfl) rfl
theorem q1164 : (Jvm.Cond.code ({ cls := "SendTheBox", name := "once", desc := "(III)J" } : Jvm.MethodName) prog_1_method_48_code (5 : Nat) (Option.some Jvm.ClassFile.FieldType.long)) ∈ lw_all := lw_g (lw_at lw_m5 136 rfl) rfl
theorem q1166 : (Jvm.Cond.instanceMethod ({ cls := "SendTheBox", name := "dear", desc := "(IIII)J" } : Jvm.MethodName)) ∈ lw_all := lw_g (lw_at lw_m5 138 rfl) rfl
theorem q1167 : (Jvm.Cond.selects "SendTheBox" ({ cls := "SendTheBox", name := "dear", desc := "(IIII)J" } : Jvm.MethodName) ({ cls := "SendTheBox", name := "dear", desc := "(IIII)J" } : Jvm.MethodName)) ∈ lw_all := lw_g (lw_at lw_m5 139 rfl) rfl
theorem q1168 : (Jvm.Cond.code ({ cls := "SendTheBox", name := "dear", desc := "(IIII)J" } : Jvm.MethodName) prog_1_method_49_code (6 : Nat) (Option.some Jvm.ClassFile.FieldType.long)) ∈ lw_all := lw_g (lw_at lw_m5 140 rfl) rfl
theorem q1170 : (Jvm.Cond.instanceMethod ({ cls := "SendTheBox", name := "chance", desc := "(IIII)J" } : Jvm.MethodName)) ∈ lw_all := lw_g (lw_at lw_m5 142 rfl) rfl
theorem q1171 : (Jvm.Cond.selects "SendTheBox" ({ cls := "SendTheBox", name := "chance", desc := "(IIII)J" } : Jvm.MethodName) ({ cls := "SendTheBox", name := "chance", desc := "(IIII)J" } : Jvm.MethodName)) ∈ lw_all := lw_g (lw_at lw_m5 143 rfl) rfl
theorem q1172 : (Jvm.Cond.codeWith ({ cls := "SendTheBox", name := "chance", desc := "(IIII)J" } : Jvm.MethodName) prog_1_method_51_code (6 : Nat) (Option.some Jvm.ClassFile.FieldType.long) [((0 : Nat), (49 : Nat), (50 : Nat), (97 : Nat))]) ∈ lw_all := lw_g (lw_at lw_m5 144 rfl) rfl
theorem q1173 : (Jvm.Cond.methodLink "SendTheBox" (276 : Nat) ({ cls := "SendTheBox", name := "ruleFor", desc := "(ZI)LSendTheBox$Rule;" } : Jvm.MethodName)) ∈ lw_all := lw_g (lw_at lw_m5 145 rfl) rfl
theorem q1174 : (Jvm.Cond.privateMethod ({ cls := "SendTheBox", name := "ruleFor", desc := "(ZI)LSendTheBox$Rule;" } : Jvm.MethodName)) ∈ lw_tbl := lw_at lw_m5 146 rfl
theorem q1175 : (Jvm.Cond.instanceMethod ({ cls := "SendTheBox", name := "ruleFor", desc := "(ZI)LSendTheBox$Rule;" } : Jvm.MethodName)) ∈ lw_all := lw_g (lw_at lw_m5 147 rfl) rfl
theorem q1176 : (Jvm.Cond.code ({ cls := "SendTheBox", name := "ruleFor", desc := "(ZI)LSendTheBox$Rule;" } : Jvm.MethodName) prog_1_method_50_code (3 : Nat) (Option.some (Jvm.ClassFile.FieldType.object "SendTheBox$Rule"))) ∈ lw_all := lw_g (lw_at lw_m5 148 rfl) rfl
theorem q1177 : (Jvm.Cond.methodLink "SendTheBox" (280 : Nat) ({ cls := "SendTheBox$House", name := "chances", desc := "(LSendTheBox$Chooser;I)[J" } : Jvm.MethodName)) ∈ lw_all := lw_g (lw_at lw_m5 149 rfl) rfl
theorem q1189 : (Jvm.Cond.instanceMethod ({ cls := "SendTheBox", name := "reach", desc := "(III)I" } : Jvm.MethodName)) ∈ lw_all := lw_g (lw_at lw_m5 161 rfl) rfl
theorem q1190 : (Jvm.Cond.selects "SendTheBox" ({ cls := "SendTheBox", name := "reach", desc := "(III)I" } : Jvm.MethodName) ({ cls := "SendTheBox", name := "reach", desc := "(III)I" } : Jvm.MethodName)) ∈ lw_all := lw_g (lw_at lw_m5 162 rfl) rfl
theorem q1191 : (Jvm.Cond.codeWith ({ cls := "SendTheBox", name := "reach", desc := "(III)I" } : Jvm.MethodName) prog_1_method_52_code (8 : Nat) (Option.some Jvm.ClassFile.FieldType.int) [((0 : Nat), (72 : Nat), (73 : Nat), (97 : Nat))]) ∈ lw_all := lw_g (lw_at lw_m5 163 rfl) rfl
theorem q1193 : (Jvm.Cond.instanceMethod ({ cls := "SendTheBox", name := "held", desc := "(III)J" } : Jvm.MethodName)) ∈ lw_all := lw_g (lw_at lw_m5 165 rfl) rfl
theorem q1194 : (Jvm.Cond.selects "SendTheBox" ({ cls := "SendTheBox", name := "held", desc := "(III)J" } : Jvm.MethodName) ({ cls := "SendTheBox", name := "held", desc := "(III)J" } : Jvm.MethodName)) ∈ lw_all := lw_g (lw_at lw_m5 166 rfl) rfl
theorem q1195 : (Jvm.Cond.codeWith ({ cls := "SendTheBox", name := "held", desc := "(III)J" } : Jvm.MethodName) prog_1_method_53_code (5 : Nat) (Option.some Jvm.ClassFile.FieldType.long) [((0 : Nat), (28 : Nat), (29 : Nat), (97 : Nat))]) ∈ lw_all := lw_g (lw_at lw_m5 167 rfl) rfl
theorem q1196 : (Jvm.Cond.methodLink "SendTheBox" (284 : Nat) ({ cls := "SendTheBox$House", name := "sums", desc := "(LSendTheBox$Chooser;I)J" } : Jvm.MethodName)) ∈ lw_all := lw_g (lw_at lw_m5 168 rfl) rfl
theorem q1202 : (Jvm.Cond.instanceMethod ({ cls := "SendTheBox", name := "boxes", desc := "(II)J" } : Jvm.MethodName)) ∈ lw_all := lw_g (lw_at lw_m5 174 rfl) rfl
theorem q1203 : (Jvm.Cond.selects "SendTheBox" ({ cls := "SendTheBox", name := "boxes", desc := "(II)J" } : Jvm.MethodName) ({ cls := "SendTheBox", name := "boxes", desc := "(II)J" } : Jvm.MethodName)) ∈ lw_all := lw_g (lw_at lw_m5 175 rfl) rfl
theorem q1204 : (Jvm.Cond.codeWith ({ cls := "SendTheBox", name := "boxes", desc := "(II)J" } : Jvm.MethodName) prog_1_method_54_code (4 : Nat) (Option.some Jvm.ClassFile.FieldType.long) [((0 : Nat), (25 : Nat), (26 : Nat), (97 : Nat))]) ∈ lw_all := lw_g (lw_at lw_m5 176 rfl) rfl
theorem q1206 : (Jvm.Cond.instanceMethod ({ cls := "SendTheBox", name := "plain", desc := "(I)I" } : Jvm.MethodName)) ∈ lw_all := lw_g (lw_at lw_m5 178 rfl) rfl
theorem q1207 : (Jvm.Cond.selects "SendTheBox" ({ cls := "SendTheBox", name := "plain", desc := "(I)I" } : Jvm.MethodName) ({ cls := "SendTheBox", name := "plain", desc := "(I)I" } : Jvm.MethodName)) ∈ lw_all := lw_g (lw_at lw_m5 179 rfl) rfl
theorem q1208 : (Jvm.Cond.code ({ cls := "SendTheBox", name := "plain", desc := "(I)I" } : Jvm.MethodName) prog_1_method_55_code (10 : Nat) (Option.some Jvm.ClassFile.FieldType.int)) ∈ lw_all := lw_g (lw_at lw_m5 180 rfl) rfl
theorem q1209 : (Jvm.Cond.methodLink "SendTheBox" (288 : Nat) ({ cls := "java/lang/Math", name := "min", desc := "(II)I" } : Jvm.MethodName)) ∈ lw_all := lw_g (lw_at lw_m5 181 rfl) rfl
theorem q1211 : (Jvm.Cond.instanceMethod ({ cls := "SendTheBox", name := "every", desc := "(I)I" } : Jvm.MethodName)) ∈ lw_all := lw_g (lw_at lw_m5 183 rfl) rfl
theorem q1212 : (Jvm.Cond.selects "SendTheBox" ({ cls := "SendTheBox", name := "every", desc := "(I)I" } : Jvm.MethodName) ({ cls := "SendTheBox", name := "every", desc := "(I)I" } : Jvm.MethodName)) ∈ lw_all := lw_g (lw_at lw_m5 184 rfl) rfl
theorem q1213 : (Jvm.Cond.code ({ cls := "SendTheBox", name := "every", desc := "(I)I" } : Jvm.MethodName) prog_1_method_56_code (9 : Nat) (Option.some Jvm.ClassFile.FieldType.int)) ∈ lw_all := lw_g (lw_at lw_m5 185 rfl) rfl
theorem q1215 : (Jvm.Cond.instanceMethod ({ cls := "SendTheBox", name := "promise", desc := "(II)J" } : Jvm.MethodName)) ∈ lw_all := lw_g (lw_at lw_m5 187 rfl) rfl
theorem q1216 : (Jvm.Cond.selects "SendTheBox" ({ cls := "SendTheBox", name := "promise", desc := "(II)J" } : Jvm.MethodName) ({ cls := "SendTheBox", name := "promise", desc := "(II)J" } : Jvm.MethodName)) ∈ lw_all := lw_g (lw_at lw_m5 188 rfl) rfl
theorem q1217 : (Jvm.Cond.code ({ cls := "SendTheBox", name := "promise", desc := "(II)J" } : Jvm.MethodName) prog_1_method_57_code (4 : Nat) (Option.some Jvm.ClassFile.FieldType.long)) ∈ lw_all := lw_g (lw_at lw_m5 189 rfl) rfl
theorem q1218 : (Jvm.Cond.methodLink "SendTheBox" (293 : Nat) ({ cls := "SendTheBox$House", name := "promised", desc := "(I)J" } : Jvm.MethodName)) ∈ lw_all := lw_g (lw_at lw_m5 190 rfl) rfl
theorem q1227 : (Jvm.Cond.instanceMethod ({ cls := "SendTheBox", name := "shape", desc := "(II)I" } : Jvm.MethodName)) ∈ lw_all := lw_g (lw_at lw_m5 199 rfl) rfl
theorem q1228 : (Jvm.Cond.selects "SendTheBox" ({ cls := "SendTheBox", name := "shape", desc := "(II)I" } : Jvm.MethodName) ({ cls := "SendTheBox", name := "shape", desc := "(II)I" } : Jvm.MethodName)) ∈ lw_all := lw_g (lw_at lw_m5 200 rfl) rfl
theorem q1229 : (Jvm.Cond.code ({ cls := "SendTheBox", name := "shape", desc := "(II)I" } : Jvm.MethodName) prog_1_method_60_code (6 : Nat) (Option.some Jvm.ClassFile.FieldType.int)) ∈ lw_all := lw_g (lw_at lw_m5 201 rfl) rfl
theorem q1230 : (Jvm.Cond.methodLink "SendTheBox" (296 : Nat) ({ cls := "SendTheBox", name := "firstRoom", desc := "(LSendTheBox$House;I)I" } : Jvm.MethodName)) ∈ lw_all := lw_g (lw_at lw_m5 202 rfl) rfl
theorem q1231 : (Jvm.Cond.static ({ cls := "SendTheBox", name := "firstRoom", desc := "(LSendTheBox$House;I)I" } : Jvm.MethodName)) ∈ lw_all := lw_g (lw_at lw_m5 203 rfl) rfl
theorem q1232 : (Jvm.Cond.code ({ cls := "SendTheBox", name := "firstRoom", desc := "(LSendTheBox$House;I)I" } : Jvm.MethodName) prog_1_method_58_code (4 : Nat) (Option.some Jvm.ClassFile.FieldType.int)) ∈ lw_all := lw_g (lw_at lw_m5 204 rfl) rfl
theorem q1233 : (Jvm.Cond.methodLink "SendTheBox" (300 : Nat) ({ cls := "SendTheBox", name := "odd", desc := "(LSendTheBox$House;II)I" } : Jvm.MethodName)) ∈ lw_all := lw_g (lw_at lw_m5 205 rfl) rfl
theorem q1234 : (Jvm.Cond.static ({ cls := "SendTheBox", name := "odd", desc := "(LSendTheBox$House;II)I" } : Jvm.MethodName)) ∈ lw_all := lw_g (lw_at lw_m5 206 rfl) rfl
theorem q1235 : (Jvm.Cond.code ({ cls := "SendTheBox", name := "odd", desc := "(LSendTheBox$House;II)I" } : Jvm.MethodName) prog_1_method_59_code (4 : Nat) (Option.some Jvm.ClassFile.FieldType.int)) ∈ lw_all := lw_g (lw_at lw_m5 207 rfl) rfl
theorem q1237 : (Jvm.Cond.instanceMethod ({ cls := "SendTheBox", name := "odd", desc := "(II)I" } : Jvm.MethodName)) ∈ lw_all := lw_g (lw_at lw_m5 209 rfl) rfl
theorem q1238 : (Jvm.Cond.selects "SendTheBox" ({ cls := "SendTheBox", name := "odd", desc := "(II)I" } : Jvm.MethodName) ({ cls := "SendTheBox", name := "odd", desc := "(II)I" } : Jvm.MethodName)) ∈ lw_all := lw_g (lw_at lw_m5 210 rfl) rfl
theorem q1239 : (Jvm.Cond.code ({ cls := "SendTheBox", name := "odd", desc := "(II)I" } : Jvm.MethodName) prog_1_method_61_code (5 : Nat) (Option.some Jvm.ClassFile.FieldType.int)) ∈ lw_all := lw_g (lw_at lw_m5 211 rfl) rfl
theorem q1241 : (Jvm.Cond.instanceMethod ({ cls := "SendTheBox", name := "judge", desc := "(III)I" } : Jvm.MethodName)) ∈ lw_all := lw_g (lw_at lw_m5 213 rfl) rfl
theorem q1242 : (Jvm.Cond.selects "SendTheBox" ({ cls := "SendTheBox", name := "judge", desc := "(III)I" } : Jvm.MethodName) ({ cls := "SendTheBox", name := "judge", desc := "(III)I" } : Jvm.MethodName)) ∈ lw_all := lw_g (lw_at lw_m5 214 rfl) rfl
theorem q1243 : (Jvm.Cond.codeWith ({ cls := "SendTheBox", name := "judge", desc := "(III)I" } : Jvm.MethodName) prog_1_method_62_code (11 : Nat) (Option.some Jvm.ClassFile.FieldType.int) [((34 : Nat), (146 : Nat), (147 : Nat), (97 : Nat)), ((34 : Nat), (146 : Nat), (159 : Nat), (113 : Nat))]) ∈ lw_all := lw_g (lw_at lw_m5 215 rfl) rfl
theorem q1245 : (Jvm.Cond.instanceMethod ({ cls := "SendTheBox", name := "join", desc := "(II)I" } : Jvm.MethodName)) ∈ lw_all := lw_g (lw_at lw_m5 217 rfl) rfl
theorem q1246 : (Jvm.Cond.selects "SendTheBox" ({ cls := "SendTheBox", name := "join", desc := "(II)I" } : Jvm.MethodName) ({ cls := "SendTheBox", name := "join", desc := "(II)I" } : Jvm.MethodName)) ∈ lw_all := lw_g (lw_at lw_m5 218 rfl) rfl
theorem q1247 : (Jvm.Cond.codeWith ({ cls := "SendTheBox", name := "join", desc := "(II)I" } : Jvm.MethodName) prog_1_method_64_code (4 : Nat) (Option.some Jvm.ClassFile.FieldType.int) [((0 : Nat), (25 : Nat), (57 : Nat), (97 : Nat)), ((26 : Nat), (56 : Nat), (57 : Nat), (97 : Nat))]) ∈ lw_all := lw_g (lw_at lw_m5 219 rfl) rfl
theorem q1248 : (Jvm.Cond.methodLink "SendTheBox" (307 : Nat) ({ cls := "SendTheBox", name := "joined", desc := "(II)LSendTheBox$House;" } : Jvm.MethodName)) ∈ lw_all := lw_g (lw_at lw_m5 220 rfl) rfl
theorem q1249 : (Jvm.Cond.privateMethod ({ cls := "SendTheBox", name := "joined", desc := "(II)LSendTheBox$House;" } : Jvm.MethodName)) ∈ lw_tbl := lw_at lw_m5 221 rfl
theorem q1250 : (Jvm.Cond.instanceMethod ({ cls := "SendTheBox", name := "joined", desc := "(II)LSendTheBox$House;" } : Jvm.MethodName)) ∈ lw_all := lw_g (lw_at lw_m5 222 rfl) rfl
theorem q1251 : (Jvm.Cond.code ({ cls := "SendTheBox", name := "joined", desc := "(II)LSendTheBox$House;" } : Jvm.MethodName) prog_1_method_63_code (5 : Nat) (Option.some (Jvm.ClassFile.FieldType.object "SendTheBox$House"))) ∈ lw_all := lw_g (lw_at lw_m5 223 rfl) rfl
theorem q1252 : (Jvm.Cond.methodLink "SendTheBox" (303 : Nat) ({ cls := "SendTheBox$House", name := "joined", desc := "(LSendTheBox$House;)LSendTheBox$House;" } : Jvm.MethodName)) ∈ lw_all := lw_g (lw_at lw_m5 224 rfl) rfl
theorem q1267 : (Jvm.Cond.instanceMethod ({ cls := "SendTheBox", name := "saved", desc := "(II)J" } : Jvm.MethodName)) ∈ lw_all := lw_g (lw_at lw_m5 239 rfl) rfl
theorem q1268 : (Jvm.Cond.selects "SendTheBox" ({ cls := "SendTheBox", name := "saved", desc := "(II)J" } : Jvm.MethodName) ({ cls := "SendTheBox", name := "saved", desc := "(II)J" } : Jvm.MethodName)) ∈ lw_all := lw_g (lw_at lw_m6 0 rfl) rfl
theorem q1269 : (Jvm.Cond.codeWith ({ cls := "SendTheBox", name := "saved", desc := "(II)J" } : Jvm.MethodName) prog_1_method_65_code (8 : Nat) (Option.some Jvm.ClassFile.FieldType.long) [((0 : Nat), (98 : Nat), (99 : Nat), (97 : Nat))]) ∈ lw_all := lw_g (lw_at lw_m6 1 rfl) rfl
theorem q1270 : (Jvm.Cond.methodLink "SendTheBox" (310 : Nat) ({ cls := "java/lang/Math", name := "max", desc := "(JJ)J" } : Jvm.MethodName)) ∈ lw_all := lw_g (lw_at lw_m6 2 rfl) rfl
theorem q1274 : (Jvm.Cond.instanceMethod ({ cls := "SendTheBox", name := "seed", desc := "(I)I" } : Jvm.MethodName)) ∈ lw_all := lw_g (lw_at lw_m6 6 rfl) rfl
theorem q1275 : (Jvm.Cond.selects "SendTheBox" ({ cls := "SendTheBox", name := "seed", desc := "(I)I" } : Jvm.MethodName) ({ cls := "SendTheBox", name := "seed", desc := "(I)I" } : Jvm.MethodName)) ∈ lw_all := lw_g (lw_at lw_m6 7 rfl) rfl
theorem q1276 : (Jvm.Cond.code ({ cls := "SendTheBox", name := "seed", desc := "(I)I" } : Jvm.MethodName) prog_1_method_66_code (3 : Nat) (Option.some Jvm.ClassFile.FieldType.int)) ∈ lw_all := lw_g (lw_at lw_m6 8 rfl) rfl
theorem q1278 : (Jvm.Cond.instanceMethod ({ cls := "SendTheBox", name := "begin", desc := "(II)I" } : Jvm.MethodName)) ∈ lw_all := lw_g (lw_at lw_m6 10 rfl) rfl
theorem q1279 : (Jvm.Cond.selects "SendTheBox" ({ cls := "SendTheBox", name := "begin", desc := "(II)I" } : Jvm.MethodName) ({ cls := "SendTheBox", name := "begin", desc := "(II)I" } : Jvm.MethodName)) ∈ lw_all := lw_g (lw_at lw_m6 11 rfl) rfl
theorem q1280 : (Jvm.Cond.codeWith ({ cls := "SendTheBox", name := "begin", desc := "(II)I" } : Jvm.MethodName) prog_1_method_67_code (4 : Nat) (Option.some Jvm.ClassFile.FieldType.int) [((22 : Nat), (63 : Nat), (64 : Nat), (97 : Nat))]) ∈ lw_all := lw_g (lw_at lw_m6 12 rfl) rfl
theorem q1281 : (Jvm.Cond.classLink "SendTheBox" (317 : Nat) "SendTheBox$Week") ∈ lw_all := lw_g (lw_at lw_m6 13 rfl) rfl
theorem q1283 : (Jvm.Cond.methodLink "SendTheBox" (319 : Nat) ({ cls := "SendTheBox$House", name := "copied", desc := "()LSendTheBox$House;" } : Jvm.MethodName)) ∈ lw_all := lw_g (lw_at lw_m6 15 rfl) rfl
theorem q1284 : (Jvm.Cond.methodLink "SendTheBox" (322 : Nat) ({ cls := "SendTheBox$Week", name := "<init>", desc := "(LSendTheBox$House;LSendTheBox$Rule;)V" } : Jvm.MethodName)) ∈ lw_all := lw_g (lw_at lw_m6 16 rfl) rfl
theorem q1291 : (Jvm.Cond.fieldLink "SendTheBox" (329 : Nat) "SendTheBox$Week" "left" "I") ∈ lw_all := lw_g (lw_at lw_m6 23 rfl) rfl
theorem q1293 : (Jvm.Cond.fieldLink "SendTheBox" (335 : Nat) "SendTheBox$Week" "state" "I") ∈ lw_all := lw_g (lw_at lw_m6 25 rfl) rfl
theorem q1295 : (Jvm.Cond.fieldLink "SendTheBox" (338 : Nat) "SendTheBox$Week" "coins" "I") ∈ lw_all := lw_g (lw_at lw_m6 27 rfl) rfl
theorem q1297 : (Jvm.Cond.fieldLink "SendTheBox" (341 : Nat) "SendTheBox$Week" "boxes" "I") ∈ lw_all := lw_g (lw_at lw_m6 29 rfl) rfl
theorem q1299 : (Jvm.Cond.fieldLink "SendTheBox" (344 : Nat) "SendTheBox$Week" "sent" "I") ∈ lw_all := lw_g (lw_at lw_m6 31 rfl) rfl
theorem q1301 : (Jvm.Cond.fieldLink "SendTheBox" (347 : Nat) "SendTheBox$Week" "refused" "I") ∈ lw_all := lw_g (lw_at lw_m6 33 rfl) rfl
theorem q1320 : (Jvm.Cond.instanceMethod ({ cls := "SendTheBox", name := "step", desc := "(I)I" } : Jvm.MethodName)) ∈ lw_all := lw_g (lw_at lw_m6 52 rfl) rfl
theorem q1321 : (Jvm.Cond.selects "SendTheBox" ({ cls := "SendTheBox", name := "step", desc := "(I)I" } : Jvm.MethodName) ({ cls := "SendTheBox", name := "step", desc := "(I)I" } : Jvm.MethodName)) ∈ lw_all := lw_g (lw_at lw_m6 53 rfl) rfl
theorem q1322 : (Jvm.Cond.code ({ cls := "SendTheBox", name := "step", desc := "(I)I" } : Jvm.MethodName) prog_1_method_68_code (5 : Nat) (Option.some Jvm.ClassFile.FieldType.int)) ∈ lw_all := lw_g (lw_at lw_m6 54 rfl) rfl
theorem q1323 : (Jvm.Cond.methodLink "SendTheBox" (331 : Nat) ({ cls := "SendTheBox$Week", name := "lives", desc := "(LSendTheBox$Kept;)I" } : Jvm.MethodName)) ∈ lw_all := lw_g (lw_at lw_m6 55 rfl) rfl
theorem q1334 : (Jvm.Cond.static ({ cls := "SendTheBox", name := "parcels", desc := "(I)I" } : Jvm.MethodName)) ∈ lw_all := lw_g (lw_at lw_m6 66 rfl) rfl
theorem q1335 : (Jvm.Cond.code ({ cls := "SendTheBox", name := "parcels", desc := "(I)I" } : Jvm.MethodName) prog_1_method_3_code (3 : Nat) (Option.some Jvm.ClassFile.FieldType.int)) ∈ lw_all := lw_g (lw_at lw_m6 67 rfl) rfl
theorem q1341 : (Jvm.Cond.instanceMethod ({ cls := "SendTheBox", name := "week", desc := "(I)I" } : Jvm.MethodName)) ∈ lw_all := lw_g (lw_at lw_m6 73 rfl) rfl
theorem q1342 : (Jvm.Cond.selects "SendTheBox" ({ cls := "SendTheBox", name := "week", desc := "(I)I" } : Jvm.MethodName) ({ cls := "SendTheBox", name := "week", desc := "(I)I" } : Jvm.MethodName)) ∈ lw_all := lw_g (lw_at lw_m6 74 rfl) rfl
theorem q1343 : (Jvm.Cond.code ({ cls := "SendTheBox", name := "week", desc := "(I)I" } : Jvm.MethodName) prog_1_method_69_code (3 : Nat) (Option.some Jvm.ClassFile.FieldType.int)) ∈ lw_all := lw_g (lw_at lw_m6 75 rfl) rfl
theorem q1345 : (Jvm.Cond.instanceMethod ({ cls := "SendTheBox", name := "weeks", desc := "(III)I" } : Jvm.MethodName)) ∈ lw_all := lw_g (lw_at lw_m6 77 rfl) rfl
theorem q1346 : (Jvm.Cond.selects "SendTheBox" ({ cls := "SendTheBox", name := "weeks", desc := "(III)I" } : Jvm.MethodName) ({ cls := "SendTheBox", name := "weeks", desc := "(III)I" } : Jvm.MethodName)) ∈ lw_all := lw_g (lw_at lw_m6 78 rfl) rfl
theorem q1347 : (Jvm.Cond.codeWith ({ cls := "SendTheBox", name := "weeks", desc := "(III)I" } : Jvm.MethodName) prog_1_method_70_code (8 : Nat) (Option.some Jvm.ClassFile.FieldType.int) [((32 : Nat), (104 : Nat), (105 : Nat), (97 : Nat))]) ∈ lw_all := lw_g (lw_at lw_m6 79 rfl) rfl
theorem q1349 : (Jvm.Cond.instanceMethod ({ cls := "SendTheBox", name := "image", desc := "()I" } : Jvm.MethodName)) ∈ lw_all := lw_g (lw_at lw_m6 81 rfl) rfl
theorem q1350 : (Jvm.Cond.selects "SendTheBox" ({ cls := "SendTheBox", name := "image", desc := "()I" } : Jvm.MethodName) ({ cls := "SendTheBox", name := "image", desc := "()I" } : Jvm.MethodName)) ∈ lw_all := lw_g (lw_at lw_m6 82 rfl) rfl
theorem q1351 : (Jvm.Cond.code ({ cls := "SendTheBox", name := "image", desc := "()I" } : Jvm.MethodName) prog_1_method_71_code (1 : Nat) (Option.some Jvm.ClassFile.FieldType.int)) ∈ lw_all := lw_g (lw_at lw_m6 83 rfl) rfl
theorem q1352 : (Jvm.Cond.methodLink "SendTheBox" (349 : Nat) ({ cls := "SendTheBox$Kept", name := "copied", desc := "()LSendTheBox$Kept;" } : Jvm.MethodName)) ∈ lw_all := lw_g (lw_at lw_m6 84 rfl) rfl
theorem q1366 : (Jvm.Cond.instanceMethod ({ cls := "SendTheBox", name := "back", desc := "()I" } : Jvm.MethodName)) ∈ lw_all := lw_g (lw_at lw_m6 98 rfl) rfl
theorem q1367 : (Jvm.Cond.selects "SendTheBox" ({ cls := "SendTheBox", name := "back", desc := "()I" } : Jvm.MethodName) ({ cls := "SendTheBox", name := "back", desc := "()I" } : Jvm.MethodName)) ∈ lw_all := lw_g (lw_at lw_m6 99 rfl) rfl
theorem q1368 : (Jvm.Cond.code ({ cls := "SendTheBox", name := "back", desc := "()I" } : Jvm.MethodName) prog_1_method_72_code (1 : Nat) (Option.some Jvm.ClassFile.FieldType.int)) ∈ lw_all := lw_g (lw_at lw_m6 100 rfl) rfl
theorem q1370 : (Jvm.Cond.instanceMethod ({ cls := "SendTheBox", name := "status", desc := "(I)I" } : Jvm.MethodName)) ∈ lw_all := lw_g (lw_at lw_m6 102 rfl) rfl
theorem q1371 : (Jvm.Cond.selects "SendTheBox" ({ cls := "SendTheBox", name := "status", desc := "(I)I" } : Jvm.MethodName) ({ cls := "SendTheBox", name := "status", desc := "(I)I" } : Jvm.MethodName)) ∈ lw_all := lw_g (lw_at lw_m6 103 rfl) rfl
theorem q1372 : (Jvm.Cond.code ({ cls := "SendTheBox", name := "status", desc := "(I)I" } : Jvm.MethodName) prog_1_method_74_code (2 : Nat) (Option.some Jvm.ClassFile.FieldType.int)) ∈ lw_all := lw_g (lw_at lw_m6 104 rfl) rfl
theorem q1373 : (Jvm.Cond.methodLink "SendTheBox" (355 : Nat) ({ cls := "SendTheBox", name := "held", desc := "()I" } : Jvm.MethodName)) ∈ lw_all := lw_g (lw_at lw_m6 105 rfl) rfl
theorem q1374 : (Jvm.Cond.privateMethod ({ cls := "SendTheBox", name := "held", desc := "()I" } : Jvm.MethodName)) ∈ lw_tbl := lw_at lw_m6 106 rfl
theorem q1375 : (Jvm.Cond.instanceMethod ({ cls := "SendTheBox", name := "held", desc := "()I" } : Jvm.MethodName)) ∈ lw_all := lw_g (lw_at lw_m6 107 rfl) rfl
theorem q1376 : (Jvm.Cond.code ({ cls := "SendTheBox", name := "held", desc := "()I" } : Jvm.MethodName) prog_1_method_73_code (3 : Nat) (Option.some Jvm.ClassFile.FieldType.int)) ∈ lw_all := lw_g (lw_at lw_m6 108 rfl) rfl
theorem in_X0 : ∀ w ∈ wsX00, w ∈ lw_all := lw_in wsX00 [154, 156, 158, 160, 162, 164] (by decide +kernel) (by decide +kernel)
