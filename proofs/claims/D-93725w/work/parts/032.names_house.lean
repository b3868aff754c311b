/-! SendTheBox$House -/
set_option maxRecDepth 100000
def RX12 : String := "SendTheBox$House"
def TX12 : u_T := fun k => match k with
  | 0 => ("SendTheBox$House", "days", "I", false)
  | 1 => ("SendTheBox$House", "box", "I", false)
  | 2 => ("SendTheBox$House", "room", "I", false)
  | 3 => ("SendTheBox$House", "full", "I", false)
  | 4 => ("SendTheBox$House", "sorts", "I", false)
  | 5 => ("SendTheBox$House", "size", "[I", true)
  | 6 => ("SendTheBox$House", "comes", "[I", true)
  | 7 => ("SendTheBox$House", "hold", "[I", true)
  | 8 => ("SendTheBox$House", "refuse", "[I", true)
  | 9 => ("SendTheBox$House", "left", "[I", true)
  | 10 => ("SendTheBox$House", "worth", "[J", false)
  | 11 => ("SendTheBox$House", "loads", "[I", false)
  | 12 => ("SendTheBox$House", "isFound", "Z", false)
  | 13 => ("SendTheBox$House", "tried", "[J", false)
  | 14 => ("SendTheBox$House", "behind", "[J", false)
  | 15 => ("SendTheBox$House", "ones", "[J", false)
  | _ => ("SendTheBox$House", "twos", "[J", false)
def tyX12 : Nat → FieldType := fun k => match k with
  | 0 => .int
  | 1 => .int
  | 2 => .int
  | 3 => .int
  | 4 => .int
  | 5 => .array .int
  | 6 => .array .int
  | 7 => .array .int
  | 8 => .array .int
  | 9 => .array .int
  | 10 => .array .long
  | 11 => .array .int
  | 12 => .boolean
  | 13 => .array .long
  | 14 => .array .long
  | 15 => .array .long
  | _ => .array .long
abbrev wsX120 : List Cond := u_ws RX12 TX12 17
set_option maxRecDepth 100000 in
theorem nmX12 : ∀ a, a < 17 → ∀ b, b < 17 → a ≠ b → (TX12 a).2.1 ≠ (TX12 b).2.1 := by decide +kernel
set_option maxRecDepth 100000 in
theorem tyX12_ok : ∀ k, k < 17 → parseFieldDescriptor (TX12 k).2.2.1 = some (tyX12 k) := by decide +kernel
abbrev cX12_init : ByteArray := prog_8_method_1_code
def yX12_init : MethodName := ⟨RX12, "<init>", "()V"⟩
def dkwX12_init_2 : List UInt8 := [181, 0, 31, 42, 6, 188, 10, 181, 0, 34, 177]
abbrev dktX12_init_2 : List UInt8 := dkwX12_init_2 ++ []
def dkwX12_init_1 : List UInt8 := [188, 10, 181, 0, 21, 42, 6, 188, 10, 181, 0, 25, 42, 6, 188, 10, 181, 0, 28, 42, 6, 188, 10]
abbrev dktX12_init_1 : List UInt8 := dkwX12_init_1 ++ dktX12_init_2
def dkwX12_init_0 : List UInt8 := [42, 183, 0, 3, 42, 6, 181, 0, 9, 42, 16, 10, 181, 0, 15, 42, 16, 10, 181, 0, 18, 42, 6]
abbrev dktX12_init_0 : List UInt8 := dkwX12_init_0 ++ dktX12_init_1
theorem dksX12_init_0 : cX12_init.data.toList.drop 0 = dktX12_init_0 := by decide +kernel
theorem dksX12_init_1 : cX12_init.data.toList.drop 23 = dktX12_init_1 := dk_seg dksX12_init_0 23 rfl rfl
theorem dksX12_init_2 : cX12_init.data.toList.drop 46 = dktX12_init_2 := dk_seg dksX12_init_1 23 rfl rfl
theorem dX12_init_0 : decode cX12_init 0 = .ok (.aload_n 0, 1) := dk_42 (dk_at dksX12_init_0 0 rfl rfl)
theorem dX12_init_1 : decode cX12_init 1 = .ok (.invokespecial 3, 3) := dk_183 0 3 (dk_at dksX12_init_0 1 rfl rfl)
theorem dX12_init_4 : decode cX12_init 4 = .ok (.aload_n 0, 1) := dk_42 (dk_at dksX12_init_0 4 rfl rfl)
theorem dX12_init_5 : decode cX12_init 5 = .ok (.iconst 3, 1) := dk_6 (dk_at dksX12_init_0 5 rfl rfl)
theorem dX12_init_6 : decode cX12_init 6 = .ok (.putfield 9, 3) := dk_181 0 9 (dk_at dksX12_init_0 6 rfl rfl)
theorem dX12_init_9 : decode cX12_init 9 = .ok (.aload_n 0, 1) := dk_42 (dk_at dksX12_init_0 9 rfl rfl)
theorem dX12_init_10 : decode cX12_init 10 = .ok (.bipush 10, 2) := dk_16 10 (dk_at dksX12_init_0 10 rfl rfl)
theorem dX12_init_12 : decode cX12_init 12 = .ok (.putfield 15, 3) := dk_181 0 15 (dk_at dksX12_init_0 12 rfl rfl)
theorem dX12_init_15 : decode cX12_init 15 = .ok (.aload_n 0, 1) := dk_42 (dk_at dksX12_init_0 15 rfl rfl)
theorem dX12_init_16 : decode cX12_init 16 = .ok (.bipush 10, 2) := dk_16 10 (dk_at dksX12_init_0 16 rfl rfl)
theorem dX12_init_18 : decode cX12_init 18 = .ok (.putfield 18, 3) := dk_181 0 18 (dk_at dksX12_init_0 18 rfl rfl)
theorem dX12_init_21 : decode cX12_init 21 = .ok (.aload_n 0, 1) := dk_42 (dk_at dksX12_init_0 21 rfl rfl)
theorem dX12_init_22 : decode cX12_init 22 = .ok (.iconst 3, 1) := dk_6 (dk_at dksX12_init_0 22 rfl rfl)
theorem dX12_init_23 : decode cX12_init 23 = .ok (.newarray .int, 2) := dk_188_10 (dk_at dksX12_init_1 0 rfl rfl)
theorem dX12_init_25 : decode cX12_init 25 = .ok (.putfield 21, 3) := dk_181 0 21 (dk_at dksX12_init_1 2 rfl rfl)
theorem dX12_init_28 : decode cX12_init 28 = .ok (.aload_n 0, 1) := dk_42 (dk_at dksX12_init_1 5 rfl rfl)
theorem dX12_init_29 : decode cX12_init 29 = .ok (.iconst 3, 1) := dk_6 (dk_at dksX12_init_1 6 rfl rfl)
theorem dX12_init_30 : decode cX12_init 30 = .ok (.newarray .int, 2) := dk_188_10 (dk_at dksX12_init_1 7 rfl rfl)
theorem dX12_init_32 : decode cX12_init 32 = .ok (.putfield 25, 3) := dk_181 0 25 (dk_at dksX12_init_1 9 rfl rfl)
theorem dX12_init_35 : decode cX12_init 35 = .ok (.aload_n 0, 1) := dk_42 (dk_at dksX12_init_1 12 rfl rfl)
theorem dX12_init_36 : decode cX12_init 36 = .ok (.iconst 3, 1) := dk_6 (dk_at dksX12_init_1 13 rfl rfl)
theorem dX12_init_37 : decode cX12_init 37 = .ok (.newarray .int, 2) := dk_188_10 (dk_at dksX12_init_1 14 rfl rfl)
theorem dX12_init_39 : decode cX12_init 39 = .ok (.putfield 28, 3) := dk_181 0 28 (dk_at dksX12_init_1 16 rfl rfl)
theorem dX12_init_42 : decode cX12_init 42 = .ok (.aload_n 0, 1) := dk_42 (dk_at dksX12_init_1 19 rfl rfl)
theorem dX12_init_43 : decode cX12_init 43 = .ok (.iconst 3, 1) := dk_6 (dk_at dksX12_init_1 20 rfl rfl)
theorem dX12_init_44 : decode cX12_init 44 = .ok (.newarray .int, 2) := dk_188_10 (dk_at dksX12_init_1 21 rfl rfl)
theorem dX12_init_46 : decode cX12_init 46 = .ok (.putfield 31, 3) := dk_181 0 31 (dk_at dksX12_init_2 0 rfl rfl)
theorem dX12_init_49 : decode cX12_init 49 = .ok (.aload_n 0, 1) := dk_42 (dk_at dksX12_init_2 3 rfl rfl)
theorem dX12_init_50 : decode cX12_init 50 = .ok (.iconst 3, 1) := dk_6 (dk_at dksX12_init_2 4 rfl rfl)
theorem dX12_init_51 : decode cX12_init 51 = .ok (.newarray .int, 2) := dk_188_10 (dk_at dksX12_init_2 5 rfl rfl)
theorem dX12_init_53 : decode cX12_init 53 = .ok (.putfield 34, 3) := dk_181 0 34 (dk_at dksX12_init_2 7 rfl rfl)
theorem dX12_init_56 : decode cX12_init 56 = .ok (.return_, 1) := dk_177 (dk_at dksX12_init_2 10 rfl rfl)
abbrev cX12_forgets : ByteArray := prog_8_method_5_code
def yX12_forgets : MethodName := ⟨RX12, "forgets", "()V"⟩
def dkwX12_forgets_0 : List UInt8 := [42, 3, 181, 0, 52, 177]
abbrev dktX12_forgets_0 : List UInt8 := dkwX12_forgets_0 ++ []
theorem dksX12_forgets_0 : cX12_forgets.data.toList.drop 0 = dktX12_forgets_0 := by decide +kernel
theorem dX12_forgets_0 : decode cX12_forgets 0 = .ok (.aload_n 0, 1) := dk_42 (dk_at dksX12_forgets_0 0 rfl rfl)
theorem dX12_forgets_1 : decode cX12_forgets 1 = .ok (.iconst 0, 1) := dk_3 (dk_at dksX12_forgets_0 1 rfl rfl)
theorem dX12_forgets_2 : decode cX12_forgets 2 = .ok (.putfield 52, 3) := dk_181 0 52 (dk_at dksX12_forgets_0 2 rfl rfl)
theorem dX12_forgets_5 : decode cX12_forgets 5 = .ok (.return_, 1) := dk_177 (dk_at dksX12_forgets_0 5 rfl rfl)
abbrev cX12_states : ByteArray := prog_8_method_7_code
def yX12_states : MethodName := ⟨RX12, "states", "()I"⟩
def dkwX12_states_1 : List UInt8 := [167, 0, 5, 16, 125, 172]
abbrev dktX12_states_1 : List UInt8 := dkwX12_states_1 ++ []
def dkwX12_states_0 : List UInt8 := [42, 180, 0, 41, 4, 160, 0, 7, 8, 167, 0, 18, 42, 180, 0, 41, 5, 160, 0, 8, 16, 25]
abbrev dktX12_states_0 : List UInt8 := dkwX12_states_0 ++ dktX12_states_1
theorem dksX12_states_0 : cX12_states.data.toList.drop 0 = dktX12_states_0 := by decide +kernel
theorem dksX12_states_1 : cX12_states.data.toList.drop 22 = dktX12_states_1 := dk_seg dksX12_states_0 22 rfl rfl
theorem dX12_states_0 : decode cX12_states 0 = .ok (.aload_n 0, 1) := dk_42 (dk_at dksX12_states_0 0 rfl rfl)
theorem dX12_states_1 : decode cX12_states 1 = .ok (.getfield 41, 3) := dk_180 0 41 (dk_at dksX12_states_0 1 rfl rfl)
theorem dX12_states_4 : decode cX12_states 4 = .ok (.iconst 1, 1) := dk_4 (dk_at dksX12_states_0 4 rfl rfl)
theorem dX12_states_5 : decode cX12_states 5 = .ok (.if_icmp .ne 7, 3) := dk_160 0 7 (dk_at dksX12_states_0 5 rfl rfl)
theorem dX12_states_8 : decode cX12_states 8 = .ok (.iconst 5, 1) := dk_8 (dk_at dksX12_states_0 8 rfl rfl)
theorem dX12_states_9 : decode cX12_states 9 = .ok (.goto 18, 3) := dk_167 0 18 (dk_at dksX12_states_0 9 rfl rfl)
theorem dX12_states_12 : decode cX12_states 12 = .ok (.aload_n 0, 1) := dk_42 (dk_at dksX12_states_0 12 rfl rfl)
theorem dX12_states_13 : decode cX12_states 13 = .ok (.getfield 41, 3) := dk_180 0 41 (dk_at dksX12_states_0 13 rfl rfl)
theorem dX12_states_16 : decode cX12_states 16 = .ok (.iconst 2, 1) := dk_5 (dk_at dksX12_states_0 16 rfl rfl)
theorem dX12_states_17 : decode cX12_states 17 = .ok (.if_icmp .ne 8, 3) := dk_160 0 8 (dk_at dksX12_states_0 17 rfl rfl)
theorem dX12_states_20 : decode cX12_states 20 = .ok (.bipush 25, 2) := dk_16 25 (dk_at dksX12_states_0 20 rfl rfl)
theorem dX12_states_22 : decode cX12_states 22 = .ok (.goto 5, 3) := dk_167 0 5 (dk_at dksX12_states_1 0 rfl rfl)
theorem dX12_states_25 : decode cX12_states 25 = .ok (.bipush 125, 2) := dk_16 125 (dk_at dksX12_states_1 3 rfl rfl)
theorem dX12_states_27 : decode cX12_states 27 = .ok (.ireturn, 1) := dk_172 (dk_at dksX12_states_1 5 rfl rfl)
abbrev cX12_space : ByteArray := prog_8_method_8_code
def yX12_space : MethodName := ⟨RX12, "space", "(I)I"⟩
def dkwX12_space_1 : List UInt8 := [104, 96, 61, 132, 3, 1, 167, 255, 230, 28, 172]
abbrev dktX12_space_1 : List UInt8 := dkwX12_space_1 ++ []
def dkwX12_space_0 : List UInt8 := [3, 61, 3, 62, 29, 42, 180, 0, 41, 162, 0, 24, 28, 42, 180, 0, 21, 29, 46, 27, 29, 184, 0, 69]
abbrev dktX12_space_0 : List UInt8 := dkwX12_space_0 ++ dktX12_space_1
theorem dksX12_space_0 : cX12_space.data.toList.drop 0 = dktX12_space_0 := by decide +kernel
theorem dksX12_space_1 : cX12_space.data.toList.drop 24 = dktX12_space_1 := dk_seg dksX12_space_0 24 rfl rfl
theorem dX12_space_0 : decode cX12_space 0 = .ok (.iconst 0, 1) := dk_3 (dk_at dksX12_space_0 0 rfl rfl)
theorem dX12_space_1 : decode cX12_space 1 = .ok (.istore_n 2, 1) := dk_61 (dk_at dksX12_space_0 1 rfl rfl)
theorem dX12_space_2 : decode cX12_space 2 = .ok (.iconst 0, 1) := dk_3 (dk_at dksX12_space_0 2 rfl rfl)
theorem dX12_space_3 : decode cX12_space 3 = .ok (.istore_n 3, 1) := dk_62 (dk_at dksX12_space_0 3 rfl rfl)
theorem dX12_space_4 : decode cX12_space 4 = .ok (.iload_n 3, 1) := dk_29 (dk_at dksX12_space_0 4 rfl rfl)
theorem dX12_space_5 : decode cX12_space 5 = .ok (.aload_n 0, 1) := dk_42 (dk_at dksX12_space_0 5 rfl rfl)
theorem dX12_space_6 : decode cX12_space 6 = .ok (.getfield 41, 3) := dk_180 0 41 (dk_at dksX12_space_0 6 rfl rfl)
theorem dX12_space_9 : decode cX12_space 9 = .ok (.if_icmp .ge 24, 3) := dk_162 0 24 (dk_at dksX12_space_0 9 rfl rfl)
theorem dX12_space_12 : decode cX12_space 12 = .ok (.iload_n 2, 1) := dk_28 (dk_at dksX12_space_0 12 rfl rfl)
theorem dX12_space_13 : decode cX12_space 13 = .ok (.aload_n 0, 1) := dk_42 (dk_at dksX12_space_0 13 rfl rfl)
theorem dX12_space_14 : decode cX12_space 14 = .ok (.getfield 21, 3) := dk_180 0 21 (dk_at dksX12_space_0 14 rfl rfl)
theorem dX12_space_17 : decode cX12_space 17 = .ok (.iload_n 3, 1) := dk_29 (dk_at dksX12_space_0 17 rfl rfl)
theorem dX12_space_18 : decode cX12_space 18 = .ok (.iaload, 1) := dk_46 (dk_at dksX12_space_0 18 rfl rfl)
theorem dX12_space_19 : decode cX12_space 19 = .ok (.iload_n 1, 1) := dk_27 (dk_at dksX12_space_0 19 rfl rfl)
theorem dX12_space_20 : decode cX12_space 20 = .ok (.iload_n 3, 1) := dk_29 (dk_at dksX12_space_0 20 rfl rfl)
theorem dX12_space_21 : decode cX12_space 21 = .ok (.invokestatic 69, 3) := dk_184 0 69 (dk_at dksX12_space_0 21 rfl rfl)
theorem dX12_space_24 : decode cX12_space 24 = .ok (.imul, 1) := dk_104 (dk_at dksX12_space_1 0 rfl rfl)
theorem dX12_space_25 : decode cX12_space 25 = .ok (.iadd, 1) := dk_96 (dk_at dksX12_space_1 1 rfl rfl)
theorem dX12_space_26 : decode cX12_space 26 = .ok (.istore_n 2, 1) := dk_61 (dk_at dksX12_space_1 2 rfl rfl)
theorem dX12_space_27 : decode cX12_space 27 = .ok (.iinc 3 1, 3) := dk_132 3 1 (dk_at dksX12_space_1 3 rfl rfl)
theorem dX12_space_30 : decode cX12_space 30 = .ok (.goto (-26), 3) := dk_167 255 230 (dk_at dksX12_space_1 6 rfl rfl)
theorem dX12_space_33 : decode cX12_space 33 = .ok (.iload_n 2, 1) := dk_28 (dk_at dksX12_space_1 9 rfl rfl)
theorem dX12_space_34 : decode cX12_space 34 = .ok (.ireturn, 1) := dk_172 (dk_at dksX12_space_1 10 rfl rfl)
abbrev cX12_scale : ByteArray := prog_8_method_12_code
def yX12_scale : MethodName := ⟨RX12, "scale", "(I)J"⟩
def dkwX12_scale_0 : List UInt8 := [10, 5, 27, 104, 4, 42, 180, 0, 41, 96, 104, 121, 173]
abbrev dktX12_scale_0 : List UInt8 := dkwX12_scale_0 ++ []
theorem dksX12_scale_0 : cX12_scale.data.toList.drop 0 = dktX12_scale_0 := by decide +kernel
theorem dX12_scale_0 : decode cX12_scale 0 = .ok (.lconst 1, 1) := dk_10 (dk_at dksX12_scale_0 0 rfl rfl)
theorem dX12_scale_1 : decode cX12_scale 1 = .ok (.iconst 2, 1) := dk_5 (dk_at dksX12_scale_0 1 rfl rfl)
theorem dX12_scale_2 : decode cX12_scale 2 = .ok (.iload_n 1, 1) := dk_27 (dk_at dksX12_scale_0 2 rfl rfl)
theorem dX12_scale_3 : decode cX12_scale 3 = .ok (.imul, 1) := dk_104 (dk_at dksX12_scale_0 3 rfl rfl)
theorem dX12_scale_4 : decode cX12_scale 4 = .ok (.iconst 1, 1) := dk_4 (dk_at dksX12_scale_0 4 rfl rfl)
theorem dX12_scale_5 : decode cX12_scale 5 = .ok (.aload_n 0, 1) := dk_42 (dk_at dksX12_scale_0 5 rfl rfl)
theorem dX12_scale_6 : decode cX12_scale 6 = .ok (.getfield 41, 3) := dk_180 0 41 (dk_at dksX12_scale_0 6 rfl rfl)
theorem dX12_scale_9 : decode cX12_scale 9 = .ok (.iadd, 1) := dk_96 (dk_at dksX12_scale_0 9 rfl rfl)
theorem dX12_scale_10 : decode cX12_scale 10 = .ok (.imul, 1) := dk_104 (dk_at dksX12_scale_0 10 rfl rfl)
theorem dX12_scale_11 : decode cX12_scale 11 = .ok (.lshl, 1) := dk_121 (dk_at dksX12_scale_0 11 rfl rfl)
theorem dX12_scale_12 : decode cX12_scale 12 = .ok (.lreturn, 1) := dk_173 (dk_at dksX12_scale_0 12 rfl rfl)
abbrev cX12_cost : ByteArray := prog_8_method_21_code
def yX12_cost : MethodName := ⟨RX12, "cost", "(II)J"⟩
def dkwX12_cost_0 : List UInt8 := [42, 182, 0, 133, 16, 125, 27, 104, 28, 96, 47, 173]
abbrev dktX12_cost_0 : List UInt8 := dkwX12_cost_0 ++ []
theorem dksX12_cost_0 : cX12_cost.data.toList.drop 0 = dktX12_cost_0 := by decide +kernel
theorem dX12_cost_0 : decode cX12_cost 0 = .ok (.aload_n 0, 1) := dk_42 (dk_at dksX12_cost_0 0 rfl rfl)
theorem dX12_cost_1 : decode cX12_cost 1 = .ok (.invokevirtual 133, 3) := dk_182 0 133 (dk_at dksX12_cost_0 1 rfl rfl)
theorem dX12_cost_4 : decode cX12_cost 4 = .ok (.bipush 125, 2) := dk_16 125 (dk_at dksX12_cost_0 4 rfl rfl)
theorem dX12_cost_6 : decode cX12_cost 6 = .ok (.iload_n 1, 1) := dk_27 (dk_at dksX12_cost_0 6 rfl rfl)
theorem dX12_cost_7 : decode cX12_cost 7 = .ok (.imul, 1) := dk_104 (dk_at dksX12_cost_0 7 rfl rfl)
theorem dX12_cost_8 : decode cX12_cost 8 = .ok (.iload_n 2, 1) := dk_28 (dk_at dksX12_cost_0 8 rfl rfl)
theorem dX12_cost_9 : decode cX12_cost 9 = .ok (.iadd, 1) := dk_96 (dk_at dksX12_cost_0 9 rfl rfl)
theorem dX12_cost_10 : decode cX12_cost 10 = .ok (.laload, 1) := dk_47 (dk_at dksX12_cost_0 10 rfl rfl)
theorem dX12_cost_11 : decode cX12_cost 11 = .ok (.lreturn, 1) := dk_173 (dk_at dksX12_cost_0 11 rfl rfl)
abbrev cX12_worths : ByteArray := prog_8_method_20_code
def yX12_worths : MethodName := ⟨RX12, "worths", "()[J"⟩
def dkwX12_worths_0 : List UInt8 := [42, 180, 0, 52, 154, 0, 7, 42, 182, 0, 131, 42, 180, 0, 111, 176]
abbrev dktX12_worths_0 : List UInt8 := dkwX12_worths_0 ++ []
theorem dksX12_worths_0 : cX12_worths.data.toList.drop 0 = dktX12_worths_0 := by decide +kernel
theorem dX12_worths_0 : decode cX12_worths 0 = .ok (.aload_n 0, 1) := dk_42 (dk_at dksX12_worths_0 0 rfl rfl)
theorem dX12_worths_1 : decode cX12_worths 1 = .ok (.getfield 52, 3) := dk_180 0 52 (dk_at dksX12_worths_0 1 rfl rfl)
theorem dX12_worths_4 : decode cX12_worths 4 = .ok (.ifCond .ne 7, 3) := dk_154 0 7 (dk_at dksX12_worths_0 4 rfl rfl)
theorem dX12_worths_7 : decode cX12_worths 7 = .ok (.aload_n 0, 1) := dk_42 (dk_at dksX12_worths_0 7 rfl rfl)
theorem dX12_worths_8 : decode cX12_worths 8 = .ok (.invokevirtual 131, 3) := dk_182 0 131 (dk_at dksX12_worths_0 8 rfl rfl)
theorem dX12_worths_11 : decode cX12_worths 11 = .ok (.aload_n 0, 1) := dk_42 (dk_at dksX12_worths_0 11 rfl rfl)
theorem dX12_worths_12 : decode cX12_worths 12 = .ok (.getfield 111, 3) := dk_180 0 111 (dk_at dksX12_worths_0 12 rfl rfl)
theorem dX12_worths_15 : decode cX12_worths 15 = .ok (.areturn, 1) := dk_176 (dk_at dksX12_worths_0 15 rfl rfl)
abbrev cX12_finds : ByteArray := prog_8_method_18_code
def yX12_finds : MethodName := ⟨RX12, "finds", "()V"⟩
def dkwX12_finds_8 : List UInt8 := [132, 1, 1, 167, 255, 157, 177]
abbrev dktX12_finds_8 : List UInt8 := dkwX12_finds_8 ++ []
def dkwX12_finds_7 : List UInt8 := [3, 61, 28, 42, 182, 0, 117, 162, 0, 15, 42, 28, 27, 182, 0, 124, 132, 2, 1, 167, 255, 239]
abbrev dktX12_finds_7 : List UInt8 := dkwX12_finds_7 ++ dktX12_finds_8
def dkwX12_finds_6 : List UInt8 := [133, 42, 27, 4, 100, 182, 0, 92, 5, 42, 180, 0, 41, 104, 121, 105, 97, 80, 132, 2, 1, 167, 255, 195]
abbrev dktX12_finds_6 : List UInt8 := dkwX12_finds_6 ++ dktX12_finds_7
def dkwX12_finds_5 : List UInt8 := [180, 0, 111, 16, 125, 27, 4, 100, 104, 42, 27, 4, 100, 182, 0, 92, 182, 0, 99, 42, 28, 182, 0, 96]
abbrev dktX12_finds_5 : List UInt8 := dkwX12_finds_5 ++ dktX12_finds_6
def dkwX12_finds_4 : List UInt8 := [180, 0, 9, 163, 0, 97, 3, 61, 28, 42, 182, 0, 117, 162, 0, 59, 42, 180, 0, 60, 28, 42, 28, 42]
abbrev dktX12_finds_4 : List UInt8 := dkwX12_finds_4 ++ dktX12_finds_5
def dkwX12_finds_3 : List UInt8 := [27, 182, 0, 121, 133, 80, 42, 180, 0, 114, 27, 3, 79, 132, 1, 1, 167, 255, 226, 4, 60, 27, 42]
abbrev dktX12_finds_3 : List UInt8 := dkwX12_finds_3 ++ dktX12_finds_4
def dkwX12_finds_2 : List UInt8 := [181, 0, 114, 42, 4, 181, 0, 52, 3, 60, 27, 42, 182, 0, 117, 162, 0, 28, 42, 180, 0, 111, 27, 42]
abbrev dktX12_finds_2 : List UInt8 := dkwX12_finds_2 ++ dktX12_finds_3
def dkwX12_finds_1 : List UInt8 := [181, 0, 111, 42, 42, 180, 0, 114, 199, 0, 11, 17, 3, 107, 188, 10, 167, 0, 7, 42, 180, 0, 114]
abbrev dktX12_finds_1 : List UInt8 := dkwX12_finds_1 ++ dktX12_finds_2
def dkwX12_finds_0 : List UInt8 := [42, 182, 0, 108, 42, 42, 180, 0, 111, 199, 0, 11, 17, 3, 107, 188, 11, 167, 0, 7, 42, 180, 0, 111]
abbrev dktX12_finds_0 : List UInt8 := dkwX12_finds_0 ++ dktX12_finds_1
theorem dksX12_finds_0 : cX12_finds.data.toList.drop 0 = dktX12_finds_0 := by decide +kernel
theorem dksX12_finds_1 : cX12_finds.data.toList.drop 24 = dktX12_finds_1 := dk_seg dksX12_finds_0 24 rfl rfl
theorem dksX12_finds_2 : cX12_finds.data.toList.drop 47 = dktX12_finds_2 := dk_seg dksX12_finds_1 23 rfl rfl
theorem dksX12_finds_3 : cX12_finds.data.toList.drop 71 = dktX12_finds_3 := dk_seg dksX12_finds_2 24 rfl rfl
theorem dksX12_finds_4 : cX12_finds.data.toList.drop 94 = dktX12_finds_4 := dk_seg dksX12_finds_3 23 rfl rfl
theorem dksX12_finds_5 : cX12_finds.data.toList.drop 118 = dktX12_finds_5 := dk_seg dksX12_finds_4 24 rfl rfl
theorem dksX12_finds_6 : cX12_finds.data.toList.drop 142 = dktX12_finds_6 := dk_seg dksX12_finds_5 24 rfl rfl
theorem dksX12_finds_7 : cX12_finds.data.toList.drop 166 = dktX12_finds_7 := dk_seg dksX12_finds_6 24 rfl rfl
theorem dksX12_finds_8 : cX12_finds.data.toList.drop 188 = dktX12_finds_8 := dk_seg dksX12_finds_7 22 rfl rfl
theorem dX12_finds_0 : decode cX12_finds 0 = .ok (.aload_n 0, 1) := dk_42 (dk_at dksX12_finds_0 0 rfl rfl)
theorem dX12_finds_1 : decode cX12_finds 1 = .ok (.invokevirtual 108, 3) := dk_182 0 108 (dk_at dksX12_finds_0 1 rfl rfl)
theorem dX12_finds_4 : decode cX12_finds 4 = .ok (.aload_n 0, 1) := dk_42 (dk_at dksX12_finds_0 4 rfl rfl)
theorem dX12_finds_5 : decode cX12_finds 5 = .ok (.aload_n 0, 1) := dk_42 (dk_at dksX12_finds_0 5 rfl rfl)
theorem dX12_finds_6 : decode cX12_finds 6 = .ok (.getfield 111, 3) := dk_180 0 111 (dk_at dksX12_finds_0 6 rfl rfl)
theorem dX12_finds_9 : decode cX12_finds 9 = .ok (.ifnonnull 11, 3) := dk_199 0 11 (dk_at dksX12_finds_0 9 rfl rfl)
theorem dX12_finds_12 : decode cX12_finds 12 = .ok (.sipush 875, 3) := dk_17 3 107 (dk_at dksX12_finds_0 12 rfl rfl)
theorem dX12_finds_15 : decode cX12_finds 15 = .ok (.newarray .long, 2) := dk_188_11 (dk_at dksX12_finds_0 15 rfl rfl)
theorem dX12_finds_17 : decode cX12_finds 17 = .ok (.goto 7, 3) := dk_167 0 7 (dk_at dksX12_finds_0 17 rfl rfl)
theorem dX12_finds_20 : decode cX12_finds 20 = .ok (.aload_n 0, 1) := dk_42 (dk_at dksX12_finds_0 20 rfl rfl)
theorem dX12_finds_21 : decode cX12_finds 21 = .ok (.getfield 111, 3) := dk_180 0 111 (dk_at dksX12_finds_0 21 rfl rfl)
theorem dX12_finds_24 : decode cX12_finds 24 = .ok (.putfield 111, 3) := dk_181 0 111 (dk_at dksX12_finds_1 0 rfl rfl)
theorem dX12_finds_27 : decode cX12_finds 27 = .ok (.aload_n 0, 1) := dk_42 (dk_at dksX12_finds_1 3 rfl rfl)
theorem dX12_finds_28 : decode cX12_finds 28 = .ok (.aload_n 0, 1) := dk_42 (dk_at dksX12_finds_1 4 rfl rfl)
theorem dX12_finds_29 : decode cX12_finds 29 = .ok (.getfield 114, 3) := dk_180 0 114 (dk_at dksX12_finds_1 5 rfl rfl)
theorem dX12_finds_32 : decode cX12_finds 32 = .ok (.ifnonnull 11, 3) := dk_199 0 11 (dk_at dksX12_finds_1 8 rfl rfl)
theorem dX12_finds_35 : decode cX12_finds 35 = .ok (.sipush 875, 3) := dk_17 3 107 (dk_at dksX12_finds_1 11 rfl rfl)
theorem dX12_finds_38 : decode cX12_finds 38 = .ok (.newarray .int, 2) := dk_188_10 (dk_at dksX12_finds_1 14 rfl rfl)
theorem dX12_finds_40 : decode cX12_finds 40 = .ok (.goto 7, 3) := dk_167 0 7 (dk_at dksX12_finds_1 16 rfl rfl)
theorem dX12_finds_43 : decode cX12_finds 43 = .ok (.aload_n 0, 1) := dk_42 (dk_at dksX12_finds_1 19 rfl rfl)
theorem dX12_finds_44 : decode cX12_finds 44 = .ok (.getfield 114, 3) := dk_180 0 114 (dk_at dksX12_finds_1 20 rfl rfl)
theorem dX12_finds_47 : decode cX12_finds 47 = .ok (.putfield 114, 3) := dk_181 0 114 (dk_at dksX12_finds_2 0 rfl rfl)
theorem dX12_finds_50 : decode cX12_finds 50 = .ok (.aload_n 0, 1) := dk_42 (dk_at dksX12_finds_2 3 rfl rfl)
theorem dX12_finds_51 : decode cX12_finds 51 = .ok (.iconst 1, 1) := dk_4 (dk_at dksX12_finds_2 4 rfl rfl)
theorem dX12_finds_52 : decode cX12_finds 52 = .ok (.putfield 52, 3) := dk_181 0 52 (dk_at dksX12_finds_2 5 rfl rfl)
theorem dX12_finds_55 : decode cX12_finds 55 = .ok (.iconst 0, 1) := dk_3 (dk_at dksX12_finds_2 8 rfl rfl)
theorem dX12_finds_56 : decode cX12_finds 56 = .ok (.istore_n 1, 1) := dk_60 (dk_at dksX12_finds_2 9 rfl rfl)
theorem dX12_finds_57 : decode cX12_finds 57 = .ok (.iload_n 1, 1) := dk_27 (dk_at dksX12_finds_2 10 rfl rfl)
theorem dX12_finds_58 : decode cX12_finds 58 = .ok (.aload_n 0, 1) := dk_42 (dk_at dksX12_finds_2 11 rfl rfl)
theorem dX12_finds_59 : decode cX12_finds 59 = .ok (.invokevirtual 117, 3) := dk_182 0 117 (dk_at dksX12_finds_2 12 rfl rfl)
theorem dX12_finds_62 : decode cX12_finds 62 = .ok (.if_icmp .ge 28, 3) := dk_162 0 28 (dk_at dksX12_finds_2 15 rfl rfl)
theorem dX12_finds_65 : decode cX12_finds 65 = .ok (.aload_n 0, 1) := dk_42 (dk_at dksX12_finds_2 18 rfl rfl)
theorem dX12_finds_66 : decode cX12_finds 66 = .ok (.getfield 111, 3) := dk_180 0 111 (dk_at dksX12_finds_2 19 rfl rfl)
theorem dX12_finds_69 : decode cX12_finds 69 = .ok (.iload_n 1, 1) := dk_27 (dk_at dksX12_finds_2 22 rfl rfl)
theorem dX12_finds_70 : decode cX12_finds 70 = .ok (.aload_n 0, 1) := dk_42 (dk_at dksX12_finds_2 23 rfl rfl)
theorem dX12_finds_71 : decode cX12_finds 71 = .ok (.iload_n 1, 1) := dk_27 (dk_at dksX12_finds_3 0 rfl rfl)
theorem dX12_finds_72 : decode cX12_finds 72 = .ok (.invokevirtual 121, 3) := dk_182 0 121 (dk_at dksX12_finds_3 1 rfl rfl)
theorem dX12_finds_75 : decode cX12_finds 75 = .ok (.i2l, 1) := dk_133 (dk_at dksX12_finds_3 4 rfl rfl)
theorem dX12_finds_76 : decode cX12_finds 76 = .ok (.lastore, 1) := dk_80 (dk_at dksX12_finds_3 5 rfl rfl)
theorem dX12_finds_77 : decode cX12_finds 77 = .ok (.aload_n 0, 1) := dk_42 (dk_at dksX12_finds_3 6 rfl rfl)
theorem dX12_finds_78 : decode cX12_finds 78 = .ok (.getfield 114, 3) := dk_180 0 114 (dk_at dksX12_finds_3 7 rfl rfl)
theorem dX12_finds_81 : decode cX12_finds 81 = .ok (.iload_n 1, 1) := dk_27 (dk_at dksX12_finds_3 10 rfl rfl)
theorem dX12_finds_82 : decode cX12_finds 82 = .ok (.iconst 0, 1) := dk_3 (dk_at dksX12_finds_3 11 rfl rfl)
theorem dX12_finds_83 : decode cX12_finds 83 = .ok (.iastore, 1) := dk_79 (dk_at dksX12_finds_3 12 rfl rfl)
theorem dX12_finds_84 : decode cX12_finds 84 = .ok (.iinc 1 1, 3) := dk_132 1 1 (dk_at dksX12_finds_3 13 rfl rfl)
theorem dX12_finds_87 : decode cX12_finds 87 = .ok (.goto (-30), 3) := dk_167 255 226 (dk_at dksX12_finds_3 16 rfl rfl)
theorem dX12_finds_90 : decode cX12_finds 90 = .ok (.iconst 1, 1) := dk_4 (dk_at dksX12_finds_3 19 rfl rfl)
theorem dX12_finds_91 : decode cX12_finds 91 = .ok (.istore_n 1, 1) := dk_60 (dk_at dksX12_finds_3 20 rfl rfl)
theorem dX12_finds_92 : decode cX12_finds 92 = .ok (.iload_n 1, 1) := dk_27 (dk_at dksX12_finds_3 21 rfl rfl)
theorem dX12_finds_93 : decode cX12_finds 93 = .ok (.aload_n 0, 1) := dk_42 (dk_at dksX12_finds_3 22 rfl rfl)
theorem dX12_finds_94 : decode cX12_finds 94 = .ok (.getfield 9, 3) := dk_180 0 9 (dk_at dksX12_finds_4 0 rfl rfl)
theorem dX12_finds_97 : decode cX12_finds 97 = .ok (.if_icmp .gt 97, 3) := dk_163 0 97 (dk_at dksX12_finds_4 3 rfl rfl)
theorem dX12_finds_100 : decode cX12_finds 100 = .ok (.iconst 0, 1) := dk_3 (dk_at dksX12_finds_4 6 rfl rfl)
theorem dX12_finds_101 : decode cX12_finds 101 = .ok (.istore_n 2, 1) := dk_61 (dk_at dksX12_finds_4 7 rfl rfl)
theorem dX12_finds_102 : decode cX12_finds 102 = .ok (.iload_n 2, 1) := dk_28 (dk_at dksX12_finds_4 8 rfl rfl)
theorem dX12_finds_103 : decode cX12_finds 103 = .ok (.aload_n 0, 1) := dk_42 (dk_at dksX12_finds_4 9 rfl rfl)
theorem dX12_finds_104 : decode cX12_finds 104 = .ok (.invokevirtual 117, 3) := dk_182 0 117 (dk_at dksX12_finds_4 10 rfl rfl)
theorem dX12_finds_107 : decode cX12_finds 107 = .ok (.if_icmp .ge 59, 3) := dk_162 0 59 (dk_at dksX12_finds_4 13 rfl rfl)
theorem dX12_finds_110 : decode cX12_finds 110 = .ok (.aload_n 0, 1) := dk_42 (dk_at dksX12_finds_4 16 rfl rfl)
theorem dX12_finds_111 : decode cX12_finds 111 = .ok (.getfield 60, 3) := dk_180 0 60 (dk_at dksX12_finds_4 17 rfl rfl)
theorem dX12_finds_114 : decode cX12_finds 114 = .ok (.iload_n 2, 1) := dk_28 (dk_at dksX12_finds_4 20 rfl rfl)
theorem dX12_finds_115 : decode cX12_finds 115 = .ok (.aload_n 0, 1) := dk_42 (dk_at dksX12_finds_4 21 rfl rfl)
theorem dX12_finds_116 : decode cX12_finds 116 = .ok (.iload_n 2, 1) := dk_28 (dk_at dksX12_finds_4 22 rfl rfl)
theorem dX12_finds_117 : decode cX12_finds 117 = .ok (.aload_n 0, 1) := dk_42 (dk_at dksX12_finds_4 23 rfl rfl)
theorem dX12_finds_118 : decode cX12_finds 118 = .ok (.getfield 111, 3) := dk_180 0 111 (dk_at dksX12_finds_5 0 rfl rfl)
theorem dX12_finds_121 : decode cX12_finds 121 = .ok (.bipush 125, 2) := dk_16 125 (dk_at dksX12_finds_5 3 rfl rfl)
theorem dX12_finds_123 : decode cX12_finds 123 = .ok (.iload_n 1, 1) := dk_27 (dk_at dksX12_finds_5 5 rfl rfl)
theorem dX12_finds_124 : decode cX12_finds 124 = .ok (.iconst 1, 1) := dk_4 (dk_at dksX12_finds_5 6 rfl rfl)
theorem dX12_finds_125 : decode cX12_finds 125 = .ok (.isub, 1) := dk_100 (dk_at dksX12_finds_5 7 rfl rfl)
theorem dX12_finds_126 : decode cX12_finds 126 = .ok (.imul, 1) := dk_104 (dk_at dksX12_finds_5 8 rfl rfl)
theorem dX12_finds_127 : decode cX12_finds 127 = .ok (.aload_n 0, 1) := dk_42 (dk_at dksX12_finds_5 9 rfl rfl)
theorem dX12_finds_128 : decode cX12_finds 128 = .ok (.iload_n 1, 1) := dk_27 (dk_at dksX12_finds_5 10 rfl rfl)
theorem dX12_finds_129 : decode cX12_finds 129 = .ok (.iconst 1, 1) := dk_4 (dk_at dksX12_finds_5 11 rfl rfl)
theorem dX12_finds_130 : decode cX12_finds 130 = .ok (.isub, 1) := dk_100 (dk_at dksX12_finds_5 12 rfl rfl)
theorem dX12_finds_131 : decode cX12_finds 131 = .ok (.invokevirtual 92, 3) := dk_182 0 92 (dk_at dksX12_finds_5 13 rfl rfl)
theorem dX12_finds_134 : decode cX12_finds 134 = .ok (.invokevirtual 99, 3) := dk_182 0 99 (dk_at dksX12_finds_5 16 rfl rfl)
theorem dX12_finds_137 : decode cX12_finds 137 = .ok (.aload_n 0, 1) := dk_42 (dk_at dksX12_finds_5 19 rfl rfl)
theorem dX12_finds_138 : decode cX12_finds 138 = .ok (.iload_n 2, 1) := dk_28 (dk_at dksX12_finds_5 20 rfl rfl)
theorem dX12_finds_139 : decode cX12_finds 139 = .ok (.invokevirtual 96, 3) := dk_182 0 96 (dk_at dksX12_finds_5 21 rfl rfl)
theorem dX12_finds_142 : decode cX12_finds 142 = .ok (.i2l, 1) := dk_133 (dk_at dksX12_finds_6 0 rfl rfl)
theorem dX12_finds_143 : decode cX12_finds 143 = .ok (.aload_n 0, 1) := dk_42 (dk_at dksX12_finds_6 1 rfl rfl)
theorem dX12_finds_144 : decode cX12_finds 144 = .ok (.iload_n 1, 1) := dk_27 (dk_at dksX12_finds_6 2 rfl rfl)
theorem dX12_finds_145 : decode cX12_finds 145 = .ok (.iconst 1, 1) := dk_4 (dk_at dksX12_finds_6 3 rfl rfl)
theorem dX12_finds_146 : decode cX12_finds 146 = .ok (.isub, 1) := dk_100 (dk_at dksX12_finds_6 4 rfl rfl)
theorem dX12_finds_147 : decode cX12_finds 147 = .ok (.invokevirtual 92, 3) := dk_182 0 92 (dk_at dksX12_finds_6 5 rfl rfl)
theorem dX12_finds_150 : decode cX12_finds 150 = .ok (.iconst 2, 1) := dk_5 (dk_at dksX12_finds_6 8 rfl rfl)
theorem dX12_finds_151 : decode cX12_finds 151 = .ok (.aload_n 0, 1) := dk_42 (dk_at dksX12_finds_6 9 rfl rfl)
theorem dX12_finds_152 : decode cX12_finds 152 = .ok (.getfield 41, 3) := dk_180 0 41 (dk_at dksX12_finds_6 10 rfl rfl)
theorem dX12_finds_155 : decode cX12_finds 155 = .ok (.imul, 1) := dk_104 (dk_at dksX12_finds_6 13 rfl rfl)
theorem dX12_finds_156 : decode cX12_finds 156 = .ok (.lshl, 1) := dk_121 (dk_at dksX12_finds_6 14 rfl rfl)
theorem dX12_finds_157 : decode cX12_finds 157 = .ok (.lmul, 1) := dk_105 (dk_at dksX12_finds_6 15 rfl rfl)
theorem dX12_finds_158 : decode cX12_finds 158 = .ok (.ladd, 1) := dk_97 (dk_at dksX12_finds_6 16 rfl rfl)
theorem dX12_finds_159 : decode cX12_finds 159 = .ok (.lastore, 1) := dk_80 (dk_at dksX12_finds_6 17 rfl rfl)
theorem dX12_finds_160 : decode cX12_finds 160 = .ok (.iinc 2 1, 3) := dk_132 2 1 (dk_at dksX12_finds_6 18 rfl rfl)
theorem dX12_finds_163 : decode cX12_finds 163 = .ok (.goto (-61), 3) := dk_167 255 195 (dk_at dksX12_finds_6 21 rfl rfl)
theorem dX12_finds_166 : decode cX12_finds 166 = .ok (.iconst 0, 1) := dk_3 (dk_at dksX12_finds_7 0 rfl rfl)
theorem dX12_finds_167 : decode cX12_finds 167 = .ok (.istore_n 2, 1) := dk_61 (dk_at dksX12_finds_7 1 rfl rfl)
theorem dX12_finds_168 : decode cX12_finds 168 = .ok (.iload_n 2, 1) := dk_28 (dk_at dksX12_finds_7 2 rfl rfl)
theorem dX12_finds_169 : decode cX12_finds 169 = .ok (.aload_n 0, 1) := dk_42 (dk_at dksX12_finds_7 3 rfl rfl)
theorem dX12_finds_170 : decode cX12_finds 170 = .ok (.invokevirtual 117, 3) := dk_182 0 117 (dk_at dksX12_finds_7 4 rfl rfl)
theorem dX12_finds_173 : decode cX12_finds 173 = .ok (.if_icmp .ge 15, 3) := dk_162 0 15 (dk_at dksX12_finds_7 7 rfl rfl)
theorem dX12_finds_176 : decode cX12_finds 176 = .ok (.aload_n 0, 1) := dk_42 (dk_at dksX12_finds_7 10 rfl rfl)
theorem dX12_finds_177 : decode cX12_finds 177 = .ok (.iload_n 2, 1) := dk_28 (dk_at dksX12_finds_7 11 rfl rfl)
theorem dX12_finds_178 : decode cX12_finds 178 = .ok (.iload_n 1, 1) := dk_27 (dk_at dksX12_finds_7 12 rfl rfl)
theorem dX12_finds_179 : decode cX12_finds 179 = .ok (.invokevirtual 124, 3) := dk_182 0 124 (dk_at dksX12_finds_7 13 rfl rfl)
theorem dX12_finds_182 : decode cX12_finds 182 = .ok (.iinc 2 1, 3) := dk_132 2 1 (dk_at dksX12_finds_7 16 rfl rfl)
theorem dX12_finds_185 : decode cX12_finds 185 = .ok (.goto (-17), 3) := dk_167 255 239 (dk_at dksX12_finds_7 19 rfl rfl)
theorem dX12_finds_188 : decode cX12_finds 188 = .ok (.iinc 1 1, 3) := dk_132 1 1 (dk_at dksX12_finds_8 0 rfl rfl)
theorem dX12_finds_191 : decode cX12_finds 191 = .ok (.goto (-99), 3) := dk_167 255 157 (dk_at dksX12_finds_8 3 rfl rfl)
theorem dX12_finds_194 : decode cX12_finds 194 = .ok (.return_, 1) := dk_177 (dk_at dksX12_finds_8 6 rfl rfl)
abbrev cX12_makesRoom : ByteArray := prog_8_method_6_code
def yX12_makesRoom : MethodName := ⟨RX12, "makesRoom", "()V"⟩
def dkwX12_makesRoom_1 : List UInt8 := [42, 16, 125, 188, 11, 181, 0, 63, 42, 16, 125, 188, 11, 181, 0, 66, 177]
abbrev dktX12_makesRoom_1 : List UInt8 := dkwX12_makesRoom_1 ++ []
def dkwX12_makesRoom_0 : List UInt8 := [42, 180, 0, 56, 199, 0, 36, 42, 17, 3, 107, 188, 11, 181, 0, 56, 42, 16, 125, 188, 11, 181, 0, 60]
abbrev dktX12_makesRoom_0 : List UInt8 := dkwX12_makesRoom_0 ++ dktX12_makesRoom_1
theorem dksX12_makesRoom_0 : cX12_makesRoom.data.toList.drop 0 = dktX12_makesRoom_0 := by decide +kernel
theorem dksX12_makesRoom_1 : cX12_makesRoom.data.toList.drop 24 = dktX12_makesRoom_1 := dk_seg dksX12_makesRoom_0 24 rfl rfl
theorem dX12_makesRoom_0 : decode cX12_makesRoom 0 = .ok (.aload_n 0, 1) := dk_42 (dk_at dksX12_makesRoom_0 0 rfl rfl)
theorem dX12_makesRoom_1 : decode cX12_makesRoom 1 = .ok (.getfield 56, 3) := dk_180 0 56 (dk_at dksX12_makesRoom_0 1 rfl rfl)
theorem dX12_makesRoom_4 : decode cX12_makesRoom 4 = .ok (.ifnonnull 36, 3) := dk_199 0 36 (dk_at dksX12_makesRoom_0 4 rfl rfl)
theorem dX12_makesRoom_7 : decode cX12_makesRoom 7 = .ok (.aload_n 0, 1) := dk_42 (dk_at dksX12_makesRoom_0 7 rfl rfl)
theorem dX12_makesRoom_8 : decode cX12_makesRoom 8 = .ok (.sipush 875, 3) := dk_17 3 107 (dk_at dksX12_makesRoom_0 8 rfl rfl)
theorem dX12_makesRoom_11 : decode cX12_makesRoom 11 = .ok (.newarray .long, 2) := dk_188_11 (dk_at dksX12_makesRoom_0 11 rfl rfl)
theorem dX12_makesRoom_13 : decode cX12_makesRoom 13 = .ok (.putfield 56, 3) := dk_181 0 56 (dk_at dksX12_makesRoom_0 13 rfl rfl)
theorem dX12_makesRoom_16 : decode cX12_makesRoom 16 = .ok (.aload_n 0, 1) := dk_42 (dk_at dksX12_makesRoom_0 16 rfl rfl)
theorem dX12_makesRoom_17 : decode cX12_makesRoom 17 = .ok (.bipush 125, 2) := dk_16 125 (dk_at dksX12_makesRoom_0 17 rfl rfl)
theorem dX12_makesRoom_19 : decode cX12_makesRoom 19 = .ok (.newarray .long, 2) := dk_188_11 (dk_at dksX12_makesRoom_0 19 rfl rfl)
theorem dX12_makesRoom_21 : decode cX12_makesRoom 21 = .ok (.putfield 60, 3) := dk_181 0 60 (dk_at dksX12_makesRoom_0 21 rfl rfl)
theorem dX12_makesRoom_24 : decode cX12_makesRoom 24 = .ok (.aload_n 0, 1) := dk_42 (dk_at dksX12_makesRoom_1 0 rfl rfl)
theorem dX12_makesRoom_25 : decode cX12_makesRoom 25 = .ok (.bipush 125, 2) := dk_16 125 (dk_at dksX12_makesRoom_1 1 rfl rfl)
theorem dX12_makesRoom_27 : decode cX12_makesRoom 27 = .ok (.newarray .long, 2) := dk_188_11 (dk_at dksX12_makesRoom_1 3 rfl rfl)
theorem dX12_makesRoom_29 : decode cX12_makesRoom 29 = .ok (.putfield 63, 3) := dk_181 0 63 (dk_at dksX12_makesRoom_1 5 rfl rfl)
theorem dX12_makesRoom_32 : decode cX12_makesRoom 32 = .ok (.aload_n 0, 1) := dk_42 (dk_at dksX12_makesRoom_1 8 rfl rfl)
theorem dX12_makesRoom_33 : decode cX12_makesRoom 33 = .ok (.bipush 125, 2) := dk_16 125 (dk_at dksX12_makesRoom_1 9 rfl rfl)
theorem dX12_makesRoom_35 : decode cX12_makesRoom 35 = .ok (.newarray .long, 2) := dk_188_11 (dk_at dksX12_makesRoom_1 11 rfl rfl)
theorem dX12_makesRoom_37 : decode cX12_makesRoom 37 = .ok (.putfield 66, 3) := dk_181 0 66 (dk_at dksX12_makesRoom_1 13 rfl rfl)
theorem dX12_makesRoom_40 : decode cX12_makesRoom 40 = .ok (.return_, 1) := dk_177 (dk_at dksX12_makesRoom_1 16 rfl rfl)
abbrev cX12_leaving : ByteArray := prog_8_method_11_code
def yX12_leaving : MethodName := ⟨RX12, "leaving", "(I)I"⟩
def dkwX12_leaving_1 : List UInt8 := [104, 96, 61, 132, 3, 1, 167, 255, 230, 28, 172]
abbrev dktX12_leaving_1 : List UInt8 := dkwX12_leaving_1 ++ []
def dkwX12_leaving_0 : List UInt8 := [3, 61, 3, 62, 29, 42, 180, 0, 41, 162, 0, 24, 28, 42, 180, 0, 34, 29, 46, 27, 29, 184, 0, 69]
abbrev dktX12_leaving_0 : List UInt8 := dkwX12_leaving_0 ++ dktX12_leaving_1
theorem dksX12_leaving_0 : cX12_leaving.data.toList.drop 0 = dktX12_leaving_0 := by decide +kernel
theorem dksX12_leaving_1 : cX12_leaving.data.toList.drop 24 = dktX12_leaving_1 := dk_seg dksX12_leaving_0 24 rfl rfl
theorem dX12_leaving_0 : decode cX12_leaving 0 = .ok (.iconst 0, 1) := dk_3 (dk_at dksX12_leaving_0 0 rfl rfl)
theorem dX12_leaving_1 : decode cX12_leaving 1 = .ok (.istore_n 2, 1) := dk_61 (dk_at dksX12_leaving_0 1 rfl rfl)
theorem dX12_leaving_2 : decode cX12_leaving 2 = .ok (.iconst 0, 1) := dk_3 (dk_at dksX12_leaving_0 2 rfl rfl)
theorem dX12_leaving_3 : decode cX12_leaving 3 = .ok (.istore_n 3, 1) := dk_62 (dk_at dksX12_leaving_0 3 rfl rfl)
theorem dX12_leaving_4 : decode cX12_leaving 4 = .ok (.iload_n 3, 1) := dk_29 (dk_at dksX12_leaving_0 4 rfl rfl)
theorem dX12_leaving_5 : decode cX12_leaving 5 = .ok (.aload_n 0, 1) := dk_42 (dk_at dksX12_leaving_0 5 rfl rfl)
theorem dX12_leaving_6 : decode cX12_leaving 6 = .ok (.getfield 41, 3) := dk_180 0 41 (dk_at dksX12_leaving_0 6 rfl rfl)
theorem dX12_leaving_9 : decode cX12_leaving 9 = .ok (.if_icmp .ge 24, 3) := dk_162 0 24 (dk_at dksX12_leaving_0 9 rfl rfl)
theorem dX12_leaving_12 : decode cX12_leaving 12 = .ok (.iload_n 2, 1) := dk_28 (dk_at dksX12_leaving_0 12 rfl rfl)
theorem dX12_leaving_13 : decode cX12_leaving 13 = .ok (.aload_n 0, 1) := dk_42 (dk_at dksX12_leaving_0 13 rfl rfl)
theorem dX12_leaving_14 : decode cX12_leaving 14 = .ok (.getfield 34, 3) := dk_180 0 34 (dk_at dksX12_leaving_0 14 rfl rfl)
theorem dX12_leaving_17 : decode cX12_leaving 17 = .ok (.iload_n 3, 1) := dk_29 (dk_at dksX12_leaving_0 17 rfl rfl)
theorem dX12_leaving_18 : decode cX12_leaving 18 = .ok (.iaload, 1) := dk_46 (dk_at dksX12_leaving_0 18 rfl rfl)
theorem dX12_leaving_19 : decode cX12_leaving 19 = .ok (.iload_n 1, 1) := dk_27 (dk_at dksX12_leaving_0 19 rfl rfl)
theorem dX12_leaving_20 : decode cX12_leaving 20 = .ok (.iload_n 3, 1) := dk_29 (dk_at dksX12_leaving_0 20 rfl rfl)
theorem dX12_leaving_21 : decode cX12_leaving 21 = .ok (.invokestatic 69, 3) := dk_184 0 69 (dk_at dksX12_leaving_0 21 rfl rfl)
theorem dX12_leaving_24 : decode cX12_leaving 24 = .ok (.imul, 1) := dk_104 (dk_at dksX12_leaving_1 0 rfl rfl)
theorem dX12_leaving_25 : decode cX12_leaving 25 = .ok (.iadd, 1) := dk_96 (dk_at dksX12_leaving_1 1 rfl rfl)
theorem dX12_leaving_26 : decode cX12_leaving 26 = .ok (.istore_n 2, 1) := dk_61 (dk_at dksX12_leaving_1 2 rfl rfl)
theorem dX12_leaving_27 : decode cX12_leaving 27 = .ok (.iinc 3 1, 3) := dk_132 3 1 (dk_at dksX12_leaving_1 3 rfl rfl)
theorem dX12_leaving_30 : decode cX12_leaving 30 = .ok (.goto (-26), 3) := dk_167 255 230 (dk_at dksX12_leaving_1 6 rfl rfl)
theorem dX12_leaving_33 : decode cX12_leaving 33 = .ok (.iload_n 2, 1) := dk_28 (dk_at dksX12_leaving_1 9 rfl rfl)
theorem dX12_leaving_34 : decode cX12_leaving 34 = .ok (.ireturn, 1) := dk_172 (dk_at dksX12_leaving_1 10 rfl rfl)
abbrev cX12_comes : ByteArray := prog_8_method_15_code
def yX12_comes : MethodName := ⟨RX12, "comes", "(I[JIJ)J"⟩
def dkwX12_comes_7 : List UInt8 := [55, 6, 132, 8, 1, 167, 255, 92, 22, 6, 173]
abbrev dktX12_comes_7 : List UInt8 := dkwX12_comes_7 ++ []
def dkwX12_comes_6 : List UInt8 := [9, 148, 158, 0, 24, 22, 6, 22, 9, 21, 12, 133, 22, 4, 105, 44, 29, 21, 11, 96, 47, 97, 105, 97]
abbrev dktX12_comes_6 : List UInt8 := dkwX12_comes_6 ++ dktX12_comes_7
def dkwX12_comes_5 : List UInt8 := [21, 14, 153, 0, 14, 21, 11, 178, 0, 89, 21, 13, 46, 96, 54, 11, 132, 13, 1, 167, 255, 149, 22, 9]
abbrev dktX12_comes_5 : List UInt8 := dkwX12_comes_5 ++ dktX12_comes_6
def dkwX12_comes_4 : List UInt8 := [21, 13, 184, 0, 69, 7, 160, 0, 18, 21, 12, 42, 180, 0, 31, 21, 13, 46, 96, 54, 12, 167, 0, 19]
abbrev dktX12_comes_4 : List UInt8 := dkwX12_comes_4 ++ dktX12_comes_5
def dkwX12_comes_3 : List UInt8 := [133, 167, 0, 13, 7, 42, 180, 0, 25, 21, 13, 46, 100, 133, 105, 55, 9, 21, 14, 153, 0, 28, 27]
abbrev dktX12_comes_3 : List UInt8 := dkwX12_comes_3 ++ dktX12_comes_4
def dkwX12_comes_2 : List UInt8 := [160, 0, 7, 4, 167, 0, 4, 3, 54, 14, 22, 9, 21, 14, 153, 0, 14, 42, 180, 0, 25, 21, 13, 46]
abbrev dktX12_comes_2 : List UInt8 := dkwX12_comes_2 ++ dktX12_comes_3
def dkwX12_comes_1 : List UInt8 := [54, 12, 3, 54, 13, 21, 13, 42, 180, 0, 41, 162, 0, 104, 21, 8, 21, 13, 122, 4, 126, 4]
abbrev dktX12_comes_1 : List UInt8 := dkwX12_comes_1 ++ dktX12_comes_2
def dkwX12_comes_0 : List UInt8 := [9, 55, 6, 3, 54, 8, 21, 8, 4, 42, 180, 0, 41, 120, 162, 0, 159, 10, 55, 9, 27, 54, 11, 3]
abbrev dktX12_comes_0 : List UInt8 := dkwX12_comes_0 ++ dktX12_comes_1
theorem dksX12_comes_0 : cX12_comes.data.toList.drop 0 = dktX12_comes_0 := by decide +kernel
theorem dksX12_comes_1 : cX12_comes.data.toList.drop 24 = dktX12_comes_1 := dk_seg dksX12_comes_0 24 rfl rfl
theorem dksX12_comes_2 : cX12_comes.data.toList.drop 46 = dktX12_comes_2 := dk_seg dksX12_comes_1 22 rfl rfl
theorem dksX12_comes_3 : cX12_comes.data.toList.drop 70 = dktX12_comes_3 := dk_seg dksX12_comes_2 24 rfl rfl
theorem dksX12_comes_4 : cX12_comes.data.toList.drop 93 = dktX12_comes_4 := dk_seg dksX12_comes_3 23 rfl rfl
theorem dksX12_comes_5 : cX12_comes.data.toList.drop 117 = dktX12_comes_5 := dk_seg dksX12_comes_4 24 rfl rfl
theorem dksX12_comes_6 : cX12_comes.data.toList.drop 141 = dktX12_comes_6 := dk_seg dksX12_comes_5 24 rfl rfl
theorem dksX12_comes_7 : cX12_comes.data.toList.drop 165 = dktX12_comes_7 := dk_seg dksX12_comes_6 24 rfl rfl
theorem dX12_comes_0 : decode cX12_comes 0 = .ok (.lconst 0, 1) := dk_9 (dk_at dksX12_comes_0 0 rfl rfl)
theorem dX12_comes_1 : decode cX12_comes 1 = .ok (.lstore 6, 2) := dk_55 6 (dk_at dksX12_comes_0 1 rfl rfl)
theorem dX12_comes_3 : decode cX12_comes 3 = .ok (.iconst 0, 1) := dk_3 (dk_at dksX12_comes_0 3 rfl rfl)
theorem dX12_comes_4 : decode cX12_comes 4 = .ok (.istore 8, 2) := dk_54 8 (dk_at dksX12_comes_0 4 rfl rfl)
theorem dX12_comes_6 : decode cX12_comes 6 = .ok (.iload 8, 2) := dk_21 8 (dk_at dksX12_comes_0 6 rfl rfl)
theorem dX12_comes_8 : decode cX12_comes 8 = .ok (.iconst 1, 1) := dk_4 (dk_at dksX12_comes_0 8 rfl rfl)
theorem dX12_comes_9 : decode cX12_comes 9 = .ok (.aload_n 0, 1) := dk_42 (dk_at dksX12_comes_0 9 rfl rfl)
theorem dX12_comes_10 : decode cX12_comes 10 = .ok (.getfield 41, 3) := dk_180 0 41 (dk_at dksX12_comes_0 10 rfl rfl)
theorem dX12_comes_13 : decode cX12_comes 13 = .ok (.ishl, 1) := dk_120 (dk_at dksX12_comes_0 13 rfl rfl)
theorem dX12_comes_14 : decode cX12_comes 14 = .ok (.if_icmp .ge 159, 3) := dk_162 0 159 (dk_at dksX12_comes_0 14 rfl rfl)
theorem dX12_comes_17 : decode cX12_comes 17 = .ok (.lconst 1, 1) := dk_10 (dk_at dksX12_comes_0 17 rfl rfl)
theorem dX12_comes_18 : decode cX12_comes 18 = .ok (.lstore 9, 2) := dk_55 9 (dk_at dksX12_comes_0 18 rfl rfl)
theorem dX12_comes_20 : decode cX12_comes 20 = .ok (.iload_n 1, 1) := dk_27 (dk_at dksX12_comes_0 20 rfl rfl)
theorem dX12_comes_21 : decode cX12_comes 21 = .ok (.istore 11, 2) := dk_54 11 (dk_at dksX12_comes_0 21 rfl rfl)
theorem dX12_comes_23 : decode cX12_comes 23 = .ok (.iconst 0, 1) := dk_3 (dk_at dksX12_comes_0 23 rfl rfl)
theorem dX12_comes_24 : decode cX12_comes 24 = .ok (.istore 12, 2) := dk_54 12 (dk_at dksX12_comes_1 0 rfl rfl)
theorem dX12_comes_26 : decode cX12_comes 26 = .ok (.iconst 0, 1) := dk_3 (dk_at dksX12_comes_1 2 rfl rfl)
theorem dX12_comes_27 : decode cX12_comes 27 = .ok (.istore 13, 2) := dk_54 13 (dk_at dksX12_comes_1 3 rfl rfl)
theorem dX12_comes_29 : decode cX12_comes 29 = .ok (.iload 13, 2) := dk_21 13 (dk_at dksX12_comes_1 5 rfl rfl)
theorem dX12_comes_31 : decode cX12_comes 31 = .ok (.aload_n 0, 1) := dk_42 (dk_at dksX12_comes_1 7 rfl rfl)
theorem dX12_comes_32 : decode cX12_comes 32 = .ok (.getfield 41, 3) := dk_180 0 41 (dk_at dksX12_comes_1 8 rfl rfl)
theorem dX12_comes_35 : decode cX12_comes 35 = .ok (.if_icmp .ge 104, 3) := dk_162 0 104 (dk_at dksX12_comes_1 11 rfl rfl)
theorem dX12_comes_38 : decode cX12_comes 38 = .ok (.iload 8, 2) := dk_21 8 (dk_at dksX12_comes_1 14 rfl rfl)
theorem dX12_comes_40 : decode cX12_comes 40 = .ok (.iload 13, 2) := dk_21 13 (dk_at dksX12_comes_1 16 rfl rfl)
theorem dX12_comes_42 : decode cX12_comes 42 = .ok (.ishr, 1) := dk_122 (dk_at dksX12_comes_1 18 rfl rfl)
theorem dX12_comes_43 : decode cX12_comes 43 = .ok (.iconst 1, 1) := dk_4 (dk_at dksX12_comes_1 19 rfl rfl)
theorem dX12_comes_44 : decode cX12_comes 44 = .ok (.iand, 1) := dk_126 (dk_at dksX12_comes_1 20 rfl rfl)
theorem dX12_comes_45 : decode cX12_comes 45 = .ok (.iconst 1, 1) := dk_4 (dk_at dksX12_comes_1 21 rfl rfl)
theorem dX12_comes_46 : decode cX12_comes 46 = .ok (.if_icmp .ne 7, 3) := dk_160 0 7 (dk_at dksX12_comes_2 0 rfl rfl)
theorem dX12_comes_49 : decode cX12_comes 49 = .ok (.iconst 1, 1) := dk_4 (dk_at dksX12_comes_2 3 rfl rfl)
theorem dX12_comes_50 : decode cX12_comes 50 = .ok (.goto 4, 3) := dk_167 0 4 (dk_at dksX12_comes_2 4 rfl rfl)
theorem dX12_comes_53 : decode cX12_comes 53 = .ok (.iconst 0, 1) := dk_3 (dk_at dksX12_comes_2 7 rfl rfl)
theorem dX12_comes_54 : decode cX12_comes 54 = .ok (.istore 14, 2) := dk_54 14 (dk_at dksX12_comes_2 8 rfl rfl)
theorem dX12_comes_56 : decode cX12_comes 56 = .ok (.lload 9, 2) := dk_22 9 (dk_at dksX12_comes_2 10 rfl rfl)
theorem dX12_comes_58 : decode cX12_comes 58 = .ok (.iload 14, 2) := dk_21 14 (dk_at dksX12_comes_2 12 rfl rfl)
theorem dX12_comes_60 : decode cX12_comes 60 = .ok (.ifCond .eq 14, 3) := dk_153 0 14 (dk_at dksX12_comes_2 14 rfl rfl)
theorem dX12_comes_63 : decode cX12_comes 63 = .ok (.aload_n 0, 1) := dk_42 (dk_at dksX12_comes_2 17 rfl rfl)
theorem dX12_comes_64 : decode cX12_comes 64 = .ok (.getfield 25, 3) := dk_180 0 25 (dk_at dksX12_comes_2 18 rfl rfl)
theorem dX12_comes_67 : decode cX12_comes 67 = .ok (.iload 13, 2) := dk_21 13 (dk_at dksX12_comes_2 21 rfl rfl)
theorem dX12_comes_69 : decode cX12_comes 69 = .ok (.iaload, 1) := dk_46 (dk_at dksX12_comes_2 23 rfl rfl)
theorem dX12_comes_70 : decode cX12_comes 70 = .ok (.i2l, 1) := dk_133 (dk_at dksX12_comes_3 0 rfl rfl)
theorem dX12_comes_71 : decode cX12_comes 71 = .ok (.goto 13, 3) := dk_167 0 13 (dk_at dksX12_comes_3 1 rfl rfl)
theorem dX12_comes_74 : decode cX12_comes 74 = .ok (.iconst 4, 1) := dk_7 (dk_at dksX12_comes_3 4 rfl rfl)
theorem dX12_comes_75 : decode cX12_comes 75 = .ok (.aload_n 0, 1) := dk_42 (dk_at dksX12_comes_3 5 rfl rfl)
theorem dX12_comes_76 : decode cX12_comes 76 = .ok (.getfield 25, 3) := dk_180 0 25 (dk_at dksX12_comes_3 6 rfl rfl)
theorem dX12_comes_79 : decode cX12_comes 79 = .ok (.iload 13, 2) := dk_21 13 (dk_at dksX12_comes_3 9 rfl rfl)
theorem dX12_comes_81 : decode cX12_comes 81 = .ok (.iaload, 1) := dk_46 (dk_at dksX12_comes_3 11 rfl rfl)
theorem dX12_comes_82 : decode cX12_comes 82 = .ok (.isub, 1) := dk_100 (dk_at dksX12_comes_3 12 rfl rfl)
theorem dX12_comes_83 : decode cX12_comes 83 = .ok (.i2l, 1) := dk_133 (dk_at dksX12_comes_3 13 rfl rfl)
theorem dX12_comes_84 : decode cX12_comes 84 = .ok (.lmul, 1) := dk_105 (dk_at dksX12_comes_3 14 rfl rfl)
theorem dX12_comes_85 : decode cX12_comes 85 = .ok (.lstore 9, 2) := dk_55 9 (dk_at dksX12_comes_3 15 rfl rfl)
theorem dX12_comes_87 : decode cX12_comes 87 = .ok (.iload 14, 2) := dk_21 14 (dk_at dksX12_comes_3 17 rfl rfl)
theorem dX12_comes_89 : decode cX12_comes 89 = .ok (.ifCond .eq 28, 3) := dk_153 0 28 (dk_at dksX12_comes_3 19 rfl rfl)
theorem dX12_comes_92 : decode cX12_comes 92 = .ok (.iload_n 1, 1) := dk_27 (dk_at dksX12_comes_3 22 rfl rfl)
theorem dX12_comes_93 : decode cX12_comes 93 = .ok (.iload 13, 2) := dk_21 13 (dk_at dksX12_comes_4 0 rfl rfl)
theorem dX12_comes_95 : decode cX12_comes 95 = .ok (.invokestatic 69, 3) := dk_184 0 69 (dk_at dksX12_comes_4 2 rfl rfl)
theorem dX12_comes_98 : decode cX12_comes 98 = .ok (.iconst 4, 1) := dk_7 (dk_at dksX12_comes_4 5 rfl rfl)
theorem dX12_comes_99 : decode cX12_comes 99 = .ok (.if_icmp .ne 18, 3) := dk_160 0 18 (dk_at dksX12_comes_4 6 rfl rfl)
theorem dX12_comes_102 : decode cX12_comes 102 = .ok (.iload 12, 2) := dk_21 12 (dk_at dksX12_comes_4 9 rfl rfl)
theorem dX12_comes_104 : decode cX12_comes 104 = .ok (.aload_n 0, 1) := dk_42 (dk_at dksX12_comes_4 11 rfl rfl)
theorem dX12_comes_105 : decode cX12_comes 105 = .ok (.getfield 31, 3) := dk_180 0 31 (dk_at dksX12_comes_4 12 rfl rfl)
theorem dX12_comes_108 : decode cX12_comes 108 = .ok (.iload 13, 2) := dk_21 13 (dk_at dksX12_comes_4 15 rfl rfl)
theorem dX12_comes_110 : decode cX12_comes 110 = .ok (.iaload, 1) := dk_46 (dk_at dksX12_comes_4 17 rfl rfl)
theorem dX12_comes_111 : decode cX12_comes 111 = .ok (.iadd, 1) := dk_96 (dk_at dksX12_comes_4 18 rfl rfl)
theorem dX12_comes_112 : decode cX12_comes 112 = .ok (.istore 12, 2) := dk_54 12 (dk_at dksX12_comes_4 19 rfl rfl)
theorem dX12_comes_114 : decode cX12_comes 114 = .ok (.goto 19, 3) := dk_167 0 19 (dk_at dksX12_comes_4 21 rfl rfl)
theorem dX12_comes_117 : decode cX12_comes 117 = .ok (.iload 14, 2) := dk_21 14 (dk_at dksX12_comes_5 0 rfl rfl)
theorem dX12_comes_119 : decode cX12_comes 119 = .ok (.ifCond .eq 14, 3) := dk_153 0 14 (dk_at dksX12_comes_5 2 rfl rfl)
theorem dX12_comes_122 : decode cX12_comes 122 = .ok (.iload 11, 2) := dk_21 11 (dk_at dksX12_comes_5 5 rfl rfl)
theorem dX12_comes_124 : decode cX12_comes 124 = .ok (.getstatic 89, 3) := dk_178 0 89 (dk_at dksX12_comes_5 7 rfl rfl)
theorem dX12_comes_127 : decode cX12_comes 127 = .ok (.iload 13, 2) := dk_21 13 (dk_at dksX12_comes_5 10 rfl rfl)
theorem dX12_comes_129 : decode cX12_comes 129 = .ok (.iaload, 1) := dk_46 (dk_at dksX12_comes_5 12 rfl rfl)
theorem dX12_comes_130 : decode cX12_comes 130 = .ok (.iadd, 1) := dk_96 (dk_at dksX12_comes_5 13 rfl rfl)
theorem dX12_comes_131 : decode cX12_comes 131 = .ok (.istore 11, 2) := dk_54 11 (dk_at dksX12_comes_5 14 rfl rfl)
theorem dX12_comes_133 : decode cX12_comes 133 = .ok (.iinc 13 1, 3) := dk_132 13 1 (dk_at dksX12_comes_5 16 rfl rfl)
theorem dX12_comes_136 : decode cX12_comes 136 = .ok (.goto (-107), 3) := dk_167 255 149 (dk_at dksX12_comes_5 19 rfl rfl)
theorem dX12_comes_139 : decode cX12_comes 139 = .ok (.lload 9, 2) := dk_22 9 (dk_at dksX12_comes_5 22 rfl rfl)
theorem dX12_comes_141 : decode cX12_comes 141 = .ok (.lconst 0, 1) := dk_9 (dk_at dksX12_comes_6 0 rfl rfl)
theorem dX12_comes_142 : decode cX12_comes 142 = .ok (.lcmp, 1) := dk_148 (dk_at dksX12_comes_6 1 rfl rfl)
theorem dX12_comes_143 : decode cX12_comes 143 = .ok (.ifCond .le 24, 3) := dk_158 0 24 (dk_at dksX12_comes_6 2 rfl rfl)
theorem dX12_comes_146 : decode cX12_comes 146 = .ok (.lload 6, 2) := dk_22 6 (dk_at dksX12_comes_6 5 rfl rfl)
theorem dX12_comes_148 : decode cX12_comes 148 = .ok (.lload 9, 2) := dk_22 9 (dk_at dksX12_comes_6 7 rfl rfl)
theorem dX12_comes_150 : decode cX12_comes 150 = .ok (.iload 12, 2) := dk_21 12 (dk_at dksX12_comes_6 9 rfl rfl)
theorem dX12_comes_152 : decode cX12_comes 152 = .ok (.i2l, 1) := dk_133 (dk_at dksX12_comes_6 11 rfl rfl)
theorem dX12_comes_153 : decode cX12_comes 153 = .ok (.lload 4, 2) := dk_22 4 (dk_at dksX12_comes_6 12 rfl rfl)
theorem dX12_comes_155 : decode cX12_comes 155 = .ok (.lmul, 1) := dk_105 (dk_at dksX12_comes_6 14 rfl rfl)
theorem dX12_comes_156 : decode cX12_comes 156 = .ok (.aload_n 2, 1) := dk_44 (dk_at dksX12_comes_6 15 rfl rfl)
theorem dX12_comes_157 : decode cX12_comes 157 = .ok (.iload_n 3, 1) := dk_29 (dk_at dksX12_comes_6 16 rfl rfl)
theorem dX12_comes_158 : decode cX12_comes 158 = .ok (.iload 11, 2) := dk_21 11 (dk_at dksX12_comes_6 17 rfl rfl)
theorem dX12_comes_160 : decode cX12_comes 160 = .ok (.iadd, 1) := dk_96 (dk_at dksX12_comes_6 19 rfl rfl)
theorem dX12_comes_161 : decode cX12_comes 161 = .ok (.laload, 1) := dk_47 (dk_at dksX12_comes_6 20 rfl rfl)
theorem dX12_comes_162 : decode cX12_comes 162 = .ok (.ladd, 1) := dk_97 (dk_at dksX12_comes_6 21 rfl rfl)
theorem dX12_comes_163 : decode cX12_comes 163 = .ok (.lmul, 1) := dk_105 (dk_at dksX12_comes_6 22 rfl rfl)
theorem dX12_comes_164 : decode cX12_comes 164 = .ok (.ladd, 1) := dk_97 (dk_at dksX12_comes_6 23 rfl rfl)
theorem dX12_comes_165 : decode cX12_comes 165 = .ok (.lstore 6, 2) := dk_55 6 (dk_at dksX12_comes_7 0 rfl rfl)
theorem dX12_comes_167 : decode cX12_comes 167 = .ok (.iinc 8 1, 3) := dk_132 8 1 (dk_at dksX12_comes_7 2 rfl rfl)
theorem dX12_comes_170 : decode cX12_comes 170 = .ok (.goto (-164), 3) := dk_167 255 92 (dk_at dksX12_comes_7 5 rfl rfl)
theorem dX12_comes_173 : decode cX12_comes 173 = .ok (.lload 6, 2) := dk_22 6 (dk_at dksX12_comes_7 8 rfl rfl)
theorem dX12_comes_175 : decode cX12_comes 175 = .ok (.lreturn, 1) := dk_173 (dk_at dksX12_comes_7 10 rfl rfl)
abbrev cX12_holding : ByteArray := prog_8_method_10_code
def yX12_holding : MethodName := ⟨RX12, "holding", "(I)I"⟩
def dkwX12_holding_1 : List UInt8 := [104, 96, 61, 132, 3, 1, 167, 255, 230, 28, 172]
abbrev dktX12_holding_1 : List UInt8 := dkwX12_holding_1 ++ []
def dkwX12_holding_0 : List UInt8 := [3, 61, 3, 62, 29, 42, 180, 0, 41, 162, 0, 24, 28, 42, 180, 0, 28, 29, 46, 27, 29, 184, 0, 69]
abbrev dktX12_holding_0 : List UInt8 := dkwX12_holding_0 ++ dktX12_holding_1
theorem dksX12_holding_0 : cX12_holding.data.toList.drop 0 = dktX12_holding_0 := by decide +kernel
theorem dksX12_holding_1 : cX12_holding.data.toList.drop 24 = dktX12_holding_1 := dk_seg dksX12_holding_0 24 rfl rfl
theorem dX12_holding_0 : decode cX12_holding 0 = .ok (.iconst 0, 1) := dk_3 (dk_at dksX12_holding_0 0 rfl rfl)
theorem dX12_holding_1 : decode cX12_holding 1 = .ok (.istore_n 2, 1) := dk_61 (dk_at dksX12_holding_0 1 rfl rfl)
theorem dX12_holding_2 : decode cX12_holding 2 = .ok (.iconst 0, 1) := dk_3 (dk_at dksX12_holding_0 2 rfl rfl)
theorem dX12_holding_3 : decode cX12_holding 3 = .ok (.istore_n 3, 1) := dk_62 (dk_at dksX12_holding_0 3 rfl rfl)
theorem dX12_holding_4 : decode cX12_holding 4 = .ok (.iload_n 3, 1) := dk_29 (dk_at dksX12_holding_0 4 rfl rfl)
theorem dX12_holding_5 : decode cX12_holding 5 = .ok (.aload_n 0, 1) := dk_42 (dk_at dksX12_holding_0 5 rfl rfl)
theorem dX12_holding_6 : decode cX12_holding 6 = .ok (.getfield 41, 3) := dk_180 0 41 (dk_at dksX12_holding_0 6 rfl rfl)
theorem dX12_holding_9 : decode cX12_holding 9 = .ok (.if_icmp .ge 24, 3) := dk_162 0 24 (dk_at dksX12_holding_0 9 rfl rfl)
theorem dX12_holding_12 : decode cX12_holding 12 = .ok (.iload_n 2, 1) := dk_28 (dk_at dksX12_holding_0 12 rfl rfl)
theorem dX12_holding_13 : decode cX12_holding 13 = .ok (.aload_n 0, 1) := dk_42 (dk_at dksX12_holding_0 13 rfl rfl)
theorem dX12_holding_14 : decode cX12_holding 14 = .ok (.getfield 28, 3) := dk_180 0 28 (dk_at dksX12_holding_0 14 rfl rfl)
theorem dX12_holding_17 : decode cX12_holding 17 = .ok (.iload_n 3, 1) := dk_29 (dk_at dksX12_holding_0 17 rfl rfl)
theorem dX12_holding_18 : decode cX12_holding 18 = .ok (.iaload, 1) := dk_46 (dk_at dksX12_holding_0 18 rfl rfl)
theorem dX12_holding_19 : decode cX12_holding 19 = .ok (.iload_n 1, 1) := dk_27 (dk_at dksX12_holding_0 19 rfl rfl)
theorem dX12_holding_20 : decode cX12_holding 20 = .ok (.iload_n 3, 1) := dk_29 (dk_at dksX12_holding_0 20 rfl rfl)
theorem dX12_holding_21 : decode cX12_holding 21 = .ok (.invokestatic 69, 3) := dk_184 0 69 (dk_at dksX12_holding_0 21 rfl rfl)
theorem dX12_holding_24 : decode cX12_holding 24 = .ok (.imul, 1) := dk_104 (dk_at dksX12_holding_1 0 rfl rfl)
theorem dX12_holding_25 : decode cX12_holding 25 = .ok (.iadd, 1) := dk_96 (dk_at dksX12_holding_1 1 rfl rfl)
theorem dX12_holding_26 : decode cX12_holding 26 = .ok (.istore_n 2, 1) := dk_61 (dk_at dksX12_holding_1 2 rfl rfl)
theorem dX12_holding_27 : decode cX12_holding 27 = .ok (.iinc 3 1, 3) := dk_132 3 1 (dk_at dksX12_holding_1 3 rfl rfl)
theorem dX12_holding_30 : decode cX12_holding 30 = .ok (.goto (-26), 3) := dk_167 255 230 (dk_at dksX12_holding_1 6 rfl rfl)
theorem dX12_holding_33 : decode cX12_holding 33 = .ok (.iload_n 2, 1) := dk_28 (dk_at dksX12_holding_1 9 rfl rfl)
theorem dX12_holding_34 : decode cX12_holding 34 = .ok (.ireturn, 1) := dk_172 (dk_at dksX12_holding_1 10 rfl rfl)
abbrev cX12_finds_2 : ByteArray := prog_8_method_19_code
def yX12_finds_2 : MethodName := ⟨RX12, "finds", "(II)V"⟩
def dkwX12_finds_2_5 : List UInt8 := [180, 0, 38, 100, 133, 22, 5, 105, 97, 80, 42, 180, 0, 114, 16, 125, 28, 104, 27, 96, 21, 7, 79, 177]
abbrev dktX12_finds_2_5 : List UInt8 := dkwX12_finds_2_5 ++ []
def dkwX12_finds_2_4 : List UInt8 := [180, 0, 111, 16, 125, 28, 104, 27, 96, 42, 180, 0, 38, 133, 42, 180, 0, 60, 27, 47, 105, 7, 42]
abbrev dktX12_finds_2_4 : List UInt8 := dkwX12_finds_2_4 ++ dktX12_finds_2_5
def dkwX12_finds_2_3 : List UInt8 := [42, 180, 0, 60, 27, 21, 8, 100, 47, 97, 55, 5, 21, 8, 54, 7, 132, 8, 1, 167, 255, 203, 42]
abbrev dktX12_finds_2_3 : List UInt8 := dkwX12_finds_2_3 ++ dktX12_finds_2_4
def dkwX12_finds_2_2 : List UInt8 := [182, 0, 128, 153, 0, 37, 33, 42, 180, 0, 60, 27, 21, 8, 100, 47, 97, 22, 5, 148, 156, 0, 20, 33]
abbrev dktX12_finds_2_2 : List UInt8 := dkwX12_finds_2_2 ++ dktX12_finds_2_3
def dkwX12_finds_2_1 : List UInt8 := [180, 0, 60, 27, 47, 55, 5, 3, 54, 7, 4, 54, 8, 21, 8, 27, 163, 0, 53, 42, 21, 8, 27]
abbrev dktX12_finds_2_1 : List UInt8 := dkwX12_finds_2_1 ++ dktX12_finds_2_2
def dkwX12_finds_2_0 : List UInt8 := [42, 180, 0, 15, 133, 42, 28, 4, 100, 182, 0, 92, 5, 42, 180, 0, 41, 104, 121, 105, 66, 42]
abbrev dktX12_finds_2_0 : List UInt8 := dkwX12_finds_2_0 ++ dktX12_finds_2_1
theorem dksX12_finds_2_0 : cX12_finds_2.data.toList.drop 0 = dktX12_finds_2_0 := by decide +kernel
theorem dksX12_finds_2_1 : cX12_finds_2.data.toList.drop 22 = dktX12_finds_2_1 := dk_seg dksX12_finds_2_0 22 rfl rfl
theorem dksX12_finds_2_2 : cX12_finds_2.data.toList.drop 45 = dktX12_finds_2_2 := dk_seg dksX12_finds_2_1 23 rfl rfl
theorem dksX12_finds_2_3 : cX12_finds_2.data.toList.drop 69 = dktX12_finds_2_3 := dk_seg dksX12_finds_2_2 24 rfl rfl
theorem dksX12_finds_2_4 : cX12_finds_2.data.toList.drop 92 = dktX12_finds_2_4 := dk_seg dksX12_finds_2_3 23 rfl rfl
theorem dksX12_finds_2_5 : cX12_finds_2.data.toList.drop 115 = dktX12_finds_2_5 := dk_seg dksX12_finds_2_4 23 rfl rfl
theorem dX12_finds_2_0 : decode cX12_finds_2 0 = .ok (.aload_n 0, 1) := dk_42 (dk_at dksX12_finds_2_0 0 rfl rfl)
theorem dX12_finds_2_1 : decode cX12_finds_2 1 = .ok (.getfield 15, 3) := dk_180 0 15 (dk_at dksX12_finds_2_0 1 rfl rfl)
theorem dX12_finds_2_4 : decode cX12_finds_2 4 = .ok (.i2l, 1) := dk_133 (dk_at dksX12_finds_2_0 4 rfl rfl)
theorem dX12_finds_2_5 : decode cX12_finds_2 5 = .ok (.aload_n 0, 1) := dk_42 (dk_at dksX12_finds_2_0 5 rfl rfl)
theorem dX12_finds_2_6 : decode cX12_finds_2 6 = .ok (.iload_n 2, 1) := dk_28 (dk_at dksX12_finds_2_0 6 rfl rfl)
theorem dX12_finds_2_7 : decode cX12_finds_2 7 = .ok (.iconst 1, 1) := dk_4 (dk_at dksX12_finds_2_0 7 rfl rfl)
theorem dX12_finds_2_8 : decode cX12_finds_2 8 = .ok (.isub, 1) := dk_100 (dk_at dksX12_finds_2_0 8 rfl rfl)
theorem dX12_finds_2_9 : decode cX12_finds_2 9 = .ok (.invokevirtual 92, 3) := dk_182 0 92 (dk_at dksX12_finds_2_0 9 rfl rfl)
theorem dX12_finds_2_12 : decode cX12_finds_2 12 = .ok (.iconst 2, 1) := dk_5 (dk_at dksX12_finds_2_0 12 rfl rfl)
theorem dX12_finds_2_13 : decode cX12_finds_2 13 = .ok (.aload_n 0, 1) := dk_42 (dk_at dksX12_finds_2_0 13 rfl rfl)
theorem dX12_finds_2_14 : decode cX12_finds_2 14 = .ok (.getfield 41, 3) := dk_180 0 41 (dk_at dksX12_finds_2_0 14 rfl rfl)
theorem dX12_finds_2_17 : decode cX12_finds_2 17 = .ok (.imul, 1) := dk_104 (dk_at dksX12_finds_2_0 17 rfl rfl)
theorem dX12_finds_2_18 : decode cX12_finds_2 18 = .ok (.lshl, 1) := dk_121 (dk_at dksX12_finds_2_0 18 rfl rfl)
theorem dX12_finds_2_19 : decode cX12_finds_2 19 = .ok (.lmul, 1) := dk_105 (dk_at dksX12_finds_2_0 19 rfl rfl)
theorem dX12_finds_2_20 : decode cX12_finds_2 20 = .ok (.lstore_n 3, 1) := dk_66 (dk_at dksX12_finds_2_0 20 rfl rfl)
theorem dX12_finds_2_21 : decode cX12_finds_2 21 = .ok (.aload_n 0, 1) := dk_42 (dk_at dksX12_finds_2_0 21 rfl rfl)
theorem dX12_finds_2_22 : decode cX12_finds_2 22 = .ok (.getfield 60, 3) := dk_180 0 60 (dk_at dksX12_finds_2_1 0 rfl rfl)
theorem dX12_finds_2_25 : decode cX12_finds_2 25 = .ok (.iload_n 1, 1) := dk_27 (dk_at dksX12_finds_2_1 3 rfl rfl)
theorem dX12_finds_2_26 : decode cX12_finds_2 26 = .ok (.laload, 1) := dk_47 (dk_at dksX12_finds_2_1 4 rfl rfl)
theorem dX12_finds_2_27 : decode cX12_finds_2 27 = .ok (.lstore 5, 2) := dk_55 5 (dk_at dksX12_finds_2_1 5 rfl rfl)
theorem dX12_finds_2_29 : decode cX12_finds_2 29 = .ok (.iconst 0, 1) := dk_3 (dk_at dksX12_finds_2_1 7 rfl rfl)
theorem dX12_finds_2_30 : decode cX12_finds_2 30 = .ok (.istore 7, 2) := dk_54 7 (dk_at dksX12_finds_2_1 8 rfl rfl)
theorem dX12_finds_2_32 : decode cX12_finds_2 32 = .ok (.iconst 1, 1) := dk_4 (dk_at dksX12_finds_2_1 10 rfl rfl)
theorem dX12_finds_2_33 : decode cX12_finds_2 33 = .ok (.istore 8, 2) := dk_54 8 (dk_at dksX12_finds_2_1 11 rfl rfl)
theorem dX12_finds_2_35 : decode cX12_finds_2 35 = .ok (.iload 8, 2) := dk_21 8 (dk_at dksX12_finds_2_1 13 rfl rfl)
theorem dX12_finds_2_37 : decode cX12_finds_2 37 = .ok (.iload_n 1, 1) := dk_27 (dk_at dksX12_finds_2_1 15 rfl rfl)
theorem dX12_finds_2_38 : decode cX12_finds_2 38 = .ok (.if_icmp .gt 53, 3) := dk_163 0 53 (dk_at dksX12_finds_2_1 16 rfl rfl)
theorem dX12_finds_2_41 : decode cX12_finds_2 41 = .ok (.aload_n 0, 1) := dk_42 (dk_at dksX12_finds_2_1 19 rfl rfl)
theorem dX12_finds_2_42 : decode cX12_finds_2 42 = .ok (.iload 8, 2) := dk_21 8 (dk_at dksX12_finds_2_1 20 rfl rfl)
theorem dX12_finds_2_44 : decode cX12_finds_2 44 = .ok (.iload_n 1, 1) := dk_27 (dk_at dksX12_finds_2_1 22 rfl rfl)
theorem dX12_finds_2_45 : decode cX12_finds_2 45 = .ok (.invokevirtual 128, 3) := dk_182 0 128 (dk_at dksX12_finds_2_2 0 rfl rfl)
theorem dX12_finds_2_48 : decode cX12_finds_2 48 = .ok (.ifCond .eq 37, 3) := dk_153 0 37 (dk_at dksX12_finds_2_2 3 rfl rfl)
theorem dX12_finds_2_51 : decode cX12_finds_2 51 = .ok (.lload_n 3, 1) := dk_33 (dk_at dksX12_finds_2_2 6 rfl rfl)
theorem dX12_finds_2_52 : decode cX12_finds_2 52 = .ok (.aload_n 0, 1) := dk_42 (dk_at dksX12_finds_2_2 7 rfl rfl)
theorem dX12_finds_2_53 : decode cX12_finds_2 53 = .ok (.getfield 60, 3) := dk_180 0 60 (dk_at dksX12_finds_2_2 8 rfl rfl)
theorem dX12_finds_2_56 : decode cX12_finds_2 56 = .ok (.iload_n 1, 1) := dk_27 (dk_at dksX12_finds_2_2 11 rfl rfl)
theorem dX12_finds_2_57 : decode cX12_finds_2 57 = .ok (.iload 8, 2) := dk_21 8 (dk_at dksX12_finds_2_2 12 rfl rfl)
theorem dX12_finds_2_59 : decode cX12_finds_2 59 = .ok (.isub, 1) := dk_100 (dk_at dksX12_finds_2_2 14 rfl rfl)
theorem dX12_finds_2_60 : decode cX12_finds_2 60 = .ok (.laload, 1) := dk_47 (dk_at dksX12_finds_2_2 15 rfl rfl)
theorem dX12_finds_2_61 : decode cX12_finds_2 61 = .ok (.ladd, 1) := dk_97 (dk_at dksX12_finds_2_2 16 rfl rfl)
theorem dX12_finds_2_62 : decode cX12_finds_2 62 = .ok (.lload 5, 2) := dk_22 5 (dk_at dksX12_finds_2_2 17 rfl rfl)
theorem dX12_finds_2_64 : decode cX12_finds_2 64 = .ok (.lcmp, 1) := dk_148 (dk_at dksX12_finds_2_2 19 rfl rfl)
theorem dX12_finds_2_65 : decode cX12_finds_2 65 = .ok (.ifCond .ge 20, 3) := dk_156 0 20 (dk_at dksX12_finds_2_2 20 rfl rfl)
theorem dX12_finds_2_68 : decode cX12_finds_2 68 = .ok (.lload_n 3, 1) := dk_33 (dk_at dksX12_finds_2_2 23 rfl rfl)
theorem dX12_finds_2_69 : decode cX12_finds_2 69 = .ok (.aload_n 0, 1) := dk_42 (dk_at dksX12_finds_2_3 0 rfl rfl)
theorem dX12_finds_2_70 : decode cX12_finds_2 70 = .ok (.getfield 60, 3) := dk_180 0 60 (dk_at dksX12_finds_2_3 1 rfl rfl)
theorem dX12_finds_2_73 : decode cX12_finds_2 73 = .ok (.iload_n 1, 1) := dk_27 (dk_at dksX12_finds_2_3 4 rfl rfl)
theorem dX12_finds_2_74 : decode cX12_finds_2 74 = .ok (.iload 8, 2) := dk_21 8 (dk_at dksX12_finds_2_3 5 rfl rfl)
theorem dX12_finds_2_76 : decode cX12_finds_2 76 = .ok (.isub, 1) := dk_100 (dk_at dksX12_finds_2_3 7 rfl rfl)
theorem dX12_finds_2_77 : decode cX12_finds_2 77 = .ok (.laload, 1) := dk_47 (dk_at dksX12_finds_2_3 8 rfl rfl)
theorem dX12_finds_2_78 : decode cX12_finds_2 78 = .ok (.ladd, 1) := dk_97 (dk_at dksX12_finds_2_3 9 rfl rfl)
theorem dX12_finds_2_79 : decode cX12_finds_2 79 = .ok (.lstore 5, 2) := dk_55 5 (dk_at dksX12_finds_2_3 10 rfl rfl)
theorem dX12_finds_2_81 : decode cX12_finds_2 81 = .ok (.iload 8, 2) := dk_21 8 (dk_at dksX12_finds_2_3 12 rfl rfl)
theorem dX12_finds_2_83 : decode cX12_finds_2 83 = .ok (.istore 7, 2) := dk_54 7 (dk_at dksX12_finds_2_3 14 rfl rfl)
theorem dX12_finds_2_85 : decode cX12_finds_2 85 = .ok (.iinc 8 1, 3) := dk_132 8 1 (dk_at dksX12_finds_2_3 16 rfl rfl)
theorem dX12_finds_2_88 : decode cX12_finds_2 88 = .ok (.goto (-53), 3) := dk_167 255 203 (dk_at dksX12_finds_2_3 19 rfl rfl)
theorem dX12_finds_2_91 : decode cX12_finds_2 91 = .ok (.aload_n 0, 1) := dk_42 (dk_at dksX12_finds_2_3 22 rfl rfl)
theorem dX12_finds_2_92 : decode cX12_finds_2 92 = .ok (.getfield 111, 3) := dk_180 0 111 (dk_at dksX12_finds_2_4 0 rfl rfl)
theorem dX12_finds_2_95 : decode cX12_finds_2 95 = .ok (.bipush 125, 2) := dk_16 125 (dk_at dksX12_finds_2_4 3 rfl rfl)
theorem dX12_finds_2_97 : decode cX12_finds_2 97 = .ok (.iload_n 2, 1) := dk_28 (dk_at dksX12_finds_2_4 5 rfl rfl)
theorem dX12_finds_2_98 : decode cX12_finds_2 98 = .ok (.imul, 1) := dk_104 (dk_at dksX12_finds_2_4 6 rfl rfl)
theorem dX12_finds_2_99 : decode cX12_finds_2 99 = .ok (.iload_n 1, 1) := dk_27 (dk_at dksX12_finds_2_4 7 rfl rfl)
theorem dX12_finds_2_100 : decode cX12_finds_2 100 = .ok (.iadd, 1) := dk_96 (dk_at dksX12_finds_2_4 8 rfl rfl)
theorem dX12_finds_2_101 : decode cX12_finds_2 101 = .ok (.aload_n 0, 1) := dk_42 (dk_at dksX12_finds_2_4 9 rfl rfl)
theorem dX12_finds_2_102 : decode cX12_finds_2 102 = .ok (.getfield 38, 3) := dk_180 0 38 (dk_at dksX12_finds_2_4 10 rfl rfl)
theorem dX12_finds_2_105 : decode cX12_finds_2 105 = .ok (.i2l, 1) := dk_133 (dk_at dksX12_finds_2_4 13 rfl rfl)
theorem dX12_finds_2_106 : decode cX12_finds_2 106 = .ok (.aload_n 0, 1) := dk_42 (dk_at dksX12_finds_2_4 14 rfl rfl)
theorem dX12_finds_2_107 : decode cX12_finds_2 107 = .ok (.getfield 60, 3) := dk_180 0 60 (dk_at dksX12_finds_2_4 15 rfl rfl)
theorem dX12_finds_2_110 : decode cX12_finds_2 110 = .ok (.iload_n 1, 1) := dk_27 (dk_at dksX12_finds_2_4 18 rfl rfl)
theorem dX12_finds_2_111 : decode cX12_finds_2 111 = .ok (.laload, 1) := dk_47 (dk_at dksX12_finds_2_4 19 rfl rfl)
theorem dX12_finds_2_112 : decode cX12_finds_2 112 = .ok (.lmul, 1) := dk_105 (dk_at dksX12_finds_2_4 20 rfl rfl)
theorem dX12_finds_2_113 : decode cX12_finds_2 113 = .ok (.iconst 4, 1) := dk_7 (dk_at dksX12_finds_2_4 21 rfl rfl)
theorem dX12_finds_2_114 : decode cX12_finds_2 114 = .ok (.aload_n 0, 1) := dk_42 (dk_at dksX12_finds_2_4 22 rfl rfl)
theorem dX12_finds_2_115 : decode cX12_finds_2 115 = .ok (.getfield 38, 3) := dk_180 0 38 (dk_at dksX12_finds_2_5 0 rfl rfl)
theorem dX12_finds_2_118 : decode cX12_finds_2 118 = .ok (.isub, 1) := dk_100 (dk_at dksX12_finds_2_5 3 rfl rfl)
theorem dX12_finds_2_119 : decode cX12_finds_2 119 = .ok (.i2l, 1) := dk_133 (dk_at dksX12_finds_2_5 4 rfl rfl)
theorem dX12_finds_2_120 : decode cX12_finds_2 120 = .ok (.lload 5, 2) := dk_22 5 (dk_at dksX12_finds_2_5 5 rfl rfl)
theorem dX12_finds_2_122 : decode cX12_finds_2 122 = .ok (.lmul, 1) := dk_105 (dk_at dksX12_finds_2_5 7 rfl rfl)
theorem dX12_finds_2_123 : decode cX12_finds_2 123 = .ok (.ladd, 1) := dk_97 (dk_at dksX12_finds_2_5 8 rfl rfl)
theorem dX12_finds_2_124 : decode cX12_finds_2 124 = .ok (.lastore, 1) := dk_80 (dk_at dksX12_finds_2_5 9 rfl rfl)
theorem dX12_finds_2_125 : decode cX12_finds_2 125 = .ok (.aload_n 0, 1) := dk_42 (dk_at dksX12_finds_2_5 10 rfl rfl)
theorem dX12_finds_2_126 : decode cX12_finds_2 126 = .ok (.getfield 114, 3) := dk_180 0 114 (dk_at dksX12_finds_2_5 11 rfl rfl)
theorem dX12_finds_2_129 : decode cX12_finds_2 129 = .ok (.bipush 125, 2) := dk_16 125 (dk_at dksX12_finds_2_5 14 rfl rfl)
theorem dX12_finds_2_131 : decode cX12_finds_2 131 = .ok (.iload_n 2, 1) := dk_28 (dk_at dksX12_finds_2_5 16 rfl rfl)
theorem dX12_finds_2_132 : decode cX12_finds_2 132 = .ok (.imul, 1) := dk_104 (dk_at dksX12_finds_2_5 17 rfl rfl)
theorem dX12_finds_2_133 : decode cX12_finds_2 133 = .ok (.iload_n 1, 1) := dk_27 (dk_at dksX12_finds_2_5 18 rfl rfl)
theorem dX12_finds_2_134 : decode cX12_finds_2 134 = .ok (.iadd, 1) := dk_96 (dk_at dksX12_finds_2_5 19 rfl rfl)
theorem dX12_finds_2_135 : decode cX12_finds_2 135 = .ok (.iload 7, 2) := dk_21 7 (dk_at dksX12_finds_2_5 20 rfl rfl)
theorem dX12_finds_2_137 : decode cX12_finds_2 137 = .ok (.iastore, 1) := dk_79 (dk_at dksX12_finds_2_5 22 rfl rfl)
theorem dX12_finds_2_138 : decode cX12_finds_2 138 = .ok (.return_, 1) := dk_177 (dk_at dksX12_finds_2_5 23 rfl rfl)
abbrev cX12_isLoad : ByteArray := prog_8_method_9_code
def yX12_isLoad : MethodName := ⟨RX12, "isLoad", "(II)Z"⟩
def dkwX12_isLoad_1 : List UInt8 := [3, 172]
abbrev dktX12_isLoad_1 : List UInt8 := dkwX12_isLoad_1 ++ []
def dkwX12_isLoad_0 : List UInt8 := [27, 28, 184, 0, 73, 153, 0, 19, 42, 27, 182, 0, 77, 42, 180, 0, 18, 163, 0, 7, 4, 167, 0, 4]
abbrev dktX12_isLoad_0 : List UInt8 := dkwX12_isLoad_0 ++ dktX12_isLoad_1
theorem dksX12_isLoad_0 : cX12_isLoad.data.toList.drop 0 = dktX12_isLoad_0 := by decide +kernel
theorem dksX12_isLoad_1 : cX12_isLoad.data.toList.drop 24 = dktX12_isLoad_1 := dk_seg dksX12_isLoad_0 24 rfl rfl
theorem dX12_isLoad_0 : decode cX12_isLoad 0 = .ok (.iload_n 1, 1) := dk_27 (dk_at dksX12_isLoad_0 0 rfl rfl)
theorem dX12_isLoad_1 : decode cX12_isLoad 1 = .ok (.iload_n 2, 1) := dk_28 (dk_at dksX12_isLoad_0 1 rfl rfl)
theorem dX12_isLoad_2 : decode cX12_isLoad 2 = .ok (.invokestatic 73, 3) := dk_184 0 73 (dk_at dksX12_isLoad_0 2 rfl rfl)
theorem dX12_isLoad_5 : decode cX12_isLoad 5 = .ok (.ifCond .eq 19, 3) := dk_153 0 19 (dk_at dksX12_isLoad_0 5 rfl rfl)
theorem dX12_isLoad_8 : decode cX12_isLoad 8 = .ok (.aload_n 0, 1) := dk_42 (dk_at dksX12_isLoad_0 8 rfl rfl)
theorem dX12_isLoad_9 : decode cX12_isLoad 9 = .ok (.iload_n 1, 1) := dk_27 (dk_at dksX12_isLoad_0 9 rfl rfl)
theorem dX12_isLoad_10 : decode cX12_isLoad 10 = .ok (.invokevirtual 77, 3) := dk_182 0 77 (dk_at dksX12_isLoad_0 10 rfl rfl)
theorem dX12_isLoad_13 : decode cX12_isLoad 13 = .ok (.aload_n 0, 1) := dk_42 (dk_at dksX12_isLoad_0 13 rfl rfl)
theorem dX12_isLoad_14 : decode cX12_isLoad 14 = .ok (.getfield 18, 3) := dk_180 0 18 (dk_at dksX12_isLoad_0 14 rfl rfl)
theorem dX12_isLoad_17 : decode cX12_isLoad 17 = .ok (.if_icmp .gt 7, 3) := dk_163 0 7 (dk_at dksX12_isLoad_0 17 rfl rfl)
theorem dX12_isLoad_20 : decode cX12_isLoad 20 = .ok (.iconst 1, 1) := dk_4 (dk_at dksX12_isLoad_0 20 rfl rfl)
theorem dX12_isLoad_21 : decode cX12_isLoad 21 = .ok (.goto 4, 3) := dk_167 0 4 (dk_at dksX12_isLoad_0 21 rfl rfl)
theorem dX12_isLoad_24 : decode cX12_isLoad 24 = .ok (.iconst 0, 1) := dk_3 (dk_at dksX12_isLoad_1 0 rfl rfl)
theorem dX12_isLoad_25 : decode cX12_isLoad 25 = .ok (.ireturn, 1) := dk_172 (dk_at dksX12_isLoad_1 1 rfl rfl)
abbrev cX12_best : ByteArray := prog_8_method_22_code
def yX12_best : MethodName := ⟨RX12, "best", "(II)I"⟩
def dkwX12_best_0 : List UInt8 := [42, 182, 0, 133, 87, 42, 180, 0, 114, 16, 125, 27, 104, 28, 96, 46, 172]
abbrev dktX12_best_0 : List UInt8 := dkwX12_best_0 ++ []
theorem dksX12_best_0 : cX12_best.data.toList.drop 0 = dktX12_best_0 := by decide +kernel
theorem dX12_best_0 : decode cX12_best 0 = .ok (.aload_n 0, 1) := dk_42 (dk_at dksX12_best_0 0 rfl rfl)
theorem dX12_best_1 : decode cX12_best 1 = .ok (.invokevirtual 133, 3) := dk_182 0 133 (dk_at dksX12_best_0 1 rfl rfl)
theorem dX12_best_4 : decode cX12_best 4 = .ok (.pop, 1) := dk_87 (dk_at dksX12_best_0 4 rfl rfl)
theorem dX12_best_5 : decode cX12_best 5 = .ok (.aload_n 0, 1) := dk_42 (dk_at dksX12_best_0 5 rfl rfl)
theorem dX12_best_6 : decode cX12_best 6 = .ok (.getfield 114, 3) := dk_180 0 114 (dk_at dksX12_best_0 6 rfl rfl)
theorem dX12_best_9 : decode cX12_best 9 = .ok (.bipush 125, 2) := dk_16 125 (dk_at dksX12_best_0 9 rfl rfl)
theorem dX12_best_11 : decode cX12_best 11 = .ok (.iload_n 1, 1) := dk_27 (dk_at dksX12_best_0 11 rfl rfl)
theorem dX12_best_12 : decode cX12_best 12 = .ok (.imul, 1) := dk_104 (dk_at dksX12_best_0 12 rfl rfl)
theorem dX12_best_13 : decode cX12_best 13 = .ok (.iload_n 2, 1) := dk_28 (dk_at dksX12_best_0 13 rfl rfl)
theorem dX12_best_14 : decode cX12_best 14 = .ok (.iadd, 1) := dk_96 (dk_at dksX12_best_0 14 rfl rfl)
theorem dX12_best_15 : decode cX12_best 15 = .ok (.iaload, 1) := dk_46 (dk_at dksX12_best_0 15 rfl rfl)
theorem dX12_best_16 : decode cX12_best 16 = .ok (.ireturn, 1) := dk_172 (dk_at dksX12_best_0 16 rfl rfl)
abbrev cX12_fill : ByteArray := prog_8_method_14_code
def yX12_fill : MethodName := ⟨RX12, "fill", "(I)I"⟩
def dkwX12_fill_3 : List UInt8 := [21, 6, 46, 104, 100, 62, 21, 4, 4, 21, 6, 120, 128, 54, 4, 132, 5, 1, 167, 255, 182, 28, 172]
abbrev dktX12_fill_3 : List UInt8 := dkwX12_fill_3 ++ []
def dkwX12_fill_2 : List UInt8 := [184, 0, 84, 54, 7, 28, 21, 7, 178, 0, 89, 21, 6, 46, 104, 96, 61, 29, 21, 7, 42, 180, 0, 21]
abbrev dktX12_fill_2 : List UInt8 := dkwX12_fill_2 ++ dktX12_fill_3
def dkwX12_fill_1 : List UInt8 := [21, 4, 182, 0, 81, 54, 6, 27, 21, 6, 184, 0, 69, 29, 42, 180, 0, 21, 21, 6, 46, 108]
abbrev dktX12_fill_1 : List UInt8 := dkwX12_fill_1 ++ dktX12_fill_2
def dkwX12_fill_0 : List UInt8 := [3, 61, 42, 180, 0, 18, 62, 3, 54, 4, 3, 54, 5, 21, 5, 42, 180, 0, 41, 162, 0, 71, 42]
abbrev dktX12_fill_0 : List UInt8 := dkwX12_fill_0 ++ dktX12_fill_1
theorem dksX12_fill_0 : cX12_fill.data.toList.drop 0 = dktX12_fill_0 := by decide +kernel
theorem dksX12_fill_1 : cX12_fill.data.toList.drop 23 = dktX12_fill_1 := dk_seg dksX12_fill_0 23 rfl rfl
theorem dksX12_fill_2 : cX12_fill.data.toList.drop 45 = dktX12_fill_2 := dk_seg dksX12_fill_1 22 rfl rfl
theorem dksX12_fill_3 : cX12_fill.data.toList.drop 69 = dktX12_fill_3 := dk_seg dksX12_fill_2 24 rfl rfl
theorem dX12_fill_0 : decode cX12_fill 0 = .ok (.iconst 0, 1) := dk_3 (dk_at dksX12_fill_0 0 rfl rfl)
theorem dX12_fill_1 : decode cX12_fill 1 = .ok (.istore_n 2, 1) := dk_61 (dk_at dksX12_fill_0 1 rfl rfl)
theorem dX12_fill_2 : decode cX12_fill 2 = .ok (.aload_n 0, 1) := dk_42 (dk_at dksX12_fill_0 2 rfl rfl)
theorem dX12_fill_3 : decode cX12_fill 3 = .ok (.getfield 18, 3) := dk_180 0 18 (dk_at dksX12_fill_0 3 rfl rfl)
theorem dX12_fill_6 : decode cX12_fill 6 = .ok (.istore_n 3, 1) := dk_62 (dk_at dksX12_fill_0 6 rfl rfl)
theorem dX12_fill_7 : decode cX12_fill 7 = .ok (.iconst 0, 1) := dk_3 (dk_at dksX12_fill_0 7 rfl rfl)
theorem dX12_fill_8 : decode cX12_fill 8 = .ok (.istore 4, 2) := dk_54 4 (dk_at dksX12_fill_0 8 rfl rfl)
theorem dX12_fill_10 : decode cX12_fill 10 = .ok (.iconst 0, 1) := dk_3 (dk_at dksX12_fill_0 10 rfl rfl)
theorem dX12_fill_11 : decode cX12_fill 11 = .ok (.istore 5, 2) := dk_54 5 (dk_at dksX12_fill_0 11 rfl rfl)
theorem dX12_fill_13 : decode cX12_fill 13 = .ok (.iload 5, 2) := dk_21 5 (dk_at dksX12_fill_0 13 rfl rfl)
theorem dX12_fill_15 : decode cX12_fill 15 = .ok (.aload_n 0, 1) := dk_42 (dk_at dksX12_fill_0 15 rfl rfl)
theorem dX12_fill_16 : decode cX12_fill 16 = .ok (.getfield 41, 3) := dk_180 0 41 (dk_at dksX12_fill_0 16 rfl rfl)
theorem dX12_fill_19 : decode cX12_fill 19 = .ok (.if_icmp .ge 71, 3) := dk_162 0 71 (dk_at dksX12_fill_0 19 rfl rfl)
theorem dX12_fill_22 : decode cX12_fill 22 = .ok (.aload_n 0, 1) := dk_42 (dk_at dksX12_fill_0 22 rfl rfl)
theorem dX12_fill_23 : decode cX12_fill 23 = .ok (.iload 4, 2) := dk_21 4 (dk_at dksX12_fill_1 0 rfl rfl)
theorem dX12_fill_25 : decode cX12_fill 25 = .ok (.invokevirtual 81, 3) := dk_182 0 81 (dk_at dksX12_fill_1 2 rfl rfl)
theorem dX12_fill_28 : decode cX12_fill 28 = .ok (.istore 6, 2) := dk_54 6 (dk_at dksX12_fill_1 5 rfl rfl)
theorem dX12_fill_30 : decode cX12_fill 30 = .ok (.iload_n 1, 1) := dk_27 (dk_at dksX12_fill_1 7 rfl rfl)
theorem dX12_fill_31 : decode cX12_fill 31 = .ok (.iload 6, 2) := dk_21 6 (dk_at dksX12_fill_1 8 rfl rfl)
theorem dX12_fill_33 : decode cX12_fill 33 = .ok (.invokestatic 69, 3) := dk_184 0 69 (dk_at dksX12_fill_1 10 rfl rfl)
theorem dX12_fill_36 : decode cX12_fill 36 = .ok (.iload_n 3, 1) := dk_29 (dk_at dksX12_fill_1 13 rfl rfl)
theorem dX12_fill_37 : decode cX12_fill 37 = .ok (.aload_n 0, 1) := dk_42 (dk_at dksX12_fill_1 14 rfl rfl)
theorem dX12_fill_38 : decode cX12_fill 38 = .ok (.getfield 21, 3) := dk_180 0 21 (dk_at dksX12_fill_1 15 rfl rfl)
theorem dX12_fill_41 : decode cX12_fill 41 = .ok (.iload 6, 2) := dk_21 6 (dk_at dksX12_fill_1 18 rfl rfl)
theorem dX12_fill_43 : decode cX12_fill 43 = .ok (.iaload, 1) := dk_46 (dk_at dksX12_fill_1 20 rfl rfl)
theorem dX12_fill_44 : decode cX12_fill 44 = .ok (.idiv, 1) := dk_108 (dk_at dksX12_fill_1 21 rfl rfl)
theorem dX12_fill_45 : decode cX12_fill 45 = .ok (.invokestatic 84, 3) := dk_184 0 84 (dk_at dksX12_fill_2 0 rfl rfl)
theorem dX12_fill_48 : decode cX12_fill 48 = .ok (.istore 7, 2) := dk_54 7 (dk_at dksX12_fill_2 3 rfl rfl)
theorem dX12_fill_50 : decode cX12_fill 50 = .ok (.iload_n 2, 1) := dk_28 (dk_at dksX12_fill_2 5 rfl rfl)
theorem dX12_fill_51 : decode cX12_fill 51 = .ok (.iload 7, 2) := dk_21 7 (dk_at dksX12_fill_2 6 rfl rfl)
theorem dX12_fill_53 : decode cX12_fill 53 = .ok (.getstatic 89, 3) := dk_178 0 89 (dk_at dksX12_fill_2 8 rfl rfl)
theorem dX12_fill_56 : decode cX12_fill 56 = .ok (.iload 6, 2) := dk_21 6 (dk_at dksX12_fill_2 11 rfl rfl)
theorem dX12_fill_58 : decode cX12_fill 58 = .ok (.iaload, 1) := dk_46 (dk_at dksX12_fill_2 13 rfl rfl)
theorem dX12_fill_59 : decode cX12_fill 59 = .ok (.imul, 1) := dk_104 (dk_at dksX12_fill_2 14 rfl rfl)
theorem dX12_fill_60 : decode cX12_fill 60 = .ok (.iadd, 1) := dk_96 (dk_at dksX12_fill_2 15 rfl rfl)
theorem dX12_fill_61 : decode cX12_fill 61 = .ok (.istore_n 2, 1) := dk_61 (dk_at dksX12_fill_2 16 rfl rfl)
theorem dX12_fill_62 : decode cX12_fill 62 = .ok (.iload_n 3, 1) := dk_29 (dk_at dksX12_fill_2 17 rfl rfl)
theorem dX12_fill_63 : decode cX12_fill 63 = .ok (.iload 7, 2) := dk_21 7 (dk_at dksX12_fill_2 18 rfl rfl)
theorem dX12_fill_65 : decode cX12_fill 65 = .ok (.aload_n 0, 1) := dk_42 (dk_at dksX12_fill_2 20 rfl rfl)
theorem dX12_fill_66 : decode cX12_fill 66 = .ok (.getfield 21, 3) := dk_180 0 21 (dk_at dksX12_fill_2 21 rfl rfl)
theorem dX12_fill_69 : decode cX12_fill 69 = .ok (.iload 6, 2) := dk_21 6 (dk_at dksX12_fill_3 0 rfl rfl)
theorem dX12_fill_71 : decode cX12_fill 71 = .ok (.iaload, 1) := dk_46 (dk_at dksX12_fill_3 2 rfl rfl)
theorem dX12_fill_72 : decode cX12_fill 72 = .ok (.imul, 1) := dk_104 (dk_at dksX12_fill_3 3 rfl rfl)
theorem dX12_fill_73 : decode cX12_fill 73 = .ok (.isub, 1) := dk_100 (dk_at dksX12_fill_3 4 rfl rfl)
theorem dX12_fill_74 : decode cX12_fill 74 = .ok (.istore_n 3, 1) := dk_62 (dk_at dksX12_fill_3 5 rfl rfl)
theorem dX12_fill_75 : decode cX12_fill 75 = .ok (.iload 4, 2) := dk_21 4 (dk_at dksX12_fill_3 6 rfl rfl)
theorem dX12_fill_77 : decode cX12_fill 77 = .ok (.iconst 1, 1) := dk_4 (dk_at dksX12_fill_3 8 rfl rfl)
theorem dX12_fill_78 : decode cX12_fill 78 = .ok (.iload 6, 2) := dk_21 6 (dk_at dksX12_fill_3 9 rfl rfl)
theorem dX12_fill_80 : decode cX12_fill 80 = .ok (.ishl, 1) := dk_120 (dk_at dksX12_fill_3 11 rfl rfl)
theorem dX12_fill_81 : decode cX12_fill 81 = .ok (.ior, 1) := dk_128 (dk_at dksX12_fill_3 12 rfl rfl)
theorem dX12_fill_82 : decode cX12_fill 82 = .ok (.istore 4, 2) := dk_54 4 (dk_at dksX12_fill_3 13 rfl rfl)
theorem dX12_fill_84 : decode cX12_fill 84 = .ok (.iinc 5 1, 3) := dk_132 5 1 (dk_at dksX12_fill_3 15 rfl rfl)
theorem dX12_fill_87 : decode cX12_fill 87 = .ok (.goto (-74), 3) := dk_167 255 182 (dk_at dksX12_fill_3 18 rfl rfl)
theorem dX12_fill_90 : decode cX12_fill 90 = .ok (.iload_n 2, 1) := dk_28 (dk_at dksX12_fill_3 21 rfl rfl)
theorem dX12_fill_91 : decode cX12_fill 91 = .ok (.ireturn, 1) := dk_172 (dk_at dksX12_fill_3 22 rfl rfl)
abbrev cX12_dearest : ByteArray := prog_8_method_13_code
def yX12_dearest : MethodName := ⟨RX12, "dearest", "(I)I"⟩
def dkwX12_dearest_2 : List UInt8 := [167, 255, 215, 28, 172]
abbrev dktX12_dearest_2 : List UInt8 := dkwX12_dearest_2 ++ []
def dkwX12_dearest_1 : List UInt8 := [159, 0, 18, 42, 180, 0, 28, 29, 46, 42, 180, 0, 28, 28, 46, 164, 0, 5, 29, 61, 132, 3, 1]
abbrev dktX12_dearest_1 : List UInt8 := dkwX12_dearest_1 ++ dktX12_dearest_2
def dkwX12_dearest_0 : List UInt8 := [2, 61, 3, 62, 29, 42, 180, 0, 41, 162, 0, 39, 27, 29, 122, 4, 126, 154, 0, 25, 28, 2]
abbrev dktX12_dearest_0 : List UInt8 := dkwX12_dearest_0 ++ dktX12_dearest_1
theorem dksX12_dearest_0 : cX12_dearest.data.toList.drop 0 = dktX12_dearest_0 := by decide +kernel
theorem dksX12_dearest_1 : cX12_dearest.data.toList.drop 22 = dktX12_dearest_1 := dk_seg dksX12_dearest_0 22 rfl rfl
theorem dksX12_dearest_2 : cX12_dearest.data.toList.drop 45 = dktX12_dearest_2 := dk_seg dksX12_dearest_1 23 rfl rfl
theorem dX12_dearest_0 : decode cX12_dearest 0 = .ok (.iconst (-1), 1) := dk_2 (dk_at dksX12_dearest_0 0 rfl rfl)
theorem dX12_dearest_1 : decode cX12_dearest 1 = .ok (.istore_n 2, 1) := dk_61 (dk_at dksX12_dearest_0 1 rfl rfl)
theorem dX12_dearest_2 : decode cX12_dearest 2 = .ok (.iconst 0, 1) := dk_3 (dk_at dksX12_dearest_0 2 rfl rfl)
theorem dX12_dearest_3 : decode cX12_dearest 3 = .ok (.istore_n 3, 1) := dk_62 (dk_at dksX12_dearest_0 3 rfl rfl)
theorem dX12_dearest_4 : decode cX12_dearest 4 = .ok (.iload_n 3, 1) := dk_29 (dk_at dksX12_dearest_0 4 rfl rfl)
theorem dX12_dearest_5 : decode cX12_dearest 5 = .ok (.aload_n 0, 1) := dk_42 (dk_at dksX12_dearest_0 5 rfl rfl)
theorem dX12_dearest_6 : decode cX12_dearest 6 = .ok (.getfield 41, 3) := dk_180 0 41 (dk_at dksX12_dearest_0 6 rfl rfl)
theorem dX12_dearest_9 : decode cX12_dearest 9 = .ok (.if_icmp .ge 39, 3) := dk_162 0 39 (dk_at dksX12_dearest_0 9 rfl rfl)
theorem dX12_dearest_12 : decode cX12_dearest 12 = .ok (.iload_n 1, 1) := dk_27 (dk_at dksX12_dearest_0 12 rfl rfl)
theorem dX12_dearest_13 : decode cX12_dearest 13 = .ok (.iload_n 3, 1) := dk_29 (dk_at dksX12_dearest_0 13 rfl rfl)
theorem dX12_dearest_14 : decode cX12_dearest 14 = .ok (.ishr, 1) := dk_122 (dk_at dksX12_dearest_0 14 rfl rfl)
theorem dX12_dearest_15 : decode cX12_dearest 15 = .ok (.iconst 1, 1) := dk_4 (dk_at dksX12_dearest_0 15 rfl rfl)
theorem dX12_dearest_16 : decode cX12_dearest 16 = .ok (.iand, 1) := dk_126 (dk_at dksX12_dearest_0 16 rfl rfl)
theorem dX12_dearest_17 : decode cX12_dearest 17 = .ok (.ifCond .ne 25, 3) := dk_154 0 25 (dk_at dksX12_dearest_0 17 rfl rfl)
theorem dX12_dearest_20 : decode cX12_dearest 20 = .ok (.iload_n 2, 1) := dk_28 (dk_at dksX12_dearest_0 20 rfl rfl)
theorem dX12_dearest_21 : decode cX12_dearest 21 = .ok (.iconst (-1), 1) := dk_2 (dk_at dksX12_dearest_0 21 rfl rfl)
theorem dX12_dearest_22 : decode cX12_dearest 22 = .ok (.if_icmp .eq 18, 3) := dk_159 0 18 (dk_at dksX12_dearest_1 0 rfl rfl)
theorem dX12_dearest_25 : decode cX12_dearest 25 = .ok (.aload_n 0, 1) := dk_42 (dk_at dksX12_dearest_1 3 rfl rfl)
theorem dX12_dearest_26 : decode cX12_dearest 26 = .ok (.getfield 28, 3) := dk_180 0 28 (dk_at dksX12_dearest_1 4 rfl rfl)
theorem dX12_dearest_29 : decode cX12_dearest 29 = .ok (.iload_n 3, 1) := dk_29 (dk_at dksX12_dearest_1 7 rfl rfl)
theorem dX12_dearest_30 : decode cX12_dearest 30 = .ok (.iaload, 1) := dk_46 (dk_at dksX12_dearest_1 8 rfl rfl)
theorem dX12_dearest_31 : decode cX12_dearest 31 = .ok (.aload_n 0, 1) := dk_42 (dk_at dksX12_dearest_1 9 rfl rfl)
theorem dX12_dearest_32 : decode cX12_dearest 32 = .ok (.getfield 28, 3) := dk_180 0 28 (dk_at dksX12_dearest_1 10 rfl rfl)
theorem dX12_dearest_35 : decode cX12_dearest 35 = .ok (.iload_n 2, 1) := dk_28 (dk_at dksX12_dearest_1 13 rfl rfl)
theorem dX12_dearest_36 : decode cX12_dearest 36 = .ok (.iaload, 1) := dk_46 (dk_at dksX12_dearest_1 14 rfl rfl)
theorem dX12_dearest_37 : decode cX12_dearest 37 = .ok (.if_icmp .le 5, 3) := dk_164 0 5 (dk_at dksX12_dearest_1 15 rfl rfl)
theorem dX12_dearest_40 : decode cX12_dearest 40 = .ok (.iload_n 3, 1) := dk_29 (dk_at dksX12_dearest_1 18 rfl rfl)
theorem dX12_dearest_41 : decode cX12_dearest 41 = .ok (.istore_n 2, 1) := dk_61 (dk_at dksX12_dearest_1 19 rfl rfl)
theorem dX12_dearest_42 : decode cX12_dearest 42 = .ok (.iinc 3 1, 3) := dk_132 3 1 (dk_at dksX12_dearest_1 20 rfl rfl)
theorem dX12_dearest_45 : decode cX12_dearest 45 = .ok (.goto (-41), 3) := dk_167 255 215 (dk_at dksX12_dearest_2 0 rfl rfl)
theorem dX12_dearest_48 : decode cX12_dearest 48 = .ok (.iload_n 2, 1) := dk_28 (dk_at dksX12_dearest_2 3 rfl rfl)
theorem dX12_dearest_49 : decode cX12_dearest 49 = .ok (.ireturn, 1) := dk_172 (dk_at dksX12_dearest_2 4 rfl rfl)
abbrev cX12_mean : ByteArray := prog_8_method_28_code
def yX12_mean : MethodName := ⟨RX12, "mean", "(LSendTheBox$Chooser;II)J"⟩
def dkwX12_mean_4 : List UInt8 := [132, 6, 1, 167, 255, 212, 132, 5, 1, 167, 255, 197, 25, 4, 16, 125, 28, 104, 29, 96, 47, 173]
abbrev dktX12_mean_4 : List UInt8 := dkwX12_mean_4 ++ []
def dkwX12_mean_3 : List UInt8 := [96, 42, 21, 6, 43, 42, 21, 6, 21, 5, 185, 0, 150, 4, 0, 21, 5, 25, 4, 182, 0, 141, 80]
abbrev dktX12_mean_3 : List UInt8 := dkwX12_mean_3 ++ dktX12_mean_4
def dkwX12_mean_2 : List UInt8 := [163, 0, 59, 3, 54, 6, 21, 6, 42, 182, 0, 117, 162, 0, 41, 25, 4, 16, 125, 21, 5, 104, 21, 6]
abbrev dktX12_mean_2 : List UInt8 := dkwX12_mean_2 ++ dktX12_mean_3
def dkwX12_mean_1 : List UInt8 := [21, 5, 42, 21, 5, 182, 0, 121, 133, 80, 132, 5, 1, 167, 255, 232, 4, 54, 5, 21, 5, 28]
abbrev dktX12_mean_1 : List UInt8 := dkwX12_mean_1 ++ dktX12_mean_2
def dkwX12_mean_0 : List UInt8 := [42, 182, 0, 108, 42, 180, 0, 56, 58, 4, 3, 54, 5, 21, 5, 42, 182, 0, 117, 162, 0, 21, 25, 4]
abbrev dktX12_mean_0 : List UInt8 := dkwX12_mean_0 ++ dktX12_mean_1
theorem dksX12_mean_0 : cX12_mean.data.toList.drop 0 = dktX12_mean_0 := by decide +kernel
theorem dksX12_mean_1 : cX12_mean.data.toList.drop 24 = dktX12_mean_1 := dk_seg dksX12_mean_0 24 rfl rfl
theorem dksX12_mean_2 : cX12_mean.data.toList.drop 46 = dktX12_mean_2 := dk_seg dksX12_mean_1 22 rfl rfl
theorem dksX12_mean_3 : cX12_mean.data.toList.drop 70 = dktX12_mean_3 := dk_seg dksX12_mean_2 24 rfl rfl
theorem dksX12_mean_4 : cX12_mean.data.toList.drop 93 = dktX12_mean_4 := dk_seg dksX12_mean_3 23 rfl rfl
theorem dX12_mean_0 : decode cX12_mean 0 = .ok (.aload_n 0, 1) := dk_42 (dk_at dksX12_mean_0 0 rfl rfl)
theorem dX12_mean_1 : decode cX12_mean 1 = .ok (.invokevirtual 108, 3) := dk_182 0 108 (dk_at dksX12_mean_0 1 rfl rfl)
theorem dX12_mean_4 : decode cX12_mean 4 = .ok (.aload_n 0, 1) := dk_42 (dk_at dksX12_mean_0 4 rfl rfl)
theorem dX12_mean_5 : decode cX12_mean 5 = .ok (.getfield 56, 3) := dk_180 0 56 (dk_at dksX12_mean_0 5 rfl rfl)
theorem dX12_mean_8 : decode cX12_mean 8 = .ok (.astore 4, 2) := dk_58 4 (dk_at dksX12_mean_0 8 rfl rfl)
theorem dX12_mean_10 : decode cX12_mean 10 = .ok (.iconst 0, 1) := dk_3 (dk_at dksX12_mean_0 10 rfl rfl)
theorem dX12_mean_11 : decode cX12_mean 11 = .ok (.istore 5, 2) := dk_54 5 (dk_at dksX12_mean_0 11 rfl rfl)
theorem dX12_mean_13 : decode cX12_mean 13 = .ok (.iload 5, 2) := dk_21 5 (dk_at dksX12_mean_0 13 rfl rfl)
theorem dX12_mean_15 : decode cX12_mean 15 = .ok (.aload_n 0, 1) := dk_42 (dk_at dksX12_mean_0 15 rfl rfl)
theorem dX12_mean_16 : decode cX12_mean 16 = .ok (.invokevirtual 117, 3) := dk_182 0 117 (dk_at dksX12_mean_0 16 rfl rfl)
theorem dX12_mean_19 : decode cX12_mean 19 = .ok (.if_icmp .ge 21, 3) := dk_162 0 21 (dk_at dksX12_mean_0 19 rfl rfl)
theorem dX12_mean_22 : decode cX12_mean 22 = .ok (.aload 4, 2) := dk_25 4 (dk_at dksX12_mean_0 22 rfl rfl)
theorem dX12_mean_24 : decode cX12_mean 24 = .ok (.iload 5, 2) := dk_21 5 (dk_at dksX12_mean_1 0 rfl rfl)
theorem dX12_mean_26 : decode cX12_mean 26 = .ok (.aload_n 0, 1) := dk_42 (dk_at dksX12_mean_1 2 rfl rfl)
theorem dX12_mean_27 : decode cX12_mean 27 = .ok (.iload 5, 2) := dk_21 5 (dk_at dksX12_mean_1 3 rfl rfl)
theorem dX12_mean_29 : decode cX12_mean 29 = .ok (.invokevirtual 121, 3) := dk_182 0 121 (dk_at dksX12_mean_1 5 rfl rfl)
theorem dX12_mean_32 : decode cX12_mean 32 = .ok (.i2l, 1) := dk_133 (dk_at dksX12_mean_1 8 rfl rfl)
theorem dX12_mean_33 : decode cX12_mean 33 = .ok (.lastore, 1) := dk_80 (dk_at dksX12_mean_1 9 rfl rfl)
theorem dX12_mean_34 : decode cX12_mean 34 = .ok (.iinc 5 1, 3) := dk_132 5 1 (dk_at dksX12_mean_1 10 rfl rfl)
theorem dX12_mean_37 : decode cX12_mean 37 = .ok (.goto (-24), 3) := dk_167 255 232 (dk_at dksX12_mean_1 13 rfl rfl)
theorem dX12_mean_40 : decode cX12_mean 40 = .ok (.iconst 1, 1) := dk_4 (dk_at dksX12_mean_1 16 rfl rfl)
theorem dX12_mean_41 : decode cX12_mean 41 = .ok (.istore 5, 2) := dk_54 5 (dk_at dksX12_mean_1 17 rfl rfl)
theorem dX12_mean_43 : decode cX12_mean 43 = .ok (.iload 5, 2) := dk_21 5 (dk_at dksX12_mean_1 19 rfl rfl)
theorem dX12_mean_45 : decode cX12_mean 45 = .ok (.iload_n 2, 1) := dk_28 (dk_at dksX12_mean_1 21 rfl rfl)
theorem dX12_mean_46 : decode cX12_mean 46 = .ok (.if_icmp .gt 59, 3) := dk_163 0 59 (dk_at dksX12_mean_2 0 rfl rfl)
theorem dX12_mean_49 : decode cX12_mean 49 = .ok (.iconst 0, 1) := dk_3 (dk_at dksX12_mean_2 3 rfl rfl)
theorem dX12_mean_50 : decode cX12_mean 50 = .ok (.istore 6, 2) := dk_54 6 (dk_at dksX12_mean_2 4 rfl rfl)
theorem dX12_mean_52 : decode cX12_mean 52 = .ok (.iload 6, 2) := dk_21 6 (dk_at dksX12_mean_2 6 rfl rfl)
theorem dX12_mean_54 : decode cX12_mean 54 = .ok (.aload_n 0, 1) := dk_42 (dk_at dksX12_mean_2 8 rfl rfl)
theorem dX12_mean_55 : decode cX12_mean 55 = .ok (.invokevirtual 117, 3) := dk_182 0 117 (dk_at dksX12_mean_2 9 rfl rfl)
theorem dX12_mean_58 : decode cX12_mean 58 = .ok (.if_icmp .ge 41, 3) := dk_162 0 41 (dk_at dksX12_mean_2 12 rfl rfl)
theorem dX12_mean_61 : decode cX12_mean 61 = .ok (.aload 4, 2) := dk_25 4 (dk_at dksX12_mean_2 15 rfl rfl)
theorem dX12_mean_63 : decode cX12_mean 63 = .ok (.bipush 125, 2) := dk_16 125 (dk_at dksX12_mean_2 17 rfl rfl)
theorem dX12_mean_65 : decode cX12_mean 65 = .ok (.iload 5, 2) := dk_21 5 (dk_at dksX12_mean_2 19 rfl rfl)
theorem dX12_mean_67 : decode cX12_mean 67 = .ok (.imul, 1) := dk_104 (dk_at dksX12_mean_2 21 rfl rfl)
theorem dX12_mean_68 : decode cX12_mean 68 = .ok (.iload 6, 2) := dk_21 6 (dk_at dksX12_mean_2 22 rfl rfl)
theorem dX12_mean_70 : decode cX12_mean 70 = .ok (.iadd, 1) := dk_96 (dk_at dksX12_mean_3 0 rfl rfl)
theorem dX12_mean_71 : decode cX12_mean 71 = .ok (.aload_n 0, 1) := dk_42 (dk_at dksX12_mean_3 1 rfl rfl)
theorem dX12_mean_72 : decode cX12_mean 72 = .ok (.iload 6, 2) := dk_21 6 (dk_at dksX12_mean_3 2 rfl rfl)
theorem dX12_mean_74 : decode cX12_mean 74 = .ok (.aload_n 1, 1) := dk_43 (dk_at dksX12_mean_3 4 rfl rfl)
theorem dX12_mean_75 : decode cX12_mean 75 = .ok (.aload_n 0, 1) := dk_42 (dk_at dksX12_mean_3 5 rfl rfl)
theorem dX12_mean_76 : decode cX12_mean 76 = .ok (.iload 6, 2) := dk_21 6 (dk_at dksX12_mean_3 6 rfl rfl)
theorem dX12_mean_78 : decode cX12_mean 78 = .ok (.iload 5, 2) := dk_21 5 (dk_at dksX12_mean_3 8 rfl rfl)
theorem dX12_mean_80 : decode cX12_mean 80 = .ok (.invokeinterface 150 4, 5) := by decide +kernel
theorem dX12_mean_85 : decode cX12_mean 85 = .ok (.iload 5, 2) := dk_21 5 (dk_at dksX12_mean_3 15 rfl rfl)
theorem dX12_mean_87 : decode cX12_mean 87 = .ok (.aload 4, 2) := dk_25 4 (dk_at dksX12_mean_3 17 rfl rfl)
theorem dX12_mean_89 : decode cX12_mean 89 = .ok (.invokevirtual 141, 3) := dk_182 0 141 (dk_at dksX12_mean_3 19 rfl rfl)
theorem dX12_mean_92 : decode cX12_mean 92 = .ok (.lastore, 1) := dk_80 (dk_at dksX12_mean_3 22 rfl rfl)
theorem dX12_mean_93 : decode cX12_mean 93 = .ok (.iinc 6 1, 3) := dk_132 6 1 (dk_at dksX12_mean_4 0 rfl rfl)
theorem dX12_mean_96 : decode cX12_mean 96 = .ok (.goto (-44), 3) := dk_167 255 212 (dk_at dksX12_mean_4 3 rfl rfl)
theorem dX12_mean_99 : decode cX12_mean 99 = .ok (.iinc 5 1, 3) := dk_132 5 1 (dk_at dksX12_mean_4 6 rfl rfl)
theorem dX12_mean_102 : decode cX12_mean 102 = .ok (.goto (-59), 3) := dk_167 255 197 (dk_at dksX12_mean_4 9 rfl rfl)
theorem dX12_mean_105 : decode cX12_mean 105 = .ok (.aload 4, 2) := dk_25 4 (dk_at dksX12_mean_4 12 rfl rfl)
theorem dX12_mean_107 : decode cX12_mean 107 = .ok (.bipush 125, 2) := dk_16 125 (dk_at dksX12_mean_4 14 rfl rfl)
theorem dX12_mean_109 : decode cX12_mean 109 = .ok (.iload_n 2, 1) := dk_28 (dk_at dksX12_mean_4 16 rfl rfl)
theorem dX12_mean_110 : decode cX12_mean 110 = .ok (.imul, 1) := dk_104 (dk_at dksX12_mean_4 17 rfl rfl)
theorem dX12_mean_111 : decode cX12_mean 111 = .ok (.iload_n 3, 1) := dk_29 (dk_at dksX12_mean_4 18 rfl rfl)
theorem dX12_mean_112 : decode cX12_mean 112 = .ok (.iadd, 1) := dk_96 (dk_at dksX12_mean_4 19 rfl rfl)
theorem dX12_mean_113 : decode cX12_mean 113 = .ok (.laload, 1) := dk_47 (dk_at dksX12_mean_4 20 rfl rfl)
theorem dX12_mean_114 : decode cX12_mean 114 = .ok (.lreturn, 1) := dk_173 (dk_at dksX12_mean_4 21 rfl rfl)
abbrev cX12_sending : ByteArray := prog_8_method_17_code
def yX12_sending : MethodName := ⟨RX12, "sending", "(III[J)J"⟩
def dkwX12_sending_2 : List UInt8 := [105, 97, 173]
abbrev dktX12_sending_2 : List UInt8 := dkwX12_sending_2 ++ []
def dkwX12_sending_1 : List UInt8 := [42, 180, 0, 38, 133, 22, 5, 105, 7, 42, 180, 0, 38, 100, 133, 42, 27, 28, 29, 25, 4, 182, 0, 102]
abbrev dktX12_sending_1 : List UInt8 := dkwX12_sending_1 ++ dktX12_sending_2
def dkwX12_sending_0 : List UInt8 := [42, 27, 3, 29, 25, 4, 182, 0, 102, 55, 5, 28, 154, 0, 12, 20, 0, 106, 22, 5, 105, 167, 0, 29]
abbrev dktX12_sending_0 : List UInt8 := dkwX12_sending_0 ++ dktX12_sending_1
theorem dksX12_sending_0 : cX12_sending.data.toList.drop 0 = dktX12_sending_0 := by decide +kernel
theorem dksX12_sending_1 : cX12_sending.data.toList.drop 24 = dktX12_sending_1 := dk_seg dksX12_sending_0 24 rfl rfl
theorem dksX12_sending_2 : cX12_sending.data.toList.drop 48 = dktX12_sending_2 := dk_seg dksX12_sending_1 24 rfl rfl
theorem dX12_sending_0 : decode cX12_sending 0 = .ok (.aload_n 0, 1) := dk_42 (dk_at dksX12_sending_0 0 rfl rfl)
theorem dX12_sending_1 : decode cX12_sending 1 = .ok (.iload_n 1, 1) := dk_27 (dk_at dksX12_sending_0 1 rfl rfl)
theorem dX12_sending_2 : decode cX12_sending 2 = .ok (.iconst 0, 1) := dk_3 (dk_at dksX12_sending_0 2 rfl rfl)
theorem dX12_sending_3 : decode cX12_sending 3 = .ok (.iload_n 3, 1) := dk_29 (dk_at dksX12_sending_0 3 rfl rfl)
theorem dX12_sending_4 : decode cX12_sending 4 = .ok (.aload 4, 2) := dk_25 4 (dk_at dksX12_sending_0 4 rfl rfl)
theorem dX12_sending_6 : decode cX12_sending 6 = .ok (.invokevirtual 102, 3) := dk_182 0 102 (dk_at dksX12_sending_0 6 rfl rfl)
theorem dX12_sending_9 : decode cX12_sending 9 = .ok (.lstore 5, 2) := dk_55 5 (dk_at dksX12_sending_0 9 rfl rfl)
theorem dX12_sending_11 : decode cX12_sending 11 = .ok (.iload_n 2, 1) := dk_28 (dk_at dksX12_sending_0 11 rfl rfl)
theorem dX12_sending_12 : decode cX12_sending 12 = .ok (.ifCond .ne 12, 3) := dk_154 0 12 (dk_at dksX12_sending_0 12 rfl rfl)
theorem dX12_sending_15 : decode cX12_sending 15 = .ok (.ldc2_w 106, 3) := dk_20 0 106 (dk_at dksX12_sending_0 15 rfl rfl)
theorem dX12_sending_18 : decode cX12_sending 18 = .ok (.lload 5, 2) := dk_22 5 (dk_at dksX12_sending_0 18 rfl rfl)
theorem dX12_sending_20 : decode cX12_sending 20 = .ok (.lmul, 1) := dk_105 (dk_at dksX12_sending_0 20 rfl rfl)
theorem dX12_sending_21 : decode cX12_sending 21 = .ok (.goto 29, 3) := dk_167 0 29 (dk_at dksX12_sending_0 21 rfl rfl)
theorem dX12_sending_24 : decode cX12_sending 24 = .ok (.aload_n 0, 1) := dk_42 (dk_at dksX12_sending_1 0 rfl rfl)
theorem dX12_sending_25 : decode cX12_sending 25 = .ok (.getfield 38, 3) := dk_180 0 38 (dk_at dksX12_sending_1 1 rfl rfl)
theorem dX12_sending_28 : decode cX12_sending 28 = .ok (.i2l, 1) := dk_133 (dk_at dksX12_sending_1 4 rfl rfl)
theorem dX12_sending_29 : decode cX12_sending 29 = .ok (.lload 5, 2) := dk_22 5 (dk_at dksX12_sending_1 5 rfl rfl)
theorem dX12_sending_31 : decode cX12_sending 31 = .ok (.lmul, 1) := dk_105 (dk_at dksX12_sending_1 7 rfl rfl)
theorem dX12_sending_32 : decode cX12_sending 32 = .ok (.iconst 4, 1) := dk_7 (dk_at dksX12_sending_1 8 rfl rfl)
theorem dX12_sending_33 : decode cX12_sending 33 = .ok (.aload_n 0, 1) := dk_42 (dk_at dksX12_sending_1 9 rfl rfl)
theorem dX12_sending_34 : decode cX12_sending 34 = .ok (.getfield 38, 3) := dk_180 0 38 (dk_at dksX12_sending_1 10 rfl rfl)
theorem dX12_sending_37 : decode cX12_sending 37 = .ok (.isub, 1) := dk_100 (dk_at dksX12_sending_1 13 rfl rfl)
theorem dX12_sending_38 : decode cX12_sending 38 = .ok (.i2l, 1) := dk_133 (dk_at dksX12_sending_1 14 rfl rfl)
theorem dX12_sending_39 : decode cX12_sending 39 = .ok (.aload_n 0, 1) := dk_42 (dk_at dksX12_sending_1 15 rfl rfl)
theorem dX12_sending_40 : decode cX12_sending 40 = .ok (.iload_n 1, 1) := dk_27 (dk_at dksX12_sending_1 16 rfl rfl)
theorem dX12_sending_41 : decode cX12_sending 41 = .ok (.iload_n 2, 1) := dk_28 (dk_at dksX12_sending_1 17 rfl rfl)
theorem dX12_sending_42 : decode cX12_sending 42 = .ok (.iload_n 3, 1) := dk_29 (dk_at dksX12_sending_1 18 rfl rfl)
theorem dX12_sending_43 : decode cX12_sending 43 = .ok (.aload 4, 2) := dk_25 4 (dk_at dksX12_sending_1 19 rfl rfl)
theorem dX12_sending_45 : decode cX12_sending 45 = .ok (.invokevirtual 102, 3) := dk_182 0 102 (dk_at dksX12_sending_1 21 rfl rfl)
theorem dX12_sending_48 : decode cX12_sending 48 = .ok (.lmul, 1) := dk_105 (dk_at dksX12_sending_2 0 rfl rfl)
theorem dX12_sending_49 : decode cX12_sending 49 = .ok (.ladd, 1) := dk_97 (dk_at dksX12_sending_2 1 rfl rfl)
theorem dX12_sending_50 : decode cX12_sending 50 = .ok (.lreturn, 1) := dk_173 (dk_at dksX12_sending_2 2 rfl rfl)
abbrev cX12_putting : ByteArray := prog_8_method_16_code
def yX12_putting : MethodName := ⟨RX12, "putting", "(III[J)J"⟩
def dkwX12_putting_2 : List UInt8 := [105, 42, 21, 5, 25, 4, 16, 125, 29, 4, 100, 104, 22, 6, 182, 0, 99, 97, 173]
abbrev dktX12_putting_2 : List UInt8 := dkwX12_putting_2 ++ []
def dkwX12_putting_1 : List UInt8 := [180, 0, 15, 42, 21, 5, 182, 0, 96, 96, 133, 55, 8, 22, 8, 22, 6, 5, 42, 180, 0, 41, 104, 121]
abbrev dktX12_putting_1 : List UInt8 := dkwX12_putting_1 ++ dktX12_putting_2
def dkwX12_putting_0 : List UInt8 := [27, 28, 100, 54, 5, 42, 29, 4, 100, 182, 0, 92, 55, 6, 28, 154, 0, 7, 3, 167, 0, 7, 42]
abbrev dktX12_putting_0 : List UInt8 := dkwX12_putting_0 ++ dktX12_putting_1
theorem dksX12_putting_0 : cX12_putting.data.toList.drop 0 = dktX12_putting_0 := by decide +kernel
theorem dksX12_putting_1 : cX12_putting.data.toList.drop 23 = dktX12_putting_1 := dk_seg dksX12_putting_0 23 rfl rfl
theorem dksX12_putting_2 : cX12_putting.data.toList.drop 47 = dktX12_putting_2 := dk_seg dksX12_putting_1 24 rfl rfl
theorem dX12_putting_0 : decode cX12_putting 0 = .ok (.iload_n 1, 1) := dk_27 (dk_at dksX12_putting_0 0 rfl rfl)
theorem dX12_putting_1 : decode cX12_putting 1 = .ok (.iload_n 2, 1) := dk_28 (dk_at dksX12_putting_0 1 rfl rfl)
theorem dX12_putting_2 : decode cX12_putting 2 = .ok (.isub, 1) := dk_100 (dk_at dksX12_putting_0 2 rfl rfl)
theorem dX12_putting_3 : decode cX12_putting 3 = .ok (.istore 5, 2) := dk_54 5 (dk_at dksX12_putting_0 3 rfl rfl)
theorem dX12_putting_5 : decode cX12_putting 5 = .ok (.aload_n 0, 1) := dk_42 (dk_at dksX12_putting_0 5 rfl rfl)
theorem dX12_putting_6 : decode cX12_putting 6 = .ok (.iload_n 3, 1) := dk_29 (dk_at dksX12_putting_0 6 rfl rfl)
theorem dX12_putting_7 : decode cX12_putting 7 = .ok (.iconst 1, 1) := dk_4 (dk_at dksX12_putting_0 7 rfl rfl)
theorem dX12_putting_8 : decode cX12_putting 8 = .ok (.isub, 1) := dk_100 (dk_at dksX12_putting_0 8 rfl rfl)
theorem dX12_putting_9 : decode cX12_putting 9 = .ok (.invokevirtual 92, 3) := dk_182 0 92 (dk_at dksX12_putting_0 9 rfl rfl)
theorem dX12_putting_12 : decode cX12_putting 12 = .ok (.lstore 6, 2) := dk_55 6 (dk_at dksX12_putting_0 12 rfl rfl)
theorem dX12_putting_14 : decode cX12_putting 14 = .ok (.iload_n 2, 1) := dk_28 (dk_at dksX12_putting_0 14 rfl rfl)
theorem dX12_putting_15 : decode cX12_putting 15 = .ok (.ifCond .ne 7, 3) := dk_154 0 7 (dk_at dksX12_putting_0 15 rfl rfl)
theorem dX12_putting_18 : decode cX12_putting 18 = .ok (.iconst 0, 1) := dk_3 (dk_at dksX12_putting_0 18 rfl rfl)
theorem dX12_putting_19 : decode cX12_putting 19 = .ok (.goto 7, 3) := dk_167 0 7 (dk_at dksX12_putting_0 19 rfl rfl)
theorem dX12_putting_22 : decode cX12_putting 22 = .ok (.aload_n 0, 1) := dk_42 (dk_at dksX12_putting_0 22 rfl rfl)
theorem dX12_putting_23 : decode cX12_putting 23 = .ok (.getfield 15, 3) := dk_180 0 15 (dk_at dksX12_putting_1 0 rfl rfl)
theorem dX12_putting_26 : decode cX12_putting 26 = .ok (.aload_n 0, 1) := dk_42 (dk_at dksX12_putting_1 3 rfl rfl)
theorem dX12_putting_27 : decode cX12_putting 27 = .ok (.iload 5, 2) := dk_21 5 (dk_at dksX12_putting_1 4 rfl rfl)
theorem dX12_putting_29 : decode cX12_putting 29 = .ok (.invokevirtual 96, 3) := dk_182 0 96 (dk_at dksX12_putting_1 6 rfl rfl)
theorem dX12_putting_32 : decode cX12_putting 32 = .ok (.iadd, 1) := dk_96 (dk_at dksX12_putting_1 9 rfl rfl)
theorem dX12_putting_33 : decode cX12_putting 33 = .ok (.i2l, 1) := dk_133 (dk_at dksX12_putting_1 10 rfl rfl)
theorem dX12_putting_34 : decode cX12_putting 34 = .ok (.lstore 8, 2) := dk_55 8 (dk_at dksX12_putting_1 11 rfl rfl)
theorem dX12_putting_36 : decode cX12_putting 36 = .ok (.lload 8, 2) := dk_22 8 (dk_at dksX12_putting_1 13 rfl rfl)
theorem dX12_putting_38 : decode cX12_putting 38 = .ok (.lload 6, 2) := dk_22 6 (dk_at dksX12_putting_1 15 rfl rfl)
theorem dX12_putting_40 : decode cX12_putting 40 = .ok (.iconst 2, 1) := dk_5 (dk_at dksX12_putting_1 17 rfl rfl)
theorem dX12_putting_41 : decode cX12_putting 41 = .ok (.aload_n 0, 1) := dk_42 (dk_at dksX12_putting_1 18 rfl rfl)
theorem dX12_putting_42 : decode cX12_putting 42 = .ok (.getfield 41, 3) := dk_180 0 41 (dk_at dksX12_putting_1 19 rfl rfl)
theorem dX12_putting_45 : decode cX12_putting 45 = .ok (.imul, 1) := dk_104 (dk_at dksX12_putting_1 22 rfl rfl)
theorem dX12_putting_46 : decode cX12_putting 46 = .ok (.lshl, 1) := dk_121 (dk_at dksX12_putting_1 23 rfl rfl)
theorem dX12_putting_47 : decode cX12_putting 47 = .ok (.lmul, 1) := dk_105 (dk_at dksX12_putting_2 0 rfl rfl)
theorem dX12_putting_48 : decode cX12_putting 48 = .ok (.aload_n 0, 1) := dk_42 (dk_at dksX12_putting_2 1 rfl rfl)
theorem dX12_putting_49 : decode cX12_putting 49 = .ok (.iload 5, 2) := dk_21 5 (dk_at dksX12_putting_2 2 rfl rfl)
theorem dX12_putting_51 : decode cX12_putting 51 = .ok (.aload 4, 2) := dk_25 4 (dk_at dksX12_putting_2 4 rfl rfl)
theorem dX12_putting_53 : decode cX12_putting 53 = .ok (.bipush 125, 2) := dk_16 125 (dk_at dksX12_putting_2 6 rfl rfl)
theorem dX12_putting_55 : decode cX12_putting 55 = .ok (.iload_n 3, 1) := dk_29 (dk_at dksX12_putting_2 8 rfl rfl)
theorem dX12_putting_56 : decode cX12_putting 56 = .ok (.iconst 1, 1) := dk_4 (dk_at dksX12_putting_2 9 rfl rfl)
theorem dX12_putting_57 : decode cX12_putting 57 = .ok (.isub, 1) := dk_100 (dk_at dksX12_putting_2 10 rfl rfl)
theorem dX12_putting_58 : decode cX12_putting 58 = .ok (.imul, 1) := dk_104 (dk_at dksX12_putting_2 11 rfl rfl)
theorem dX12_putting_59 : decode cX12_putting 59 = .ok (.lload 6, 2) := dk_22 6 (dk_at dksX12_putting_2 12 rfl rfl)
theorem dX12_putting_61 : decode cX12_putting 61 = .ok (.invokevirtual 99, 3) := dk_182 0 99 (dk_at dksX12_putting_2 14 rfl rfl)
theorem dX12_putting_64 : decode cX12_putting 64 = .ok (.ladd, 1) := dk_97 (dk_at dksX12_putting_2 17 rfl rfl)
theorem dX12_putting_65 : decode cX12_putting 65 = .ok (.lreturn, 1) := dk_173 (dk_at dksX12_putting_2 18 rfl rfl)
abbrev cX12_chances : ByteArray := prog_8_method_25_code
def yX12_chances : MethodName := ⟨RX12, "chances", "(LSendTheBox$Chooser;I)[J"⟩
def dkwX12_chances_6 : List UInt8 := [167, 255, 147, 45, 176]
abbrev dktX12_chances_6 : List UInt8 := dkwX12_chances_6 ++ []
def dkwX12_chances_5 : List UInt8 := [182, 0, 156, 132, 6, 1, 167, 255, 178, 45, 58, 6, 25, 4, 78, 25, 6, 58, 4, 132, 5, 255]
abbrev dktX12_chances_5 : List UInt8 := dkwX12_chances_5 ++ dktX12_chances_6
def dkwX12_chances_4 : List UInt8 := [182, 0, 156, 42, 25, 4, 21, 6, 21, 7, 100, 7, 42, 180, 0, 38, 100, 133, 45, 21, 6, 47, 105]
abbrev dktX12_chances_4 : List UInt8 := dkwX12_chances_4 ++ dktX12_chances_5
def dkwX12_chances_3 : List UInt8 := [185, 0, 150, 4, 0, 54, 7, 42, 25, 4, 21, 6, 42, 180, 0, 38, 133, 45, 21, 6, 47, 105]
abbrev dktX12_chances_3 : List UInt8 := dkwX12_chances_3 ++ dktX12_chances_4
def dkwX12_chances_2 : List UInt8 := [182, 0, 117, 162, 0, 75, 45, 21, 6, 47, 9, 148, 154, 0, 6, 167, 0, 57, 43, 42, 21, 6, 21, 5]
abbrev dktX12_chances_2 : List UInt8 := dkwX12_chances_2 ++ dktX12_chances_3
def dkwX12_chances_1 : List UInt8 := [42, 180, 0, 9, 54, 5, 21, 5, 28, 164, 0, 109, 25, 4, 9, 184, 0, 144, 3, 54, 6, 21, 6, 42]
abbrev dktX12_chances_1 : List UInt8 := dkwX12_chances_1 ++ dktX12_chances_2
def dkwX12_chances_0 : List UInt8 := [42, 182, 0, 108, 42, 180, 0, 63, 78, 42, 180, 0, 66, 58, 4, 45, 9, 184, 0, 144, 45, 3, 10, 80]
abbrev dktX12_chances_0 : List UInt8 := dkwX12_chances_0 ++ dktX12_chances_1
theorem dksX12_chances_0 : cX12_chances.data.toList.drop 0 = dktX12_chances_0 := by decide +kernel
theorem dksX12_chances_1 : cX12_chances.data.toList.drop 24 = dktX12_chances_1 := dk_seg dksX12_chances_0 24 rfl rfl
theorem dksX12_chances_2 : cX12_chances.data.toList.drop 48 = dktX12_chances_2 := dk_seg dksX12_chances_1 24 rfl rfl
theorem dksX12_chances_3 : cX12_chances.data.toList.drop 72 = dktX12_chances_3 := dk_seg dksX12_chances_2 24 rfl rfl
theorem dksX12_chances_4 : cX12_chances.data.toList.drop 94 = dktX12_chances_4 := dk_seg dksX12_chances_3 22 rfl rfl
theorem dksX12_chances_5 : cX12_chances.data.toList.drop 117 = dktX12_chances_5 := dk_seg dksX12_chances_4 23 rfl rfl
theorem dksX12_chances_6 : cX12_chances.data.toList.drop 139 = dktX12_chances_6 := dk_seg dksX12_chances_5 22 rfl rfl
theorem dX12_chances_0 : decode cX12_chances 0 = .ok (.aload_n 0, 1) := dk_42 (dk_at dksX12_chances_0 0 rfl rfl)
theorem dX12_chances_1 : decode cX12_chances 1 = .ok (.invokevirtual 108, 3) := dk_182 0 108 (dk_at dksX12_chances_0 1 rfl rfl)
theorem dX12_chances_4 : decode cX12_chances 4 = .ok (.aload_n 0, 1) := dk_42 (dk_at dksX12_chances_0 4 rfl rfl)
theorem dX12_chances_5 : decode cX12_chances 5 = .ok (.getfield 63, 3) := dk_180 0 63 (dk_at dksX12_chances_0 5 rfl rfl)
theorem dX12_chances_8 : decode cX12_chances 8 = .ok (.astore_n 3, 1) := dk_78 (dk_at dksX12_chances_0 8 rfl rfl)
theorem dX12_chances_9 : decode cX12_chances 9 = .ok (.aload_n 0, 1) := dk_42 (dk_at dksX12_chances_0 9 rfl rfl)
theorem dX12_chances_10 : decode cX12_chances 10 = .ok (.getfield 66, 3) := dk_180 0 66 (dk_at dksX12_chances_0 10 rfl rfl)
theorem dX12_chances_13 : decode cX12_chances 13 = .ok (.astore 4, 2) := dk_58 4 (dk_at dksX12_chances_0 13 rfl rfl)
theorem dX12_chances_15 : decode cX12_chances 15 = .ok (.aload_n 3, 1) := dk_45 (dk_at dksX12_chances_0 15 rfl rfl)
theorem dX12_chances_16 : decode cX12_chances 16 = .ok (.lconst 0, 1) := dk_9 (dk_at dksX12_chances_0 16 rfl rfl)
theorem dX12_chances_17 : decode cX12_chances 17 = .ok (.invokestatic 144, 3) := dk_184 0 144 (dk_at dksX12_chances_0 17 rfl rfl)
theorem dX12_chances_20 : decode cX12_chances 20 = .ok (.aload_n 3, 1) := dk_45 (dk_at dksX12_chances_0 20 rfl rfl)
theorem dX12_chances_21 : decode cX12_chances 21 = .ok (.iconst 0, 1) := dk_3 (dk_at dksX12_chances_0 21 rfl rfl)
theorem dX12_chances_22 : decode cX12_chances 22 = .ok (.lconst 1, 1) := dk_10 (dk_at dksX12_chances_0 22 rfl rfl)
theorem dX12_chances_23 : decode cX12_chances 23 = .ok (.lastore, 1) := dk_80 (dk_at dksX12_chances_0 23 rfl rfl)
theorem dX12_chances_24 : decode cX12_chances 24 = .ok (.aload_n 0, 1) := dk_42 (dk_at dksX12_chances_1 0 rfl rfl)
theorem dX12_chances_25 : decode cX12_chances 25 = .ok (.getfield 9, 3) := dk_180 0 9 (dk_at dksX12_chances_1 1 rfl rfl)
theorem dX12_chances_28 : decode cX12_chances 28 = .ok (.istore 5, 2) := dk_54 5 (dk_at dksX12_chances_1 4 rfl rfl)
theorem dX12_chances_30 : decode cX12_chances 30 = .ok (.iload 5, 2) := dk_21 5 (dk_at dksX12_chances_1 6 rfl rfl)
theorem dX12_chances_32 : decode cX12_chances 32 = .ok (.iload_n 2, 1) := dk_28 (dk_at dksX12_chances_1 8 rfl rfl)
theorem dX12_chances_33 : decode cX12_chances 33 = .ok (.if_icmp .le 109, 3) := dk_164 0 109 (dk_at dksX12_chances_1 9 rfl rfl)
theorem dX12_chances_36 : decode cX12_chances 36 = .ok (.aload 4, 2) := dk_25 4 (dk_at dksX12_chances_1 12 rfl rfl)
theorem dX12_chances_38 : decode cX12_chances 38 = .ok (.lconst 0, 1) := dk_9 (dk_at dksX12_chances_1 14 rfl rfl)
theorem dX12_chances_39 : decode cX12_chances 39 = .ok (.invokestatic 144, 3) := dk_184 0 144 (dk_at dksX12_chances_1 15 rfl rfl)
theorem dX12_chances_42 : decode cX12_chances 42 = .ok (.iconst 0, 1) := dk_3 (dk_at dksX12_chances_1 18 rfl rfl)
theorem dX12_chances_43 : decode cX12_chances 43 = .ok (.istore 6, 2) := dk_54 6 (dk_at dksX12_chances_1 19 rfl rfl)
theorem dX12_chances_45 : decode cX12_chances 45 = .ok (.iload 6, 2) := dk_21 6 (dk_at dksX12_chances_1 21 rfl rfl)
theorem dX12_chances_47 : decode cX12_chances 47 = .ok (.aload_n 0, 1) := dk_42 (dk_at dksX12_chances_1 23 rfl rfl)
theorem dX12_chances_48 : decode cX12_chances 48 = .ok (.invokevirtual 117, 3) := dk_182 0 117 (dk_at dksX12_chances_2 0 rfl rfl)
theorem dX12_chances_51 : decode cX12_chances 51 = .ok (.if_icmp .ge 75, 3) := dk_162 0 75 (dk_at dksX12_chances_2 3 rfl rfl)
theorem dX12_chances_54 : decode cX12_chances 54 = .ok (.aload_n 3, 1) := dk_45 (dk_at dksX12_chances_2 6 rfl rfl)
theorem dX12_chances_55 : decode cX12_chances 55 = .ok (.iload 6, 2) := dk_21 6 (dk_at dksX12_chances_2 7 rfl rfl)
theorem dX12_chances_57 : decode cX12_chances 57 = .ok (.laload, 1) := dk_47 (dk_at dksX12_chances_2 9 rfl rfl)
theorem dX12_chances_58 : decode cX12_chances 58 = .ok (.lconst 0, 1) := dk_9 (dk_at dksX12_chances_2 10 rfl rfl)
theorem dX12_chances_59 : decode cX12_chances 59 = .ok (.lcmp, 1) := dk_148 (dk_at dksX12_chances_2 11 rfl rfl)
theorem dX12_chances_60 : decode cX12_chances 60 = .ok (.ifCond .ne 6, 3) := dk_154 0 6 (dk_at dksX12_chances_2 12 rfl rfl)
theorem dX12_chances_63 : decode cX12_chances 63 = .ok (.goto 57, 3) := dk_167 0 57 (dk_at dksX12_chances_2 15 rfl rfl)
theorem dX12_chances_66 : decode cX12_chances 66 = .ok (.aload_n 1, 1) := dk_43 (dk_at dksX12_chances_2 18 rfl rfl)
theorem dX12_chances_67 : decode cX12_chances 67 = .ok (.aload_n 0, 1) := dk_42 (dk_at dksX12_chances_2 19 rfl rfl)
theorem dX12_chances_68 : decode cX12_chances 68 = .ok (.iload 6, 2) := dk_21 6 (dk_at dksX12_chances_2 20 rfl rfl)
theorem dX12_chances_70 : decode cX12_chances 70 = .ok (.iload 5, 2) := dk_21 5 (dk_at dksX12_chances_2 22 rfl rfl)
theorem dX12_chances_72 : decode cX12_chances 72 = .ok (.invokeinterface 150 4, 5) := by decide +kernel
theorem dX12_chances_77 : decode cX12_chances 77 = .ok (.istore 7, 2) := dk_54 7 (dk_at dksX12_chances_3 5 rfl rfl)
theorem dX12_chances_79 : decode cX12_chances 79 = .ok (.aload_n 0, 1) := dk_42 (dk_at dksX12_chances_3 7 rfl rfl)
theorem dX12_chances_80 : decode cX12_chances 80 = .ok (.aload 4, 2) := dk_25 4 (dk_at dksX12_chances_3 8 rfl rfl)
theorem dX12_chances_82 : decode cX12_chances 82 = .ok (.iload 6, 2) := dk_21 6 (dk_at dksX12_chances_3 10 rfl rfl)
theorem dX12_chances_84 : decode cX12_chances 84 = .ok (.aload_n 0, 1) := dk_42 (dk_at dksX12_chances_3 12 rfl rfl)
theorem dX12_chances_85 : decode cX12_chances 85 = .ok (.getfield 38, 3) := dk_180 0 38 (dk_at dksX12_chances_3 13 rfl rfl)
theorem dX12_chances_88 : decode cX12_chances 88 = .ok (.i2l, 1) := dk_133 (dk_at dksX12_chances_3 16 rfl rfl)
theorem dX12_chances_89 : decode cX12_chances 89 = .ok (.aload_n 3, 1) := dk_45 (dk_at dksX12_chances_3 17 rfl rfl)
theorem dX12_chances_90 : decode cX12_chances 90 = .ok (.iload 6, 2) := dk_21 6 (dk_at dksX12_chances_3 18 rfl rfl)
theorem dX12_chances_92 : decode cX12_chances 92 = .ok (.laload, 1) := dk_47 (dk_at dksX12_chances_3 20 rfl rfl)
theorem dX12_chances_93 : decode cX12_chances 93 = .ok (.lmul, 1) := dk_105 (dk_at dksX12_chances_3 21 rfl rfl)
theorem dX12_chances_94 : decode cX12_chances 94 = .ok (.invokevirtual 156, 3) := dk_182 0 156 (dk_at dksX12_chances_4 0 rfl rfl)
theorem dX12_chances_97 : decode cX12_chances 97 = .ok (.aload_n 0, 1) := dk_42 (dk_at dksX12_chances_4 3 rfl rfl)
theorem dX12_chances_98 : decode cX12_chances 98 = .ok (.aload 4, 2) := dk_25 4 (dk_at dksX12_chances_4 4 rfl rfl)
theorem dX12_chances_100 : decode cX12_chances 100 = .ok (.iload 6, 2) := dk_21 6 (dk_at dksX12_chances_4 6 rfl rfl)
theorem dX12_chances_102 : decode cX12_chances 102 = .ok (.iload 7, 2) := dk_21 7 (dk_at dksX12_chances_4 8 rfl rfl)
theorem dX12_chances_104 : decode cX12_chances 104 = .ok (.isub, 1) := dk_100 (dk_at dksX12_chances_4 10 rfl rfl)
theorem dX12_chances_105 : decode cX12_chances 105 = .ok (.iconst 4, 1) := dk_7 (dk_at dksX12_chances_4 11 rfl rfl)
theorem dX12_chances_106 : decode cX12_chances 106 = .ok (.aload_n 0, 1) := dk_42 (dk_at dksX12_chances_4 12 rfl rfl)
theorem dX12_chances_107 : decode cX12_chances 107 = .ok (.getfield 38, 3) := dk_180 0 38 (dk_at dksX12_chances_4 13 rfl rfl)
theorem dX12_chances_110 : decode cX12_chances 110 = .ok (.isub, 1) := dk_100 (dk_at dksX12_chances_4 16 rfl rfl)
theorem dX12_chances_111 : decode cX12_chances 111 = .ok (.i2l, 1) := dk_133 (dk_at dksX12_chances_4 17 rfl rfl)
theorem dX12_chances_112 : decode cX12_chances 112 = .ok (.aload_n 3, 1) := dk_45 (dk_at dksX12_chances_4 18 rfl rfl)
theorem dX12_chances_113 : decode cX12_chances 113 = .ok (.iload 6, 2) := dk_21 6 (dk_at dksX12_chances_4 19 rfl rfl)
theorem dX12_chances_115 : decode cX12_chances 115 = .ok (.laload, 1) := dk_47 (dk_at dksX12_chances_4 21 rfl rfl)
theorem dX12_chances_116 : decode cX12_chances 116 = .ok (.lmul, 1) := dk_105 (dk_at dksX12_chances_4 22 rfl rfl)
theorem dX12_chances_117 : decode cX12_chances 117 = .ok (.invokevirtual 156, 3) := dk_182 0 156 (dk_at dksX12_chances_5 0 rfl rfl)
theorem dX12_chances_120 : decode cX12_chances 120 = .ok (.iinc 6 1, 3) := dk_132 6 1 (dk_at dksX12_chances_5 3 rfl rfl)
theorem dX12_chances_123 : decode cX12_chances 123 = .ok (.goto (-78), 3) := dk_167 255 178 (dk_at dksX12_chances_5 6 rfl rfl)
theorem dX12_chances_126 : decode cX12_chances 126 = .ok (.aload_n 3, 1) := dk_45 (dk_at dksX12_chances_5 9 rfl rfl)
theorem dX12_chances_127 : decode cX12_chances 127 = .ok (.astore 6, 2) := dk_58 6 (dk_at dksX12_chances_5 10 rfl rfl)
theorem dX12_chances_129 : decode cX12_chances 129 = .ok (.aload 4, 2) := dk_25 4 (dk_at dksX12_chances_5 12 rfl rfl)
theorem dX12_chances_131 : decode cX12_chances 131 = .ok (.astore_n 3, 1) := dk_78 (dk_at dksX12_chances_5 14 rfl rfl)
theorem dX12_chances_132 : decode cX12_chances 132 = .ok (.aload 6, 2) := dk_25 6 (dk_at dksX12_chances_5 15 rfl rfl)
theorem dX12_chances_134 : decode cX12_chances 134 = .ok (.astore 4, 2) := dk_58 4 (dk_at dksX12_chances_5 17 rfl rfl)
theorem dX12_chances_136 : decode cX12_chances 136 = .ok (.iinc 5 (-1), 3) := dk_132 5 255 (dk_at dksX12_chances_5 19 rfl rfl)
theorem dX12_chances_139 : decode cX12_chances 139 = .ok (.goto (-109), 3) := dk_167 255 147 (dk_at dksX12_chances_6 0 rfl rfl)
theorem dX12_chances_142 : decode cX12_chances 142 = .ok (.aload_n 3, 1) := dk_45 (dk_at dksX12_chances_6 3 rfl rfl)
theorem dX12_chances_143 : decode cX12_chances 143 = .ok (.areturn, 1) := dk_176 (dk_at dksX12_chances_6 4 rfl rfl)
abbrev cX12_spreads : ByteArray := prog_8_method_26_code
def yX12_spreads : MethodName := ⟨RX12, "spreads", "([JIJ)V"⟩
def dkwX12_spreads_5 : List UInt8 := [132, 9, 1, 167, 255, 165, 43, 21, 8, 92, 47, 22, 6, 97, 80, 132, 5, 1, 167, 255, 124, 177]
abbrev dktX12_spreads_5 : List UInt8 := dkwX12_spreads_5 ++ []
def dkwX12_spreads_4 : List UInt8 := [28, 21, 9, 184, 0, 69, 7, 162, 0, 12, 178, 0, 89, 21, 9, 46, 167, 0, 4, 3, 96, 54, 8]
abbrev dktX12_spreads_4 : List UInt8 := dkwX12_spreads_4 ++ dktX12_spreads_5
def dkwX12_spreads_3 : List UInt8 := [133, 167, 0, 13, 7, 42, 180, 0, 25, 21, 9, 46, 100, 133, 105, 55, 6, 21, 8, 21, 10, 153, 0, 22]
abbrev dktX12_spreads_3 : List UInt8 := dkwX12_spreads_3 ++ dktX12_spreads_4
def dkwX12_spreads_2 : List UInt8 := [160, 0, 7, 4, 167, 0, 4, 3, 54, 10, 22, 6, 21, 10, 153, 0, 14, 42, 180, 0, 25, 21, 9, 46]
abbrev dktX12_spreads_2 : List UInt8 := dkwX12_spreads_2 ++ dktX12_spreads_3
def dkwX12_spreads_1 : List UInt8 := [54, 8, 3, 54, 9, 21, 9, 42, 180, 0, 41, 162, 0, 88, 21, 5, 21, 9, 122, 4, 126, 4]
abbrev dktX12_spreads_1 : List UInt8 := dkwX12_spreads_1 ++ dktX12_spreads_2
def dkwX12_spreads_0 : List UInt8 := [3, 54, 5, 21, 5, 4, 42, 180, 0, 41, 120, 162, 0, 127, 33, 9, 148, 158, 0, 121, 33, 55, 6, 28]
abbrev dktX12_spreads_0 : List UInt8 := dkwX12_spreads_0 ++ dktX12_spreads_1
theorem dksX12_spreads_0 : cX12_spreads.data.toList.drop 0 = dktX12_spreads_0 := by decide +kernel
theorem dksX12_spreads_1 : cX12_spreads.data.toList.drop 24 = dktX12_spreads_1 := dk_seg dksX12_spreads_0 24 rfl rfl
theorem dksX12_spreads_2 : cX12_spreads.data.toList.drop 46 = dktX12_spreads_2 := dk_seg dksX12_spreads_1 22 rfl rfl
theorem dksX12_spreads_3 : cX12_spreads.data.toList.drop 70 = dktX12_spreads_3 := dk_seg dksX12_spreads_2 24 rfl rfl
theorem dksX12_spreads_4 : cX12_spreads.data.toList.drop 94 = dktX12_spreads_4 := dk_seg dksX12_spreads_3 24 rfl rfl
theorem dksX12_spreads_5 : cX12_spreads.data.toList.drop 117 = dktX12_spreads_5 := dk_seg dksX12_spreads_4 23 rfl rfl
theorem dX12_spreads_0 : decode cX12_spreads 0 = .ok (.iconst 0, 1) := dk_3 (dk_at dksX12_spreads_0 0 rfl rfl)
theorem dX12_spreads_1 : decode cX12_spreads 1 = .ok (.istore 5, 2) := dk_54 5 (dk_at dksX12_spreads_0 1 rfl rfl)
theorem dX12_spreads_3 : decode cX12_spreads 3 = .ok (.iload 5, 2) := dk_21 5 (dk_at dksX12_spreads_0 3 rfl rfl)
theorem dX12_spreads_5 : decode cX12_spreads 5 = .ok (.iconst 1, 1) := dk_4 (dk_at dksX12_spreads_0 5 rfl rfl)
theorem dX12_spreads_6 : decode cX12_spreads 6 = .ok (.aload_n 0, 1) := dk_42 (dk_at dksX12_spreads_0 6 rfl rfl)
theorem dX12_spreads_7 : decode cX12_spreads 7 = .ok (.getfield 41, 3) := dk_180 0 41 (dk_at dksX12_spreads_0 7 rfl rfl)
theorem dX12_spreads_10 : decode cX12_spreads 10 = .ok (.ishl, 1) := dk_120 (dk_at dksX12_spreads_0 10 rfl rfl)
theorem dX12_spreads_11 : decode cX12_spreads 11 = .ok (.if_icmp .ge 127, 3) := dk_162 0 127 (dk_at dksX12_spreads_0 11 rfl rfl)
theorem dX12_spreads_14 : decode cX12_spreads 14 = .ok (.lload_n 3, 1) := dk_33 (dk_at dksX12_spreads_0 14 rfl rfl)
theorem dX12_spreads_15 : decode cX12_spreads 15 = .ok (.lconst 0, 1) := dk_9 (dk_at dksX12_spreads_0 15 rfl rfl)
theorem dX12_spreads_16 : decode cX12_spreads 16 = .ok (.lcmp, 1) := dk_148 (dk_at dksX12_spreads_0 16 rfl rfl)
theorem dX12_spreads_17 : decode cX12_spreads 17 = .ok (.ifCond .le 121, 3) := dk_158 0 121 (dk_at dksX12_spreads_0 17 rfl rfl)
theorem dX12_spreads_20 : decode cX12_spreads 20 = .ok (.lload_n 3, 1) := dk_33 (dk_at dksX12_spreads_0 20 rfl rfl)
theorem dX12_spreads_21 : decode cX12_spreads 21 = .ok (.lstore 6, 2) := dk_55 6 (dk_at dksX12_spreads_0 21 rfl rfl)
theorem dX12_spreads_23 : decode cX12_spreads 23 = .ok (.iload_n 2, 1) := dk_28 (dk_at dksX12_spreads_0 23 rfl rfl)
theorem dX12_spreads_24 : decode cX12_spreads 24 = .ok (.istore 8, 2) := dk_54 8 (dk_at dksX12_spreads_1 0 rfl rfl)
theorem dX12_spreads_26 : decode cX12_spreads 26 = .ok (.iconst 0, 1) := dk_3 (dk_at dksX12_spreads_1 2 rfl rfl)
theorem dX12_spreads_27 : decode cX12_spreads 27 = .ok (.istore 9, 2) := dk_54 9 (dk_at dksX12_spreads_1 3 rfl rfl)
theorem dX12_spreads_29 : decode cX12_spreads 29 = .ok (.iload 9, 2) := dk_21 9 (dk_at dksX12_spreads_1 5 rfl rfl)
theorem dX12_spreads_31 : decode cX12_spreads 31 = .ok (.aload_n 0, 1) := dk_42 (dk_at dksX12_spreads_1 7 rfl rfl)
theorem dX12_spreads_32 : decode cX12_spreads 32 = .ok (.getfield 41, 3) := dk_180 0 41 (dk_at dksX12_spreads_1 8 rfl rfl)
theorem dX12_spreads_35 : decode cX12_spreads 35 = .ok (.if_icmp .ge 88, 3) := dk_162 0 88 (dk_at dksX12_spreads_1 11 rfl rfl)
theorem dX12_spreads_38 : decode cX12_spreads 38 = .ok (.iload 5, 2) := dk_21 5 (dk_at dksX12_spreads_1 14 rfl rfl)
theorem dX12_spreads_40 : decode cX12_spreads 40 = .ok (.iload 9, 2) := dk_21 9 (dk_at dksX12_spreads_1 16 rfl rfl)
theorem dX12_spreads_42 : decode cX12_spreads 42 = .ok (.ishr, 1) := dk_122 (dk_at dksX12_spreads_1 18 rfl rfl)
theorem dX12_spreads_43 : decode cX12_spreads 43 = .ok (.iconst 1, 1) := dk_4 (dk_at dksX12_spreads_1 19 rfl rfl)
theorem dX12_spreads_44 : decode cX12_spreads 44 = .ok (.iand, 1) := dk_126 (dk_at dksX12_spreads_1 20 rfl rfl)
theorem dX12_spreads_45 : decode cX12_spreads 45 = .ok (.iconst 1, 1) := dk_4 (dk_at dksX12_spreads_1 21 rfl rfl)
theorem dX12_spreads_46 : decode cX12_spreads 46 = .ok (.if_icmp .ne 7, 3) := dk_160 0 7 (dk_at dksX12_spreads_2 0 rfl rfl)
theorem dX12_spreads_49 : decode cX12_spreads 49 = .ok (.iconst 1, 1) := dk_4 (dk_at dksX12_spreads_2 3 rfl rfl)
theorem dX12_spreads_50 : decode cX12_spreads 50 = .ok (.goto 4, 3) := dk_167 0 4 (dk_at dksX12_spreads_2 4 rfl rfl)
theorem dX12_spreads_53 : decode cX12_spreads 53 = .ok (.iconst 0, 1) := dk_3 (dk_at dksX12_spreads_2 7 rfl rfl)
theorem dX12_spreads_54 : decode cX12_spreads 54 = .ok (.istore 10, 2) := dk_54 10 (dk_at dksX12_spreads_2 8 rfl rfl)
theorem dX12_spreads_56 : decode cX12_spreads 56 = .ok (.lload 6, 2) := dk_22 6 (dk_at dksX12_spreads_2 10 rfl rfl)
theorem dX12_spreads_58 : decode cX12_spreads 58 = .ok (.iload 10, 2) := dk_21 10 (dk_at dksX12_spreads_2 12 rfl rfl)
theorem dX12_spreads_60 : decode cX12_spreads 60 = .ok (.ifCond .eq 14, 3) := dk_153 0 14 (dk_at dksX12_spreads_2 14 rfl rfl)
theorem dX12_spreads_63 : decode cX12_spreads 63 = .ok (.aload_n 0, 1) := dk_42 (dk_at dksX12_spreads_2 17 rfl rfl)
theorem dX12_spreads_64 : decode cX12_spreads 64 = .ok (.getfield 25, 3) := dk_180 0 25 (dk_at dksX12_spreads_2 18 rfl rfl)
theorem dX12_spreads_67 : decode cX12_spreads 67 = .ok (.iload 9, 2) := dk_21 9 (dk_at dksX12_spreads_2 21 rfl rfl)
theorem dX12_spreads_69 : decode cX12_spreads 69 = .ok (.iaload, 1) := dk_46 (dk_at dksX12_spreads_2 23 rfl rfl)
theorem dX12_spreads_70 : decode cX12_spreads 70 = .ok (.i2l, 1) := dk_133 (dk_at dksX12_spreads_3 0 rfl rfl)
theorem dX12_spreads_71 : decode cX12_spreads 71 = .ok (.goto 13, 3) := dk_167 0 13 (dk_at dksX12_spreads_3 1 rfl rfl)
theorem dX12_spreads_74 : decode cX12_spreads 74 = .ok (.iconst 4, 1) := dk_7 (dk_at dksX12_spreads_3 4 rfl rfl)
theorem dX12_spreads_75 : decode cX12_spreads 75 = .ok (.aload_n 0, 1) := dk_42 (dk_at dksX12_spreads_3 5 rfl rfl)
theorem dX12_spreads_76 : decode cX12_spreads 76 = .ok (.getfield 25, 3) := dk_180 0 25 (dk_at dksX12_spreads_3 6 rfl rfl)
theorem dX12_spreads_79 : decode cX12_spreads 79 = .ok (.iload 9, 2) := dk_21 9 (dk_at dksX12_spreads_3 9 rfl rfl)
theorem dX12_spreads_81 : decode cX12_spreads 81 = .ok (.iaload, 1) := dk_46 (dk_at dksX12_spreads_3 11 rfl rfl)
theorem dX12_spreads_82 : decode cX12_spreads 82 = .ok (.isub, 1) := dk_100 (dk_at dksX12_spreads_3 12 rfl rfl)
theorem dX12_spreads_83 : decode cX12_spreads 83 = .ok (.i2l, 1) := dk_133 (dk_at dksX12_spreads_3 13 rfl rfl)
theorem dX12_spreads_84 : decode cX12_spreads 84 = .ok (.lmul, 1) := dk_105 (dk_at dksX12_spreads_3 14 rfl rfl)
theorem dX12_spreads_85 : decode cX12_spreads 85 = .ok (.lstore 6, 2) := dk_55 6 (dk_at dksX12_spreads_3 15 rfl rfl)
theorem dX12_spreads_87 : decode cX12_spreads 87 = .ok (.iload 8, 2) := dk_21 8 (dk_at dksX12_spreads_3 17 rfl rfl)
theorem dX12_spreads_89 : decode cX12_spreads 89 = .ok (.iload 10, 2) := dk_21 10 (dk_at dksX12_spreads_3 19 rfl rfl)
theorem dX12_spreads_91 : decode cX12_spreads 91 = .ok (.ifCond .eq 22, 3) := dk_153 0 22 (dk_at dksX12_spreads_3 21 rfl rfl)
theorem dX12_spreads_94 : decode cX12_spreads 94 = .ok (.iload_n 2, 1) := dk_28 (dk_at dksX12_spreads_4 0 rfl rfl)
theorem dX12_spreads_95 : decode cX12_spreads 95 = .ok (.iload 9, 2) := dk_21 9 (dk_at dksX12_spreads_4 1 rfl rfl)
theorem dX12_spreads_97 : decode cX12_spreads 97 = .ok (.invokestatic 69, 3) := dk_184 0 69 (dk_at dksX12_spreads_4 3 rfl rfl)
theorem dX12_spreads_100 : decode cX12_spreads 100 = .ok (.iconst 4, 1) := dk_7 (dk_at dksX12_spreads_4 6 rfl rfl)
theorem dX12_spreads_101 : decode cX12_spreads 101 = .ok (.if_icmp .ge 12, 3) := dk_162 0 12 (dk_at dksX12_spreads_4 7 rfl rfl)
theorem dX12_spreads_104 : decode cX12_spreads 104 = .ok (.getstatic 89, 3) := dk_178 0 89 (dk_at dksX12_spreads_4 10 rfl rfl)
theorem dX12_spreads_107 : decode cX12_spreads 107 = .ok (.iload 9, 2) := dk_21 9 (dk_at dksX12_spreads_4 13 rfl rfl)
theorem dX12_spreads_109 : decode cX12_spreads 109 = .ok (.iaload, 1) := dk_46 (dk_at dksX12_spreads_4 15 rfl rfl)
theorem dX12_spreads_110 : decode cX12_spreads 110 = .ok (.goto 4, 3) := dk_167 0 4 (dk_at dksX12_spreads_4 16 rfl rfl)
theorem dX12_spreads_113 : decode cX12_spreads 113 = .ok (.iconst 0, 1) := dk_3 (dk_at dksX12_spreads_4 19 rfl rfl)
theorem dX12_spreads_114 : decode cX12_spreads 114 = .ok (.iadd, 1) := dk_96 (dk_at dksX12_spreads_4 20 rfl rfl)
theorem dX12_spreads_115 : decode cX12_spreads 115 = .ok (.istore 8, 2) := dk_54 8 (dk_at dksX12_spreads_4 21 rfl rfl)
theorem dX12_spreads_117 : decode cX12_spreads 117 = .ok (.iinc 9 1, 3) := dk_132 9 1 (dk_at dksX12_spreads_5 0 rfl rfl)
theorem dX12_spreads_120 : decode cX12_spreads 120 = .ok (.goto (-91), 3) := dk_167 255 165 (dk_at dksX12_spreads_5 3 rfl rfl)
theorem dX12_spreads_123 : decode cX12_spreads 123 = .ok (.aload_n 1, 1) := dk_43 (dk_at dksX12_spreads_5 6 rfl rfl)
theorem dX12_spreads_124 : decode cX12_spreads 124 = .ok (.iload 8, 2) := dk_21 8 (dk_at dksX12_spreads_5 7 rfl rfl)
theorem dX12_spreads_126 : decode cX12_spreads 126 = .ok (.dup2, 1) := dk_92 (dk_at dksX12_spreads_5 9 rfl rfl)
theorem dX12_spreads_127 : decode cX12_spreads 127 = .ok (.laload, 1) := dk_47 (dk_at dksX12_spreads_5 10 rfl rfl)
theorem dX12_spreads_128 : decode cX12_spreads 128 = .ok (.lload 6, 2) := dk_22 6 (dk_at dksX12_spreads_5 11 rfl rfl)
theorem dX12_spreads_130 : decode cX12_spreads 130 = .ok (.ladd, 1) := dk_97 (dk_at dksX12_spreads_5 13 rfl rfl)
theorem dX12_spreads_131 : decode cX12_spreads 131 = .ok (.lastore, 1) := dk_80 (dk_at dksX12_spreads_5 14 rfl rfl)
theorem dX12_spreads_132 : decode cX12_spreads 132 = .ok (.iinc 5 1, 3) := dk_132 5 1 (dk_at dksX12_spreads_5 15 rfl rfl)
theorem dX12_spreads_135 : decode cX12_spreads 135 = .ok (.goto (-132), 3) := dk_167 255 124 (dk_at dksX12_spreads_5 18 rfl rfl)
theorem dX12_spreads_138 : decode cX12_spreads 138 = .ok (.return_, 1) := dk_177 (dk_at dksX12_spreads_5 21 rfl rfl)
abbrev cX12_sums : ByteArray := prog_8_method_27_code
def yX12_sums : MethodName := ⟨RX12, "sums", "(LSendTheBox$Chooser;I)J"⟩
def dkwX12_sums_7 : List UInt8 := [182, 0, 92, 105, 97, 66, 132, 5, 255, 167, 255, 92, 33, 173]
abbrev dktX12_sums_7 : List UInt8 := dkwX12_sums_7 ++ []
def dkwX12_sums_6 : List UInt8 := [55, 7, 132, 9, 1, 167, 255, 139, 33, 22, 7, 5, 42, 180, 0, 41, 104, 121, 42, 21, 5, 4, 100]
abbrev dktX12_sums_6 : List UInt8 := dkwX12_sums_6 ++ dktX12_sums_7
def dkwX12_sums_5 : List UInt8 := [21, 9, 47, 42, 180, 0, 38, 133, 22, 11, 105, 7, 42, 180, 0, 38, 100, 133, 22, 13, 105, 97, 105, 97]
abbrev dktX12_sums_5 : List UInt8 := dkwX12_sums_5 ++ dktX12_sums_6
def dkwX12_sums_4 : List UInt8 := [167, 0, 17, 10, 167, 0, 13, 21, 9, 21, 10, 100, 28, 184, 0, 69, 133, 55, 13, 22, 7, 25, 6]
abbrev dktX12_sums_4 : List UInt8 := dkwX12_sums_4 ++ dktX12_sums_5
def dkwX12_sums_3 : List UInt8 := [167, 0, 10, 21, 9, 28, 184, 0, 69, 133, 55, 11, 28, 2, 160, 0, 16, 21, 10, 154, 0, 7, 9]
abbrev dktX12_sums_3 : List UInt8 := dkwX12_sums_3 ++ dktX12_sums_4
def dkwX12_sums_2 : List UInt8 := [3, 167, 0, 14, 43, 42, 21, 9, 21, 5, 185, 0, 150, 4, 0, 54, 10, 28, 2, 160, 0, 7, 9]
abbrev dktX12_sums_2 : List UInt8 := dkwX12_sums_2 ++ dktX12_sums_3
def dkwX12_sums_1 : List UInt8 := [55, 7, 3, 54, 9, 21, 9, 42, 182, 0, 117, 162, 0, 114, 25, 6, 21, 9, 47, 9, 148, 154, 0, 7]
abbrev dktX12_sums_1 : List UInt8 := dkwX12_sums_1 ++ dktX12_sums_2
def dkwX12_sums_0 : List UInt8 := [9, 66, 42, 180, 0, 9, 54, 5, 21, 5, 158, 0, 165, 42, 43, 21, 5, 182, 0, 160, 58, 6, 9]
abbrev dktX12_sums_0 : List UInt8 := dkwX12_sums_0 ++ dktX12_sums_1
theorem dksX12_sums_0 : cX12_sums.data.toList.drop 0 = dktX12_sums_0 := by decide +kernel
theorem dksX12_sums_1 : cX12_sums.data.toList.drop 23 = dktX12_sums_1 := dk_seg dksX12_sums_0 23 rfl rfl
theorem dksX12_sums_2 : cX12_sums.data.toList.drop 47 = dktX12_sums_2 := dk_seg dksX12_sums_1 24 rfl rfl
theorem dksX12_sums_3 : cX12_sums.data.toList.drop 70 = dktX12_sums_3 := dk_seg dksX12_sums_2 23 rfl rfl
theorem dksX12_sums_4 : cX12_sums.data.toList.drop 93 = dktX12_sums_4 := dk_seg dksX12_sums_3 23 rfl rfl
theorem dksX12_sums_5 : cX12_sums.data.toList.drop 116 = dktX12_sums_5 := dk_seg dksX12_sums_4 23 rfl rfl
theorem dksX12_sums_6 : cX12_sums.data.toList.drop 140 = dktX12_sums_6 := dk_seg dksX12_sums_5 24 rfl rfl
theorem dksX12_sums_7 : cX12_sums.data.toList.drop 163 = dktX12_sums_7 := dk_seg dksX12_sums_6 23 rfl rfl
theorem dX12_sums_0 : decode cX12_sums 0 = .ok (.lconst 0, 1) := dk_9 (dk_at dksX12_sums_0 0 rfl rfl)
theorem dX12_sums_1 : decode cX12_sums 1 = .ok (.lstore_n 3, 1) := dk_66 (dk_at dksX12_sums_0 1 rfl rfl)
theorem dX12_sums_2 : decode cX12_sums 2 = .ok (.aload_n 0, 1) := dk_42 (dk_at dksX12_sums_0 2 rfl rfl)
theorem dX12_sums_3 : decode cX12_sums 3 = .ok (.getfield 9, 3) := dk_180 0 9 (dk_at dksX12_sums_0 3 rfl rfl)
theorem dX12_sums_6 : decode cX12_sums 6 = .ok (.istore 5, 2) := dk_54 5 (dk_at dksX12_sums_0 6 rfl rfl)
theorem dX12_sums_8 : decode cX12_sums 8 = .ok (.iload 5, 2) := dk_21 5 (dk_at dksX12_sums_0 8 rfl rfl)
theorem dX12_sums_10 : decode cX12_sums 10 = .ok (.ifCond .le 165, 3) := dk_158 0 165 (dk_at dksX12_sums_0 10 rfl rfl)
theorem dX12_sums_13 : decode cX12_sums 13 = .ok (.aload_n 0, 1) := dk_42 (dk_at dksX12_sums_0 13 rfl rfl)
theorem dX12_sums_14 : decode cX12_sums 14 = .ok (.aload_n 1, 1) := dk_43 (dk_at dksX12_sums_0 14 rfl rfl)
theorem dX12_sums_15 : decode cX12_sums 15 = .ok (.iload 5, 2) := dk_21 5 (dk_at dksX12_sums_0 15 rfl rfl)
theorem dX12_sums_17 : decode cX12_sums 17 = .ok (.invokevirtual 160, 3) := dk_182 0 160 (dk_at dksX12_sums_0 17 rfl rfl)
theorem dX12_sums_20 : decode cX12_sums 20 = .ok (.astore 6, 2) := dk_58 6 (dk_at dksX12_sums_0 20 rfl rfl)
theorem dX12_sums_22 : decode cX12_sums 22 = .ok (.lconst 0, 1) := dk_9 (dk_at dksX12_sums_0 22 rfl rfl)
theorem dX12_sums_23 : decode cX12_sums 23 = .ok (.lstore 7, 2) := dk_55 7 (dk_at dksX12_sums_1 0 rfl rfl)
theorem dX12_sums_25 : decode cX12_sums 25 = .ok (.iconst 0, 1) := dk_3 (dk_at dksX12_sums_1 2 rfl rfl)
theorem dX12_sums_26 : decode cX12_sums 26 = .ok (.istore 9, 2) := dk_54 9 (dk_at dksX12_sums_1 3 rfl rfl)
theorem dX12_sums_28 : decode cX12_sums 28 = .ok (.iload 9, 2) := dk_21 9 (dk_at dksX12_sums_1 5 rfl rfl)
theorem dX12_sums_30 : decode cX12_sums 30 = .ok (.aload_n 0, 1) := dk_42 (dk_at dksX12_sums_1 7 rfl rfl)
theorem dX12_sums_31 : decode cX12_sums 31 = .ok (.invokevirtual 117, 3) := dk_182 0 117 (dk_at dksX12_sums_1 8 rfl rfl)
theorem dX12_sums_34 : decode cX12_sums 34 = .ok (.if_icmp .ge 114, 3) := dk_162 0 114 (dk_at dksX12_sums_1 11 rfl rfl)
theorem dX12_sums_37 : decode cX12_sums 37 = .ok (.aload 6, 2) := dk_25 6 (dk_at dksX12_sums_1 14 rfl rfl)
theorem dX12_sums_39 : decode cX12_sums 39 = .ok (.iload 9, 2) := dk_21 9 (dk_at dksX12_sums_1 16 rfl rfl)
theorem dX12_sums_41 : decode cX12_sums 41 = .ok (.laload, 1) := dk_47 (dk_at dksX12_sums_1 18 rfl rfl)
theorem dX12_sums_42 : decode cX12_sums 42 = .ok (.lconst 0, 1) := dk_9 (dk_at dksX12_sums_1 19 rfl rfl)
theorem dX12_sums_43 : decode cX12_sums 43 = .ok (.lcmp, 1) := dk_148 (dk_at dksX12_sums_1 20 rfl rfl)
theorem dX12_sums_44 : decode cX12_sums 44 = .ok (.ifCond .ne 7, 3) := dk_154 0 7 (dk_at dksX12_sums_1 21 rfl rfl)
theorem dX12_sums_47 : decode cX12_sums 47 = .ok (.iconst 0, 1) := dk_3 (dk_at dksX12_sums_2 0 rfl rfl)
theorem dX12_sums_48 : decode cX12_sums 48 = .ok (.goto 14, 3) := dk_167 0 14 (dk_at dksX12_sums_2 1 rfl rfl)
theorem dX12_sums_51 : decode cX12_sums 51 = .ok (.aload_n 1, 1) := dk_43 (dk_at dksX12_sums_2 4 rfl rfl)
theorem dX12_sums_52 : decode cX12_sums 52 = .ok (.aload_n 0, 1) := dk_42 (dk_at dksX12_sums_2 5 rfl rfl)
theorem dX12_sums_53 : decode cX12_sums 53 = .ok (.iload 9, 2) := dk_21 9 (dk_at dksX12_sums_2 6 rfl rfl)
theorem dX12_sums_55 : decode cX12_sums 55 = .ok (.iload 5, 2) := dk_21 5 (dk_at dksX12_sums_2 8 rfl rfl)
theorem dX12_sums_57 : decode cX12_sums 57 = .ok (.invokeinterface 150 4, 5) := by decide +kernel
theorem dX12_sums_62 : decode cX12_sums 62 = .ok (.istore 10, 2) := dk_54 10 (dk_at dksX12_sums_2 15 rfl rfl)
theorem dX12_sums_64 : decode cX12_sums 64 = .ok (.iload_n 2, 1) := dk_28 (dk_at dksX12_sums_2 17 rfl rfl)
theorem dX12_sums_65 : decode cX12_sums 65 = .ok (.iconst (-1), 1) := dk_2 (dk_at dksX12_sums_2 18 rfl rfl)
theorem dX12_sums_66 : decode cX12_sums 66 = .ok (.if_icmp .ne 7, 3) := dk_160 0 7 (dk_at dksX12_sums_2 19 rfl rfl)
theorem dX12_sums_69 : decode cX12_sums 69 = .ok (.lconst 0, 1) := dk_9 (dk_at dksX12_sums_2 22 rfl rfl)
theorem dX12_sums_70 : decode cX12_sums 70 = .ok (.goto 10, 3) := dk_167 0 10 (dk_at dksX12_sums_3 0 rfl rfl)
theorem dX12_sums_73 : decode cX12_sums 73 = .ok (.iload 9, 2) := dk_21 9 (dk_at dksX12_sums_3 3 rfl rfl)
theorem dX12_sums_75 : decode cX12_sums 75 = .ok (.iload_n 2, 1) := dk_28 (dk_at dksX12_sums_3 5 rfl rfl)
theorem dX12_sums_76 : decode cX12_sums 76 = .ok (.invokestatic 69, 3) := dk_184 0 69 (dk_at dksX12_sums_3 6 rfl rfl)
theorem dX12_sums_79 : decode cX12_sums 79 = .ok (.i2l, 1) := dk_133 (dk_at dksX12_sums_3 9 rfl rfl)
theorem dX12_sums_80 : decode cX12_sums 80 = .ok (.lstore 11, 2) := dk_55 11 (dk_at dksX12_sums_3 10 rfl rfl)
theorem dX12_sums_82 : decode cX12_sums 82 = .ok (.iload_n 2, 1) := dk_28 (dk_at dksX12_sums_3 12 rfl rfl)
theorem dX12_sums_83 : decode cX12_sums 83 = .ok (.iconst (-1), 1) := dk_2 (dk_at dksX12_sums_3 13 rfl rfl)
theorem dX12_sums_84 : decode cX12_sums 84 = .ok (.if_icmp .ne 16, 3) := dk_160 0 16 (dk_at dksX12_sums_3 14 rfl rfl)
theorem dX12_sums_87 : decode cX12_sums 87 = .ok (.iload 10, 2) := dk_21 10 (dk_at dksX12_sums_3 17 rfl rfl)
theorem dX12_sums_89 : decode cX12_sums 89 = .ok (.ifCond .ne 7, 3) := dk_154 0 7 (dk_at dksX12_sums_3 19 rfl rfl)
theorem dX12_sums_92 : decode cX12_sums 92 = .ok (.lconst 0, 1) := dk_9 (dk_at dksX12_sums_3 22 rfl rfl)
theorem dX12_sums_93 : decode cX12_sums 93 = .ok (.goto 17, 3) := dk_167 0 17 (dk_at dksX12_sums_4 0 rfl rfl)
theorem dX12_sums_96 : decode cX12_sums 96 = .ok (.lconst 1, 1) := dk_10 (dk_at dksX12_sums_4 3 rfl rfl)
theorem dX12_sums_97 : decode cX12_sums 97 = .ok (.goto 13, 3) := dk_167 0 13 (dk_at dksX12_sums_4 4 rfl rfl)
theorem dX12_sums_100 : decode cX12_sums 100 = .ok (.iload 9, 2) := dk_21 9 (dk_at dksX12_sums_4 7 rfl rfl)
theorem dX12_sums_102 : decode cX12_sums 102 = .ok (.iload 10, 2) := dk_21 10 (dk_at dksX12_sums_4 9 rfl rfl)
theorem dX12_sums_104 : decode cX12_sums 104 = .ok (.isub, 1) := dk_100 (dk_at dksX12_sums_4 11 rfl rfl)
theorem dX12_sums_105 : decode cX12_sums 105 = .ok (.iload_n 2, 1) := dk_28 (dk_at dksX12_sums_4 12 rfl rfl)
theorem dX12_sums_106 : decode cX12_sums 106 = .ok (.invokestatic 69, 3) := dk_184 0 69 (dk_at dksX12_sums_4 13 rfl rfl)
theorem dX12_sums_109 : decode cX12_sums 109 = .ok (.i2l, 1) := dk_133 (dk_at dksX12_sums_4 16 rfl rfl)
theorem dX12_sums_110 : decode cX12_sums 110 = .ok (.lstore 13, 2) := dk_55 13 (dk_at dksX12_sums_4 17 rfl rfl)
theorem dX12_sums_112 : decode cX12_sums 112 = .ok (.lload 7, 2) := dk_22 7 (dk_at dksX12_sums_4 19 rfl rfl)
theorem dX12_sums_114 : decode cX12_sums 114 = .ok (.aload 6, 2) := dk_25 6 (dk_at dksX12_sums_4 21 rfl rfl)
theorem dX12_sums_116 : decode cX12_sums 116 = .ok (.iload 9, 2) := dk_21 9 (dk_at dksX12_sums_5 0 rfl rfl)
theorem dX12_sums_118 : decode cX12_sums 118 = .ok (.laload, 1) := dk_47 (dk_at dksX12_sums_5 2 rfl rfl)
theorem dX12_sums_119 : decode cX12_sums 119 = .ok (.aload_n 0, 1) := dk_42 (dk_at dksX12_sums_5 3 rfl rfl)
theorem dX12_sums_120 : decode cX12_sums 120 = .ok (.getfield 38, 3) := dk_180 0 38 (dk_at dksX12_sums_5 4 rfl rfl)
theorem dX12_sums_123 : decode cX12_sums 123 = .ok (.i2l, 1) := dk_133 (dk_at dksX12_sums_5 7 rfl rfl)
theorem dX12_sums_124 : decode cX12_sums 124 = .ok (.lload 11, 2) := dk_22 11 (dk_at dksX12_sums_5 8 rfl rfl)
theorem dX12_sums_126 : decode cX12_sums 126 = .ok (.lmul, 1) := dk_105 (dk_at dksX12_sums_5 10 rfl rfl)
theorem dX12_sums_127 : decode cX12_sums 127 = .ok (.iconst 4, 1) := dk_7 (dk_at dksX12_sums_5 11 rfl rfl)
theorem dX12_sums_128 : decode cX12_sums 128 = .ok (.aload_n 0, 1) := dk_42 (dk_at dksX12_sums_5 12 rfl rfl)
theorem dX12_sums_129 : decode cX12_sums 129 = .ok (.getfield 38, 3) := dk_180 0 38 (dk_at dksX12_sums_5 13 rfl rfl)
theorem dX12_sums_132 : decode cX12_sums 132 = .ok (.isub, 1) := dk_100 (dk_at dksX12_sums_5 16 rfl rfl)
theorem dX12_sums_133 : decode cX12_sums 133 = .ok (.i2l, 1) := dk_133 (dk_at dksX12_sums_5 17 rfl rfl)
theorem dX12_sums_134 : decode cX12_sums 134 = .ok (.lload 13, 2) := dk_22 13 (dk_at dksX12_sums_5 18 rfl rfl)
theorem dX12_sums_136 : decode cX12_sums 136 = .ok (.lmul, 1) := dk_105 (dk_at dksX12_sums_5 20 rfl rfl)
theorem dX12_sums_137 : decode cX12_sums 137 = .ok (.ladd, 1) := dk_97 (dk_at dksX12_sums_5 21 rfl rfl)
theorem dX12_sums_138 : decode cX12_sums 138 = .ok (.lmul, 1) := dk_105 (dk_at dksX12_sums_5 22 rfl rfl)
theorem dX12_sums_139 : decode cX12_sums 139 = .ok (.ladd, 1) := dk_97 (dk_at dksX12_sums_5 23 rfl rfl)
theorem dX12_sums_140 : decode cX12_sums 140 = .ok (.lstore 7, 2) := dk_55 7 (dk_at dksX12_sums_6 0 rfl rfl)
theorem dX12_sums_142 : decode cX12_sums 142 = .ok (.iinc 9 1, 3) := dk_132 9 1 (dk_at dksX12_sums_6 2 rfl rfl)
theorem dX12_sums_145 : decode cX12_sums 145 = .ok (.goto (-117), 3) := dk_167 255 139 (dk_at dksX12_sums_6 5 rfl rfl)
theorem dX12_sums_148 : decode cX12_sums 148 = .ok (.lload_n 3, 1) := dk_33 (dk_at dksX12_sums_6 8 rfl rfl)
theorem dX12_sums_149 : decode cX12_sums 149 = .ok (.lload 7, 2) := dk_22 7 (dk_at dksX12_sums_6 9 rfl rfl)
theorem dX12_sums_151 : decode cX12_sums 151 = .ok (.iconst 2, 1) := dk_5 (dk_at dksX12_sums_6 11 rfl rfl)
theorem dX12_sums_152 : decode cX12_sums 152 = .ok (.aload_n 0, 1) := dk_42 (dk_at dksX12_sums_6 12 rfl rfl)
theorem dX12_sums_153 : decode cX12_sums 153 = .ok (.getfield 41, 3) := dk_180 0 41 (dk_at dksX12_sums_6 13 rfl rfl)
theorem dX12_sums_156 : decode cX12_sums 156 = .ok (.imul, 1) := dk_104 (dk_at dksX12_sums_6 16 rfl rfl)
theorem dX12_sums_157 : decode cX12_sums 157 = .ok (.lshl, 1) := dk_121 (dk_at dksX12_sums_6 17 rfl rfl)
theorem dX12_sums_158 : decode cX12_sums 158 = .ok (.aload_n 0, 1) := dk_42 (dk_at dksX12_sums_6 18 rfl rfl)
theorem dX12_sums_159 : decode cX12_sums 159 = .ok (.iload 5, 2) := dk_21 5 (dk_at dksX12_sums_6 19 rfl rfl)
theorem dX12_sums_161 : decode cX12_sums 161 = .ok (.iconst 1, 1) := dk_4 (dk_at dksX12_sums_6 21 rfl rfl)
theorem dX12_sums_162 : decode cX12_sums 162 = .ok (.isub, 1) := dk_100 (dk_at dksX12_sums_6 22 rfl rfl)
theorem dX12_sums_163 : decode cX12_sums 163 = .ok (.invokevirtual 92, 3) := dk_182 0 92 (dk_at dksX12_sums_7 0 rfl rfl)
theorem dX12_sums_166 : decode cX12_sums 166 = .ok (.lmul, 1) := dk_105 (dk_at dksX12_sums_7 3 rfl rfl)
theorem dX12_sums_167 : decode cX12_sums 167 = .ok (.ladd, 1) := dk_97 (dk_at dksX12_sums_7 4 rfl rfl)
theorem dX12_sums_168 : decode cX12_sums 168 = .ok (.lstore_n 3, 1) := dk_66 (dk_at dksX12_sums_7 5 rfl rfl)
theorem dX12_sums_169 : decode cX12_sums 169 = .ok (.iinc 5 (-1), 3) := dk_132 5 255 (dk_at dksX12_sums_7 6 rfl rfl)
theorem dX12_sums_172 : decode cX12_sums 172 = .ok (.goto (-164), 3) := dk_167 255 92 (dk_at dksX12_sums_7 9 rfl rfl)
theorem dX12_sums_175 : decode cX12_sums 175 = .ok (.lload_n 3, 1) := dk_33 (dk_at dksX12_sums_7 12 rfl rfl)
theorem dX12_sums_176 : decode cX12_sums 176 = .ok (.lreturn, 1) := dk_173 (dk_at dksX12_sums_7 13 rfl rfl)
abbrev cX12_promised : ByteArray := prog_8_method_23_code
def yX12_promised : MethodName := ⟨RX12, "promised", "(I)J"⟩
def dkwX12_promised_4 : List UInt8 := [167, 255, 209, 132, 3, 1, 167, 255, 192, 44, 16, 125, 42, 180, 0, 9, 104, 47, 173]
abbrev dktX12_promised_4 : List UInt8 := dkwX12_promised_4 ++ []
def dkwX12_promised_3 : List UInt8 := [44, 29, 27, 160, 0, 7, 4, 167, 0, 4, 3, 182, 0, 137, 29, 44, 182, 0, 141, 80, 132, 4, 1]
abbrev dktX12_promised_3 : List UInt8 := dkwX12_promised_3 ++ dktX12_promised_4
def dkwX12_promised_2 : List UInt8 := [21, 4, 42, 182, 0, 117, 162, 0, 44, 44, 16, 125, 29, 104, 21, 4, 96, 42, 21, 4, 42, 21, 4, 29]
abbrev dktX12_promised_2 : List UInt8 := dkwX12_promised_2 ++ dktX12_promised_3
def dkwX12_promised_1 : List UInt8 := [182, 0, 121, 133, 80, 132, 3, 1, 167, 255, 236, 4, 62, 29, 42, 180, 0, 9, 163, 0, 62, 3, 54, 4]
abbrev dktX12_promised_1 : List UInt8 := dkwX12_promised_1 ++ dktX12_promised_2
def dkwX12_promised_0 : List UInt8 := [42, 182, 0, 108, 42, 180, 0, 56, 77, 3, 62, 29, 42, 182, 0, 117, 162, 0, 18, 44, 29, 42, 29]
abbrev dktX12_promised_0 : List UInt8 := dkwX12_promised_0 ++ dktX12_promised_1
theorem dksX12_promised_0 : cX12_promised.data.toList.drop 0 = dktX12_promised_0 := by decide +kernel
theorem dksX12_promised_1 : cX12_promised.data.toList.drop 23 = dktX12_promised_1 := dk_seg dksX12_promised_0 23 rfl rfl
theorem dksX12_promised_2 : cX12_promised.data.toList.drop 47 = dktX12_promised_2 := dk_seg dksX12_promised_1 24 rfl rfl
theorem dksX12_promised_3 : cX12_promised.data.toList.drop 71 = dktX12_promised_3 := dk_seg dksX12_promised_2 24 rfl rfl
theorem dksX12_promised_4 : cX12_promised.data.toList.drop 94 = dktX12_promised_4 := dk_seg dksX12_promised_3 23 rfl rfl
theorem dX12_promised_0 : decode cX12_promised 0 = .ok (.aload_n 0, 1) := dk_42 (dk_at dksX12_promised_0 0 rfl rfl)
theorem dX12_promised_1 : decode cX12_promised 1 = .ok (.invokevirtual 108, 3) := dk_182 0 108 (dk_at dksX12_promised_0 1 rfl rfl)
theorem dX12_promised_4 : decode cX12_promised 4 = .ok (.aload_n 0, 1) := dk_42 (dk_at dksX12_promised_0 4 rfl rfl)
theorem dX12_promised_5 : decode cX12_promised 5 = .ok (.getfield 56, 3) := dk_180 0 56 (dk_at dksX12_promised_0 5 rfl rfl)
theorem dX12_promised_8 : decode cX12_promised 8 = .ok (.astore_n 2, 1) := dk_77 (dk_at dksX12_promised_0 8 rfl rfl)
theorem dX12_promised_9 : decode cX12_promised 9 = .ok (.iconst 0, 1) := dk_3 (dk_at dksX12_promised_0 9 rfl rfl)
theorem dX12_promised_10 : decode cX12_promised 10 = .ok (.istore_n 3, 1) := dk_62 (dk_at dksX12_promised_0 10 rfl rfl)
theorem dX12_promised_11 : decode cX12_promised 11 = .ok (.iload_n 3, 1) := dk_29 (dk_at dksX12_promised_0 11 rfl rfl)
theorem dX12_promised_12 : decode cX12_promised 12 = .ok (.aload_n 0, 1) := dk_42 (dk_at dksX12_promised_0 12 rfl rfl)
theorem dX12_promised_13 : decode cX12_promised 13 = .ok (.invokevirtual 117, 3) := dk_182 0 117 (dk_at dksX12_promised_0 13 rfl rfl)
theorem dX12_promised_16 : decode cX12_promised 16 = .ok (.if_icmp .ge 18, 3) := dk_162 0 18 (dk_at dksX12_promised_0 16 rfl rfl)
theorem dX12_promised_19 : decode cX12_promised 19 = .ok (.aload_n 2, 1) := dk_44 (dk_at dksX12_promised_0 19 rfl rfl)
theorem dX12_promised_20 : decode cX12_promised 20 = .ok (.iload_n 3, 1) := dk_29 (dk_at dksX12_promised_0 20 rfl rfl)
theorem dX12_promised_21 : decode cX12_promised 21 = .ok (.aload_n 0, 1) := dk_42 (dk_at dksX12_promised_0 21 rfl rfl)
theorem dX12_promised_22 : decode cX12_promised 22 = .ok (.iload_n 3, 1) := dk_29 (dk_at dksX12_promised_0 22 rfl rfl)
theorem dX12_promised_23 : decode cX12_promised 23 = .ok (.invokevirtual 121, 3) := dk_182 0 121 (dk_at dksX12_promised_1 0 rfl rfl)
theorem dX12_promised_26 : decode cX12_promised 26 = .ok (.i2l, 1) := dk_133 (dk_at dksX12_promised_1 3 rfl rfl)
theorem dX12_promised_27 : decode cX12_promised 27 = .ok (.lastore, 1) := dk_80 (dk_at dksX12_promised_1 4 rfl rfl)
theorem dX12_promised_28 : decode cX12_promised 28 = .ok (.iinc 3 1, 3) := dk_132 3 1 (dk_at dksX12_promised_1 5 rfl rfl)
theorem dX12_promised_31 : decode cX12_promised 31 = .ok (.goto (-20), 3) := dk_167 255 236 (dk_at dksX12_promised_1 8 rfl rfl)
theorem dX12_promised_34 : decode cX12_promised 34 = .ok (.iconst 1, 1) := dk_4 (dk_at dksX12_promised_1 11 rfl rfl)
theorem dX12_promised_35 : decode cX12_promised 35 = .ok (.istore_n 3, 1) := dk_62 (dk_at dksX12_promised_1 12 rfl rfl)
theorem dX12_promised_36 : decode cX12_promised 36 = .ok (.iload_n 3, 1) := dk_29 (dk_at dksX12_promised_1 13 rfl rfl)
theorem dX12_promised_37 : decode cX12_promised 37 = .ok (.aload_n 0, 1) := dk_42 (dk_at dksX12_promised_1 14 rfl rfl)
theorem dX12_promised_38 : decode cX12_promised 38 = .ok (.getfield 9, 3) := dk_180 0 9 (dk_at dksX12_promised_1 15 rfl rfl)
theorem dX12_promised_41 : decode cX12_promised 41 = .ok (.if_icmp .gt 62, 3) := dk_163 0 62 (dk_at dksX12_promised_1 18 rfl rfl)
theorem dX12_promised_44 : decode cX12_promised 44 = .ok (.iconst 0, 1) := dk_3 (dk_at dksX12_promised_1 21 rfl rfl)
theorem dX12_promised_45 : decode cX12_promised 45 = .ok (.istore 4, 2) := dk_54 4 (dk_at dksX12_promised_1 22 rfl rfl)
theorem dX12_promised_47 : decode cX12_promised 47 = .ok (.iload 4, 2) := dk_21 4 (dk_at dksX12_promised_2 0 rfl rfl)
theorem dX12_promised_49 : decode cX12_promised 49 = .ok (.aload_n 0, 1) := dk_42 (dk_at dksX12_promised_2 2 rfl rfl)
theorem dX12_promised_50 : decode cX12_promised 50 = .ok (.invokevirtual 117, 3) := dk_182 0 117 (dk_at dksX12_promised_2 3 rfl rfl)
theorem dX12_promised_53 : decode cX12_promised 53 = .ok (.if_icmp .ge 44, 3) := dk_162 0 44 (dk_at dksX12_promised_2 6 rfl rfl)
theorem dX12_promised_56 : decode cX12_promised 56 = .ok (.aload_n 2, 1) := dk_44 (dk_at dksX12_promised_2 9 rfl rfl)
theorem dX12_promised_57 : decode cX12_promised 57 = .ok (.bipush 125, 2) := dk_16 125 (dk_at dksX12_promised_2 10 rfl rfl)
theorem dX12_promised_59 : decode cX12_promised 59 = .ok (.iload_n 3, 1) := dk_29 (dk_at dksX12_promised_2 12 rfl rfl)
theorem dX12_promised_60 : decode cX12_promised 60 = .ok (.imul, 1) := dk_104 (dk_at dksX12_promised_2 13 rfl rfl)
theorem dX12_promised_61 : decode cX12_promised 61 = .ok (.iload 4, 2) := dk_21 4 (dk_at dksX12_promised_2 14 rfl rfl)
theorem dX12_promised_63 : decode cX12_promised 63 = .ok (.iadd, 1) := dk_96 (dk_at dksX12_promised_2 16 rfl rfl)
theorem dX12_promised_64 : decode cX12_promised 64 = .ok (.aload_n 0, 1) := dk_42 (dk_at dksX12_promised_2 17 rfl rfl)
theorem dX12_promised_65 : decode cX12_promised 65 = .ok (.iload 4, 2) := dk_21 4 (dk_at dksX12_promised_2 18 rfl rfl)
theorem dX12_promised_67 : decode cX12_promised 67 = .ok (.aload_n 0, 1) := dk_42 (dk_at dksX12_promised_2 20 rfl rfl)
theorem dX12_promised_68 : decode cX12_promised 68 = .ok (.iload 4, 2) := dk_21 4 (dk_at dksX12_promised_2 21 rfl rfl)
theorem dX12_promised_70 : decode cX12_promised 70 = .ok (.iload_n 3, 1) := dk_29 (dk_at dksX12_promised_2 23 rfl rfl)
theorem dX12_promised_71 : decode cX12_promised 71 = .ok (.aload_n 2, 1) := dk_44 (dk_at dksX12_promised_3 0 rfl rfl)
theorem dX12_promised_72 : decode cX12_promised 72 = .ok (.iload_n 3, 1) := dk_29 (dk_at dksX12_promised_3 1 rfl rfl)
theorem dX12_promised_73 : decode cX12_promised 73 = .ok (.iload_n 1, 1) := dk_27 (dk_at dksX12_promised_3 2 rfl rfl)
theorem dX12_promised_74 : decode cX12_promised 74 = .ok (.if_icmp .ne 7, 3) := dk_160 0 7 (dk_at dksX12_promised_3 3 rfl rfl)
theorem dX12_promised_77 : decode cX12_promised 77 = .ok (.iconst 1, 1) := dk_4 (dk_at dksX12_promised_3 6 rfl rfl)
theorem dX12_promised_78 : decode cX12_promised 78 = .ok (.goto 4, 3) := dk_167 0 4 (dk_at dksX12_promised_3 7 rfl rfl)
theorem dX12_promised_81 : decode cX12_promised 81 = .ok (.iconst 0, 1) := dk_3 (dk_at dksX12_promised_3 10 rfl rfl)
theorem dX12_promised_82 : decode cX12_promised 82 = .ok (.invokevirtual 137, 3) := dk_182 0 137 (dk_at dksX12_promised_3 11 rfl rfl)
theorem dX12_promised_85 : decode cX12_promised 85 = .ok (.iload_n 3, 1) := dk_29 (dk_at dksX12_promised_3 14 rfl rfl)
theorem dX12_promised_86 : decode cX12_promised 86 = .ok (.aload_n 2, 1) := dk_44 (dk_at dksX12_promised_3 15 rfl rfl)
theorem dX12_promised_87 : decode cX12_promised 87 = .ok (.invokevirtual 141, 3) := dk_182 0 141 (dk_at dksX12_promised_3 16 rfl rfl)
theorem dX12_promised_90 : decode cX12_promised 90 = .ok (.lastore, 1) := dk_80 (dk_at dksX12_promised_3 19 rfl rfl)
theorem dX12_promised_91 : decode cX12_promised 91 = .ok (.iinc 4 1, 3) := dk_132 4 1 (dk_at dksX12_promised_3 20 rfl rfl)
theorem dX12_promised_94 : decode cX12_promised 94 = .ok (.goto (-47), 3) := dk_167 255 209 (dk_at dksX12_promised_4 0 rfl rfl)
theorem dX12_promised_97 : decode cX12_promised 97 = .ok (.iinc 3 1, 3) := dk_132 3 1 (dk_at dksX12_promised_4 3 rfl rfl)
theorem dX12_promised_100 : decode cX12_promised 100 = .ok (.goto (-64), 3) := dk_167 255 192 (dk_at dksX12_promised_4 6 rfl rfl)
theorem dX12_promised_103 : decode cX12_promised 103 = .ok (.aload_n 2, 1) := dk_44 (dk_at dksX12_promised_4 9 rfl rfl)
theorem dX12_promised_104 : decode cX12_promised 104 = .ok (.bipush 125, 2) := dk_16 125 (dk_at dksX12_promised_4 10 rfl rfl)
theorem dX12_promised_106 : decode cX12_promised 106 = .ok (.aload_n 0, 1) := dk_42 (dk_at dksX12_promised_4 12 rfl rfl)
theorem dX12_promised_107 : decode cX12_promised 107 = .ok (.getfield 9, 3) := dk_180 0 9 (dk_at dksX12_promised_4 13 rfl rfl)
theorem dX12_promised_110 : decode cX12_promised 110 = .ok (.imul, 1) := dk_104 (dk_at dksX12_promised_4 16 rfl rfl)
theorem dX12_promised_111 : decode cX12_promised 111 = .ok (.laload, 1) := dk_47 (dk_at dksX12_promised_4 17 rfl rfl)
theorem dX12_promised_112 : decode cX12_promised 112 = .ok (.lreturn, 1) := dk_173 (dk_at dksX12_promised_4 18 rfl rfl)
abbrev cX12_chosen : ByteArray := prog_8_method_24_code
def yX12_chosen : MethodName := ⟨RX12, "chosen", "(II[JZ)I"⟩
def dkwX12_chosen_3 : List UInt8 := [54, 5, 132, 8, 1, 167, 255, 197, 21, 5, 172]
abbrev dktX12_chosen_3 : List UInt8 := dkwX12_chosen_3 ++ []
def dkwX12_chosen_2 : List UInt8 := [22, 9, 22, 6, 148, 155, 0, 13, 21, 4, 153, 0, 16, 21, 5, 154, 0, 11, 22, 9, 55, 6, 21, 8]
abbrev dktX12_chosen_2 : List UInt8 := dkwX12_chosen_2 ++ dktX12_chosen_3
def dkwX12_chosen_1 : List UInt8 := [21, 8, 27, 182, 0, 128, 154, 0, 6, 167, 0, 40, 42, 27, 21, 8, 28, 45, 182, 0, 102, 55, 9]
abbrev dktX12_chosen_1 : List UInt8 := dkwX12_chosen_1 ++ dktX12_chosen_2
def dkwX12_chosen_0 : List UInt8 := [3, 54, 5, 42, 27, 3, 28, 45, 182, 0, 102, 55, 6, 4, 54, 8, 21, 8, 27, 163, 0, 59, 42]
abbrev dktX12_chosen_0 : List UInt8 := dkwX12_chosen_0 ++ dktX12_chosen_1
theorem dksX12_chosen_0 : cX12_chosen.data.toList.drop 0 = dktX12_chosen_0 := by decide +kernel
theorem dksX12_chosen_1 : cX12_chosen.data.toList.drop 23 = dktX12_chosen_1 := dk_seg dksX12_chosen_0 23 rfl rfl
theorem dksX12_chosen_2 : cX12_chosen.data.toList.drop 46 = dktX12_chosen_2 := dk_seg dksX12_chosen_1 23 rfl rfl
theorem dksX12_chosen_3 : cX12_chosen.data.toList.drop 70 = dktX12_chosen_3 := dk_seg dksX12_chosen_2 24 rfl rfl
theorem dX12_chosen_0 : decode cX12_chosen 0 = .ok (.iconst 0, 1) := dk_3 (dk_at dksX12_chosen_0 0 rfl rfl)
theorem dX12_chosen_1 : decode cX12_chosen 1 = .ok (.istore 5, 2) := dk_54 5 (dk_at dksX12_chosen_0 1 rfl rfl)
theorem dX12_chosen_3 : decode cX12_chosen 3 = .ok (.aload_n 0, 1) := dk_42 (dk_at dksX12_chosen_0 3 rfl rfl)
theorem dX12_chosen_4 : decode cX12_chosen 4 = .ok (.iload_n 1, 1) := dk_27 (dk_at dksX12_chosen_0 4 rfl rfl)
theorem dX12_chosen_5 : decode cX12_chosen 5 = .ok (.iconst 0, 1) := dk_3 (dk_at dksX12_chosen_0 5 rfl rfl)
theorem dX12_chosen_6 : decode cX12_chosen 6 = .ok (.iload_n 2, 1) := dk_28 (dk_at dksX12_chosen_0 6 rfl rfl)
theorem dX12_chosen_7 : decode cX12_chosen 7 = .ok (.aload_n 3, 1) := dk_45 (dk_at dksX12_chosen_0 7 rfl rfl)
theorem dX12_chosen_8 : decode cX12_chosen 8 = .ok (.invokevirtual 102, 3) := dk_182 0 102 (dk_at dksX12_chosen_0 8 rfl rfl)
theorem dX12_chosen_11 : decode cX12_chosen 11 = .ok (.lstore 6, 2) := dk_55 6 (dk_at dksX12_chosen_0 11 rfl rfl)
theorem dX12_chosen_13 : decode cX12_chosen 13 = .ok (.iconst 1, 1) := dk_4 (dk_at dksX12_chosen_0 13 rfl rfl)
theorem dX12_chosen_14 : decode cX12_chosen 14 = .ok (.istore 8, 2) := dk_54 8 (dk_at dksX12_chosen_0 14 rfl rfl)
theorem dX12_chosen_16 : decode cX12_chosen 16 = .ok (.iload 8, 2) := dk_21 8 (dk_at dksX12_chosen_0 16 rfl rfl)
theorem dX12_chosen_18 : decode cX12_chosen 18 = .ok (.iload_n 1, 1) := dk_27 (dk_at dksX12_chosen_0 18 rfl rfl)
theorem dX12_chosen_19 : decode cX12_chosen 19 = .ok (.if_icmp .gt 59, 3) := dk_163 0 59 (dk_at dksX12_chosen_0 19 rfl rfl)
theorem dX12_chosen_22 : decode cX12_chosen 22 = .ok (.aload_n 0, 1) := dk_42 (dk_at dksX12_chosen_0 22 rfl rfl)
theorem dX12_chosen_23 : decode cX12_chosen 23 = .ok (.iload 8, 2) := dk_21 8 (dk_at dksX12_chosen_1 0 rfl rfl)
theorem dX12_chosen_25 : decode cX12_chosen 25 = .ok (.iload_n 1, 1) := dk_27 (dk_at dksX12_chosen_1 2 rfl rfl)
theorem dX12_chosen_26 : decode cX12_chosen 26 = .ok (.invokevirtual 128, 3) := dk_182 0 128 (dk_at dksX12_chosen_1 3 rfl rfl)
theorem dX12_chosen_29 : decode cX12_chosen 29 = .ok (.ifCond .ne 6, 3) := dk_154 0 6 (dk_at dksX12_chosen_1 6 rfl rfl)
theorem dX12_chosen_32 : decode cX12_chosen 32 = .ok (.goto 40, 3) := dk_167 0 40 (dk_at dksX12_chosen_1 9 rfl rfl)
theorem dX12_chosen_35 : decode cX12_chosen 35 = .ok (.aload_n 0, 1) := dk_42 (dk_at dksX12_chosen_1 12 rfl rfl)
theorem dX12_chosen_36 : decode cX12_chosen 36 = .ok (.iload_n 1, 1) := dk_27 (dk_at dksX12_chosen_1 13 rfl rfl)
theorem dX12_chosen_37 : decode cX12_chosen 37 = .ok (.iload 8, 2) := dk_21 8 (dk_at dksX12_chosen_1 14 rfl rfl)
theorem dX12_chosen_39 : decode cX12_chosen 39 = .ok (.iload_n 2, 1) := dk_28 (dk_at dksX12_chosen_1 16 rfl rfl)
theorem dX12_chosen_40 : decode cX12_chosen 40 = .ok (.aload_n 3, 1) := dk_45 (dk_at dksX12_chosen_1 17 rfl rfl)
theorem dX12_chosen_41 : decode cX12_chosen 41 = .ok (.invokevirtual 102, 3) := dk_182 0 102 (dk_at dksX12_chosen_1 18 rfl rfl)
theorem dX12_chosen_44 : decode cX12_chosen 44 = .ok (.lstore 9, 2) := dk_55 9 (dk_at dksX12_chosen_1 21 rfl rfl)
theorem dX12_chosen_46 : decode cX12_chosen 46 = .ok (.lload 9, 2) := dk_22 9 (dk_at dksX12_chosen_2 0 rfl rfl)
theorem dX12_chosen_48 : decode cX12_chosen 48 = .ok (.lload 6, 2) := dk_22 6 (dk_at dksX12_chosen_2 2 rfl rfl)
theorem dX12_chosen_50 : decode cX12_chosen 50 = .ok (.lcmp, 1) := dk_148 (dk_at dksX12_chosen_2 4 rfl rfl)
theorem dX12_chosen_51 : decode cX12_chosen 51 = .ok (.ifCond .lt 13, 3) := dk_155 0 13 (dk_at dksX12_chosen_2 5 rfl rfl)
theorem dX12_chosen_54 : decode cX12_chosen 54 = .ok (.iload 4, 2) := dk_21 4 (dk_at dksX12_chosen_2 8 rfl rfl)
theorem dX12_chosen_56 : decode cX12_chosen 56 = .ok (.ifCond .eq 16, 3) := dk_153 0 16 (dk_at dksX12_chosen_2 10 rfl rfl)
theorem dX12_chosen_59 : decode cX12_chosen 59 = .ok (.iload 5, 2) := dk_21 5 (dk_at dksX12_chosen_2 13 rfl rfl)
theorem dX12_chosen_61 : decode cX12_chosen 61 = .ok (.ifCond .ne 11, 3) := dk_154 0 11 (dk_at dksX12_chosen_2 15 rfl rfl)
theorem dX12_chosen_64 : decode cX12_chosen 64 = .ok (.lload 9, 2) := dk_22 9 (dk_at dksX12_chosen_2 18 rfl rfl)
theorem dX12_chosen_66 : decode cX12_chosen 66 = .ok (.lstore 6, 2) := dk_55 6 (dk_at dksX12_chosen_2 20 rfl rfl)
theorem dX12_chosen_68 : decode cX12_chosen 68 = .ok (.iload 8, 2) := dk_21 8 (dk_at dksX12_chosen_2 22 rfl rfl)
theorem dX12_chosen_70 : decode cX12_chosen 70 = .ok (.istore 5, 2) := dk_54 5 (dk_at dksX12_chosen_3 0 rfl rfl)
theorem dX12_chosen_72 : decode cX12_chosen 72 = .ok (.iinc 8 1, 3) := dk_132 8 1 (dk_at dksX12_chosen_3 2 rfl rfl)
theorem dX12_chosen_75 : decode cX12_chosen 75 = .ok (.goto (-59), 3) := dk_167 255 197 (dk_at dksX12_chosen_3 5 rfl rfl)
theorem dX12_chosen_78 : decode cX12_chosen 78 = .ok (.iload 5, 2) := dk_21 5 (dk_at dksX12_chosen_3 8 rfl rfl)
theorem dX12_chosen_80 : decode cX12_chosen 80 = .ok (.ireturn, 1) := dk_172 (dk_at dksX12_chosen_3 10 rfl rfl)
abbrev cX12_joined : ByteArray := prog_8_method_4_code
def yX12_joined : MethodName := ⟨RX12, "joined", "(LSendTheBox$House;)LSendTheBox$House;"⟩
def dkwX12_joined_1 : List UInt8 := [167, 255, 239, 44, 176]
abbrev dktX12_joined_1 : List UInt8 := dkwX12_joined_1 ++ []
def dkwX12_joined_0 : List UInt8 := [42, 182, 0, 48, 77, 3, 62, 29, 43, 180, 0, 41, 162, 0, 15, 44, 43, 29, 182, 0, 44, 132, 3, 1]
abbrev dktX12_joined_0 : List UInt8 := dkwX12_joined_0 ++ dktX12_joined_1
theorem dksX12_joined_0 : cX12_joined.data.toList.drop 0 = dktX12_joined_0 := by decide +kernel
theorem dksX12_joined_1 : cX12_joined.data.toList.drop 24 = dktX12_joined_1 := dk_seg dksX12_joined_0 24 rfl rfl
theorem dX12_joined_0 : decode cX12_joined 0 = .ok (.aload_n 0, 1) := dk_42 (dk_at dksX12_joined_0 0 rfl rfl)
theorem dX12_joined_1 : decode cX12_joined 1 = .ok (.invokevirtual 48, 3) := dk_182 0 48 (dk_at dksX12_joined_0 1 rfl rfl)
theorem dX12_joined_4 : decode cX12_joined 4 = .ok (.astore_n 2, 1) := dk_77 (dk_at dksX12_joined_0 4 rfl rfl)
theorem dX12_joined_5 : decode cX12_joined 5 = .ok (.iconst 0, 1) := dk_3 (dk_at dksX12_joined_0 5 rfl rfl)
theorem dX12_joined_6 : decode cX12_joined 6 = .ok (.istore_n 3, 1) := dk_62 (dk_at dksX12_joined_0 6 rfl rfl)
theorem dX12_joined_7 : decode cX12_joined 7 = .ok (.iload_n 3, 1) := dk_29 (dk_at dksX12_joined_0 7 rfl rfl)
theorem dX12_joined_8 : decode cX12_joined 8 = .ok (.aload_n 1, 1) := dk_43 (dk_at dksX12_joined_0 8 rfl rfl)
theorem dX12_joined_9 : decode cX12_joined 9 = .ok (.getfield 41, 3) := dk_180 0 41 (dk_at dksX12_joined_0 9 rfl rfl)
theorem dX12_joined_12 : decode cX12_joined 12 = .ok (.if_icmp .ge 15, 3) := dk_162 0 15 (dk_at dksX12_joined_0 12 rfl rfl)
theorem dX12_joined_15 : decode cX12_joined 15 = .ok (.aload_n 2, 1) := dk_44 (dk_at dksX12_joined_0 15 rfl rfl)
theorem dX12_joined_16 : decode cX12_joined 16 = .ok (.aload_n 1, 1) := dk_43 (dk_at dksX12_joined_0 16 rfl rfl)
theorem dX12_joined_17 : decode cX12_joined 17 = .ok (.iload_n 3, 1) := dk_29 (dk_at dksX12_joined_0 17 rfl rfl)
theorem dX12_joined_18 : decode cX12_joined 18 = .ok (.invokevirtual 44, 3) := dk_182 0 44 (dk_at dksX12_joined_0 18 rfl rfl)
theorem dX12_joined_21 : decode cX12_joined 21 = .ok (.iinc 3 1, 3) := dk_132 3 1 (dk_at dksX12_joined_0 21 rfl rfl)
theorem dX12_joined_24 : decode cX12_joined 24 = .ok (.goto (-17), 3) := dk_167 255 239 (dk_at dksX12_joined_1 0 rfl rfl)
theorem dX12_joined_27 : decode cX12_joined 27 = .ok (.aload_n 2, 1) := dk_44 (dk_at dksX12_joined_1 3 rfl rfl)
theorem dX12_joined_28 : decode cX12_joined 28 = .ok (.areturn, 1) := dk_176 (dk_at dksX12_joined_1 4 rfl rfl)
abbrev cX12_copied : ByteArray := prog_8_method_2_code
def yX12_copied : MethodName := ⟨RX12, "copied", "()LSendTheBox$House;"⟩
def dkwX12_copied_2 : List UInt8 := [162, 0, 15, 43, 42, 28, 182, 0, 44, 132, 2, 1, 167, 255, 239, 43, 176]
abbrev dktX12_copied_2 : List UInt8 := dkwX12_copied_2 ++ []
def dkwX12_copied_1 : List UInt8 := [43, 42, 180, 0, 18, 181, 0, 18, 43, 42, 180, 0, 38, 181, 0, 38, 3, 61, 28, 42, 180, 0, 41]
abbrev dktX12_copied_1 : List UInt8 := dkwX12_copied_1 ++ dktX12_copied_2
def dkwX12_copied_0 : List UInt8 := [187, 0, 10, 89, 183, 0, 37, 76, 43, 42, 180, 0, 9, 181, 0, 9, 43, 42, 180, 0, 15, 181, 0, 15]
abbrev dktX12_copied_0 : List UInt8 := dkwX12_copied_0 ++ dktX12_copied_1
theorem dksX12_copied_0 : cX12_copied.data.toList.drop 0 = dktX12_copied_0 := by decide +kernel
theorem dksX12_copied_1 : cX12_copied.data.toList.drop 24 = dktX12_copied_1 := dk_seg dksX12_copied_0 24 rfl rfl
theorem dksX12_copied_2 : cX12_copied.data.toList.drop 47 = dktX12_copied_2 := dk_seg dksX12_copied_1 23 rfl rfl
theorem dX12_copied_0 : decode cX12_copied 0 = .ok (.new 10, 3) := dk_187 0 10 (dk_at dksX12_copied_0 0 rfl rfl)
theorem dX12_copied_3 : decode cX12_copied 3 = .ok (.dup, 1) := dk_89 (dk_at dksX12_copied_0 3 rfl rfl)
theorem dX12_copied_4 : decode cX12_copied 4 = .ok (.invokespecial 37, 3) := dk_183 0 37 (dk_at dksX12_copied_0 4 rfl rfl)
theorem dX12_copied_7 : decode cX12_copied 7 = .ok (.astore_n 1, 1) := dk_76 (dk_at dksX12_copied_0 7 rfl rfl)
theorem dX12_copied_8 : decode cX12_copied 8 = .ok (.aload_n 1, 1) := dk_43 (dk_at dksX12_copied_0 8 rfl rfl)
theorem dX12_copied_9 : decode cX12_copied 9 = .ok (.aload_n 0, 1) := dk_42 (dk_at dksX12_copied_0 9 rfl rfl)
theorem dX12_copied_10 : decode cX12_copied 10 = .ok (.getfield 9, 3) := dk_180 0 9 (dk_at dksX12_copied_0 10 rfl rfl)
theorem dX12_copied_13 : decode cX12_copied 13 = .ok (.putfield 9, 3) := dk_181 0 9 (dk_at dksX12_copied_0 13 rfl rfl)
theorem dX12_copied_16 : decode cX12_copied 16 = .ok (.aload_n 1, 1) := dk_43 (dk_at dksX12_copied_0 16 rfl rfl)
theorem dX12_copied_17 : decode cX12_copied 17 = .ok (.aload_n 0, 1) := dk_42 (dk_at dksX12_copied_0 17 rfl rfl)
theorem dX12_copied_18 : decode cX12_copied 18 = .ok (.getfield 15, 3) := dk_180 0 15 (dk_at dksX12_copied_0 18 rfl rfl)
theorem dX12_copied_21 : decode cX12_copied 21 = .ok (.putfield 15, 3) := dk_181 0 15 (dk_at dksX12_copied_0 21 rfl rfl)
theorem dX12_copied_24 : decode cX12_copied 24 = .ok (.aload_n 1, 1) := dk_43 (dk_at dksX12_copied_1 0 rfl rfl)
theorem dX12_copied_25 : decode cX12_copied 25 = .ok (.aload_n 0, 1) := dk_42 (dk_at dksX12_copied_1 1 rfl rfl)
theorem dX12_copied_26 : decode cX12_copied 26 = .ok (.getfield 18, 3) := dk_180 0 18 (dk_at dksX12_copied_1 2 rfl rfl)
theorem dX12_copied_29 : decode cX12_copied 29 = .ok (.putfield 18, 3) := dk_181 0 18 (dk_at dksX12_copied_1 5 rfl rfl)
theorem dX12_copied_32 : decode cX12_copied 32 = .ok (.aload_n 1, 1) := dk_43 (dk_at dksX12_copied_1 8 rfl rfl)
theorem dX12_copied_33 : decode cX12_copied 33 = .ok (.aload_n 0, 1) := dk_42 (dk_at dksX12_copied_1 9 rfl rfl)
theorem dX12_copied_34 : decode cX12_copied 34 = .ok (.getfield 38, 3) := dk_180 0 38 (dk_at dksX12_copied_1 10 rfl rfl)
theorem dX12_copied_37 : decode cX12_copied 37 = .ok (.putfield 38, 3) := dk_181 0 38 (dk_at dksX12_copied_1 13 rfl rfl)
theorem dX12_copied_40 : decode cX12_copied 40 = .ok (.iconst 0, 1) := dk_3 (dk_at dksX12_copied_1 16 rfl rfl)
theorem dX12_copied_41 : decode cX12_copied 41 = .ok (.istore_n 2, 1) := dk_61 (dk_at dksX12_copied_1 17 rfl rfl)
theorem dX12_copied_42 : decode cX12_copied 42 = .ok (.iload_n 2, 1) := dk_28 (dk_at dksX12_copied_1 18 rfl rfl)
theorem dX12_copied_43 : decode cX12_copied 43 = .ok (.aload_n 0, 1) := dk_42 (dk_at dksX12_copied_1 19 rfl rfl)
theorem dX12_copied_44 : decode cX12_copied 44 = .ok (.getfield 41, 3) := dk_180 0 41 (dk_at dksX12_copied_1 20 rfl rfl)
theorem dX12_copied_47 : decode cX12_copied 47 = .ok (.if_icmp .ge 15, 3) := dk_162 0 15 (dk_at dksX12_copied_2 0 rfl rfl)
theorem dX12_copied_50 : decode cX12_copied 50 = .ok (.aload_n 1, 1) := dk_43 (dk_at dksX12_copied_2 3 rfl rfl)
theorem dX12_copied_51 : decode cX12_copied 51 = .ok (.aload_n 0, 1) := dk_42 (dk_at dksX12_copied_2 4 rfl rfl)
theorem dX12_copied_52 : decode cX12_copied 52 = .ok (.iload_n 2, 1) := dk_28 (dk_at dksX12_copied_2 5 rfl rfl)
theorem dX12_copied_53 : decode cX12_copied 53 = .ok (.invokevirtual 44, 3) := dk_182 0 44 (dk_at dksX12_copied_2 6 rfl rfl)
theorem dX12_copied_56 : decode cX12_copied 56 = .ok (.iinc 2 1, 3) := dk_132 2 1 (dk_at dksX12_copied_2 9 rfl rfl)
theorem dX12_copied_59 : decode cX12_copied 59 = .ok (.goto (-17), 3) := dk_167 255 239 (dk_at dksX12_copied_2 12 rfl rfl)
theorem dX12_copied_62 : decode cX12_copied 62 = .ok (.aload_n 1, 1) := dk_43 (dk_at dksX12_copied_2 15 rfl rfl)
theorem dX12_copied_63 : decode cX12_copied 63 = .ok (.areturn, 1) := dk_176 (dk_at dksX12_copied_2 16 rfl rfl)
abbrev cX12_takes : ByteArray := prog_8_method_3_code
def yX12_takes : MethodName := ⟨RX12, "takes", "(LSendTheBox$House;I)V"⟩
def dkwX12_takes_3 : List UInt8 := [180, 0, 34, 28, 46, 79, 42, 89, 180, 0, 41, 4, 96, 181, 0, 41, 177]
abbrev dktX12_takes_3 : List UInt8 := dkwX12_takes_3 ++ []
def dkwX12_takes_2 : List UInt8 := [180, 0, 31, 42, 180, 0, 41, 43, 180, 0, 31, 28, 46, 79, 42, 180, 0, 34, 42, 180, 0, 41, 43]
abbrev dktX12_takes_2 : List UInt8 := dkwX12_takes_2 ++ dktX12_takes_3
def dkwX12_takes_1 : List UInt8 := [180, 0, 25, 28, 46, 79, 42, 180, 0, 28, 42, 180, 0, 41, 43, 180, 0, 28, 28, 46, 79, 42]
abbrev dktX12_takes_1 : List UInt8 := dkwX12_takes_1 ++ dktX12_takes_2
def dkwX12_takes_0 : List UInt8 := [42, 180, 0, 21, 42, 180, 0, 41, 43, 180, 0, 21, 28, 46, 79, 42, 180, 0, 25, 42, 180, 0, 41, 43]
abbrev dktX12_takes_0 : List UInt8 := dkwX12_takes_0 ++ dktX12_takes_1
theorem dksX12_takes_0 : cX12_takes.data.toList.drop 0 = dktX12_takes_0 := by decide +kernel
theorem dksX12_takes_1 : cX12_takes.data.toList.drop 24 = dktX12_takes_1 := dk_seg dksX12_takes_0 24 rfl rfl
theorem dksX12_takes_2 : cX12_takes.data.toList.drop 46 = dktX12_takes_2 := dk_seg dksX12_takes_1 22 rfl rfl
theorem dksX12_takes_3 : cX12_takes.data.toList.drop 69 = dktX12_takes_3 := dk_seg dksX12_takes_2 23 rfl rfl
theorem dX12_takes_0 : decode cX12_takes 0 = .ok (.aload_n 0, 1) := dk_42 (dk_at dksX12_takes_0 0 rfl rfl)
theorem dX12_takes_1 : decode cX12_takes 1 = .ok (.getfield 21, 3) := dk_180 0 21 (dk_at dksX12_takes_0 1 rfl rfl)
theorem dX12_takes_4 : decode cX12_takes 4 = .ok (.aload_n 0, 1) := dk_42 (dk_at dksX12_takes_0 4 rfl rfl)
theorem dX12_takes_5 : decode cX12_takes 5 = .ok (.getfield 41, 3) := dk_180 0 41 (dk_at dksX12_takes_0 5 rfl rfl)
theorem dX12_takes_8 : decode cX12_takes 8 = .ok (.aload_n 1, 1) := dk_43 (dk_at dksX12_takes_0 8 rfl rfl)
theorem dX12_takes_9 : decode cX12_takes 9 = .ok (.getfield 21, 3) := dk_180 0 21 (dk_at dksX12_takes_0 9 rfl rfl)
theorem dX12_takes_12 : decode cX12_takes 12 = .ok (.iload_n 2, 1) := dk_28 (dk_at dksX12_takes_0 12 rfl rfl)
theorem dX12_takes_13 : decode cX12_takes 13 = .ok (.iaload, 1) := dk_46 (dk_at dksX12_takes_0 13 rfl rfl)
theorem dX12_takes_14 : decode cX12_takes 14 = .ok (.iastore, 1) := dk_79 (dk_at dksX12_takes_0 14 rfl rfl)
theorem dX12_takes_15 : decode cX12_takes 15 = .ok (.aload_n 0, 1) := dk_42 (dk_at dksX12_takes_0 15 rfl rfl)
theorem dX12_takes_16 : decode cX12_takes 16 = .ok (.getfield 25, 3) := dk_180 0 25 (dk_at dksX12_takes_0 16 rfl rfl)
theorem dX12_takes_19 : decode cX12_takes 19 = .ok (.aload_n 0, 1) := dk_42 (dk_at dksX12_takes_0 19 rfl rfl)
theorem dX12_takes_20 : decode cX12_takes 20 = .ok (.getfield 41, 3) := dk_180 0 41 (dk_at dksX12_takes_0 20 rfl rfl)
theorem dX12_takes_23 : decode cX12_takes 23 = .ok (.aload_n 1, 1) := dk_43 (dk_at dksX12_takes_0 23 rfl rfl)
theorem dX12_takes_24 : decode cX12_takes 24 = .ok (.getfield 25, 3) := dk_180 0 25 (dk_at dksX12_takes_1 0 rfl rfl)
theorem dX12_takes_27 : decode cX12_takes 27 = .ok (.iload_n 2, 1) := dk_28 (dk_at dksX12_takes_1 3 rfl rfl)
theorem dX12_takes_28 : decode cX12_takes 28 = .ok (.iaload, 1) := dk_46 (dk_at dksX12_takes_1 4 rfl rfl)
theorem dX12_takes_29 : decode cX12_takes 29 = .ok (.iastore, 1) := dk_79 (dk_at dksX12_takes_1 5 rfl rfl)
theorem dX12_takes_30 : decode cX12_takes 30 = .ok (.aload_n 0, 1) := dk_42 (dk_at dksX12_takes_1 6 rfl rfl)
theorem dX12_takes_31 : decode cX12_takes 31 = .ok (.getfield 28, 3) := dk_180 0 28 (dk_at dksX12_takes_1 7 rfl rfl)
theorem dX12_takes_34 : decode cX12_takes 34 = .ok (.aload_n 0, 1) := dk_42 (dk_at dksX12_takes_1 10 rfl rfl)
theorem dX12_takes_35 : decode cX12_takes 35 = .ok (.getfield 41, 3) := dk_180 0 41 (dk_at dksX12_takes_1 11 rfl rfl)
theorem dX12_takes_38 : decode cX12_takes 38 = .ok (.aload_n 1, 1) := dk_43 (dk_at dksX12_takes_1 14 rfl rfl)
theorem dX12_takes_39 : decode cX12_takes 39 = .ok (.getfield 28, 3) := dk_180 0 28 (dk_at dksX12_takes_1 15 rfl rfl)
theorem dX12_takes_42 : decode cX12_takes 42 = .ok (.iload_n 2, 1) := dk_28 (dk_at dksX12_takes_1 18 rfl rfl)
theorem dX12_takes_43 : decode cX12_takes 43 = .ok (.iaload, 1) := dk_46 (dk_at dksX12_takes_1 19 rfl rfl)
theorem dX12_takes_44 : decode cX12_takes 44 = .ok (.iastore, 1) := dk_79 (dk_at dksX12_takes_1 20 rfl rfl)
theorem dX12_takes_45 : decode cX12_takes 45 = .ok (.aload_n 0, 1) := dk_42 (dk_at dksX12_takes_1 21 rfl rfl)
theorem dX12_takes_46 : decode cX12_takes 46 = .ok (.getfield 31, 3) := dk_180 0 31 (dk_at dksX12_takes_2 0 rfl rfl)
theorem dX12_takes_49 : decode cX12_takes 49 = .ok (.aload_n 0, 1) := dk_42 (dk_at dksX12_takes_2 3 rfl rfl)
theorem dX12_takes_50 : decode cX12_takes 50 = .ok (.getfield 41, 3) := dk_180 0 41 (dk_at dksX12_takes_2 4 rfl rfl)
theorem dX12_takes_53 : decode cX12_takes 53 = .ok (.aload_n 1, 1) := dk_43 (dk_at dksX12_takes_2 7 rfl rfl)
theorem dX12_takes_54 : decode cX12_takes 54 = .ok (.getfield 31, 3) := dk_180 0 31 (dk_at dksX12_takes_2 8 rfl rfl)
theorem dX12_takes_57 : decode cX12_takes 57 = .ok (.iload_n 2, 1) := dk_28 (dk_at dksX12_takes_2 11 rfl rfl)
theorem dX12_takes_58 : decode cX12_takes 58 = .ok (.iaload, 1) := dk_46 (dk_at dksX12_takes_2 12 rfl rfl)
theorem dX12_takes_59 : decode cX12_takes 59 = .ok (.iastore, 1) := dk_79 (dk_at dksX12_takes_2 13 rfl rfl)
theorem dX12_takes_60 : decode cX12_takes 60 = .ok (.aload_n 0, 1) := dk_42 (dk_at dksX12_takes_2 14 rfl rfl)
theorem dX12_takes_61 : decode cX12_takes 61 = .ok (.getfield 34, 3) := dk_180 0 34 (dk_at dksX12_takes_2 15 rfl rfl)
theorem dX12_takes_64 : decode cX12_takes 64 = .ok (.aload_n 0, 1) := dk_42 (dk_at dksX12_takes_2 18 rfl rfl)
theorem dX12_takes_65 : decode cX12_takes 65 = .ok (.getfield 41, 3) := dk_180 0 41 (dk_at dksX12_takes_2 19 rfl rfl)
theorem dX12_takes_68 : decode cX12_takes 68 = .ok (.aload_n 1, 1) := dk_43 (dk_at dksX12_takes_2 22 rfl rfl)
theorem dX12_takes_69 : decode cX12_takes 69 = .ok (.getfield 34, 3) := dk_180 0 34 (dk_at dksX12_takes_3 0 rfl rfl)
theorem dX12_takes_72 : decode cX12_takes 72 = .ok (.iload_n 2, 1) := dk_28 (dk_at dksX12_takes_3 3 rfl rfl)
theorem dX12_takes_73 : decode cX12_takes 73 = .ok (.iaload, 1) := dk_46 (dk_at dksX12_takes_3 4 rfl rfl)
theorem dX12_takes_74 : decode cX12_takes 74 = .ok (.iastore, 1) := dk_79 (dk_at dksX12_takes_3 5 rfl rfl)
theorem dX12_takes_75 : decode cX12_takes 75 = .ok (.aload_n 0, 1) := dk_42 (dk_at dksX12_takes_3 6 rfl rfl)
theorem dX12_takes_76 : decode cX12_takes 76 = .ok (.dup, 1) := dk_89 (dk_at dksX12_takes_3 7 rfl rfl)
theorem dX12_takes_77 : decode cX12_takes 77 = .ok (.getfield 41, 3) := dk_180 0 41 (dk_at dksX12_takes_3 8 rfl rfl)
theorem dX12_takes_80 : decode cX12_takes 80 = .ok (.iconst 1, 1) := dk_4 (dk_at dksX12_takes_3 11 rfl rfl)
theorem dX12_takes_81 : decode cX12_takes 81 = .ok (.iadd, 1) := dk_96 (dk_at dksX12_takes_3 12 rfl rfl)
theorem dX12_takes_82 : decode cX12_takes 82 = .ok (.putfield 41, 3) := dk_181 0 41 (dk_at dksX12_takes_3 13 rfl rfl)
theorem dX12_takes_85 : decode cX12_takes 85 = .ok (.return_, 1) := dk_177 (dk_at dksX12_takes_3 16 rfl rfl)
theorem q92 : (Jvm.Cond.initialized "SendTheBox$House") ∈ lw_all := lw_g (lw_at lw_m1 24 rfl) rfl
theorem q572 : (Jvm.Cond.instantiable "SendTheBox$House" (17 : Nat)) ∈ lw_all := lw_g (lw_at lw_m3 24 rfl) rfl
theorem q574 : (Jvm.Cond.instanceMethod ({ cls := "SendTheBox$House", name := "<init>", desc := "()V" } : Jvm.MethodName)) ∈ lw_all := lw_g (lw_at lw_m3 26 rfl) rfl
theorem q575 : (Jvm.Cond.code ({ cls := "SendTheBox$House", name := "<init>", desc := "()V" } : Jvm.MethodName) prog_8_method_1_code (1 : Nat) (Option.none : Option Jvm.ClassFile.FieldType)) ∈ lw_all := lw_g (lw_at lw_m3 27 rfl) rfl
theorem q576 : (Jvm.Cond.methodLink "SendTheBox$House" (3 : Nat) ({ cls := "java/lang/Object", name := "<init>", desc := "()V" } : Jvm.MethodName)) ∈ lw_all := lw_g (lw_at lw_m3 28 rfl) rfl
theorem q577 : (Jvm.Cond.fieldLink "SendTheBox$House" (9 : Nat) "SendTheBox$House" "days" "I") ∈ lw_all := lw_g (lw_at lw_m3 29 rfl) rfl
theorem q581 : (Jvm.Cond.fieldLink "SendTheBox$House" (15 : Nat) "SendTheBox$House" "box" "I") ∈ lw_all := lw_g (lw_at lw_m3 33 rfl) rfl
theorem q585 : (Jvm.Cond.fieldLink "SendTheBox$House" (18 : Nat) "SendTheBox$House" "room" "I") ∈ lw_all := lw_g (lw_at lw_m3 37 rfl) rfl
theorem q588 : (Jvm.Cond.fieldLink "SendTheBox$House" (38 : Nat) "SendTheBox$House" "full" "I") ∈ lw_all := lw_g (lw_at lw_m3 40 rfl) rfl
theorem q592 : (Jvm.Cond.fieldLink "SendTheBox$House" (41 : Nat) "SendTheBox$House" "sorts" "I") ∈ lw_all := lw_g (lw_at lw_m3 44 rfl) rfl
theorem q596 : (Jvm.Cond.fieldLink "SendTheBox$House" (21 : Nat) "SendTheBox$House" "size" "[I") ∈ lw_all := lw_g (lw_at lw_m3 48 rfl) rfl
theorem q599 : (Jvm.Cond.fieldLink "SendTheBox$House" (25 : Nat) "SendTheBox$House" "comes" "[I") ∈ lw_all := lw_g (lw_at lw_m3 51 rfl) rfl
theorem q603 : (Jvm.Cond.fieldLink "SendTheBox$House" (28 : Nat) "SendTheBox$House" "hold" "[I") ∈ lw_all := lw_g (lw_at lw_m3 55 rfl) rfl
theorem q606 : (Jvm.Cond.fieldLink "SendTheBox$House" (31 : Nat) "SendTheBox$House" "refuse" "[I") ∈ lw_all := lw_g (lw_at lw_m3 58 rfl) rfl
theorem q610 : (Jvm.Cond.fieldLink "SendTheBox$House" (34 : Nat) "SendTheBox$House" "left" "[I") ∈ lw_all := lw_g (lw_at lw_m3 62 rfl) rfl
theorem q613 : (Jvm.Cond.fieldLink "SendTheBox$House" (111 : Nat) "SendTheBox$House" "worth" "[J") ∈ lw_all := lw_g (lw_at lw_m3 65 rfl) rfl
theorem q614 : (Jvm.Cond.fieldLink "SendTheBox$House" (114 : Nat) "SendTheBox$House" "loads" "[I") ∈ lw_all := lw_g (lw_at lw_m3 66 rfl) rfl
theorem q615 : (Jvm.Cond.fieldLink "SendTheBox$House" (52 : Nat) "SendTheBox$House" "isFound" "Z") ∈ lw_all := lw_g (lw_at lw_m3 67 rfl) rfl
theorem q616 : (Jvm.Cond.fieldLink "SendTheBox$House" (56 : Nat) "SendTheBox$House" "tried" "[J") ∈ lw_all := lw_g (lw_at lw_m3 68 rfl) rfl
theorem q617 : (Jvm.Cond.fieldLink "SendTheBox$House" (60 : Nat) "SendTheBox$House" "behind" "[J") ∈ lw_all := lw_g (lw_at lw_m3 69 rfl) rfl
theorem q618 : (Jvm.Cond.fieldLink "SendTheBox$House" (63 : Nat) "SendTheBox$House" "ones" "[J") ∈ lw_all := lw_g (lw_at lw_m3 70 rfl) rfl
theorem q619 : (Jvm.Cond.fieldLink "SendTheBox$House" (66 : Nat) "SendTheBox$House" "twos" "[J") ∈ lw_all := lw_g (lw_at lw_m3 71 rfl) rfl
theorem q620 : (Jvm.Cond.lays "SendTheBox$House" "SendTheBox$House" "days" "I") ∈ lw_all := lw_g (lw_at lw_m3 72 rfl) rfl
theorem q621 : (Jvm.Cond.soleField "SendTheBox$House" "days") ∈ lw_all := lw_g (lw_at lw_m3 73 rfl) rfl
theorem q622 : (Jvm.Cond.lays "SendTheBox$House" "SendTheBox$House" "box" "I") ∈ lw_all := lw_g (lw_at lw_m3 74 rfl) rfl
theorem q623 : (Jvm.Cond.soleField "SendTheBox$House" "box") ∈ lw_all := lw_g (lw_at lw_m3 75 rfl) rfl
theorem q624 : (Jvm.Cond.lays "SendTheBox$House" "SendTheBox$House" "room" "I") ∈ lw_all := lw_g (lw_at lw_m3 76 rfl) rfl
theorem q625 : (Jvm.Cond.soleField "SendTheBox$House" "room") ∈ lw_all := lw_g (lw_at lw_m3 77 rfl) rfl
theorem q626 : (Jvm.Cond.lays "SendTheBox$House" "SendTheBox$House" "full" "I") ∈ lw_all := lw_g (lw_at lw_m3 78 rfl) rfl
theorem q627 : (Jvm.Cond.soleField "SendTheBox$House" "full") ∈ lw_all := lw_g (lw_at lw_m3 79 rfl) rfl
theorem q628 : (Jvm.Cond.lays "SendTheBox$House" "SendTheBox$House" "sorts" "I") ∈ lw_all := lw_g (lw_at lw_m3 80 rfl) rfl
theorem q629 : (Jvm.Cond.soleField "SendTheBox$House" "sorts") ∈ lw_all := lw_g (lw_at lw_m3 81 rfl) rfl
theorem q630 : (Jvm.Cond.laysFinal "SendTheBox$House" "SendTheBox$House" "size" "[I") ∈ lw_all := lw_g (lw_at lw_m3 82 rfl) rfl
theorem q631 : (Jvm.Cond.soleField "SendTheBox$House" "size") ∈ lw_all := lw_g (lw_at lw_m3 83 rfl) rfl
theorem q632 : (Jvm.Cond.laysFinal "SendTheBox$House" "SendTheBox$House" "comes" "[I") ∈ lw_all := lw_g (lw_at lw_m3 84 rfl) rfl
theorem q633 : (Jvm.Cond.soleField "SendTheBox$House" "comes") ∈ lw_all := lw_g (lw_at lw_m3 85 rfl) rfl
theorem q634 : (Jvm.Cond.laysFinal "SendTheBox$House" "SendTheBox$House" "hold" "[I") ∈ lw_all := lw_g (lw_at lw_m3 86 rfl) rfl
theorem q635 : (Jvm.Cond.soleField "SendTheBox$House" "hold") ∈ lw_all := lw_g (lw_at lw_m3 87 rfl) rfl
theorem q636 : (Jvm.Cond.laysFinal "SendTheBox$House" "SendTheBox$House" "refuse" "[I") ∈ lw_all := lw_g (lw_at lw_m3 88 rfl) rfl
theorem q637 : (Jvm.Cond.soleField "SendTheBox$House" "refuse") ∈ lw_all := lw_g (lw_at lw_m3 89 rfl) rfl
theorem q638 : (Jvm.Cond.laysFinal "SendTheBox$House" "SendTheBox$House" "left" "[I") ∈ lw_all := lw_g (lw_at lw_m3 90 rfl) rfl
theorem q639 : (Jvm.Cond.soleField "SendTheBox$House" "left") ∈ lw_all := lw_g (lw_at lw_m3 91 rfl) rfl
theorem q640 : (Jvm.Cond.lays "SendTheBox$House" "SendTheBox$House" "worth" "[J") ∈ lw_all := lw_g (lw_at lw_m3 92 rfl) rfl
theorem q641 : (Jvm.Cond.soleField "SendTheBox$House" "worth") ∈ lw_all := lw_g (lw_at lw_m3 93 rfl) rfl
theorem q642 : (Jvm.Cond.lays "SendTheBox$House" "SendTheBox$House" "loads" "[I") ∈ lw_all := lw_g (lw_at lw_m3 94 rfl) rfl
theorem q643 : (Jvm.Cond.soleField "SendTheBox$House" "loads") ∈ lw_all := lw_g (lw_at lw_m3 95 rfl) rfl
theorem q644 : (Jvm.Cond.lays "SendTheBox$House" "SendTheBox$House" "isFound" "Z") ∈ lw_all := lw_g (lw_at lw_m3 96 rfl) rfl
theorem q645 : (Jvm.Cond.soleField "SendTheBox$House" "isFound") ∈ lw_all := lw_g (lw_at lw_m3 97 rfl) rfl
theorem q646 : (Jvm.Cond.lays "SendTheBox$House" "SendTheBox$House" "tried" "[J") ∈ lw_all := lw_g (lw_at lw_m3 98 rfl) rfl
theorem q647 : (Jvm.Cond.soleField "SendTheBox$House" "tried") ∈ lw_all := lw_g (lw_at lw_m3 99 rfl) rfl
theorem q648 : (Jvm.Cond.lays "SendTheBox$House" "SendTheBox$House" "behind" "[J") ∈ lw_all := lw_g (lw_at lw_m3 100 rfl) rfl
theorem q649 : (Jvm.Cond.soleField "SendTheBox$House" "behind") ∈ lw_all := lw_g (lw_at lw_m3 101 rfl) rfl
theorem q650 : (Jvm.Cond.lays "SendTheBox$House" "SendTheBox$House" "ones" "[J") ∈ lw_all := lw_g (lw_at lw_m3 102 rfl) rfl
theorem q651 : (Jvm.Cond.soleField "SendTheBox$House" "ones") ∈ lw_all := lw_g (lw_at lw_m3 103 rfl) rfl
theorem q652 : (Jvm.Cond.lays "SendTheBox$House" "SendTheBox$House" "twos" "[J") ∈ lw_all := lw_g (lw_at lw_m3 104 rfl) rfl
theorem q653 : (Jvm.Cond.soleField "SendTheBox$House" "twos") ∈ lw_all := lw_g (lw_at lw_m3 105 rfl) rfl
theorem q654 : (Jvm.Cond.superclass "SendTheBox$House" "java/lang/Object") ∈ lw_all := lw_g (lw_at lw_m3 106 rfl) rfl
theorem q952 : (Jvm.Cond.instanceMethod ({ cls := "SendTheBox$House", name := "forgets", desc := "()V" } : Jvm.MethodName)) ∈ lw_all := lw_g (lw_at lw_m4 164 rfl) rfl
theorem q953 : (Jvm.Cond.selects "SendTheBox$House" ({ cls := "SendTheBox$House", name := "forgets", desc := "()V" } : Jvm.MethodName) ({ cls := "SendTheBox$House", name := "forgets", desc := "()V" } : Jvm.MethodName)) ∈ lw_all := lw_g (lw_at lw_m4 165 rfl) rfl
theorem q954 : (Jvm.Cond.code ({ cls := "SendTheBox$House", name := "forgets", desc := "()V" } : Jvm.MethodName) prog_8_method_5_code (1 : Nat) (Option.none : Option Jvm.ClassFile.FieldType)) ∈ lw_all := lw_g (lw_at lw_m4 166 rfl) rfl
theorem q977 : (Jvm.Cond.instanceMethod ({ cls := "SendTheBox$House", name := "states", desc := "()I" } : Jvm.MethodName)) ∈ lw_all := lw_g (lw_at lw_m4 189 rfl) rfl
theorem q978 : (Jvm.Cond.selects "SendTheBox$House" ({ cls := "SendTheBox$House", name := "states", desc := "()I" } : Jvm.MethodName) ({ cls := "SendTheBox$House", name := "states", desc := "()I" } : Jvm.MethodName)) ∈ lw_all := lw_g (lw_at lw_m4 190 rfl) rfl
theorem q979 : (Jvm.Cond.code ({ cls := "SendTheBox$House", name := "states", desc := "()I" } : Jvm.MethodName) prog_8_method_7_code (1 : Nat) (Option.some Jvm.ClassFile.FieldType.int)) ∈ lw_all := lw_g (lw_at lw_m4 191 rfl) rfl
theorem q981 : (Jvm.Cond.instanceMethod ({ cls := "SendTheBox$House", name := "space", desc := "(I)I" } : Jvm.MethodName)) ∈ lw_all := lw_g (lw_at lw_m4 193 rfl) rfl
theorem q982 : (Jvm.Cond.selects "SendTheBox$House" ({ cls := "SendTheBox$House", name := "space", desc := "(I)I" } : Jvm.MethodName) ({ cls := "SendTheBox$House", name := "space", desc := "(I)I" } : Jvm.MethodName)) ∈ lw_all := lw_g (lw_at lw_m4 194 rfl) rfl
theorem q983 : (Jvm.Cond.code ({ cls := "SendTheBox$House", name := "space", desc := "(I)I" } : Jvm.MethodName) prog_8_method_8_code (4 : Nat) (Option.some Jvm.ClassFile.FieldType.int)) ∈ lw_all := lw_g (lw_at lw_m4 195 rfl) rfl
theorem q984 : (Jvm.Cond.methodLinkNest "SendTheBox$House" (69 : Nat) ({ cls := "SendTheBox", name := "standing", desc := "(II)I" } : Jvm.MethodName) "SendTheBox") ∈ lw_tbl := lw_at lw_m4 196 rfl
theorem q994 : (Jvm.Cond.instanceMethod ({ cls := "SendTheBox$House", name := "scale", desc := "(I)J" } : Jvm.MethodName)) ∈ lw_all := lw_g (lw_at lw_m4 206 rfl) rfl
theorem q995 : (Jvm.Cond.selects "SendTheBox$House" ({ cls := "SendTheBox$House", name := "scale", desc := "(I)J" } : Jvm.MethodName) ({ cls := "SendTheBox$House", name := "scale", desc := "(I)J" } : Jvm.MethodName)) ∈ lw_all := lw_g (lw_at lw_m4 207 rfl) rfl
theorem q996 : (Jvm.Cond.code ({ cls := "SendTheBox$House", name := "scale", desc := "(I)J" } : Jvm.MethodName) prog_8_method_12_code (2 : Nat) (Option.some Jvm.ClassFile.FieldType.long)) ∈ lw_all := lw_g (lw_at lw_m4 208 rfl) rfl
theorem q1002 : (Jvm.Cond.instanceMethod ({ cls := "SendTheBox$House", name := "cost", desc := "(II)J" } : Jvm.MethodName)) ∈ lw_all := lw_g (lw_at lw_m4 214 rfl) rfl
theorem q1003 : (Jvm.Cond.selects "SendTheBox$House" ({ cls := "SendTheBox$House", name := "cost", desc := "(II)J" } : Jvm.MethodName) ({ cls := "SendTheBox$House", name := "cost", desc := "(II)J" } : Jvm.MethodName)) ∈ lw_all := lw_g (lw_at lw_m4 215 rfl) rfl
theorem q1004 : (Jvm.Cond.code ({ cls := "SendTheBox$House", name := "cost", desc := "(II)J" } : Jvm.MethodName) prog_8_method_21_code (3 : Nat) (Option.some Jvm.ClassFile.FieldType.long)) ∈ lw_all := lw_g (lw_at lw_m4 216 rfl) rfl
theorem q1005 : (Jvm.Cond.methodLink "SendTheBox$House" (133 : Nat) ({ cls := "SendTheBox$House", name := "worths", desc := "()[J" } : Jvm.MethodName)) ∈ lw_all := lw_g (lw_at lw_m4 217 rfl) rfl
theorem q1006 : (Jvm.Cond.instanceMethod ({ cls := "SendTheBox$House", name := "worths", desc := "()[J" } : Jvm.MethodName)) ∈ lw_all := lw_g (lw_at lw_m4 218 rfl) rfl
theorem q1007 : (Jvm.Cond.selects "SendTheBox$House" ({ cls := "SendTheBox$House", name := "worths", desc := "()[J" } : Jvm.MethodName) ({ cls := "SendTheBox$House", name := "worths", desc := "()[J" } : Jvm.MethodName)) ∈ lw_all := lw_g (lw_at lw_m4 219 rfl) rfl
theorem q1008 : (Jvm.Cond.code ({ cls := "SendTheBox$House", name := "worths", desc := "()[J" } : Jvm.MethodName) prog_8_method_20_code (1 : Nat) (Option.some (Jvm.ClassFile.FieldType.array Jvm.ClassFile.FieldType.long))) ∈ lw_all := lw_g (lw_at lw_m4 220 rfl) rfl
theorem q1009 : (Jvm.Cond.methodLink "SendTheBox$House" (131 : Nat) ({ cls := "SendTheBox$House", name := "finds", desc := "()V" } : Jvm.MethodName)) ∈ lw_all := lw_g (lw_at lw_m4 221 rfl) rfl
theorem q1010 : (Jvm.Cond.privateMethod ({ cls := "SendTheBox$House", name := "finds", desc := "()V" } : Jvm.MethodName)) ∈ lw_tbl := lw_at lw_m4 222 rfl
theorem q1011 : (Jvm.Cond.instanceMethod ({ cls := "SendTheBox$House", name := "finds", desc := "()V" } : Jvm.MethodName)) ∈ lw_all := lw_g (lw_at lw_m4 223 rfl) rfl
theorem q1012 : (Jvm.Cond.code ({ cls := "SendTheBox$House", name := "finds", desc := "()V" } : Jvm.MethodName) prog_8_method_18_code (3 : Nat) (Option.none : Option Jvm.ClassFile.FieldType)) ∈ lw_all := lw_g (lw_at lw_m4 224 rfl) rfl
theorem q1013 : (Jvm.Cond.methodLink "SendTheBox$House" (108 : Nat) ({ cls := "SendTheBox$House", name := "makesRoom", desc := "()V" } : Jvm.MethodName)) ∈ lw_all := lw_g (lw_at lw_m4 225 rfl) rfl
theorem q1014 : (Jvm.Cond.privateMethod ({ cls := "SendTheBox$House", name := "makesRoom", desc := "()V" } : Jvm.MethodName)) ∈ lw_tbl := lw_at lw_m4 226 rfl
theorem q1015 : (Jvm.Cond.instanceMethod ({ cls := "SendTheBox$House", name := "makesRoom", desc := "()V" } : Jvm.MethodName)) ∈ lw_all := lw_g (lw_at lw_m4 227 rfl) rfl
theorem q1016 : (Jvm.Cond.code ({ cls := "SendTheBox$House", name := "makesRoom", desc := "()V" } : Jvm.MethodName) prog_8_method_6_code (1 : Nat) (Option.none : Option Jvm.ClassFile.FieldType)) ∈ lw_all := lw_g (lw_at lw_m4 228 rfl) rfl
theorem q1017 : (Jvm.Cond.methodLink "SendTheBox$House" (117 : Nat) ({ cls := "SendTheBox$House", name := "states", desc := "()I" } : Jvm.MethodName)) ∈ lw_all := lw_g (lw_at lw_m4 229 rfl) rfl
theorem q1018 : (Jvm.Cond.methodLink "SendTheBox$House" (121 : Nat) ({ cls := "SendTheBox$House", name := "leaving", desc := "(I)I" } : Jvm.MethodName)) ∈ lw_all := lw_g (lw_at lw_m4 230 rfl) rfl
theorem q1019 : (Jvm.Cond.instanceMethod ({ cls := "SendTheBox$House", name := "leaving", desc := "(I)I" } : Jvm.MethodName)) ∈ lw_all := lw_g (lw_at lw_m4 231 rfl) rfl
theorem q1020 : (Jvm.Cond.selects "SendTheBox$House" ({ cls := "SendTheBox$House", name := "leaving", desc := "(I)I" } : Jvm.MethodName) ({ cls := "SendTheBox$House", name := "leaving", desc := "(I)I" } : Jvm.MethodName)) ∈ lw_all := lw_g (lw_at lw_m4 232 rfl) rfl
theorem q1021 : (Jvm.Cond.code ({ cls := "SendTheBox$House", name := "leaving", desc := "(I)I" } : Jvm.MethodName) prog_8_method_11_code (4 : Nat) (Option.some Jvm.ClassFile.FieldType.int)) ∈ lw_all := lw_g (lw_at lw_m4 233 rfl) rfl
theorem q1022 : (Jvm.Cond.methodLink "SendTheBox$House" (92 : Nat) ({ cls := "SendTheBox$House", name := "scale", desc := "(I)J" } : Jvm.MethodName)) ∈ lw_all := lw_g (lw_at lw_m4 234 rfl) rfl
theorem q1023 : (Jvm.Cond.methodLink "SendTheBox$House" (99 : Nat) ({ cls := "SendTheBox$House", name := "comes", desc := "(I[JIJ)J" } : Jvm.MethodName)) ∈ lw_all := lw_g (lw_at lw_m4 235 rfl) rfl
theorem q1024 : (Jvm.Cond.instanceMethod ({ cls := "SendTheBox$House", name := "comes", desc := "(I[JIJ)J" } : Jvm.MethodName)) ∈ lw_all := lw_g (lw_at lw_m4 236 rfl) rfl
theorem q1025 : (Jvm.Cond.selects "SendTheBox$House" ({ cls := "SendTheBox$House", name := "comes", desc := "(I[JIJ)J" } : Jvm.MethodName) ({ cls := "SendTheBox$House", name := "comes", desc := "(I[JIJ)J" } : Jvm.MethodName)) ∈ lw_all := lw_g (lw_at lw_m4 237 rfl) rfl
theorem q1026 : (Jvm.Cond.code ({ cls := "SendTheBox$House", name := "comes", desc := "(I[JIJ)J" } : Jvm.MethodName) prog_8_method_15_code (15 : Nat) (Option.some Jvm.ClassFile.FieldType.long)) ∈ lw_all := lw_g (lw_at lw_m4 238 rfl) rfl
theorem q1027 : (Jvm.Cond.fieldLinkNest "SendTheBox$House" (89 : Nat) "SendTheBox" "PLACE" "[I" "SendTheBox") ∈ lw_tbl := lw_at lw_m4 239 rfl
theorem q1028 : (Jvm.Cond.methodLink "SendTheBox$House" (96 : Nat) ({ cls := "SendTheBox$House", name := "holding", desc := "(I)I" } : Jvm.MethodName)) ∈ lw_all := lw_g (lw_at lw_m5 0 rfl) rfl
theorem q1029 : (Jvm.Cond.instanceMethod ({ cls := "SendTheBox$House", name := "holding", desc := "(I)I" } : Jvm.MethodName)) ∈ lw_all := lw_g (lw_at lw_m5 1 rfl) rfl
theorem q1030 : (Jvm.Cond.selects "SendTheBox$House" ({ cls := "SendTheBox$House", name := "holding", desc := "(I)I" } : Jvm.MethodName) ({ cls := "SendTheBox$House", name := "holding", desc := "(I)I" } : Jvm.MethodName)) ∈ lw_all := lw_g (lw_at lw_m5 2 rfl) rfl
theorem q1031 : (Jvm.Cond.code ({ cls := "SendTheBox$House", name := "holding", desc := "(I)I" } : Jvm.MethodName) prog_8_method_10_code (4 : Nat) (Option.some Jvm.ClassFile.FieldType.int)) ∈ lw_all := lw_g (lw_at lw_m5 3 rfl) rfl
theorem q1032 : (Jvm.Cond.methodLink "SendTheBox$House" (124 : Nat) ({ cls := "SendTheBox$House", name := "finds", desc := "(II)V" } : Jvm.MethodName)) ∈ lw_all := lw_g (lw_at lw_m5 4 rfl) rfl
theorem q1033 : (Jvm.Cond.privateMethod ({ cls := "SendTheBox$House", name := "finds", desc := "(II)V" } : Jvm.MethodName)) ∈ lw_tbl := lw_at lw_m5 5 rfl
theorem q1034 : (Jvm.Cond.instanceMethod ({ cls := "SendTheBox$House", name := "finds", desc := "(II)V" } : Jvm.MethodName)) ∈ lw_all := lw_g (lw_at lw_m5 6 rfl) rfl
theorem q1035 : (Jvm.Cond.code ({ cls := "SendTheBox$House", name := "finds", desc := "(II)V" } : Jvm.MethodName) prog_8_method_19_code (9 : Nat) (Option.none : Option Jvm.ClassFile.FieldType)) ∈ lw_all := lw_g (lw_at lw_m5 7 rfl) rfl
theorem q1036 : (Jvm.Cond.methodLink "SendTheBox$House" (128 : Nat) ({ cls := "SendTheBox$House", name := "isLoad", desc := "(II)Z" } : Jvm.MethodName)) ∈ lw_all := lw_g (lw_at lw_m5 8 rfl) rfl
theorem q1037 : (Jvm.Cond.instanceMethod ({ cls := "SendTheBox$House", name := "isLoad", desc := "(II)Z" } : Jvm.MethodName)) ∈ lw_all := lw_g (lw_at lw_m5 9 rfl) rfl
theorem q1038 : (Jvm.Cond.selects "SendTheBox$House" ({ cls := "SendTheBox$House", name := "isLoad", desc := "(II)Z" } : Jvm.MethodName) ({ cls := "SendTheBox$House", name := "isLoad", desc := "(II)Z" } : Jvm.MethodName)) ∈ lw_all := lw_g (lw_at lw_m5 10 rfl) rfl
theorem q1039 : (Jvm.Cond.code ({ cls := "SendTheBox$House", name := "isLoad", desc := "(II)Z" } : Jvm.MethodName) prog_8_method_9_code (3 : Nat) (Option.some Jvm.ClassFile.FieldType.boolean)) ∈ lw_all := lw_g (lw_at lw_m5 11 rfl) rfl
theorem q1040 : (Jvm.Cond.methodLinkNest "SendTheBox$House" (73 : Nat) ({ cls := "SendTheBox", name := "isOf", desc := "(II)Z" } : Jvm.MethodName) "SendTheBox") ∈ lw_tbl := lw_at lw_m5 12 rfl
theorem q1043 : (Jvm.Cond.methodLink "SendTheBox$House" (77 : Nat) ({ cls := "SendTheBox$House", name := "space", desc := "(I)I" } : Jvm.MethodName)) ∈ lw_all := lw_g (lw_at lw_m5 15 rfl) rfl
theorem q1049 : (Jvm.Cond.instanceMethod ({ cls := "SendTheBox$House", name := "best", desc := "(II)I" } : Jvm.MethodName)) ∈ lw_all := lw_g (lw_at lw_m5 21 rfl) rfl
theorem q1050 : (Jvm.Cond.selects "SendTheBox$House" ({ cls := "SendTheBox$House", name := "best", desc := "(II)I" } : Jvm.MethodName) ({ cls := "SendTheBox$House", name := "best", desc := "(II)I" } : Jvm.MethodName)) ∈ lw_all := lw_g (lw_at lw_m5 22 rfl) rfl
theorem q1051 : (Jvm.Cond.code ({ cls := "SendTheBox$House", name := "best", desc := "(II)I" } : Jvm.MethodName) prog_8_method_22_code (3 : Nat) (Option.some Jvm.ClassFile.FieldType.int)) ∈ lw_all := lw_g (lw_at lw_m5 23 rfl) rfl
theorem q1057 : (Jvm.Cond.instanceMethod ({ cls := "SendTheBox$House", name := "fill", desc := "(I)I" } : Jvm.MethodName)) ∈ lw_all := lw_g (lw_at lw_m5 29 rfl) rfl
theorem q1058 : (Jvm.Cond.selects "SendTheBox$House" ({ cls := "SendTheBox$House", name := "fill", desc := "(I)I" } : Jvm.MethodName) ({ cls := "SendTheBox$House", name := "fill", desc := "(I)I" } : Jvm.MethodName)) ∈ lw_all := lw_g (lw_at lw_m5 30 rfl) rfl
theorem q1059 : (Jvm.Cond.code ({ cls := "SendTheBox$House", name := "fill", desc := "(I)I" } : Jvm.MethodName) prog_8_method_14_code (8 : Nat) (Option.some Jvm.ClassFile.FieldType.int)) ∈ lw_all := lw_g (lw_at lw_m5 31 rfl) rfl
theorem q1060 : (Jvm.Cond.methodLink "SendTheBox$House" (81 : Nat) ({ cls := "SendTheBox$House", name := "dearest", desc := "(I)I" } : Jvm.MethodName)) ∈ lw_all := lw_g (lw_at lw_m5 32 rfl) rfl
theorem q1061 : (Jvm.Cond.privateMethod ({ cls := "SendTheBox$House", name := "dearest", desc := "(I)I" } : Jvm.MethodName)) ∈ lw_tbl := lw_at lw_m5 33 rfl
theorem q1062 : (Jvm.Cond.instanceMethod ({ cls := "SendTheBox$House", name := "dearest", desc := "(I)I" } : Jvm.MethodName)) ∈ lw_all := lw_g (lw_at lw_m5 34 rfl) rfl
theorem q1063 : (Jvm.Cond.code ({ cls := "SendTheBox$House", name := "dearest", desc := "(I)I" } : Jvm.MethodName) prog_8_method_13_code (4 : Nat) (Option.some Jvm.ClassFile.FieldType.int)) ∈ lw_all := lw_g (lw_at lw_m5 35 rfl) rfl
theorem q1064 : (Jvm.Cond.methodLink "SendTheBox$House" (84 : Nat) ({ cls := "java/lang/Math", name := "min", desc := "(II)I" } : Jvm.MethodName)) ∈ lw_all := lw_g (lw_at lw_m5 36 rfl) rfl
theorem q1114 : (Jvm.Cond.instanceMethod ({ cls := "SendTheBox$House", name := "mean", desc := "(LSendTheBox$Chooser;II)J" } : Jvm.MethodName)) ∈ lw_all := lw_g (lw_at lw_m5 86 rfl) rfl
theorem q1115 : (Jvm.Cond.selects "SendTheBox$House" ({ cls := "SendTheBox$House", name := "mean", desc := "(LSendTheBox$Chooser;II)J" } : Jvm.MethodName) ({ cls := "SendTheBox$House", name := "mean", desc := "(LSendTheBox$Chooser;II)J" } : Jvm.MethodName)) ∈ lw_all := lw_g (lw_at lw_m5 87 rfl) rfl
theorem q1116 : (Jvm.Cond.code ({ cls := "SendTheBox$House", name := "mean", desc := "(LSendTheBox$Chooser;II)J" } : Jvm.MethodName) prog_8_method_28_code (7 : Nat) (Option.some Jvm.ClassFile.FieldType.long)) ∈ lw_all := lw_g (lw_at lw_m5 88 rfl) rfl
theorem q1117 : (Jvm.Cond.interfaceEntry "SendTheBox$House" (150 : Nat)) ∈ lw_tbl := lw_at lw_m5 89 rfl
theorem q1118 : (Jvm.Cond.methodLink "SendTheBox$House" (150 : Nat) ({ cls := "SendTheBox$Chooser", name := "load", desc := "(LSendTheBox$House;II)I" } : Jvm.MethodName)) ∈ lw_all := lw_g (lw_at lw_m5 90 rfl) rfl
theorem q1138 : (Jvm.Cond.methodLink "SendTheBox$House" (141 : Nat) ({ cls := "SendTheBox$House", name := "sending", desc := "(III[J)J" } : Jvm.MethodName)) ∈ lw_all := lw_g (lw_at lw_m5 110 rfl) rfl
theorem q1139 : (Jvm.Cond.instanceMethod ({ cls := "SendTheBox$House", name := "sending", desc := "(III[J)J" } : Jvm.MethodName)) ∈ lw_all := lw_g (lw_at lw_m5 111 rfl) rfl
theorem q1140 : (Jvm.Cond.selects "SendTheBox$House" ({ cls := "SendTheBox$House", name := "sending", desc := "(III[J)J" } : Jvm.MethodName) ({ cls := "SendTheBox$House", name := "sending", desc := "(III[J)J" } : Jvm.MethodName)) ∈ lw_all := lw_g (lw_at lw_m5 112 rfl) rfl
theorem q1141 : (Jvm.Cond.code ({ cls := "SendTheBox$House", name := "sending", desc := "(III[J)J" } : Jvm.MethodName) prog_8_method_17_code (7 : Nat) (Option.some Jvm.ClassFile.FieldType.long)) ∈ lw_all := lw_g (lw_at lw_m5 113 rfl) rfl
theorem q1142 : (Jvm.Cond.methodLink "SendTheBox$House" (102 : Nat) ({ cls := "SendTheBox$House", name := "putting", desc := "(III[J)J" } : Jvm.MethodName)) ∈ lw_all := lw_g (lw_at lw_m5 114 rfl) rfl
theorem q1143 : (Jvm.Cond.instanceMethod ({ cls := "SendTheBox$House", name := "putting", desc := "(III[J)J" } : Jvm.MethodName)) ∈ lw_all := lw_g (lw_at lw_m5 115 rfl) rfl
theorem q1144 : (Jvm.Cond.selects "SendTheBox$House" ({ cls := "SendTheBox$House", name := "putting", desc := "(III[J)J" } : Jvm.MethodName) ({ cls := "SendTheBox$House", name := "putting", desc := "(III[J)J" } : Jvm.MethodName)) ∈ lw_all := lw_g (lw_at lw_m5 116 rfl) rfl
theorem q1145 : (Jvm.Cond.code ({ cls := "SendTheBox$House", name := "putting", desc := "(III[J)J" } : Jvm.MethodName) prog_8_method_16_code (10 : Nat) (Option.some Jvm.ClassFile.FieldType.long)) ∈ lw_all := lw_g (lw_at lw_m5 117 rfl) rfl
theorem q1146 : (Jvm.Cond.constantLong "SendTheBox$House" (106 : Nat) (4 : Int64)) ∈ lw_all := lw_g (lw_at lw_m5 118 rfl) rfl
theorem q1178 : (Jvm.Cond.instanceMethod ({ cls := "SendTheBox$House", name := "chances", desc := "(LSendTheBox$Chooser;I)[J" } : Jvm.MethodName)) ∈ lw_all := lw_g (lw_at lw_m5 150 rfl) rfl
theorem q1179 : (Jvm.Cond.selects "SendTheBox$House" ({ cls := "SendTheBox$House", name := "chances", desc := "(LSendTheBox$Chooser;I)[J" } : Jvm.MethodName) ({ cls := "SendTheBox$House", name := "chances", desc := "(LSendTheBox$Chooser;I)[J" } : Jvm.MethodName)) ∈ lw_all := lw_g (lw_at lw_m5 151 rfl) rfl
theorem q1180 : (Jvm.Cond.code ({ cls := "SendTheBox$House", name := "chances", desc := "(LSendTheBox$Chooser;I)[J" } : Jvm.MethodName) prog_8_method_25_code (8 : Nat) (Option.some (Jvm.ClassFile.FieldType.array Jvm.ClassFile.FieldType.long))) ∈ lw_all := lw_g (lw_at lw_m5 152 rfl) rfl
theorem q1181 : (Jvm.Cond.methodLink "SendTheBox$House" (144 : Nat) ({ cls := "java/util/Arrays", name := "fill", desc := "([JJ)V" } : Jvm.MethodName)) ∈ lw_all := lw_g (lw_at lw_m5 153 rfl) rfl
theorem q1184 : (Jvm.Cond.methodLink "SendTheBox$House" (156 : Nat) ({ cls := "SendTheBox$House", name := "spreads", desc := "([JIJ)V" } : Jvm.MethodName)) ∈ lw_all := lw_g (lw_at lw_m5 156 rfl) rfl
theorem q1185 : (Jvm.Cond.privateMethod ({ cls := "SendTheBox$House", name := "spreads", desc := "([JIJ)V" } : Jvm.MethodName)) ∈ lw_tbl := lw_at lw_m5 157 rfl
theorem q1186 : (Jvm.Cond.instanceMethod ({ cls := "SendTheBox$House", name := "spreads", desc := "([JIJ)V" } : Jvm.MethodName)) ∈ lw_all := lw_g (lw_at lw_m5 158 rfl) rfl
theorem q1187 : (Jvm.Cond.code ({ cls := "SendTheBox$House", name := "spreads", desc := "([JIJ)V" } : Jvm.MethodName) prog_8_method_26_code (11 : Nat) (Option.none : Option Jvm.ClassFile.FieldType)) ∈ lw_all := lw_g (lw_at lw_m5 159 rfl) rfl
theorem q1197 : (Jvm.Cond.instanceMethod ({ cls := "SendTheBox$House", name := "sums", desc := "(LSendTheBox$Chooser;I)J" } : Jvm.MethodName)) ∈ lw_all := lw_g (lw_at lw_m5 169 rfl) rfl
theorem q1198 : (Jvm.Cond.selects "SendTheBox$House" ({ cls := "SendTheBox$House", name := "sums", desc := "(LSendTheBox$Chooser;I)J" } : Jvm.MethodName) ({ cls := "SendTheBox$House", name := "sums", desc := "(LSendTheBox$Chooser;I)J" } : Jvm.MethodName)) ∈ lw_all := lw_g (lw_at lw_m5 170 rfl) rfl
theorem q1199 : (Jvm.Cond.code ({ cls := "SendTheBox$House", name := "sums", desc := "(LSendTheBox$Chooser;I)J" } : Jvm.MethodName) prog_8_method_27_code (15 : Nat) (Option.some Jvm.ClassFile.FieldType.long)) ∈ lw_all := lw_g (lw_at lw_m5 171 rfl) rfl
theorem q1200 : (Jvm.Cond.methodLink "SendTheBox$House" (160 : Nat) ({ cls := "SendTheBox$House", name := "chances", desc := "(LSendTheBox$Chooser;I)[J" } : Jvm.MethodName)) ∈ lw_all := lw_g (lw_at lw_m5 172 rfl) rfl
theorem q1219 : (Jvm.Cond.instanceMethod ({ cls := "SendTheBox$House", name := "promised", desc := "(I)J" } : Jvm.MethodName)) ∈ lw_all := lw_g (lw_at lw_m5 191 rfl) rfl
theorem q1220 : (Jvm.Cond.selects "SendTheBox$House" ({ cls := "SendTheBox$House", name := "promised", desc := "(I)J" } : Jvm.MethodName) ({ cls := "SendTheBox$House", name := "promised", desc := "(I)J" } : Jvm.MethodName)) ∈ lw_all := lw_g (lw_at lw_m5 192 rfl) rfl
theorem q1221 : (Jvm.Cond.code ({ cls := "SendTheBox$House", name := "promised", desc := "(I)J" } : Jvm.MethodName) prog_8_method_23_code (5 : Nat) (Option.some Jvm.ClassFile.FieldType.long)) ∈ lw_all := lw_g (lw_at lw_m5 193 rfl) rfl
theorem q1222 : (Jvm.Cond.methodLink "SendTheBox$House" (137 : Nat) ({ cls := "SendTheBox$House", name := "chosen", desc := "(II[JZ)I" } : Jvm.MethodName)) ∈ lw_all := lw_g (lw_at lw_m5 194 rfl) rfl
theorem q1223 : (Jvm.Cond.privateMethod ({ cls := "SendTheBox$House", name := "chosen", desc := "(II[JZ)I" } : Jvm.MethodName)) ∈ lw_tbl := lw_at lw_m5 195 rfl
theorem q1224 : (Jvm.Cond.instanceMethod ({ cls := "SendTheBox$House", name := "chosen", desc := "(II[JZ)I" } : Jvm.MethodName)) ∈ lw_all := lw_g (lw_at lw_m5 196 rfl) rfl
theorem q1225 : (Jvm.Cond.code ({ cls := "SendTheBox$House", name := "chosen", desc := "(II[JZ)I" } : Jvm.MethodName) prog_8_method_24_code (11 : Nat) (Option.some Jvm.ClassFile.FieldType.int)) ∈ lw_all := lw_g (lw_at lw_m5 197 rfl) rfl
theorem q1253 : (Jvm.Cond.instanceMethod ({ cls := "SendTheBox$House", name := "joined", desc := "(LSendTheBox$House;)LSendTheBox$House;" } : Jvm.MethodName)) ∈ lw_all := lw_g (lw_at lw_m5 225 rfl) rfl
theorem q1254 : (Jvm.Cond.selects "SendTheBox$House" ({ cls := "SendTheBox$House", name := "joined", desc := "(LSendTheBox$House;)LSendTheBox$House;" } : Jvm.MethodName) ({ cls := "SendTheBox$House", name := "joined", desc := "(LSendTheBox$House;)LSendTheBox$House;" } : Jvm.MethodName)) ∈ lw_all := lw_g (lw_at lw_m5 226 rfl) rfl
theorem q1255 : (Jvm.Cond.code ({ cls := "SendTheBox$House", name := "joined", desc := "(LSendTheBox$House;)LSendTheBox$House;" } : Jvm.MethodName) prog_8_method_4_code (4 : Nat) (Option.some (Jvm.ClassFile.FieldType.object "SendTheBox$House"))) ∈ lw_all := lw_g (lw_at lw_m5 227 rfl) rfl
theorem q1256 : (Jvm.Cond.methodLink "SendTheBox$House" (48 : Nat) ({ cls := "SendTheBox$House", name := "copied", desc := "()LSendTheBox$House;" } : Jvm.MethodName)) ∈ lw_all := lw_g (lw_at lw_m5 228 rfl) rfl
theorem q1257 : (Jvm.Cond.instanceMethod ({ cls := "SendTheBox$House", name := "copied", desc := "()LSendTheBox$House;" } : Jvm.MethodName)) ∈ lw_all := lw_g (lw_at lw_m5 229 rfl) rfl
theorem q1258 : (Jvm.Cond.selects "SendTheBox$House" ({ cls := "SendTheBox$House", name := "copied", desc := "()LSendTheBox$House;" } : Jvm.MethodName) ({ cls := "SendTheBox$House", name := "copied", desc := "()LSendTheBox$House;" } : Jvm.MethodName)) ∈ lw_all := lw_g (lw_at lw_m5 230 rfl) rfl
theorem q1259 : (Jvm.Cond.code ({ cls := "SendTheBox$House", name := "copied", desc := "()LSendTheBox$House;" } : Jvm.MethodName) prog_8_method_2_code (3 : Nat) (Option.some (Jvm.ClassFile.FieldType.object "SendTheBox$House"))) ∈ lw_all := lw_g (lw_at lw_m5 231 rfl) rfl
theorem q1260 : (Jvm.Cond.classLink "SendTheBox$House" (10 : Nat) "SendTheBox$House") ∈ lw_all := lw_g (lw_at lw_m5 232 rfl) rfl
theorem q1261 : (Jvm.Cond.methodLink "SendTheBox$House" (37 : Nat) ({ cls := "SendTheBox$House", name := "<init>", desc := "()V" } : Jvm.MethodName)) ∈ lw_all := lw_g (lw_at lw_m5 233 rfl) rfl
theorem q1262 : (Jvm.Cond.methodLink "SendTheBox$House" (44 : Nat) ({ cls := "SendTheBox$House", name := "takes", desc := "(LSendTheBox$House;I)V" } : Jvm.MethodName)) ∈ lw_all := lw_g (lw_at lw_m5 234 rfl) rfl
theorem q1263 : (Jvm.Cond.instanceMethod ({ cls := "SendTheBox$House", name := "takes", desc := "(LSendTheBox$House;I)V" } : Jvm.MethodName)) ∈ lw_all := lw_g (lw_at lw_m5 235 rfl) rfl
theorem q1264 : (Jvm.Cond.selects "SendTheBox$House" ({ cls := "SendTheBox$House", name := "takes", desc := "(LSendTheBox$House;I)V" } : Jvm.MethodName) ({ cls := "SendTheBox$House", name := "takes", desc := "(LSendTheBox$House;I)V" } : Jvm.MethodName)) ∈ lw_all := lw_g (lw_at lw_m5 236 rfl) rfl
theorem q1265 : (Jvm.Cond.code ({ cls := "SendTheBox$House", name := "takes", desc := "(LSendTheBox$House;I)V" } : Jvm.MethodName) prog_8_method_3_code (3 : Nat) (Option.none : Option Jvm.ClassFile.FieldType)) ∈ lw_all := lw_g (lw_at lw_m5 237 rfl) rfl
theorem in_X12 : ∀ w ∈ wsX120, w ∈ lw_all := lw_in wsX120 [620, 622, 624, 626, 628, 630, 632, 634, 636, 638, 640, 642, 644, 646, 648, 650, 652] (by decide +kernel) (by decide +kernel)
