/-! SendTheBoxModel -/
set_option maxRecDepth 100000
def RX3 : String := "SendTheBoxModel"
def TX3 : u_T := fun k => match k with
  | 0 => ("SendTheBoxModel", "shelf", "[I", true)
  | 1 => ("SendTheBoxModel", "rowSort", "[I", true)
  | 2 => ("SendTheBoxModel", "rowSize", "[I", true)
  | 3 => ("SendTheBoxModel", "rows", "[[J", true)
  | 4 => ("SendTheBoxModel", "moved", "[J", true)
  | 5 => ("SendTheBoxModel", "ruleKind", "[I", true)
  | 6 => ("SendTheBoxModel", "ruleBy", "[I", true)
  | 7 => ("SendTheBoxModel", "ruleTold", "[[I", true)
  | 8 => ("SendTheBoxModel", "tape", "[I", true)
  | 9 => ("SendTheBoxModel", "tapeSize", "I", false)
  | 10 => ("SendTheBoxModel", "refused", "[I", true)
  | 11 => ("SendTheBoxModel", "houses", "I", false)
  | 12 => ("SendTheBoxModel", "house", "[[I", true)
  | 13 => ("SendTheBoxModel", "seed", "I", false)
  | 14 => ("SendTheBoxModel", "under", "I", false)
  | 15 => ("SendTheBoxModel", "underLeft", "I", false)
  | 16 => ("SendTheBoxModel", "underState", "I", false)
  | 17 => ("SendTheBoxModel", "underCoins", "I", false)
  | 18 => ("SendTheBoxModel", "underBoxes", "I", false)
  | 19 => ("SendTheBoxModel", "underSent", "I", false)
  | 20 => ("SendTheBoxModel", "underRefused", "I", false)
  | 21 => ("SendTheBoxModel", "kept", "LSendTheBoxModel;", false)
  | 22 => ("SendTheBoxModel", "ruleSize", "[I", true)
  | 23 => ("SendTheBoxModel", "at", "I", false)
  | 24 => ("SendTheBoxModel", "token", "I", false)
  | 25 => ("SendTheBoxModel", "from", "I", false)
  | 26 => ("SendTheBoxModel", "figures", "J", false)
  | 27 => ("SendTheBoxModel", "fault", "I", false)
  | 28 => ("SendTheBoxModel", "costs", "[[J", true)
  | 29 => ("SendTheBoxModel", "loads", "[[I", true)
  | 30 => ("SendTheBoxModel", "byRule", "[[J", true)
  | 31 => ("SendTheBoxModel", "weights", "[J", true)
  | 32 => ("SendTheBoxModel", "thens", "[[I", true)
  | 33 => ("SendTheBoxModel", "refusedBy", "[[I", true)
  | 34 => ("SendTheBoxModel", "filled", "[I", true)
  | 35 => ("SendTheBoxModel", "roomOf", "[I", true)
  | 36 => ("SendTheBoxModel", "holdOf", "[I", true)
  | 37 => ("SendTheBoxModel", "waited", "[J", true)
  | 38 => ("SendTheBoxModel", "chances", "[[J", true)
  | 39 => ("SendTheBoxModel", "must", "I", false)
  | 40 => ("SendTheBoxModel", "leastRoom", "I", false)
  | 41 => ("SendTheBoxModel", "mostRoom", "I", false)
  | 42 => ("SendTheBoxModel", "boxes", "I", false)
  | 43 => ("SendTheBoxModel", "sent", "I", false)
  | 44 => ("SendTheBoxModel", "notTaken", "I", false)
  | _ => ("SendTheBoxModel", "stands", "I", false)
def tyX3 : Nat → FieldType := fun k => match k with
  | 0 => .array .int
  | 1 => .array .int
  | 2 => .array .int
  | 3 => .array (.array .long)
  | 4 => .array .long
  | 5 => .array .int
  | 6 => .array .int
  | 7 => .array (.array .int)
  | 8 => .array .int
  | 9 => .int
  | 10 => .array .int
  | 11 => .int
  | 12 => .array (.array .int)
  | 13 => .int
  | 14 => .int
  | 15 => .int
  | 16 => .int
  | 17 => .int
  | 18 => .int
  | 19 => .int
  | 20 => .int
  | 21 => .object "SendTheBoxModel"
  | 22 => .array .int
  | 23 => .int
  | 24 => .int
  | 25 => .int
  | 26 => .long
  | 27 => .int
  | 28 => .array (.array .long)
  | 29 => .array (.array .int)
  | 30 => .array (.array .long)
  | 31 => .array .long
  | 32 => .array (.array .int)
  | 33 => .array (.array .int)
  | 34 => .array .int
  | 35 => .array .int
  | 36 => .array .int
  | 37 => .array .long
  | 38 => .array (.array .long)
  | 39 => .int
  | 40 => .int
  | 41 => .int
  | 42 => .int
  | 43 => .int
  | 44 => .int
  | _ => .int
abbrev wsX30 : List Cond := u_ws RX3 TX3 46
set_option maxRecDepth 100000 in
theorem nmX3 : ∀ a, a < 46 → ∀ b, b < 46 → a ≠ b → (TX3 a).2.1 ≠ (TX3 b).2.1 := by decide +kernel
set_option maxRecDepth 100000 in
theorem tyX3_ok : ∀ k, k < 46 → parseFieldDescriptor (TX3 k).2.2.1 = some (tyX3 k) := by decide +kernel
abbrev cX3_init : ByteArray := prog_17_method_1_code
def yX3_init : MethodName := ⟨RX3, "<init>", "()V"⟩
def dkwX3_init_10 : List UInt8 := [177]
abbrev dktX3_init_10 : List UInt8 := dkwX3_init_10 ++ []
def dkwX3_init_9 : List UInt8 := [16, 125, 188, 11, 181, 0, 82, 42, 16, 7, 16, 125, 197, 0, 19, 2, 181, 0, 85, 42, 2, 181, 0, 88]
abbrev dktX3_init_9 : List UInt8 := dkwX3_init_9 ++ dktX3_init_10
def dkwX3_init_8 : List UInt8 := [16, 125, 188, 10, 181, 0, 73, 42, 16, 125, 188, 10, 181, 0, 76, 42, 16, 125, 188, 10, 181, 0, 79, 42]
abbrev dktX3_init_8 : List UInt8 := dkwX3_init_8 ++ dktX3_init_9
def dkwX3_init_7 : List UInt8 := [16, 8, 16, 125, 197, 0, 34, 2, 181, 0, 67, 42, 16, 8, 16, 125, 197, 0, 34, 2, 181, 0, 70, 42]
abbrev dktX3_init_7 : List UInt8 := dkwX3_init_7 ++ dktX3_init_8
def dkwX3_init_6 : List UInt8 := [181, 0, 58, 42, 16, 7, 16, 125, 197, 0, 19, 2, 181, 0, 61, 42, 16, 8, 188, 11, 181, 0, 64, 42]
abbrev dktX3_init_6 : List UInt8 := dkwX3_init_6 ++ dktX3_init_7
def dkwX3_init_5 : List UInt8 := [181, 0, 52, 42, 16, 7, 16, 125, 197, 0, 19, 2, 181, 0, 55, 42, 16, 7, 16, 125, 197, 0, 34, 2]
abbrev dktX3_init_5 : List UInt8 := dkwX3_init_5 ++ dktX3_init_6
def dkwX3_init_4 : List UInt8 := [42, 16, 8, 16, 20, 197, 0, 34, 2, 181, 0, 45, 42, 4, 181, 0, 48, 42, 16, 10, 188, 10]
abbrev dktX3_init_4 : List UInt8 := dkwX3_init_4 ++ dktX3_init_5
def dkwX3_init_3 : List UInt8 := [197, 0, 34, 2, 181, 0, 36, 42, 17, 0, 160, 188, 10, 181, 0, 39, 42, 16, 8, 188, 10, 181, 0, 42]
abbrev dktX3_init_3 : List UInt8 := dkwX3_init_3 ++ dktX3_init_4
def dkwX3_init_2 : List UInt8 := [181, 0, 24, 42, 16, 10, 188, 10, 181, 0, 28, 42, 16, 10, 188, 10, 181, 0, 31, 42, 16, 10, 16, 125]
abbrev dktX3_init_2 : List UInt8 := dkwX3_init_2 ++ dktX3_init_3
def dkwX3_init_1 : List UInt8 := [188, 10, 181, 0, 16, 42, 16, 8, 16, 125, 197, 0, 19, 2, 181, 0, 21, 42, 16, 125, 188, 11]
abbrev dktX3_init_1 : List UInt8 := dkwX3_init_1 ++ dktX3_init_2
def dkwX3_init_0 : List UInt8 := [42, 183, 0, 1, 42, 16, 8, 188, 10, 181, 0, 7, 42, 16, 8, 188, 10, 181, 0, 13, 42, 16, 8]
abbrev dktX3_init_0 : List UInt8 := dkwX3_init_0 ++ dktX3_init_1
theorem dksX3_init_0 : cX3_init.data.toList.drop 0 = dktX3_init_0 := by decide +kernel
theorem dksX3_init_1 : cX3_init.data.toList.drop 23 = dktX3_init_1 := dk_seg dksX3_init_0 23 rfl rfl
theorem dksX3_init_2 : cX3_init.data.toList.drop 45 = dktX3_init_2 := dk_seg dksX3_init_1 22 rfl rfl
theorem dksX3_init_3 : cX3_init.data.toList.drop 69 = dktX3_init_3 := dk_seg dksX3_init_2 24 rfl rfl
theorem dksX3_init_4 : cX3_init.data.toList.drop 93 = dktX3_init_4 := dk_seg dksX3_init_3 24 rfl rfl
theorem dksX3_init_5 : cX3_init.data.toList.drop 115 = dktX3_init_5 := dk_seg dksX3_init_4 22 rfl rfl
theorem dksX3_init_6 : cX3_init.data.toList.drop 139 = dktX3_init_6 := dk_seg dksX3_init_5 24 rfl rfl
theorem dksX3_init_7 : cX3_init.data.toList.drop 163 = dktX3_init_7 := dk_seg dksX3_init_6 24 rfl rfl
theorem dksX3_init_8 : cX3_init.data.toList.drop 187 = dktX3_init_8 := dk_seg dksX3_init_7 24 rfl rfl
theorem dksX3_init_9 : cX3_init.data.toList.drop 211 = dktX3_init_9 := dk_seg dksX3_init_8 24 rfl rfl
theorem dksX3_init_10 : cX3_init.data.toList.drop 235 = dktX3_init_10 := dk_seg dksX3_init_9 24 rfl rfl
theorem dX3_init_0 : decode cX3_init 0 = .ok (.aload_n 0, 1) := dk_42 (dk_at dksX3_init_0 0 rfl rfl)
theorem dX3_init_1 : decode cX3_init 1 = .ok (.invokespecial 1, 3) := dk_183 0 1 (dk_at dksX3_init_0 1 rfl rfl)
theorem dX3_init_4 : decode cX3_init 4 = .ok (.aload_n 0, 1) := dk_42 (dk_at dksX3_init_0 4 rfl rfl)
theorem dX3_init_5 : decode cX3_init 5 = .ok (.bipush 8, 2) := dk_16 8 (dk_at dksX3_init_0 5 rfl rfl)
theorem dX3_init_7 : decode cX3_init 7 = .ok (.newarray .int, 2) := dk_188_10 (dk_at dksX3_init_0 7 rfl rfl)
theorem dX3_init_9 : decode cX3_init 9 = .ok (.putfield 7, 3) := dk_181 0 7 (dk_at dksX3_init_0 9 rfl rfl)
theorem dX3_init_12 : decode cX3_init 12 = .ok (.aload_n 0, 1) := dk_42 (dk_at dksX3_init_0 12 rfl rfl)
theorem dX3_init_13 : decode cX3_init 13 = .ok (.bipush 8, 2) := dk_16 8 (dk_at dksX3_init_0 13 rfl rfl)
theorem dX3_init_15 : decode cX3_init 15 = .ok (.newarray .int, 2) := dk_188_10 (dk_at dksX3_init_0 15 rfl rfl)
theorem dX3_init_17 : decode cX3_init 17 = .ok (.putfield 13, 3) := dk_181 0 13 (dk_at dksX3_init_0 17 rfl rfl)
theorem dX3_init_20 : decode cX3_init 20 = .ok (.aload_n 0, 1) := dk_42 (dk_at dksX3_init_0 20 rfl rfl)
theorem dX3_init_21 : decode cX3_init 21 = .ok (.bipush 8, 2) := dk_16 8 (dk_at dksX3_init_0 21 rfl rfl)
theorem dX3_init_23 : decode cX3_init 23 = .ok (.newarray .int, 2) := dk_188_10 (dk_at dksX3_init_1 0 rfl rfl)
theorem dX3_init_25 : decode cX3_init 25 = .ok (.putfield 16, 3) := dk_181 0 16 (dk_at dksX3_init_1 2 rfl rfl)
theorem dX3_init_28 : decode cX3_init 28 = .ok (.aload_n 0, 1) := dk_42 (dk_at dksX3_init_1 5 rfl rfl)
theorem dX3_init_29 : decode cX3_init 29 = .ok (.bipush 8, 2) := dk_16 8 (dk_at dksX3_init_1 6 rfl rfl)
theorem dX3_init_31 : decode cX3_init 31 = .ok (.bipush 125, 2) := dk_16 125 (dk_at dksX3_init_1 8 rfl rfl)
theorem dX3_init_33 : decode cX3_init 33 = .ok (.multianewarray 19 2, 4) := by decide +kernel
theorem dX3_init_37 : decode cX3_init 37 = .ok (.putfield 21, 3) := dk_181 0 21 (dk_at dksX3_init_1 14 rfl rfl)
theorem dX3_init_40 : decode cX3_init 40 = .ok (.aload_n 0, 1) := dk_42 (dk_at dksX3_init_1 17 rfl rfl)
theorem dX3_init_41 : decode cX3_init 41 = .ok (.bipush 125, 2) := dk_16 125 (dk_at dksX3_init_1 18 rfl rfl)
theorem dX3_init_43 : decode cX3_init 43 = .ok (.newarray .long, 2) := dk_188_11 (dk_at dksX3_init_1 20 rfl rfl)
theorem dX3_init_45 : decode cX3_init 45 = .ok (.putfield 24, 3) := dk_181 0 24 (dk_at dksX3_init_2 0 rfl rfl)
theorem dX3_init_48 : decode cX3_init 48 = .ok (.aload_n 0, 1) := dk_42 (dk_at dksX3_init_2 3 rfl rfl)
theorem dX3_init_49 : decode cX3_init 49 = .ok (.bipush 10, 2) := dk_16 10 (dk_at dksX3_init_2 4 rfl rfl)
theorem dX3_init_51 : decode cX3_init 51 = .ok (.newarray .int, 2) := dk_188_10 (dk_at dksX3_init_2 6 rfl rfl)
theorem dX3_init_53 : decode cX3_init 53 = .ok (.putfield 28, 3) := dk_181 0 28 (dk_at dksX3_init_2 8 rfl rfl)
theorem dX3_init_56 : decode cX3_init 56 = .ok (.aload_n 0, 1) := dk_42 (dk_at dksX3_init_2 11 rfl rfl)
theorem dX3_init_57 : decode cX3_init 57 = .ok (.bipush 10, 2) := dk_16 10 (dk_at dksX3_init_2 12 rfl rfl)
theorem dX3_init_59 : decode cX3_init 59 = .ok (.newarray .int, 2) := dk_188_10 (dk_at dksX3_init_2 14 rfl rfl)
theorem dX3_init_61 : decode cX3_init 61 = .ok (.putfield 31, 3) := dk_181 0 31 (dk_at dksX3_init_2 16 rfl rfl)
theorem dX3_init_64 : decode cX3_init 64 = .ok (.aload_n 0, 1) := dk_42 (dk_at dksX3_init_2 19 rfl rfl)
theorem dX3_init_65 : decode cX3_init 65 = .ok (.bipush 10, 2) := dk_16 10 (dk_at dksX3_init_2 20 rfl rfl)
theorem dX3_init_67 : decode cX3_init 67 = .ok (.bipush 125, 2) := dk_16 125 (dk_at dksX3_init_2 22 rfl rfl)
theorem dX3_init_69 : decode cX3_init 69 = .ok (.multianewarray 34 2, 4) := by decide +kernel
theorem dX3_init_73 : decode cX3_init 73 = .ok (.putfield 36, 3) := dk_181 0 36 (dk_at dksX3_init_3 4 rfl rfl)
theorem dX3_init_76 : decode cX3_init 76 = .ok (.aload_n 0, 1) := dk_42 (dk_at dksX3_init_3 7 rfl rfl)
theorem dX3_init_77 : decode cX3_init 77 = .ok (.sipush 160, 3) := dk_17 0 160 (dk_at dksX3_init_3 8 rfl rfl)
theorem dX3_init_80 : decode cX3_init 80 = .ok (.newarray .int, 2) := dk_188_10 (dk_at dksX3_init_3 11 rfl rfl)
theorem dX3_init_82 : decode cX3_init 82 = .ok (.putfield 39, 3) := dk_181 0 39 (dk_at dksX3_init_3 13 rfl rfl)
theorem dX3_init_85 : decode cX3_init 85 = .ok (.aload_n 0, 1) := dk_42 (dk_at dksX3_init_3 16 rfl rfl)
theorem dX3_init_86 : decode cX3_init 86 = .ok (.bipush 8, 2) := dk_16 8 (dk_at dksX3_init_3 17 rfl rfl)
theorem dX3_init_88 : decode cX3_init 88 = .ok (.newarray .int, 2) := dk_188_10 (dk_at dksX3_init_3 19 rfl rfl)
theorem dX3_init_90 : decode cX3_init 90 = .ok (.putfield 42, 3) := dk_181 0 42 (dk_at dksX3_init_3 21 rfl rfl)
theorem dX3_init_93 : decode cX3_init 93 = .ok (.aload_n 0, 1) := dk_42 (dk_at dksX3_init_4 0 rfl rfl)
theorem dX3_init_94 : decode cX3_init 94 = .ok (.bipush 8, 2) := dk_16 8 (dk_at dksX3_init_4 1 rfl rfl)
theorem dX3_init_96 : decode cX3_init 96 = .ok (.bipush 20, 2) := dk_16 20 (dk_at dksX3_init_4 3 rfl rfl)
theorem dX3_init_98 : decode cX3_init 98 = .ok (.multianewarray 34 2, 4) := by decide +kernel
theorem dX3_init_102 : decode cX3_init 102 = .ok (.putfield 45, 3) := dk_181 0 45 (dk_at dksX3_init_4 9 rfl rfl)
theorem dX3_init_105 : decode cX3_init 105 = .ok (.aload_n 0, 1) := dk_42 (dk_at dksX3_init_4 12 rfl rfl)
theorem dX3_init_106 : decode cX3_init 106 = .ok (.iconst 1, 1) := dk_4 (dk_at dksX3_init_4 13 rfl rfl)
theorem dX3_init_107 : decode cX3_init 107 = .ok (.putfield 48, 3) := dk_181 0 48 (dk_at dksX3_init_4 14 rfl rfl)
theorem dX3_init_110 : decode cX3_init 110 = .ok (.aload_n 0, 1) := dk_42 (dk_at dksX3_init_4 17 rfl rfl)
theorem dX3_init_111 : decode cX3_init 111 = .ok (.bipush 10, 2) := dk_16 10 (dk_at dksX3_init_4 18 rfl rfl)
theorem dX3_init_113 : decode cX3_init 113 = .ok (.newarray .int, 2) := dk_188_10 (dk_at dksX3_init_4 20 rfl rfl)
theorem dX3_init_115 : decode cX3_init 115 = .ok (.putfield 52, 3) := dk_181 0 52 (dk_at dksX3_init_5 0 rfl rfl)
theorem dX3_init_118 : decode cX3_init 118 = .ok (.aload_n 0, 1) := dk_42 (dk_at dksX3_init_5 3 rfl rfl)
theorem dX3_init_119 : decode cX3_init 119 = .ok (.bipush 7, 2) := dk_16 7 (dk_at dksX3_init_5 4 rfl rfl)
theorem dX3_init_121 : decode cX3_init 121 = .ok (.bipush 125, 2) := dk_16 125 (dk_at dksX3_init_5 6 rfl rfl)
theorem dX3_init_123 : decode cX3_init 123 = .ok (.multianewarray 19 2, 4) := by decide +kernel
theorem dX3_init_127 : decode cX3_init 127 = .ok (.putfield 55, 3) := dk_181 0 55 (dk_at dksX3_init_5 12 rfl rfl)
theorem dX3_init_130 : decode cX3_init 130 = .ok (.aload_n 0, 1) := dk_42 (dk_at dksX3_init_5 15 rfl rfl)
theorem dX3_init_131 : decode cX3_init 131 = .ok (.bipush 7, 2) := dk_16 7 (dk_at dksX3_init_5 16 rfl rfl)
theorem dX3_init_133 : decode cX3_init 133 = .ok (.bipush 125, 2) := dk_16 125 (dk_at dksX3_init_5 18 rfl rfl)
theorem dX3_init_135 : decode cX3_init 135 = .ok (.multianewarray 34 2, 4) := by decide +kernel
theorem dX3_init_139 : decode cX3_init 139 = .ok (.putfield 58, 3) := dk_181 0 58 (dk_at dksX3_init_6 0 rfl rfl)
theorem dX3_init_142 : decode cX3_init 142 = .ok (.aload_n 0, 1) := dk_42 (dk_at dksX3_init_6 3 rfl rfl)
theorem dX3_init_143 : decode cX3_init 143 = .ok (.bipush 7, 2) := dk_16 7 (dk_at dksX3_init_6 4 rfl rfl)
theorem dX3_init_145 : decode cX3_init 145 = .ok (.bipush 125, 2) := dk_16 125 (dk_at dksX3_init_6 6 rfl rfl)
theorem dX3_init_147 : decode cX3_init 147 = .ok (.multianewarray 19 2, 4) := by decide +kernel
theorem dX3_init_151 : decode cX3_init 151 = .ok (.putfield 61, 3) := dk_181 0 61 (dk_at dksX3_init_6 12 rfl rfl)
theorem dX3_init_154 : decode cX3_init 154 = .ok (.aload_n 0, 1) := dk_42 (dk_at dksX3_init_6 15 rfl rfl)
theorem dX3_init_155 : decode cX3_init 155 = .ok (.bipush 8, 2) := dk_16 8 (dk_at dksX3_init_6 16 rfl rfl)
theorem dX3_init_157 : decode cX3_init 157 = .ok (.newarray .long, 2) := dk_188_11 (dk_at dksX3_init_6 18 rfl rfl)
theorem dX3_init_159 : decode cX3_init 159 = .ok (.putfield 64, 3) := dk_181 0 64 (dk_at dksX3_init_6 20 rfl rfl)
theorem dX3_init_162 : decode cX3_init 162 = .ok (.aload_n 0, 1) := dk_42 (dk_at dksX3_init_6 23 rfl rfl)
theorem dX3_init_163 : decode cX3_init 163 = .ok (.bipush 8, 2) := dk_16 8 (dk_at dksX3_init_7 0 rfl rfl)
theorem dX3_init_165 : decode cX3_init 165 = .ok (.bipush 125, 2) := dk_16 125 (dk_at dksX3_init_7 2 rfl rfl)
theorem dX3_init_167 : decode cX3_init 167 = .ok (.multianewarray 34 2, 4) := by decide +kernel
theorem dX3_init_171 : decode cX3_init 171 = .ok (.putfield 67, 3) := dk_181 0 67 (dk_at dksX3_init_7 8 rfl rfl)
theorem dX3_init_174 : decode cX3_init 174 = .ok (.aload_n 0, 1) := dk_42 (dk_at dksX3_init_7 11 rfl rfl)
theorem dX3_init_175 : decode cX3_init 175 = .ok (.bipush 8, 2) := dk_16 8 (dk_at dksX3_init_7 12 rfl rfl)
theorem dX3_init_177 : decode cX3_init 177 = .ok (.bipush 125, 2) := dk_16 125 (dk_at dksX3_init_7 14 rfl rfl)
theorem dX3_init_179 : decode cX3_init 179 = .ok (.multianewarray 34 2, 4) := by decide +kernel
theorem dX3_init_183 : decode cX3_init 183 = .ok (.putfield 70, 3) := dk_181 0 70 (dk_at dksX3_init_7 20 rfl rfl)
theorem dX3_init_186 : decode cX3_init 186 = .ok (.aload_n 0, 1) := dk_42 (dk_at dksX3_init_7 23 rfl rfl)
theorem dX3_init_187 : decode cX3_init 187 = .ok (.bipush 125, 2) := dk_16 125 (dk_at dksX3_init_8 0 rfl rfl)
theorem dX3_init_189 : decode cX3_init 189 = .ok (.newarray .int, 2) := dk_188_10 (dk_at dksX3_init_8 2 rfl rfl)
theorem dX3_init_191 : decode cX3_init 191 = .ok (.putfield 73, 3) := dk_181 0 73 (dk_at dksX3_init_8 4 rfl rfl)
theorem dX3_init_194 : decode cX3_init 194 = .ok (.aload_n 0, 1) := dk_42 (dk_at dksX3_init_8 7 rfl rfl)
theorem dX3_init_195 : decode cX3_init 195 = .ok (.bipush 125, 2) := dk_16 125 (dk_at dksX3_init_8 8 rfl rfl)
theorem dX3_init_197 : decode cX3_init 197 = .ok (.newarray .int, 2) := dk_188_10 (dk_at dksX3_init_8 10 rfl rfl)
theorem dX3_init_199 : decode cX3_init 199 = .ok (.putfield 76, 3) := dk_181 0 76 (dk_at dksX3_init_8 12 rfl rfl)
theorem dX3_init_202 : decode cX3_init 202 = .ok (.aload_n 0, 1) := dk_42 (dk_at dksX3_init_8 15 rfl rfl)
theorem dX3_init_203 : decode cX3_init 203 = .ok (.bipush 125, 2) := dk_16 125 (dk_at dksX3_init_8 16 rfl rfl)
theorem dX3_init_205 : decode cX3_init 205 = .ok (.newarray .int, 2) := dk_188_10 (dk_at dksX3_init_8 18 rfl rfl)
theorem dX3_init_207 : decode cX3_init 207 = .ok (.putfield 79, 3) := dk_181 0 79 (dk_at dksX3_init_8 20 rfl rfl)
theorem dX3_init_210 : decode cX3_init 210 = .ok (.aload_n 0, 1) := dk_42 (dk_at dksX3_init_8 23 rfl rfl)
theorem dX3_init_211 : decode cX3_init 211 = .ok (.bipush 125, 2) := dk_16 125 (dk_at dksX3_init_9 0 rfl rfl)
theorem dX3_init_213 : decode cX3_init 213 = .ok (.newarray .long, 2) := dk_188_11 (dk_at dksX3_init_9 2 rfl rfl)
theorem dX3_init_215 : decode cX3_init 215 = .ok (.putfield 82, 3) := dk_181 0 82 (dk_at dksX3_init_9 4 rfl rfl)
theorem dX3_init_218 : decode cX3_init 218 = .ok (.aload_n 0, 1) := dk_42 (dk_at dksX3_init_9 7 rfl rfl)
theorem dX3_init_219 : decode cX3_init 219 = .ok (.bipush 7, 2) := dk_16 7 (dk_at dksX3_init_9 8 rfl rfl)
theorem dX3_init_221 : decode cX3_init 221 = .ok (.bipush 125, 2) := dk_16 125 (dk_at dksX3_init_9 10 rfl rfl)
theorem dX3_init_223 : decode cX3_init 223 = .ok (.multianewarray 19 2, 4) := by decide +kernel
theorem dX3_init_227 : decode cX3_init 227 = .ok (.putfield 85, 3) := dk_181 0 85 (dk_at dksX3_init_9 16 rfl rfl)
theorem dX3_init_230 : decode cX3_init 230 = .ok (.aload_n 0, 1) := dk_42 (dk_at dksX3_init_9 19 rfl rfl)
theorem dX3_init_231 : decode cX3_init 231 = .ok (.iconst (-1), 1) := dk_2 (dk_at dksX3_init_9 20 rfl rfl)
theorem dX3_init_232 : decode cX3_init 232 = .ok (.putfield 88, 3) := dk_181 0 88 (dk_at dksX3_init_9 21 rfl rfl)
theorem dX3_init_235 : decode cX3_init 235 = .ok (.return_, 1) := dk_177 (dk_at dksX3_init_10 0 rfl rfl)
abbrev cX3_row : ByteArray := prog_17_method_10_code
def yX3_row : MethodName := ⟨RX3, "row", "(III)I"⟩
def dkwX3_row_3 : List UInt8 := [162, 0, 19, 42, 180, 0, 21, 27, 50, 21, 4, 9, 80, 132, 4, 1, 167, 255, 236, 4, 172]
abbrev dktX3_row_3 : List UInt8 := dkwX3_row_3 ++ []
def dkwX3_row_2 : List UInt8 := [4, 79, 42, 180, 0, 13, 27, 28, 79, 42, 180, 0, 16, 27, 29, 79, 3, 54, 4, 21, 4, 16, 125]
abbrev dktX3_row_2 : List UInt8 := dkwX3_row_2 ++ dktX3_row_3
def dkwX3_row_1 : List UInt8 := [29, 133, 9, 20, 0, 117, 184, 0, 94, 154, 0, 10, 42, 16, 254, 182, 0, 119, 172, 42, 180, 0, 7, 27]
abbrev dktX3_row_1 : List UInt8 := dkwX3_row_1 ++ dktX3_row_2
def dkwX3_row_0 : List UInt8 := [27, 133, 9, 20, 0, 113, 184, 0, 94, 153, 0, 27, 28, 133, 9, 20, 0, 115, 184, 0, 94, 153, 0, 15]
abbrev dktX3_row_0 : List UInt8 := dkwX3_row_0 ++ dktX3_row_1
theorem dksX3_row_0 : cX3_row.data.toList.drop 0 = dktX3_row_0 := by decide +kernel
theorem dksX3_row_1 : cX3_row.data.toList.drop 24 = dktX3_row_1 := dk_seg dksX3_row_0 24 rfl rfl
theorem dksX3_row_2 : cX3_row.data.toList.drop 48 = dktX3_row_2 := dk_seg dksX3_row_1 24 rfl rfl
theorem dksX3_row_3 : cX3_row.data.toList.drop 71 = dktX3_row_3 := dk_seg dksX3_row_2 23 rfl rfl
theorem dX3_row_0 : decode cX3_row 0 = .ok (.iload_n 1, 1) := dk_27 (dk_at dksX3_row_0 0 rfl rfl)
theorem dX3_row_1 : decode cX3_row 1 = .ok (.i2l, 1) := dk_133 (dk_at dksX3_row_0 1 rfl rfl)
theorem dX3_row_2 : decode cX3_row 2 = .ok (.lconst 0, 1) := dk_9 (dk_at dksX3_row_0 2 rfl rfl)
theorem dX3_row_3 : decode cX3_row 3 = .ok (.ldc2_w 113, 3) := dk_20 0 113 (dk_at dksX3_row_0 3 rfl rfl)
theorem dX3_row_6 : decode cX3_row 6 = .ok (.invokestatic 94, 3) := dk_184 0 94 (dk_at dksX3_row_0 6 rfl rfl)
theorem dX3_row_9 : decode cX3_row 9 = .ok (.ifCond .eq 27, 3) := dk_153 0 27 (dk_at dksX3_row_0 9 rfl rfl)
theorem dX3_row_12 : decode cX3_row 12 = .ok (.iload_n 2, 1) := dk_28 (dk_at dksX3_row_0 12 rfl rfl)
theorem dX3_row_13 : decode cX3_row 13 = .ok (.i2l, 1) := dk_133 (dk_at dksX3_row_0 13 rfl rfl)
theorem dX3_row_14 : decode cX3_row 14 = .ok (.lconst 0, 1) := dk_9 (dk_at dksX3_row_0 14 rfl rfl)
theorem dX3_row_15 : decode cX3_row 15 = .ok (.ldc2_w 115, 3) := dk_20 0 115 (dk_at dksX3_row_0 15 rfl rfl)
theorem dX3_row_18 : decode cX3_row 18 = .ok (.invokestatic 94, 3) := dk_184 0 94 (dk_at dksX3_row_0 18 rfl rfl)
theorem dX3_row_21 : decode cX3_row 21 = .ok (.ifCond .eq 15, 3) := dk_153 0 15 (dk_at dksX3_row_0 21 rfl rfl)
theorem dX3_row_24 : decode cX3_row 24 = .ok (.iload_n 3, 1) := dk_29 (dk_at dksX3_row_1 0 rfl rfl)
theorem dX3_row_25 : decode cX3_row 25 = .ok (.i2l, 1) := dk_133 (dk_at dksX3_row_1 1 rfl rfl)
theorem dX3_row_26 : decode cX3_row 26 = .ok (.lconst 0, 1) := dk_9 (dk_at dksX3_row_1 2 rfl rfl)
theorem dX3_row_27 : decode cX3_row 27 = .ok (.ldc2_w 117, 3) := dk_20 0 117 (dk_at dksX3_row_1 3 rfl rfl)
theorem dX3_row_30 : decode cX3_row 30 = .ok (.invokestatic 94, 3) := dk_184 0 94 (dk_at dksX3_row_1 6 rfl rfl)
theorem dX3_row_33 : decode cX3_row 33 = .ok (.ifCond .ne 10, 3) := dk_154 0 10 (dk_at dksX3_row_1 9 rfl rfl)
theorem dX3_row_36 : decode cX3_row 36 = .ok (.aload_n 0, 1) := dk_42 (dk_at dksX3_row_1 12 rfl rfl)
theorem dX3_row_37 : decode cX3_row 37 = .ok (.bipush (-2), 2) := dk_16 254 (dk_at dksX3_row_1 13 rfl rfl)
theorem dX3_row_39 : decode cX3_row 39 = .ok (.invokevirtual 119, 3) := dk_182 0 119 (dk_at dksX3_row_1 15 rfl rfl)
theorem dX3_row_42 : decode cX3_row 42 = .ok (.ireturn, 1) := dk_172 (dk_at dksX3_row_1 18 rfl rfl)
theorem dX3_row_43 : decode cX3_row 43 = .ok (.aload_n 0, 1) := dk_42 (dk_at dksX3_row_1 19 rfl rfl)
theorem dX3_row_44 : decode cX3_row 44 = .ok (.getfield 7, 3) := dk_180 0 7 (dk_at dksX3_row_1 20 rfl rfl)
theorem dX3_row_47 : decode cX3_row 47 = .ok (.iload_n 1, 1) := dk_27 (dk_at dksX3_row_1 23 rfl rfl)
theorem dX3_row_48 : decode cX3_row 48 = .ok (.iconst 1, 1) := dk_4 (dk_at dksX3_row_2 0 rfl rfl)
theorem dX3_row_49 : decode cX3_row 49 = .ok (.iastore, 1) := dk_79 (dk_at dksX3_row_2 1 rfl rfl)
theorem dX3_row_50 : decode cX3_row 50 = .ok (.aload_n 0, 1) := dk_42 (dk_at dksX3_row_2 2 rfl rfl)
theorem dX3_row_51 : decode cX3_row 51 = .ok (.getfield 13, 3) := dk_180 0 13 (dk_at dksX3_row_2 3 rfl rfl)
theorem dX3_row_54 : decode cX3_row 54 = .ok (.iload_n 1, 1) := dk_27 (dk_at dksX3_row_2 6 rfl rfl)
theorem dX3_row_55 : decode cX3_row 55 = .ok (.iload_n 2, 1) := dk_28 (dk_at dksX3_row_2 7 rfl rfl)
theorem dX3_row_56 : decode cX3_row 56 = .ok (.iastore, 1) := dk_79 (dk_at dksX3_row_2 8 rfl rfl)
theorem dX3_row_57 : decode cX3_row 57 = .ok (.aload_n 0, 1) := dk_42 (dk_at dksX3_row_2 9 rfl rfl)
theorem dX3_row_58 : decode cX3_row 58 = .ok (.getfield 16, 3) := dk_180 0 16 (dk_at dksX3_row_2 10 rfl rfl)
theorem dX3_row_61 : decode cX3_row 61 = .ok (.iload_n 1, 1) := dk_27 (dk_at dksX3_row_2 13 rfl rfl)
theorem dX3_row_62 : decode cX3_row 62 = .ok (.iload_n 3, 1) := dk_29 (dk_at dksX3_row_2 14 rfl rfl)
theorem dX3_row_63 : decode cX3_row 63 = .ok (.iastore, 1) := dk_79 (dk_at dksX3_row_2 15 rfl rfl)
theorem dX3_row_64 : decode cX3_row 64 = .ok (.iconst 0, 1) := dk_3 (dk_at dksX3_row_2 16 rfl rfl)
theorem dX3_row_65 : decode cX3_row 65 = .ok (.istore 4, 2) := dk_54 4 (dk_at dksX3_row_2 17 rfl rfl)
theorem dX3_row_67 : decode cX3_row 67 = .ok (.iload 4, 2) := dk_21 4 (dk_at dksX3_row_2 19 rfl rfl)
theorem dX3_row_69 : decode cX3_row 69 = .ok (.bipush 125, 2) := dk_16 125 (dk_at dksX3_row_2 21 rfl rfl)
theorem dX3_row_71 : decode cX3_row 71 = .ok (.if_icmp .ge 19, 3) := dk_162 0 19 (dk_at dksX3_row_3 0 rfl rfl)
theorem dX3_row_74 : decode cX3_row 74 = .ok (.aload_n 0, 1) := dk_42 (dk_at dksX3_row_3 3 rfl rfl)
theorem dX3_row_75 : decode cX3_row 75 = .ok (.getfield 21, 3) := dk_180 0 21 (dk_at dksX3_row_3 4 rfl rfl)
theorem dX3_row_78 : decode cX3_row 78 = .ok (.iload_n 1, 1) := dk_27 (dk_at dksX3_row_3 7 rfl rfl)
theorem dX3_row_79 : decode cX3_row 79 = .ok (.aaload, 1) := dk_50 (dk_at dksX3_row_3 8 rfl rfl)
theorem dX3_row_80 : decode cX3_row 80 = .ok (.iload 4, 2) := dk_21 4 (dk_at dksX3_row_3 9 rfl rfl)
theorem dX3_row_82 : decode cX3_row 82 = .ok (.lconst 0, 1) := dk_9 (dk_at dksX3_row_3 11 rfl rfl)
theorem dX3_row_83 : decode cX3_row 83 = .ok (.lastore, 1) := dk_80 (dk_at dksX3_row_3 12 rfl rfl)
theorem dX3_row_84 : decode cX3_row 84 = .ok (.iinc 4 1, 3) := dk_132 4 1 (dk_at dksX3_row_3 13 rfl rfl)
theorem dX3_row_87 : decode cX3_row 87 = .ok (.goto (-20), 3) := dk_167 255 236 (dk_at dksX3_row_3 16 rfl rfl)
theorem dX3_row_90 : decode cX3_row 90 = .ok (.iconst 1, 1) := dk_4 (dk_at dksX3_row_3 19 rfl rfl)
theorem dX3_row_91 : decode cX3_row 91 = .ok (.ireturn, 1) := dk_172 (dk_at dksX3_row_3 20 rfl rfl)
abbrev cX3_in : ByteArray := prog_17_method_3_code
def yX3_in : MethodName := ⟨RX3, "in", "(JJJ)Z"⟩
def dkwX3_in_0 : List UInt8 := [30, 32, 148, 155, 0, 14, 30, 22, 4, 148, 157, 0, 7, 4, 167, 0, 4, 3, 172]
abbrev dktX3_in_0 : List UInt8 := dkwX3_in_0 ++ []
theorem dksX3_in_0 : cX3_in.data.toList.drop 0 = dktX3_in_0 := by decide +kernel
theorem dX3_in_0 : decode cX3_in 0 = .ok (.lload_n 0, 1) := dk_30 (dk_at dksX3_in_0 0 rfl rfl)
theorem dX3_in_1 : decode cX3_in 1 = .ok (.lload_n 2, 1) := dk_32 (dk_at dksX3_in_0 1 rfl rfl)
theorem dX3_in_2 : decode cX3_in 2 = .ok (.lcmp, 1) := dk_148 (dk_at dksX3_in_0 2 rfl rfl)
theorem dX3_in_3 : decode cX3_in 3 = .ok (.ifCond .lt 14, 3) := dk_155 0 14 (dk_at dksX3_in_0 3 rfl rfl)
theorem dX3_in_6 : decode cX3_in 6 = .ok (.lload_n 0, 1) := dk_30 (dk_at dksX3_in_0 6 rfl rfl)
theorem dX3_in_7 : decode cX3_in 7 = .ok (.lload 4, 2) := dk_22 4 (dk_at dksX3_in_0 7 rfl rfl)
theorem dX3_in_9 : decode cX3_in 9 = .ok (.lcmp, 1) := dk_148 (dk_at dksX3_in_0 9 rfl rfl)
theorem dX3_in_10 : decode cX3_in 10 = .ok (.ifCond .gt 7, 3) := dk_157 0 7 (dk_at dksX3_in_0 10 rfl rfl)
theorem dX3_in_13 : decode cX3_in 13 = .ok (.iconst 1, 1) := dk_4 (dk_at dksX3_in_0 13 rfl rfl)
theorem dX3_in_14 : decode cX3_in 14 = .ok (.goto 4, 3) := dk_167 0 4 (dk_at dksX3_in_0 14 rfl rfl)
theorem dX3_in_17 : decode cX3_in 17 = .ok (.iconst 0, 1) := dk_3 (dk_at dksX3_in_0 17 rfl rfl)
theorem dX3_in_18 : decode cX3_in 18 = .ok (.ireturn, 1) := dk_172 (dk_at dksX3_in_0 18 rfl rfl)
abbrev cX3_refuse : ByteArray := prog_17_method_2_code
def yX3_refuse : MethodName := ⟨RX3, "refuse", "(I)I"⟩
def dkwX3_refuse_0 : List UInt8 := [42, 180, 0, 42, 27, 116, 92, 46, 4, 96, 79, 27, 172]
abbrev dktX3_refuse_0 : List UInt8 := dkwX3_refuse_0 ++ []
theorem dksX3_refuse_0 : cX3_refuse.data.toList.drop 0 = dktX3_refuse_0 := by decide +kernel
theorem dX3_refuse_0 : decode cX3_refuse 0 = .ok (.aload_n 0, 1) := dk_42 (dk_at dksX3_refuse_0 0 rfl rfl)
theorem dX3_refuse_1 : decode cX3_refuse 1 = .ok (.getfield 42, 3) := dk_180 0 42 (dk_at dksX3_refuse_0 1 rfl rfl)
theorem dX3_refuse_4 : decode cX3_refuse 4 = .ok (.iload_n 1, 1) := dk_27 (dk_at dksX3_refuse_0 4 rfl rfl)
theorem dX3_refuse_5 : decode cX3_refuse 5 = .ok (.ineg, 1) := dk_116 (dk_at dksX3_refuse_0 5 rfl rfl)
theorem dX3_refuse_6 : decode cX3_refuse 6 = .ok (.dup2, 1) := dk_92 (dk_at dksX3_refuse_0 6 rfl rfl)
theorem dX3_refuse_7 : decode cX3_refuse 7 = .ok (.iaload, 1) := dk_46 (dk_at dksX3_refuse_0 7 rfl rfl)
theorem dX3_refuse_8 : decode cX3_refuse 8 = .ok (.iconst 1, 1) := dk_4 (dk_at dksX3_refuse_0 8 rfl rfl)
theorem dX3_refuse_9 : decode cX3_refuse 9 = .ok (.iadd, 1) := dk_96 (dk_at dksX3_refuse_0 9 rfl rfl)
theorem dX3_refuse_10 : decode cX3_refuse 10 = .ok (.iastore, 1) := dk_79 (dk_at dksX3_refuse_0 10 rfl rfl)
theorem dX3_refuse_11 : decode cX3_refuse 11 = .ok (.iload_n 1, 1) := dk_27 (dk_at dksX3_refuse_0 11 rfl rfl)
theorem dX3_refuse_12 : decode cX3_refuse 12 = .ok (.ireturn, 1) := dk_172 (dk_at dksX3_refuse_0 12 rfl rfl)
abbrev cX3_set : ByteArray := prog_17_method_12_code
def yX3_set : MethodName := ⟨RX3, "set", "(IIJ)I"⟩
def dkwX3_set_4 : List UInt8 := [4, 172]
abbrev dktX3_set_4 : List UInt8 := dkwX3_set_4 ++ []
def dkwX3_set_3 : List UInt8 := [16, 254, 182, 0, 119, 172, 42, 180, 0, 21, 27, 50, 28, 42, 180, 0, 13, 27, 46, 33, 184, 0, 122, 80]
abbrev dktX3_set_3 : List UInt8 := dkwX3_set_3 ++ dktX3_set_4
def dkwX3_set_2 : List UInt8 := [182, 0, 119, 172, 28, 133, 9, 42, 180, 0, 16, 27, 46, 4, 100, 133, 184, 0, 94, 154, 0, 10, 42]
abbrev dktX3_set_2 : List UInt8 := dkwX3_set_2 ++ dktX3_set_3
def dkwX3_set_1 : List UInt8 := [46, 5, 160, 0, 10, 42, 16, 253, 182, 0, 119, 172, 42, 180, 0, 7, 27, 46, 154, 0, 10, 42, 16, 252]
abbrev dktX3_set_1 : List UInt8 := dkwX3_set_1 ++ dktX3_set_2
def dkwX3_set_0 : List UInt8 := [27, 133, 9, 20, 0, 113, 184, 0, 94, 154, 0, 10, 42, 16, 254, 182, 0, 119, 172, 42, 180, 0, 7, 27]
abbrev dktX3_set_0 : List UInt8 := dkwX3_set_0 ++ dktX3_set_1
theorem dksX3_set_0 : cX3_set.data.toList.drop 0 = dktX3_set_0 := by decide +kernel
theorem dksX3_set_1 : cX3_set.data.toList.drop 24 = dktX3_set_1 := dk_seg dksX3_set_0 24 rfl rfl
theorem dksX3_set_2 : cX3_set.data.toList.drop 48 = dktX3_set_2 := dk_seg dksX3_set_1 24 rfl rfl
theorem dksX3_set_3 : cX3_set.data.toList.drop 71 = dktX3_set_3 := dk_seg dksX3_set_2 23 rfl rfl
theorem dksX3_set_4 : cX3_set.data.toList.drop 95 = dktX3_set_4 := dk_seg dksX3_set_3 24 rfl rfl
theorem dX3_set_0 : decode cX3_set 0 = .ok (.iload_n 1, 1) := dk_27 (dk_at dksX3_set_0 0 rfl rfl)
theorem dX3_set_1 : decode cX3_set 1 = .ok (.i2l, 1) := dk_133 (dk_at dksX3_set_0 1 rfl rfl)
theorem dX3_set_2 : decode cX3_set 2 = .ok (.lconst 0, 1) := dk_9 (dk_at dksX3_set_0 2 rfl rfl)
theorem dX3_set_3 : decode cX3_set 3 = .ok (.ldc2_w 113, 3) := dk_20 0 113 (dk_at dksX3_set_0 3 rfl rfl)
theorem dX3_set_6 : decode cX3_set 6 = .ok (.invokestatic 94, 3) := dk_184 0 94 (dk_at dksX3_set_0 6 rfl rfl)
theorem dX3_set_9 : decode cX3_set 9 = .ok (.ifCond .ne 10, 3) := dk_154 0 10 (dk_at dksX3_set_0 9 rfl rfl)
theorem dX3_set_12 : decode cX3_set 12 = .ok (.aload_n 0, 1) := dk_42 (dk_at dksX3_set_0 12 rfl rfl)
theorem dX3_set_13 : decode cX3_set 13 = .ok (.bipush (-2), 2) := dk_16 254 (dk_at dksX3_set_0 13 rfl rfl)
theorem dX3_set_15 : decode cX3_set 15 = .ok (.invokevirtual 119, 3) := dk_182 0 119 (dk_at dksX3_set_0 15 rfl rfl)
theorem dX3_set_18 : decode cX3_set 18 = .ok (.ireturn, 1) := dk_172 (dk_at dksX3_set_0 18 rfl rfl)
theorem dX3_set_19 : decode cX3_set 19 = .ok (.aload_n 0, 1) := dk_42 (dk_at dksX3_set_0 19 rfl rfl)
theorem dX3_set_20 : decode cX3_set 20 = .ok (.getfield 7, 3) := dk_180 0 7 (dk_at dksX3_set_0 20 rfl rfl)
theorem dX3_set_23 : decode cX3_set 23 = .ok (.iload_n 1, 1) := dk_27 (dk_at dksX3_set_0 23 rfl rfl)
theorem dX3_set_24 : decode cX3_set 24 = .ok (.iaload, 1) := dk_46 (dk_at dksX3_set_1 0 rfl rfl)
theorem dX3_set_25 : decode cX3_set 25 = .ok (.iconst 2, 1) := dk_5 (dk_at dksX3_set_1 1 rfl rfl)
theorem dX3_set_26 : decode cX3_set 26 = .ok (.if_icmp .ne 10, 3) := dk_160 0 10 (dk_at dksX3_set_1 2 rfl rfl)
theorem dX3_set_29 : decode cX3_set 29 = .ok (.aload_n 0, 1) := dk_42 (dk_at dksX3_set_1 5 rfl rfl)
theorem dX3_set_30 : decode cX3_set 30 = .ok (.bipush (-3), 2) := dk_16 253 (dk_at dksX3_set_1 6 rfl rfl)
theorem dX3_set_32 : decode cX3_set 32 = .ok (.invokevirtual 119, 3) := dk_182 0 119 (dk_at dksX3_set_1 8 rfl rfl)
theorem dX3_set_35 : decode cX3_set 35 = .ok (.ireturn, 1) := dk_172 (dk_at dksX3_set_1 11 rfl rfl)
theorem dX3_set_36 : decode cX3_set 36 = .ok (.aload_n 0, 1) := dk_42 (dk_at dksX3_set_1 12 rfl rfl)
theorem dX3_set_37 : decode cX3_set 37 = .ok (.getfield 7, 3) := dk_180 0 7 (dk_at dksX3_set_1 13 rfl rfl)
theorem dX3_set_40 : decode cX3_set 40 = .ok (.iload_n 1, 1) := dk_27 (dk_at dksX3_set_1 16 rfl rfl)
theorem dX3_set_41 : decode cX3_set 41 = .ok (.iaload, 1) := dk_46 (dk_at dksX3_set_1 17 rfl rfl)
theorem dX3_set_42 : decode cX3_set 42 = .ok (.ifCond .ne 10, 3) := dk_154 0 10 (dk_at dksX3_set_1 18 rfl rfl)
theorem dX3_set_45 : decode cX3_set 45 = .ok (.aload_n 0, 1) := dk_42 (dk_at dksX3_set_1 21 rfl rfl)
theorem dX3_set_46 : decode cX3_set 46 = .ok (.bipush (-4), 2) := dk_16 252 (dk_at dksX3_set_1 22 rfl rfl)
theorem dX3_set_48 : decode cX3_set 48 = .ok (.invokevirtual 119, 3) := dk_182 0 119 (dk_at dksX3_set_2 0 rfl rfl)
theorem dX3_set_51 : decode cX3_set 51 = .ok (.ireturn, 1) := dk_172 (dk_at dksX3_set_2 3 rfl rfl)
theorem dX3_set_52 : decode cX3_set 52 = .ok (.iload_n 2, 1) := dk_28 (dk_at dksX3_set_2 4 rfl rfl)
theorem dX3_set_53 : decode cX3_set 53 = .ok (.i2l, 1) := dk_133 (dk_at dksX3_set_2 5 rfl rfl)
theorem dX3_set_54 : decode cX3_set 54 = .ok (.lconst 0, 1) := dk_9 (dk_at dksX3_set_2 6 rfl rfl)
theorem dX3_set_55 : decode cX3_set 55 = .ok (.aload_n 0, 1) := dk_42 (dk_at dksX3_set_2 7 rfl rfl)
theorem dX3_set_56 : decode cX3_set 56 = .ok (.getfield 16, 3) := dk_180 0 16 (dk_at dksX3_set_2 8 rfl rfl)
theorem dX3_set_59 : decode cX3_set 59 = .ok (.iload_n 1, 1) := dk_27 (dk_at dksX3_set_2 11 rfl rfl)
theorem dX3_set_60 : decode cX3_set 60 = .ok (.iaload, 1) := dk_46 (dk_at dksX3_set_2 12 rfl rfl)
theorem dX3_set_61 : decode cX3_set 61 = .ok (.iconst 1, 1) := dk_4 (dk_at dksX3_set_2 13 rfl rfl)
theorem dX3_set_62 : decode cX3_set 62 = .ok (.isub, 1) := dk_100 (dk_at dksX3_set_2 14 rfl rfl)
theorem dX3_set_63 : decode cX3_set 63 = .ok (.i2l, 1) := dk_133 (dk_at dksX3_set_2 15 rfl rfl)
theorem dX3_set_64 : decode cX3_set 64 = .ok (.invokestatic 94, 3) := dk_184 0 94 (dk_at dksX3_set_2 16 rfl rfl)
theorem dX3_set_67 : decode cX3_set 67 = .ok (.ifCond .ne 10, 3) := dk_154 0 10 (dk_at dksX3_set_2 19 rfl rfl)
theorem dX3_set_70 : decode cX3_set 70 = .ok (.aload_n 0, 1) := dk_42 (dk_at dksX3_set_2 22 rfl rfl)
theorem dX3_set_71 : decode cX3_set 71 = .ok (.bipush (-2), 2) := dk_16 254 (dk_at dksX3_set_3 0 rfl rfl)
theorem dX3_set_73 : decode cX3_set 73 = .ok (.invokevirtual 119, 3) := dk_182 0 119 (dk_at dksX3_set_3 2 rfl rfl)
theorem dX3_set_76 : decode cX3_set 76 = .ok (.ireturn, 1) := dk_172 (dk_at dksX3_set_3 5 rfl rfl)
theorem dX3_set_77 : decode cX3_set 77 = .ok (.aload_n 0, 1) := dk_42 (dk_at dksX3_set_3 6 rfl rfl)
theorem dX3_set_78 : decode cX3_set 78 = .ok (.getfield 21, 3) := dk_180 0 21 (dk_at dksX3_set_3 7 rfl rfl)
theorem dX3_set_81 : decode cX3_set 81 = .ok (.iload_n 1, 1) := dk_27 (dk_at dksX3_set_3 10 rfl rfl)
theorem dX3_set_82 : decode cX3_set 82 = .ok (.aaload, 1) := dk_50 (dk_at dksX3_set_3 11 rfl rfl)
theorem dX3_set_83 : decode cX3_set 83 = .ok (.iload_n 2, 1) := dk_28 (dk_at dksX3_set_3 12 rfl rfl)
theorem dX3_set_84 : decode cX3_set 84 = .ok (.aload_n 0, 1) := dk_42 (dk_at dksX3_set_3 13 rfl rfl)
theorem dX3_set_85 : decode cX3_set 85 = .ok (.getfield 13, 3) := dk_180 0 13 (dk_at dksX3_set_3 14 rfl rfl)
theorem dX3_set_88 : decode cX3_set 88 = .ok (.iload_n 1, 1) := dk_27 (dk_at dksX3_set_3 17 rfl rfl)
theorem dX3_set_89 : decode cX3_set 89 = .ok (.iaload, 1) := dk_46 (dk_at dksX3_set_3 18 rfl rfl)
theorem dX3_set_90 : decode cX3_set 90 = .ok (.lload_n 3, 1) := dk_33 (dk_at dksX3_set_3 19 rfl rfl)
theorem dX3_set_91 : decode cX3_set 91 = .ok (.invokestatic 122, 3) := dk_184 0 122 (dk_at dksX3_set_3 20 rfl rfl)
theorem dX3_set_94 : decode cX3_set 94 = .ok (.lastore, 1) := dk_80 (dk_at dksX3_set_3 23 rfl rfl)
theorem dX3_set_95 : decode cX3_set 95 = .ok (.iconst 1, 1) := dk_4 (dk_at dksX3_set_4 0 rfl rfl)
theorem dX3_set_96 : decode cX3_set 96 = .ok (.ireturn, 1) := dk_172 (dk_at dksX3_set_4 1 rfl rfl)
abbrev cX3_fit : ByteArray := prog_17_method_11_code
def yX3_fit : MethodName := ⟨RX3, "fit", "(IJ)J"⟩
def dkwX3_fit_3 : List UInt8 := [167, 0, 4, 9, 173]
abbrev dktX3_fit_3 : List UInt8 := dkwX3_fit_3 ++ []
def dkwX3_fit_2 : List UInt8 := [31, 136, 145, 133, 173, 31, 136, 147, 133, 173, 31, 136, 133, 173, 31, 173, 31, 9, 148, 153, 0, 7, 10]
abbrev dktX3_fit_2 : List UInt8 := dkwX3_fit_2 ++ dktX3_fit_3
def dkwX3_fit_1 : List UInt8 := [170, 0, 0, 0, 0, 0, 47, 0, 0, 0, 0, 0, 0, 0, 3, 0, 0, 0, 31, 0, 0, 0, 36, 0, 0, 0, 41, 0, 0, 0, 45]
abbrev dktX3_fit_1 : List UInt8 := dkwX3_fit_1 ++ dktX3_fit_2
def dkwX3_fit_0 : List UInt8 := [26]
abbrev dktX3_fit_0 : List UInt8 := dkwX3_fit_0 ++ dktX3_fit_1
theorem dksX3_fit_0 : cX3_fit.data.toList.drop 0 = dktX3_fit_0 := by decide +kernel
theorem dksX3_fit_1 : cX3_fit.data.toList.drop 1 = dktX3_fit_1 := dk_seg dksX3_fit_0 1 rfl rfl
theorem dksX3_fit_2 : cX3_fit.data.toList.drop 32 = dktX3_fit_2 := dk_seg dksX3_fit_1 31 rfl rfl
theorem dksX3_fit_3 : cX3_fit.data.toList.drop 55 = dktX3_fit_3 := dk_seg dksX3_fit_2 23 rfl rfl
theorem dX3_fit_0 : decode cX3_fit 0 = .ok (.iload_n 0, 1) := dk_26 (dk_at dksX3_fit_0 0 rfl rfl)
theorem dX3_fit_1 : decode cX3_fit 1 = .ok (.tableswitch 47 0 3 #[31, 36, 41, 45], 31) := by decide +kernel
theorem dX3_fit_32 : decode cX3_fit 32 = .ok (.lload_n 1, 1) := dk_31 (dk_at dksX3_fit_2 0 rfl rfl)
theorem dX3_fit_33 : decode cX3_fit 33 = .ok (.l2i, 1) := dk_136 (dk_at dksX3_fit_2 1 rfl rfl)
theorem dX3_fit_34 : decode cX3_fit 34 = .ok (.i2b, 1) := dk_145 (dk_at dksX3_fit_2 2 rfl rfl)
theorem dX3_fit_35 : decode cX3_fit 35 = .ok (.i2l, 1) := dk_133 (dk_at dksX3_fit_2 3 rfl rfl)
theorem dX3_fit_36 : decode cX3_fit 36 = .ok (.lreturn, 1) := dk_173 (dk_at dksX3_fit_2 4 rfl rfl)
theorem dX3_fit_37 : decode cX3_fit 37 = .ok (.lload_n 1, 1) := dk_31 (dk_at dksX3_fit_2 5 rfl rfl)
theorem dX3_fit_38 : decode cX3_fit 38 = .ok (.l2i, 1) := dk_136 (dk_at dksX3_fit_2 6 rfl rfl)
theorem dX3_fit_39 : decode cX3_fit 39 = .ok (.i2s, 1) := dk_147 (dk_at dksX3_fit_2 7 rfl rfl)
theorem dX3_fit_40 : decode cX3_fit 40 = .ok (.i2l, 1) := dk_133 (dk_at dksX3_fit_2 8 rfl rfl)
theorem dX3_fit_41 : decode cX3_fit 41 = .ok (.lreturn, 1) := dk_173 (dk_at dksX3_fit_2 9 rfl rfl)
theorem dX3_fit_42 : decode cX3_fit 42 = .ok (.lload_n 1, 1) := dk_31 (dk_at dksX3_fit_2 10 rfl rfl)
theorem dX3_fit_43 : decode cX3_fit 43 = .ok (.l2i, 1) := dk_136 (dk_at dksX3_fit_2 11 rfl rfl)
theorem dX3_fit_44 : decode cX3_fit 44 = .ok (.i2l, 1) := dk_133 (dk_at dksX3_fit_2 12 rfl rfl)
theorem dX3_fit_45 : decode cX3_fit 45 = .ok (.lreturn, 1) := dk_173 (dk_at dksX3_fit_2 13 rfl rfl)
theorem dX3_fit_46 : decode cX3_fit 46 = .ok (.lload_n 1, 1) := dk_31 (dk_at dksX3_fit_2 14 rfl rfl)
theorem dX3_fit_47 : decode cX3_fit 47 = .ok (.lreturn, 1) := dk_173 (dk_at dksX3_fit_2 15 rfl rfl)
theorem dX3_fit_48 : decode cX3_fit 48 = .ok (.lload_n 1, 1) := dk_31 (dk_at dksX3_fit_2 16 rfl rfl)
theorem dX3_fit_49 : decode cX3_fit 49 = .ok (.lconst 0, 1) := dk_9 (dk_at dksX3_fit_2 17 rfl rfl)
theorem dX3_fit_50 : decode cX3_fit 50 = .ok (.lcmp, 1) := dk_148 (dk_at dksX3_fit_2 18 rfl rfl)
theorem dX3_fit_51 : decode cX3_fit 51 = .ok (.ifCond .eq 7, 3) := dk_153 0 7 (dk_at dksX3_fit_2 19 rfl rfl)
theorem dX3_fit_54 : decode cX3_fit 54 = .ok (.lconst 1, 1) := dk_10 (dk_at dksX3_fit_2 22 rfl rfl)
theorem dX3_fit_55 : decode cX3_fit 55 = .ok (.goto 4, 3) := dk_167 0 4 (dk_at dksX3_fit_3 0 rfl rfl)
theorem dX3_fit_58 : decode cX3_fit 58 = .ok (.lconst 0, 1) := dk_9 (dk_at dksX3_fit_3 3 rfl rfl)
theorem dX3_fit_59 : decode cX3_fit 59 = .ok (.lreturn, 1) := dk_173 (dk_at dksX3_fit_3 4 rfl rfl)
abbrev cX3_copy : ByteArray := prog_17_method_13_code
def yX3_copy : MethodName := ⟨RX3, "copy", "(IIIII)I"⟩
def dkwX3_copy_11 : List UInt8 := [21, 5, 172]
abbrev dktX3_copy_11 : List UInt8 := dkwX3_copy_11 ++ []
def dkwX3_copy_10 : List UInt8 := [180, 0, 21, 28, 50, 21, 4, 21, 6, 96, 42, 180, 0, 24, 21, 6, 47, 80, 132, 6, 1, 167, 255, 227]
abbrev dktX3_copy_10 : List UInt8 := dkwX3_copy_10 ++ dktX3_copy_11
def dkwX3_copy_9 : List UInt8 := [21, 6, 96, 47, 80, 132, 6, 1, 167, 255, 228, 3, 54, 6, 21, 6, 21, 5, 162, 0, 28, 42]
abbrev dktX3_copy_9 : List UInt8 := dkwX3_copy_9 ++ dktX3_copy_10
def dkwX3_copy_8 : List UInt8 := [3, 54, 6, 21, 6, 21, 5, 162, 0, 27, 42, 180, 0, 24, 21, 6, 42, 180, 0, 21, 27, 50, 29]
abbrev dktX3_copy_8 : List UInt8 := dkwX3_copy_8 ++ dktX3_copy_9
def dkwX3_copy_7 : List UInt8 := [163, 0, 17, 21, 4, 42, 180, 0, 16, 28, 46, 21, 5, 100, 164, 0, 10, 42, 16, 254, 182, 0, 119, 172]
abbrev dktX3_copy_7 : List UInt8 := dkwX3_copy_7 ++ dktX3_copy_8
def dkwX3_copy_6 : List UInt8 := [163, 0, 41, 21, 5, 42, 180, 0, 16, 28, 46, 163, 0, 30, 29, 42, 180, 0, 16, 27, 46, 21, 5, 100]
abbrev dktX3_copy_6 : List UInt8 := dkwX3_copy_6 ++ dktX3_copy_7
def dkwX3_copy_5 : List UInt8 := [21, 5, 155, 0, 61, 29, 155, 0, 57, 21, 4, 155, 0, 52, 21, 5, 42, 180, 0, 16, 27, 46]
abbrev dktX3_copy_5 : List UInt8 := dkwX3_copy_5 ++ dktX3_copy_6
def dkwX3_copy_4 : List UInt8 := [180, 0, 7, 27, 46, 153, 0, 12, 42, 180, 0, 7, 28, 46, 154, 0, 10, 42, 16, 252, 182, 0, 119, 172]
abbrev dktX3_copy_4 : List UInt8 := dkwX3_copy_4 ++ dktX3_copy_5
def dkwX3_copy_3 : List UInt8 := [180, 0, 13, 27, 46, 42, 180, 0, 13, 28, 46, 159, 0, 10, 42, 16, 253, 182, 0, 119, 172, 42]
abbrev dktX3_copy_3 : List UInt8 := dkwX3_copy_3 ++ dktX3_copy_4
def dkwX3_copy_2 : List UInt8 := [159, 0, 38, 42, 180, 0, 7, 27, 46, 4, 160, 0, 35, 42, 180, 0, 7, 28, 46, 4, 160, 0, 25, 42]
abbrev dktX3_copy_2 : List UInt8 := dkwX3_copy_2 ++ dktX3_copy_3
def dkwX3_copy_1 : List UInt8 := [42, 16, 254, 182, 0, 119, 172, 42, 180, 0, 7, 27, 46, 5, 159, 0, 48, 42, 180, 0, 7, 28, 46, 5]
abbrev dktX3_copy_1 : List UInt8 := dkwX3_copy_1 ++ dktX3_copy_2
def dkwX3_copy_0 : List UInt8 := [27, 133, 9, 20, 0, 113, 184, 0, 94, 153, 0, 15, 28, 133, 9, 20, 0, 113, 184, 0, 94, 154, 0, 10]
abbrev dktX3_copy_0 : List UInt8 := dkwX3_copy_0 ++ dktX3_copy_1
theorem dksX3_copy_0 : cX3_copy.data.toList.drop 0 = dktX3_copy_0 := by decide +kernel
theorem dksX3_copy_1 : cX3_copy.data.toList.drop 24 = dktX3_copy_1 := dk_seg dksX3_copy_0 24 rfl rfl
theorem dksX3_copy_2 : cX3_copy.data.toList.drop 48 = dktX3_copy_2 := dk_seg dksX3_copy_1 24 rfl rfl
theorem dksX3_copy_3 : cX3_copy.data.toList.drop 72 = dktX3_copy_3 := dk_seg dksX3_copy_2 24 rfl rfl
theorem dksX3_copy_4 : cX3_copy.data.toList.drop 94 = dktX3_copy_4 := dk_seg dksX3_copy_3 22 rfl rfl
theorem dksX3_copy_5 : cX3_copy.data.toList.drop 118 = dktX3_copy_5 := dk_seg dksX3_copy_4 24 rfl rfl
theorem dksX3_copy_6 : cX3_copy.data.toList.drop 140 = dktX3_copy_6 := dk_seg dksX3_copy_5 22 rfl rfl
theorem dksX3_copy_7 : cX3_copy.data.toList.drop 164 = dktX3_copy_7 := dk_seg dksX3_copy_6 24 rfl rfl
theorem dksX3_copy_8 : cX3_copy.data.toList.drop 188 = dktX3_copy_8 := dk_seg dksX3_copy_7 24 rfl rfl
theorem dksX3_copy_9 : cX3_copy.data.toList.drop 211 = dktX3_copy_9 := dk_seg dksX3_copy_8 23 rfl rfl
theorem dksX3_copy_10 : cX3_copy.data.toList.drop 233 = dktX3_copy_10 := dk_seg dksX3_copy_9 22 rfl rfl
theorem dksX3_copy_11 : cX3_copy.data.toList.drop 257 = dktX3_copy_11 := dk_seg dksX3_copy_10 24 rfl rfl
theorem dX3_copy_0 : decode cX3_copy 0 = .ok (.iload_n 1, 1) := dk_27 (dk_at dksX3_copy_0 0 rfl rfl)
theorem dX3_copy_1 : decode cX3_copy 1 = .ok (.i2l, 1) := dk_133 (dk_at dksX3_copy_0 1 rfl rfl)
theorem dX3_copy_2 : decode cX3_copy 2 = .ok (.lconst 0, 1) := dk_9 (dk_at dksX3_copy_0 2 rfl rfl)
theorem dX3_copy_3 : decode cX3_copy 3 = .ok (.ldc2_w 113, 3) := dk_20 0 113 (dk_at dksX3_copy_0 3 rfl rfl)
theorem dX3_copy_6 : decode cX3_copy 6 = .ok (.invokestatic 94, 3) := dk_184 0 94 (dk_at dksX3_copy_0 6 rfl rfl)
theorem dX3_copy_9 : decode cX3_copy 9 = .ok (.ifCond .eq 15, 3) := dk_153 0 15 (dk_at dksX3_copy_0 9 rfl rfl)
theorem dX3_copy_12 : decode cX3_copy 12 = .ok (.iload_n 2, 1) := dk_28 (dk_at dksX3_copy_0 12 rfl rfl)
theorem dX3_copy_13 : decode cX3_copy 13 = .ok (.i2l, 1) := dk_133 (dk_at dksX3_copy_0 13 rfl rfl)
theorem dX3_copy_14 : decode cX3_copy 14 = .ok (.lconst 0, 1) := dk_9 (dk_at dksX3_copy_0 14 rfl rfl)
theorem dX3_copy_15 : decode cX3_copy 15 = .ok (.ldc2_w 113, 3) := dk_20 0 113 (dk_at dksX3_copy_0 15 rfl rfl)
theorem dX3_copy_18 : decode cX3_copy 18 = .ok (.invokestatic 94, 3) := dk_184 0 94 (dk_at dksX3_copy_0 18 rfl rfl)
theorem dX3_copy_21 : decode cX3_copy 21 = .ok (.ifCond .ne 10, 3) := dk_154 0 10 (dk_at dksX3_copy_0 21 rfl rfl)
theorem dX3_copy_24 : decode cX3_copy 24 = .ok (.aload_n 0, 1) := dk_42 (dk_at dksX3_copy_1 0 rfl rfl)
theorem dX3_copy_25 : decode cX3_copy 25 = .ok (.bipush (-2), 2) := dk_16 254 (dk_at dksX3_copy_1 1 rfl rfl)
theorem dX3_copy_27 : decode cX3_copy 27 = .ok (.invokevirtual 119, 3) := dk_182 0 119 (dk_at dksX3_copy_1 3 rfl rfl)
theorem dX3_copy_30 : decode cX3_copy 30 = .ok (.ireturn, 1) := dk_172 (dk_at dksX3_copy_1 6 rfl rfl)
theorem dX3_copy_31 : decode cX3_copy 31 = .ok (.aload_n 0, 1) := dk_42 (dk_at dksX3_copy_1 7 rfl rfl)
theorem dX3_copy_32 : decode cX3_copy 32 = .ok (.getfield 7, 3) := dk_180 0 7 (dk_at dksX3_copy_1 8 rfl rfl)
theorem dX3_copy_35 : decode cX3_copy 35 = .ok (.iload_n 1, 1) := dk_27 (dk_at dksX3_copy_1 11 rfl rfl)
theorem dX3_copy_36 : decode cX3_copy 36 = .ok (.iaload, 1) := dk_46 (dk_at dksX3_copy_1 12 rfl rfl)
theorem dX3_copy_37 : decode cX3_copy 37 = .ok (.iconst 2, 1) := dk_5 (dk_at dksX3_copy_1 13 rfl rfl)
theorem dX3_copy_38 : decode cX3_copy 38 = .ok (.if_icmp .eq 48, 3) := dk_159 0 48 (dk_at dksX3_copy_1 14 rfl rfl)
theorem dX3_copy_41 : decode cX3_copy 41 = .ok (.aload_n 0, 1) := dk_42 (dk_at dksX3_copy_1 17 rfl rfl)
theorem dX3_copy_42 : decode cX3_copy 42 = .ok (.getfield 7, 3) := dk_180 0 7 (dk_at dksX3_copy_1 18 rfl rfl)
theorem dX3_copy_45 : decode cX3_copy 45 = .ok (.iload_n 2, 1) := dk_28 (dk_at dksX3_copy_1 21 rfl rfl)
theorem dX3_copy_46 : decode cX3_copy 46 = .ok (.iaload, 1) := dk_46 (dk_at dksX3_copy_1 22 rfl rfl)
theorem dX3_copy_47 : decode cX3_copy 47 = .ok (.iconst 2, 1) := dk_5 (dk_at dksX3_copy_1 23 rfl rfl)
theorem dX3_copy_48 : decode cX3_copy 48 = .ok (.if_icmp .eq 38, 3) := dk_159 0 38 (dk_at dksX3_copy_2 0 rfl rfl)
theorem dX3_copy_51 : decode cX3_copy 51 = .ok (.aload_n 0, 1) := dk_42 (dk_at dksX3_copy_2 3 rfl rfl)
theorem dX3_copy_52 : decode cX3_copy 52 = .ok (.getfield 7, 3) := dk_180 0 7 (dk_at dksX3_copy_2 4 rfl rfl)
theorem dX3_copy_55 : decode cX3_copy 55 = .ok (.iload_n 1, 1) := dk_27 (dk_at dksX3_copy_2 7 rfl rfl)
theorem dX3_copy_56 : decode cX3_copy 56 = .ok (.iaload, 1) := dk_46 (dk_at dksX3_copy_2 8 rfl rfl)
theorem dX3_copy_57 : decode cX3_copy 57 = .ok (.iconst 1, 1) := dk_4 (dk_at dksX3_copy_2 9 rfl rfl)
theorem dX3_copy_58 : decode cX3_copy 58 = .ok (.if_icmp .ne 35, 3) := dk_160 0 35 (dk_at dksX3_copy_2 10 rfl rfl)
theorem dX3_copy_61 : decode cX3_copy 61 = .ok (.aload_n 0, 1) := dk_42 (dk_at dksX3_copy_2 13 rfl rfl)
theorem dX3_copy_62 : decode cX3_copy 62 = .ok (.getfield 7, 3) := dk_180 0 7 (dk_at dksX3_copy_2 14 rfl rfl)
theorem dX3_copy_65 : decode cX3_copy 65 = .ok (.iload_n 2, 1) := dk_28 (dk_at dksX3_copy_2 17 rfl rfl)
theorem dX3_copy_66 : decode cX3_copy 66 = .ok (.iaload, 1) := dk_46 (dk_at dksX3_copy_2 18 rfl rfl)
theorem dX3_copy_67 : decode cX3_copy 67 = .ok (.iconst 1, 1) := dk_4 (dk_at dksX3_copy_2 19 rfl rfl)
theorem dX3_copy_68 : decode cX3_copy 68 = .ok (.if_icmp .ne 25, 3) := dk_160 0 25 (dk_at dksX3_copy_2 20 rfl rfl)
theorem dX3_copy_71 : decode cX3_copy 71 = .ok (.aload_n 0, 1) := dk_42 (dk_at dksX3_copy_2 23 rfl rfl)
theorem dX3_copy_72 : decode cX3_copy 72 = .ok (.getfield 13, 3) := dk_180 0 13 (dk_at dksX3_copy_3 0 rfl rfl)
theorem dX3_copy_75 : decode cX3_copy 75 = .ok (.iload_n 1, 1) := dk_27 (dk_at dksX3_copy_3 3 rfl rfl)
theorem dX3_copy_76 : decode cX3_copy 76 = .ok (.iaload, 1) := dk_46 (dk_at dksX3_copy_3 4 rfl rfl)
theorem dX3_copy_77 : decode cX3_copy 77 = .ok (.aload_n 0, 1) := dk_42 (dk_at dksX3_copy_3 5 rfl rfl)
theorem dX3_copy_78 : decode cX3_copy 78 = .ok (.getfield 13, 3) := dk_180 0 13 (dk_at dksX3_copy_3 6 rfl rfl)
theorem dX3_copy_81 : decode cX3_copy 81 = .ok (.iload_n 2, 1) := dk_28 (dk_at dksX3_copy_3 9 rfl rfl)
theorem dX3_copy_82 : decode cX3_copy 82 = .ok (.iaload, 1) := dk_46 (dk_at dksX3_copy_3 10 rfl rfl)
theorem dX3_copy_83 : decode cX3_copy 83 = .ok (.if_icmp .eq 10, 3) := dk_159 0 10 (dk_at dksX3_copy_3 11 rfl rfl)
theorem dX3_copy_86 : decode cX3_copy 86 = .ok (.aload_n 0, 1) := dk_42 (dk_at dksX3_copy_3 14 rfl rfl)
theorem dX3_copy_87 : decode cX3_copy 87 = .ok (.bipush (-3), 2) := dk_16 253 (dk_at dksX3_copy_3 15 rfl rfl)
theorem dX3_copy_89 : decode cX3_copy 89 = .ok (.invokevirtual 119, 3) := dk_182 0 119 (dk_at dksX3_copy_3 17 rfl rfl)
theorem dX3_copy_92 : decode cX3_copy 92 = .ok (.ireturn, 1) := dk_172 (dk_at dksX3_copy_3 20 rfl rfl)
theorem dX3_copy_93 : decode cX3_copy 93 = .ok (.aload_n 0, 1) := dk_42 (dk_at dksX3_copy_3 21 rfl rfl)
theorem dX3_copy_94 : decode cX3_copy 94 = .ok (.getfield 7, 3) := dk_180 0 7 (dk_at dksX3_copy_4 0 rfl rfl)
theorem dX3_copy_97 : decode cX3_copy 97 = .ok (.iload_n 1, 1) := dk_27 (dk_at dksX3_copy_4 3 rfl rfl)
theorem dX3_copy_98 : decode cX3_copy 98 = .ok (.iaload, 1) := dk_46 (dk_at dksX3_copy_4 4 rfl rfl)
theorem dX3_copy_99 : decode cX3_copy 99 = .ok (.ifCond .eq 12, 3) := dk_153 0 12 (dk_at dksX3_copy_4 5 rfl rfl)
theorem dX3_copy_102 : decode cX3_copy 102 = .ok (.aload_n 0, 1) := dk_42 (dk_at dksX3_copy_4 8 rfl rfl)
theorem dX3_copy_103 : decode cX3_copy 103 = .ok (.getfield 7, 3) := dk_180 0 7 (dk_at dksX3_copy_4 9 rfl rfl)
theorem dX3_copy_106 : decode cX3_copy 106 = .ok (.iload_n 2, 1) := dk_28 (dk_at dksX3_copy_4 12 rfl rfl)
theorem dX3_copy_107 : decode cX3_copy 107 = .ok (.iaload, 1) := dk_46 (dk_at dksX3_copy_4 13 rfl rfl)
theorem dX3_copy_108 : decode cX3_copy 108 = .ok (.ifCond .ne 10, 3) := dk_154 0 10 (dk_at dksX3_copy_4 14 rfl rfl)
theorem dX3_copy_111 : decode cX3_copy 111 = .ok (.aload_n 0, 1) := dk_42 (dk_at dksX3_copy_4 17 rfl rfl)
theorem dX3_copy_112 : decode cX3_copy 112 = .ok (.bipush (-4), 2) := dk_16 252 (dk_at dksX3_copy_4 18 rfl rfl)
theorem dX3_copy_114 : decode cX3_copy 114 = .ok (.invokevirtual 119, 3) := dk_182 0 119 (dk_at dksX3_copy_4 20 rfl rfl)
theorem dX3_copy_117 : decode cX3_copy 117 = .ok (.ireturn, 1) := dk_172 (dk_at dksX3_copy_4 23 rfl rfl)
theorem dX3_copy_118 : decode cX3_copy 118 = .ok (.iload 5, 2) := dk_21 5 (dk_at dksX3_copy_5 0 rfl rfl)
theorem dX3_copy_120 : decode cX3_copy 120 = .ok (.ifCond .lt 61, 3) := dk_155 0 61 (dk_at dksX3_copy_5 2 rfl rfl)
theorem dX3_copy_123 : decode cX3_copy 123 = .ok (.iload_n 3, 1) := dk_29 (dk_at dksX3_copy_5 5 rfl rfl)
theorem dX3_copy_124 : decode cX3_copy 124 = .ok (.ifCond .lt 57, 3) := dk_155 0 57 (dk_at dksX3_copy_5 6 rfl rfl)
theorem dX3_copy_127 : decode cX3_copy 127 = .ok (.iload 4, 2) := dk_21 4 (dk_at dksX3_copy_5 9 rfl rfl)
theorem dX3_copy_129 : decode cX3_copy 129 = .ok (.ifCond .lt 52, 3) := dk_155 0 52 (dk_at dksX3_copy_5 11 rfl rfl)
theorem dX3_copy_132 : decode cX3_copy 132 = .ok (.iload 5, 2) := dk_21 5 (dk_at dksX3_copy_5 14 rfl rfl)
theorem dX3_copy_134 : decode cX3_copy 134 = .ok (.aload_n 0, 1) := dk_42 (dk_at dksX3_copy_5 16 rfl rfl)
theorem dX3_copy_135 : decode cX3_copy 135 = .ok (.getfield 16, 3) := dk_180 0 16 (dk_at dksX3_copy_5 17 rfl rfl)
theorem dX3_copy_138 : decode cX3_copy 138 = .ok (.iload_n 1, 1) := dk_27 (dk_at dksX3_copy_5 20 rfl rfl)
theorem dX3_copy_139 : decode cX3_copy 139 = .ok (.iaload, 1) := dk_46 (dk_at dksX3_copy_5 21 rfl rfl)
theorem dX3_copy_140 : decode cX3_copy 140 = .ok (.if_icmp .gt 41, 3) := dk_163 0 41 (dk_at dksX3_copy_6 0 rfl rfl)
theorem dX3_copy_143 : decode cX3_copy 143 = .ok (.iload 5, 2) := dk_21 5 (dk_at dksX3_copy_6 3 rfl rfl)
theorem dX3_copy_145 : decode cX3_copy 145 = .ok (.aload_n 0, 1) := dk_42 (dk_at dksX3_copy_6 5 rfl rfl)
theorem dX3_copy_146 : decode cX3_copy 146 = .ok (.getfield 16, 3) := dk_180 0 16 (dk_at dksX3_copy_6 6 rfl rfl)
theorem dX3_copy_149 : decode cX3_copy 149 = .ok (.iload_n 2, 1) := dk_28 (dk_at dksX3_copy_6 9 rfl rfl)
theorem dX3_copy_150 : decode cX3_copy 150 = .ok (.iaload, 1) := dk_46 (dk_at dksX3_copy_6 10 rfl rfl)
theorem dX3_copy_151 : decode cX3_copy 151 = .ok (.if_icmp .gt 30, 3) := dk_163 0 30 (dk_at dksX3_copy_6 11 rfl rfl)
theorem dX3_copy_154 : decode cX3_copy 154 = .ok (.iload_n 3, 1) := dk_29 (dk_at dksX3_copy_6 14 rfl rfl)
theorem dX3_copy_155 : decode cX3_copy 155 = .ok (.aload_n 0, 1) := dk_42 (dk_at dksX3_copy_6 15 rfl rfl)
theorem dX3_copy_156 : decode cX3_copy 156 = .ok (.getfield 16, 3) := dk_180 0 16 (dk_at dksX3_copy_6 16 rfl rfl)
theorem dX3_copy_159 : decode cX3_copy 159 = .ok (.iload_n 1, 1) := dk_27 (dk_at dksX3_copy_6 19 rfl rfl)
theorem dX3_copy_160 : decode cX3_copy 160 = .ok (.iaload, 1) := dk_46 (dk_at dksX3_copy_6 20 rfl rfl)
theorem dX3_copy_161 : decode cX3_copy 161 = .ok (.iload 5, 2) := dk_21 5 (dk_at dksX3_copy_6 21 rfl rfl)
theorem dX3_copy_163 : decode cX3_copy 163 = .ok (.isub, 1) := dk_100 (dk_at dksX3_copy_6 23 rfl rfl)
theorem dX3_copy_164 : decode cX3_copy 164 = .ok (.if_icmp .gt 17, 3) := dk_163 0 17 (dk_at dksX3_copy_7 0 rfl rfl)
theorem dX3_copy_167 : decode cX3_copy 167 = .ok (.iload 4, 2) := dk_21 4 (dk_at dksX3_copy_7 3 rfl rfl)
theorem dX3_copy_169 : decode cX3_copy 169 = .ok (.aload_n 0, 1) := dk_42 (dk_at dksX3_copy_7 5 rfl rfl)
theorem dX3_copy_170 : decode cX3_copy 170 = .ok (.getfield 16, 3) := dk_180 0 16 (dk_at dksX3_copy_7 6 rfl rfl)
theorem dX3_copy_173 : decode cX3_copy 173 = .ok (.iload_n 2, 1) := dk_28 (dk_at dksX3_copy_7 9 rfl rfl)
theorem dX3_copy_174 : decode cX3_copy 174 = .ok (.iaload, 1) := dk_46 (dk_at dksX3_copy_7 10 rfl rfl)
theorem dX3_copy_175 : decode cX3_copy 175 = .ok (.iload 5, 2) := dk_21 5 (dk_at dksX3_copy_7 11 rfl rfl)
theorem dX3_copy_177 : decode cX3_copy 177 = .ok (.isub, 1) := dk_100 (dk_at dksX3_copy_7 13 rfl rfl)
theorem dX3_copy_178 : decode cX3_copy 178 = .ok (.if_icmp .le 10, 3) := dk_164 0 10 (dk_at dksX3_copy_7 14 rfl rfl)
theorem dX3_copy_181 : decode cX3_copy 181 = .ok (.aload_n 0, 1) := dk_42 (dk_at dksX3_copy_7 17 rfl rfl)
theorem dX3_copy_182 : decode cX3_copy 182 = .ok (.bipush (-2), 2) := dk_16 254 (dk_at dksX3_copy_7 18 rfl rfl)
theorem dX3_copy_184 : decode cX3_copy 184 = .ok (.invokevirtual 119, 3) := dk_182 0 119 (dk_at dksX3_copy_7 20 rfl rfl)
theorem dX3_copy_187 : decode cX3_copy 187 = .ok (.ireturn, 1) := dk_172 (dk_at dksX3_copy_7 23 rfl rfl)
theorem dX3_copy_188 : decode cX3_copy 188 = .ok (.iconst 0, 1) := dk_3 (dk_at dksX3_copy_8 0 rfl rfl)
theorem dX3_copy_189 : decode cX3_copy 189 = .ok (.istore 6, 2) := dk_54 6 (dk_at dksX3_copy_8 1 rfl rfl)
theorem dX3_copy_191 : decode cX3_copy 191 = .ok (.iload 6, 2) := dk_21 6 (dk_at dksX3_copy_8 3 rfl rfl)
theorem dX3_copy_193 : decode cX3_copy 193 = .ok (.iload 5, 2) := dk_21 5 (dk_at dksX3_copy_8 5 rfl rfl)
theorem dX3_copy_195 : decode cX3_copy 195 = .ok (.if_icmp .ge 27, 3) := dk_162 0 27 (dk_at dksX3_copy_8 7 rfl rfl)
theorem dX3_copy_198 : decode cX3_copy 198 = .ok (.aload_n 0, 1) := dk_42 (dk_at dksX3_copy_8 10 rfl rfl)
theorem dX3_copy_199 : decode cX3_copy 199 = .ok (.getfield 24, 3) := dk_180 0 24 (dk_at dksX3_copy_8 11 rfl rfl)
theorem dX3_copy_202 : decode cX3_copy 202 = .ok (.iload 6, 2) := dk_21 6 (dk_at dksX3_copy_8 14 rfl rfl)
theorem dX3_copy_204 : decode cX3_copy 204 = .ok (.aload_n 0, 1) := dk_42 (dk_at dksX3_copy_8 16 rfl rfl)
theorem dX3_copy_205 : decode cX3_copy 205 = .ok (.getfield 21, 3) := dk_180 0 21 (dk_at dksX3_copy_8 17 rfl rfl)
theorem dX3_copy_208 : decode cX3_copy 208 = .ok (.iload_n 1, 1) := dk_27 (dk_at dksX3_copy_8 20 rfl rfl)
theorem dX3_copy_209 : decode cX3_copy 209 = .ok (.aaload, 1) := dk_50 (dk_at dksX3_copy_8 21 rfl rfl)
theorem dX3_copy_210 : decode cX3_copy 210 = .ok (.iload_n 3, 1) := dk_29 (dk_at dksX3_copy_8 22 rfl rfl)
theorem dX3_copy_211 : decode cX3_copy 211 = .ok (.iload 6, 2) := dk_21 6 (dk_at dksX3_copy_9 0 rfl rfl)
theorem dX3_copy_213 : decode cX3_copy 213 = .ok (.iadd, 1) := dk_96 (dk_at dksX3_copy_9 2 rfl rfl)
theorem dX3_copy_214 : decode cX3_copy 214 = .ok (.laload, 1) := dk_47 (dk_at dksX3_copy_9 3 rfl rfl)
theorem dX3_copy_215 : decode cX3_copy 215 = .ok (.lastore, 1) := dk_80 (dk_at dksX3_copy_9 4 rfl rfl)
theorem dX3_copy_216 : decode cX3_copy 216 = .ok (.iinc 6 1, 3) := dk_132 6 1 (dk_at dksX3_copy_9 5 rfl rfl)
theorem dX3_copy_219 : decode cX3_copy 219 = .ok (.goto (-28), 3) := dk_167 255 228 (dk_at dksX3_copy_9 8 rfl rfl)
theorem dX3_copy_222 : decode cX3_copy 222 = .ok (.iconst 0, 1) := dk_3 (dk_at dksX3_copy_9 11 rfl rfl)
theorem dX3_copy_223 : decode cX3_copy 223 = .ok (.istore 6, 2) := dk_54 6 (dk_at dksX3_copy_9 12 rfl rfl)
theorem dX3_copy_225 : decode cX3_copy 225 = .ok (.iload 6, 2) := dk_21 6 (dk_at dksX3_copy_9 14 rfl rfl)
theorem dX3_copy_227 : decode cX3_copy 227 = .ok (.iload 5, 2) := dk_21 5 (dk_at dksX3_copy_9 16 rfl rfl)
theorem dX3_copy_229 : decode cX3_copy 229 = .ok (.if_icmp .ge 28, 3) := dk_162 0 28 (dk_at dksX3_copy_9 18 rfl rfl)
theorem dX3_copy_232 : decode cX3_copy 232 = .ok (.aload_n 0, 1) := dk_42 (dk_at dksX3_copy_9 21 rfl rfl)
theorem dX3_copy_233 : decode cX3_copy 233 = .ok (.getfield 21, 3) := dk_180 0 21 (dk_at dksX3_copy_10 0 rfl rfl)
theorem dX3_copy_236 : decode cX3_copy 236 = .ok (.iload_n 2, 1) := dk_28 (dk_at dksX3_copy_10 3 rfl rfl)
theorem dX3_copy_237 : decode cX3_copy 237 = .ok (.aaload, 1) := dk_50 (dk_at dksX3_copy_10 4 rfl rfl)
theorem dX3_copy_238 : decode cX3_copy 238 = .ok (.iload 4, 2) := dk_21 4 (dk_at dksX3_copy_10 5 rfl rfl)
theorem dX3_copy_240 : decode cX3_copy 240 = .ok (.iload 6, 2) := dk_21 6 (dk_at dksX3_copy_10 7 rfl rfl)
theorem dX3_copy_242 : decode cX3_copy 242 = .ok (.iadd, 1) := dk_96 (dk_at dksX3_copy_10 9 rfl rfl)
theorem dX3_copy_243 : decode cX3_copy 243 = .ok (.aload_n 0, 1) := dk_42 (dk_at dksX3_copy_10 10 rfl rfl)
theorem dX3_copy_244 : decode cX3_copy 244 = .ok (.getfield 24, 3) := dk_180 0 24 (dk_at dksX3_copy_10 11 rfl rfl)
theorem dX3_copy_247 : decode cX3_copy 247 = .ok (.iload 6, 2) := dk_21 6 (dk_at dksX3_copy_10 14 rfl rfl)
theorem dX3_copy_249 : decode cX3_copy 249 = .ok (.laload, 1) := dk_47 (dk_at dksX3_copy_10 16 rfl rfl)
theorem dX3_copy_250 : decode cX3_copy 250 = .ok (.lastore, 1) := dk_80 (dk_at dksX3_copy_10 17 rfl rfl)
theorem dX3_copy_251 : decode cX3_copy 251 = .ok (.iinc 6 1, 3) := dk_132 6 1 (dk_at dksX3_copy_10 18 rfl rfl)
theorem dX3_copy_254 : decode cX3_copy 254 = .ok (.goto (-29), 3) := dk_167 255 227 (dk_at dksX3_copy_10 21 rfl rfl)
theorem dX3_copy_257 : decode cX3_copy 257 = .ok (.iload 5, 2) := dk_21 5 (dk_at dksX3_copy_11 0 rfl rfl)
theorem dX3_copy_259 : decode cX3_copy 259 = .ok (.ireturn, 1) := dk_172 (dk_at dksX3_copy_11 2 rfl rfl)
abbrev cX3_element : ByteArray := prog_17_method_14_code
def yX3_element : MethodName := ⟨RX3, "element", "(II)J"⟩
def dkwX3_element_2 : List UInt8 := [167, 0, 4, 9, 173]
abbrev dktX3_element_2 : List UInt8 := dkwX3_element_2 ++ []
def dkwX3_element_1 : List UInt8 := [9, 42, 180, 0, 16, 27, 46, 4, 100, 133, 184, 0, 94, 153, 0, 14, 42, 180, 0, 21, 27, 50, 28, 47]
abbrev dktX3_element_1 : List UInt8 := dkwX3_element_1 ++ dktX3_element_2
def dkwX3_element_0 : List UInt8 := [27, 133, 9, 20, 0, 113, 184, 0, 94, 153, 0, 42, 42, 180, 0, 7, 27, 46, 4, 160, 0, 32, 28, 133]
abbrev dktX3_element_0 : List UInt8 := dkwX3_element_0 ++ dktX3_element_1
theorem dksX3_element_0 : cX3_element.data.toList.drop 0 = dktX3_element_0 := by decide +kernel
theorem dksX3_element_1 : cX3_element.data.toList.drop 24 = dktX3_element_1 := dk_seg dksX3_element_0 24 rfl rfl
theorem dksX3_element_2 : cX3_element.data.toList.drop 48 = dktX3_element_2 := dk_seg dksX3_element_1 24 rfl rfl
theorem dX3_element_0 : decode cX3_element 0 = .ok (.iload_n 1, 1) := dk_27 (dk_at dksX3_element_0 0 rfl rfl)
theorem dX3_element_1 : decode cX3_element 1 = .ok (.i2l, 1) := dk_133 (dk_at dksX3_element_0 1 rfl rfl)
theorem dX3_element_2 : decode cX3_element 2 = .ok (.lconst 0, 1) := dk_9 (dk_at dksX3_element_0 2 rfl rfl)
theorem dX3_element_3 : decode cX3_element 3 = .ok (.ldc2_w 113, 3) := dk_20 0 113 (dk_at dksX3_element_0 3 rfl rfl)
theorem dX3_element_6 : decode cX3_element 6 = .ok (.invokestatic 94, 3) := dk_184 0 94 (dk_at dksX3_element_0 6 rfl rfl)
theorem dX3_element_9 : decode cX3_element 9 = .ok (.ifCond .eq 42, 3) := dk_153 0 42 (dk_at dksX3_element_0 9 rfl rfl)
theorem dX3_element_12 : decode cX3_element 12 = .ok (.aload_n 0, 1) := dk_42 (dk_at dksX3_element_0 12 rfl rfl)
theorem dX3_element_13 : decode cX3_element 13 = .ok (.getfield 7, 3) := dk_180 0 7 (dk_at dksX3_element_0 13 rfl rfl)
theorem dX3_element_16 : decode cX3_element 16 = .ok (.iload_n 1, 1) := dk_27 (dk_at dksX3_element_0 16 rfl rfl)
theorem dX3_element_17 : decode cX3_element 17 = .ok (.iaload, 1) := dk_46 (dk_at dksX3_element_0 17 rfl rfl)
theorem dX3_element_18 : decode cX3_element 18 = .ok (.iconst 1, 1) := dk_4 (dk_at dksX3_element_0 18 rfl rfl)
theorem dX3_element_19 : decode cX3_element 19 = .ok (.if_icmp .ne 32, 3) := dk_160 0 32 (dk_at dksX3_element_0 19 rfl rfl)
theorem dX3_element_22 : decode cX3_element 22 = .ok (.iload_n 2, 1) := dk_28 (dk_at dksX3_element_0 22 rfl rfl)
theorem dX3_element_23 : decode cX3_element 23 = .ok (.i2l, 1) := dk_133 (dk_at dksX3_element_0 23 rfl rfl)
theorem dX3_element_24 : decode cX3_element 24 = .ok (.lconst 0, 1) := dk_9 (dk_at dksX3_element_1 0 rfl rfl)
theorem dX3_element_25 : decode cX3_element 25 = .ok (.aload_n 0, 1) := dk_42 (dk_at dksX3_element_1 1 rfl rfl)
theorem dX3_element_26 : decode cX3_element 26 = .ok (.getfield 16, 3) := dk_180 0 16 (dk_at dksX3_element_1 2 rfl rfl)
theorem dX3_element_29 : decode cX3_element 29 = .ok (.iload_n 1, 1) := dk_27 (dk_at dksX3_element_1 5 rfl rfl)
theorem dX3_element_30 : decode cX3_element 30 = .ok (.iaload, 1) := dk_46 (dk_at dksX3_element_1 6 rfl rfl)
theorem dX3_element_31 : decode cX3_element 31 = .ok (.iconst 1, 1) := dk_4 (dk_at dksX3_element_1 7 rfl rfl)
theorem dX3_element_32 : decode cX3_element 32 = .ok (.isub, 1) := dk_100 (dk_at dksX3_element_1 8 rfl rfl)
theorem dX3_element_33 : decode cX3_element 33 = .ok (.i2l, 1) := dk_133 (dk_at dksX3_element_1 9 rfl rfl)
theorem dX3_element_34 : decode cX3_element 34 = .ok (.invokestatic 94, 3) := dk_184 0 94 (dk_at dksX3_element_1 10 rfl rfl)
theorem dX3_element_37 : decode cX3_element 37 = .ok (.ifCond .eq 14, 3) := dk_153 0 14 (dk_at dksX3_element_1 13 rfl rfl)
theorem dX3_element_40 : decode cX3_element 40 = .ok (.aload_n 0, 1) := dk_42 (dk_at dksX3_element_1 16 rfl rfl)
theorem dX3_element_41 : decode cX3_element 41 = .ok (.getfield 21, 3) := dk_180 0 21 (dk_at dksX3_element_1 17 rfl rfl)
theorem dX3_element_44 : decode cX3_element 44 = .ok (.iload_n 1, 1) := dk_27 (dk_at dksX3_element_1 20 rfl rfl)
theorem dX3_element_45 : decode cX3_element 45 = .ok (.aaload, 1) := dk_50 (dk_at dksX3_element_1 21 rfl rfl)
theorem dX3_element_46 : decode cX3_element 46 = .ok (.iload_n 2, 1) := dk_28 (dk_at dksX3_element_1 22 rfl rfl)
theorem dX3_element_47 : decode cX3_element 47 = .ok (.laload, 1) := dk_47 (dk_at dksX3_element_1 23 rfl rfl)
theorem dX3_element_48 : decode cX3_element 48 = .ok (.goto 4, 3) := dk_167 0 4 (dk_at dksX3_element_2 0 rfl rfl)
theorem dX3_element_51 : decode cX3_element 51 = .ok (.lconst 0, 1) := dk_9 (dk_at dksX3_element_2 3 rfl rfl)
theorem dX3_element_52 : decode cX3_element 52 = .ok (.lreturn, 1) := dk_173 (dk_at dksX3_element_2 4 rfl rfl)
abbrev cX3_holds : ByteArray := prog_17_method_15_code
def yX3_holds : MethodName := ⟨RX3, "holds", "(I)I"⟩
def dkwX3_holds_2 : List UInt8 := [27, 46, 96, 172]
abbrev dktX3_holds_2 : List UInt8 := dkwX3_holds_2 ++ []
def dkwX3_holds_1 : List UInt8 := [180, 0, 7, 27, 46, 4, 160, 0, 12, 42, 180, 0, 13, 27, 46, 167, 0, 12, 16, 10, 42, 180, 0, 28]
abbrev dktX3_holds_1 : List UInt8 := dkwX3_holds_1 ++ dktX3_holds_2
def dkwX3_holds_0 : List UInt8 := [27, 133, 9, 20, 0, 113, 184, 0, 94, 153, 0, 12, 42, 180, 0, 7, 27, 46, 154, 0, 5, 2, 172, 42]
abbrev dktX3_holds_0 : List UInt8 := dkwX3_holds_0 ++ dktX3_holds_1
theorem dksX3_holds_0 : cX3_holds.data.toList.drop 0 = dktX3_holds_0 := by decide +kernel
theorem dksX3_holds_1 : cX3_holds.data.toList.drop 24 = dktX3_holds_1 := dk_seg dksX3_holds_0 24 rfl rfl
theorem dksX3_holds_2 : cX3_holds.data.toList.drop 48 = dktX3_holds_2 := dk_seg dksX3_holds_1 24 rfl rfl
theorem dX3_holds_0 : decode cX3_holds 0 = .ok (.iload_n 1, 1) := dk_27 (dk_at dksX3_holds_0 0 rfl rfl)
theorem dX3_holds_1 : decode cX3_holds 1 = .ok (.i2l, 1) := dk_133 (dk_at dksX3_holds_0 1 rfl rfl)
theorem dX3_holds_2 : decode cX3_holds 2 = .ok (.lconst 0, 1) := dk_9 (dk_at dksX3_holds_0 2 rfl rfl)
theorem dX3_holds_3 : decode cX3_holds 3 = .ok (.ldc2_w 113, 3) := dk_20 0 113 (dk_at dksX3_holds_0 3 rfl rfl)
theorem dX3_holds_6 : decode cX3_holds 6 = .ok (.invokestatic 94, 3) := dk_184 0 94 (dk_at dksX3_holds_0 6 rfl rfl)
theorem dX3_holds_9 : decode cX3_holds 9 = .ok (.ifCond .eq 12, 3) := dk_153 0 12 (dk_at dksX3_holds_0 9 rfl rfl)
theorem dX3_holds_12 : decode cX3_holds 12 = .ok (.aload_n 0, 1) := dk_42 (dk_at dksX3_holds_0 12 rfl rfl)
theorem dX3_holds_13 : decode cX3_holds 13 = .ok (.getfield 7, 3) := dk_180 0 7 (dk_at dksX3_holds_0 13 rfl rfl)
theorem dX3_holds_16 : decode cX3_holds 16 = .ok (.iload_n 1, 1) := dk_27 (dk_at dksX3_holds_0 16 rfl rfl)
theorem dX3_holds_17 : decode cX3_holds 17 = .ok (.iaload, 1) := dk_46 (dk_at dksX3_holds_0 17 rfl rfl)
theorem dX3_holds_18 : decode cX3_holds 18 = .ok (.ifCond .ne 5, 3) := dk_154 0 5 (dk_at dksX3_holds_0 18 rfl rfl)
theorem dX3_holds_21 : decode cX3_holds 21 = .ok (.iconst (-1), 1) := dk_2 (dk_at dksX3_holds_0 21 rfl rfl)
theorem dX3_holds_22 : decode cX3_holds 22 = .ok (.ireturn, 1) := dk_172 (dk_at dksX3_holds_0 22 rfl rfl)
theorem dX3_holds_23 : decode cX3_holds 23 = .ok (.aload_n 0, 1) := dk_42 (dk_at dksX3_holds_0 23 rfl rfl)
theorem dX3_holds_24 : decode cX3_holds 24 = .ok (.getfield 7, 3) := dk_180 0 7 (dk_at dksX3_holds_1 0 rfl rfl)
theorem dX3_holds_27 : decode cX3_holds 27 = .ok (.iload_n 1, 1) := dk_27 (dk_at dksX3_holds_1 3 rfl rfl)
theorem dX3_holds_28 : decode cX3_holds 28 = .ok (.iaload, 1) := dk_46 (dk_at dksX3_holds_1 4 rfl rfl)
theorem dX3_holds_29 : decode cX3_holds 29 = .ok (.iconst 1, 1) := dk_4 (dk_at dksX3_holds_1 5 rfl rfl)
theorem dX3_holds_30 : decode cX3_holds 30 = .ok (.if_icmp .ne 12, 3) := dk_160 0 12 (dk_at dksX3_holds_1 6 rfl rfl)
theorem dX3_holds_33 : decode cX3_holds 33 = .ok (.aload_n 0, 1) := dk_42 (dk_at dksX3_holds_1 9 rfl rfl)
theorem dX3_holds_34 : decode cX3_holds 34 = .ok (.getfield 13, 3) := dk_180 0 13 (dk_at dksX3_holds_1 10 rfl rfl)
theorem dX3_holds_37 : decode cX3_holds 37 = .ok (.iload_n 1, 1) := dk_27 (dk_at dksX3_holds_1 13 rfl rfl)
theorem dX3_holds_38 : decode cX3_holds 38 = .ok (.iaload, 1) := dk_46 (dk_at dksX3_holds_1 14 rfl rfl)
theorem dX3_holds_39 : decode cX3_holds 39 = .ok (.goto 12, 3) := dk_167 0 12 (dk_at dksX3_holds_1 15 rfl rfl)
theorem dX3_holds_42 : decode cX3_holds 42 = .ok (.bipush 10, 2) := dk_16 10 (dk_at dksX3_holds_1 18 rfl rfl)
theorem dX3_holds_44 : decode cX3_holds 44 = .ok (.aload_n 0, 1) := dk_42 (dk_at dksX3_holds_1 20 rfl rfl)
theorem dX3_holds_45 : decode cX3_holds 45 = .ok (.getfield 28, 3) := dk_180 0 28 (dk_at dksX3_holds_1 21 rfl rfl)
theorem dX3_holds_48 : decode cX3_holds 48 = .ok (.iload_n 1, 1) := dk_27 (dk_at dksX3_holds_2 0 rfl rfl)
theorem dX3_holds_49 : decode cX3_holds 49 = .ok (.iaload, 1) := dk_46 (dk_at dksX3_holds_2 1 rfl rfl)
theorem dX3_holds_50 : decode cX3_holds 50 = .ok (.iadd, 1) := dk_96 (dk_at dksX3_holds_2 2 rfl rfl)
theorem dX3_holds_51 : decode cX3_holds 51 = .ok (.ireturn, 1) := dk_172 (dk_at dksX3_holds_2 3 rfl rfl)
abbrev cX3_rule : ByteArray := prog_17_method_17_code
def yX3_rule : MethodName := ⟨RX3, "rule", "(III)I"⟩
def dkwX3_rule_7 : List UInt8 := [4, 172]
abbrev dktX3_rule_7 : List UInt8 := dkwX3_rule_7 ++ []
def dkwX3_rule_6 : List UInt8 := [167, 255, 207, 42, 180, 0, 7, 27, 5, 79, 42, 180, 0, 28, 27, 28, 79, 42, 180, 0, 31, 27, 29, 79]
abbrev dktX3_rule_6 : List UInt8 := dkwX3_rule_6 ++ dktX3_rule_7
def dkwX3_rule_5 : List UInt8 := [42, 180, 0, 21, 29, 50, 21, 4, 47, 9, 148, 153, 0, 7, 4, 167, 0, 4, 3, 79, 132, 4, 1]
abbrev dktX3_rule_5 : List UInt8 := dkwX3_rule_5 ++ dktX3_rule_6
def dkwX3_rule_4 : List UInt8 := [16, 125, 162, 0, 48, 42, 180, 0, 36, 27, 50, 21, 4, 21, 4, 42, 180, 0, 16, 29, 46, 162, 0, 21]
abbrev dktX3_rule_4 : List UInt8 := dkwX3_rule_4 ++ dktX3_rule_5
def dkwX3_rule_3 : List UInt8 := [16, 252, 182, 0, 119, 172, 42, 180, 0, 52, 27, 42, 180, 0, 16, 29, 46, 79, 3, 54, 4, 21, 4]
abbrev dktX3_rule_3 : List UInt8 := dkwX3_rule_3 ++ dktX3_rule_4
def dkwX3_rule_2 : List UInt8 := [29, 46, 5, 160, 0, 10, 42, 16, 253, 182, 0, 119, 172, 42, 180, 0, 7, 29, 46, 154, 0, 10, 42]
abbrev dktX3_rule_2 : List UInt8 := dkwX3_rule_2 ++ dktX3_rule_3
def dkwX3_rule_1 : List UInt8 := [28, 29, 184, 0, 132, 154, 0, 10, 42, 16, 254, 182, 0, 119, 172, 28, 8, 160, 0, 103, 42, 180, 0, 7]
abbrev dktX3_rule_1 : List UInt8 := dkwX3_rule_1 ++ dktX3_rule_2
def dkwX3_rule_0 : List UInt8 := [27, 133, 9, 20, 0, 113, 184, 0, 94, 153, 0, 23, 28, 133, 10, 20, 0, 130, 184, 0, 94, 153, 0, 11]
abbrev dktX3_rule_0 : List UInt8 := dkwX3_rule_0 ++ dktX3_rule_1
theorem dksX3_rule_0 : cX3_rule.data.toList.drop 0 = dktX3_rule_0 := by decide +kernel
theorem dksX3_rule_1 : cX3_rule.data.toList.drop 24 = dktX3_rule_1 := dk_seg dksX3_rule_0 24 rfl rfl
theorem dksX3_rule_2 : cX3_rule.data.toList.drop 48 = dktX3_rule_2 := dk_seg dksX3_rule_1 24 rfl rfl
theorem dksX3_rule_3 : cX3_rule.data.toList.drop 71 = dktX3_rule_3 := dk_seg dksX3_rule_2 23 rfl rfl
theorem dksX3_rule_4 : cX3_rule.data.toList.drop 94 = dktX3_rule_4 := dk_seg dksX3_rule_3 23 rfl rfl
theorem dksX3_rule_5 : cX3_rule.data.toList.drop 118 = dktX3_rule_5 := dk_seg dksX3_rule_4 24 rfl rfl
theorem dksX3_rule_6 : cX3_rule.data.toList.drop 141 = dktX3_rule_6 := dk_seg dksX3_rule_5 23 rfl rfl
theorem dksX3_rule_7 : cX3_rule.data.toList.drop 165 = dktX3_rule_7 := dk_seg dksX3_rule_6 24 rfl rfl
theorem dX3_rule_0 : decode cX3_rule 0 = .ok (.iload_n 1, 1) := dk_27 (dk_at dksX3_rule_0 0 rfl rfl)
theorem dX3_rule_1 : decode cX3_rule 1 = .ok (.i2l, 1) := dk_133 (dk_at dksX3_rule_0 1 rfl rfl)
theorem dX3_rule_2 : decode cX3_rule 2 = .ok (.lconst 0, 1) := dk_9 (dk_at dksX3_rule_0 2 rfl rfl)
theorem dX3_rule_3 : decode cX3_rule 3 = .ok (.ldc2_w 113, 3) := dk_20 0 113 (dk_at dksX3_rule_0 3 rfl rfl)
theorem dX3_rule_6 : decode cX3_rule 6 = .ok (.invokestatic 94, 3) := dk_184 0 94 (dk_at dksX3_rule_0 6 rfl rfl)
theorem dX3_rule_9 : decode cX3_rule 9 = .ok (.ifCond .eq 23, 3) := dk_153 0 23 (dk_at dksX3_rule_0 9 rfl rfl)
theorem dX3_rule_12 : decode cX3_rule 12 = .ok (.iload_n 2, 1) := dk_28 (dk_at dksX3_rule_0 12 rfl rfl)
theorem dX3_rule_13 : decode cX3_rule 13 = .ok (.i2l, 1) := dk_133 (dk_at dksX3_rule_0 13 rfl rfl)
theorem dX3_rule_14 : decode cX3_rule 14 = .ok (.lconst 1, 1) := dk_10 (dk_at dksX3_rule_0 14 rfl rfl)
theorem dX3_rule_15 : decode cX3_rule 15 = .ok (.ldc2_w 130, 3) := dk_20 0 130 (dk_at dksX3_rule_0 15 rfl rfl)
theorem dX3_rule_18 : decode cX3_rule 18 = .ok (.invokestatic 94, 3) := dk_184 0 94 (dk_at dksX3_rule_0 18 rfl rfl)
theorem dX3_rule_21 : decode cX3_rule 21 = .ok (.ifCond .eq 11, 3) := dk_153 0 11 (dk_at dksX3_rule_0 21 rfl rfl)
theorem dX3_rule_24 : decode cX3_rule 24 = .ok (.iload_n 2, 1) := dk_28 (dk_at dksX3_rule_1 0 rfl rfl)
theorem dX3_rule_25 : decode cX3_rule 25 = .ok (.iload_n 3, 1) := dk_29 (dk_at dksX3_rule_1 1 rfl rfl)
theorem dX3_rule_26 : decode cX3_rule 26 = .ok (.invokestatic 132, 3) := dk_184 0 132 (dk_at dksX3_rule_1 2 rfl rfl)
theorem dX3_rule_29 : decode cX3_rule 29 = .ok (.ifCond .ne 10, 3) := dk_154 0 10 (dk_at dksX3_rule_1 5 rfl rfl)
theorem dX3_rule_32 : decode cX3_rule 32 = .ok (.aload_n 0, 1) := dk_42 (dk_at dksX3_rule_1 8 rfl rfl)
theorem dX3_rule_33 : decode cX3_rule 33 = .ok (.bipush (-2), 2) := dk_16 254 (dk_at dksX3_rule_1 9 rfl rfl)
theorem dX3_rule_35 : decode cX3_rule 35 = .ok (.invokevirtual 119, 3) := dk_182 0 119 (dk_at dksX3_rule_1 11 rfl rfl)
theorem dX3_rule_38 : decode cX3_rule 38 = .ok (.ireturn, 1) := dk_172 (dk_at dksX3_rule_1 14 rfl rfl)
theorem dX3_rule_39 : decode cX3_rule 39 = .ok (.iload_n 2, 1) := dk_28 (dk_at dksX3_rule_1 15 rfl rfl)
theorem dX3_rule_40 : decode cX3_rule 40 = .ok (.iconst 5, 1) := dk_8 (dk_at dksX3_rule_1 16 rfl rfl)
theorem dX3_rule_41 : decode cX3_rule 41 = .ok (.if_icmp .ne 103, 3) := dk_160 0 103 (dk_at dksX3_rule_1 17 rfl rfl)
theorem dX3_rule_44 : decode cX3_rule 44 = .ok (.aload_n 0, 1) := dk_42 (dk_at dksX3_rule_1 20 rfl rfl)
theorem dX3_rule_45 : decode cX3_rule 45 = .ok (.getfield 7, 3) := dk_180 0 7 (dk_at dksX3_rule_1 21 rfl rfl)
theorem dX3_rule_48 : decode cX3_rule 48 = .ok (.iload_n 3, 1) := dk_29 (dk_at dksX3_rule_2 0 rfl rfl)
theorem dX3_rule_49 : decode cX3_rule 49 = .ok (.iaload, 1) := dk_46 (dk_at dksX3_rule_2 1 rfl rfl)
theorem dX3_rule_50 : decode cX3_rule 50 = .ok (.iconst 2, 1) := dk_5 (dk_at dksX3_rule_2 2 rfl rfl)
theorem dX3_rule_51 : decode cX3_rule 51 = .ok (.if_icmp .ne 10, 3) := dk_160 0 10 (dk_at dksX3_rule_2 3 rfl rfl)
theorem dX3_rule_54 : decode cX3_rule 54 = .ok (.aload_n 0, 1) := dk_42 (dk_at dksX3_rule_2 6 rfl rfl)
theorem dX3_rule_55 : decode cX3_rule 55 = .ok (.bipush (-3), 2) := dk_16 253 (dk_at dksX3_rule_2 7 rfl rfl)
theorem dX3_rule_57 : decode cX3_rule 57 = .ok (.invokevirtual 119, 3) := dk_182 0 119 (dk_at dksX3_rule_2 9 rfl rfl)
theorem dX3_rule_60 : decode cX3_rule 60 = .ok (.ireturn, 1) := dk_172 (dk_at dksX3_rule_2 12 rfl rfl)
theorem dX3_rule_61 : decode cX3_rule 61 = .ok (.aload_n 0, 1) := dk_42 (dk_at dksX3_rule_2 13 rfl rfl)
theorem dX3_rule_62 : decode cX3_rule 62 = .ok (.getfield 7, 3) := dk_180 0 7 (dk_at dksX3_rule_2 14 rfl rfl)
theorem dX3_rule_65 : decode cX3_rule 65 = .ok (.iload_n 3, 1) := dk_29 (dk_at dksX3_rule_2 17 rfl rfl)
theorem dX3_rule_66 : decode cX3_rule 66 = .ok (.iaload, 1) := dk_46 (dk_at dksX3_rule_2 18 rfl rfl)
theorem dX3_rule_67 : decode cX3_rule 67 = .ok (.ifCond .ne 10, 3) := dk_154 0 10 (dk_at dksX3_rule_2 19 rfl rfl)
theorem dX3_rule_70 : decode cX3_rule 70 = .ok (.aload_n 0, 1) := dk_42 (dk_at dksX3_rule_2 22 rfl rfl)
theorem dX3_rule_71 : decode cX3_rule 71 = .ok (.bipush (-4), 2) := dk_16 252 (dk_at dksX3_rule_3 0 rfl rfl)
theorem dX3_rule_73 : decode cX3_rule 73 = .ok (.invokevirtual 119, 3) := dk_182 0 119 (dk_at dksX3_rule_3 2 rfl rfl)
theorem dX3_rule_76 : decode cX3_rule 76 = .ok (.ireturn, 1) := dk_172 (dk_at dksX3_rule_3 5 rfl rfl)
theorem dX3_rule_77 : decode cX3_rule 77 = .ok (.aload_n 0, 1) := dk_42 (dk_at dksX3_rule_3 6 rfl rfl)
theorem dX3_rule_78 : decode cX3_rule 78 = .ok (.getfield 52, 3) := dk_180 0 52 (dk_at dksX3_rule_3 7 rfl rfl)
theorem dX3_rule_81 : decode cX3_rule 81 = .ok (.iload_n 1, 1) := dk_27 (dk_at dksX3_rule_3 10 rfl rfl)
theorem dX3_rule_82 : decode cX3_rule 82 = .ok (.aload_n 0, 1) := dk_42 (dk_at dksX3_rule_3 11 rfl rfl)
theorem dX3_rule_83 : decode cX3_rule 83 = .ok (.getfield 16, 3) := dk_180 0 16 (dk_at dksX3_rule_3 12 rfl rfl)
theorem dX3_rule_86 : decode cX3_rule 86 = .ok (.iload_n 3, 1) := dk_29 (dk_at dksX3_rule_3 15 rfl rfl)
theorem dX3_rule_87 : decode cX3_rule 87 = .ok (.iaload, 1) := dk_46 (dk_at dksX3_rule_3 16 rfl rfl)
theorem dX3_rule_88 : decode cX3_rule 88 = .ok (.iastore, 1) := dk_79 (dk_at dksX3_rule_3 17 rfl rfl)
theorem dX3_rule_89 : decode cX3_rule 89 = .ok (.iconst 0, 1) := dk_3 (dk_at dksX3_rule_3 18 rfl rfl)
theorem dX3_rule_90 : decode cX3_rule 90 = .ok (.istore 4, 2) := dk_54 4 (dk_at dksX3_rule_3 19 rfl rfl)
theorem dX3_rule_92 : decode cX3_rule 92 = .ok (.iload 4, 2) := dk_21 4 (dk_at dksX3_rule_3 21 rfl rfl)
theorem dX3_rule_94 : decode cX3_rule 94 = .ok (.bipush 125, 2) := dk_16 125 (dk_at dksX3_rule_4 0 rfl rfl)
theorem dX3_rule_96 : decode cX3_rule 96 = .ok (.if_icmp .ge 48, 3) := dk_162 0 48 (dk_at dksX3_rule_4 2 rfl rfl)
theorem dX3_rule_99 : decode cX3_rule 99 = .ok (.aload_n 0, 1) := dk_42 (dk_at dksX3_rule_4 5 rfl rfl)
theorem dX3_rule_100 : decode cX3_rule 100 = .ok (.getfield 36, 3) := dk_180 0 36 (dk_at dksX3_rule_4 6 rfl rfl)
theorem dX3_rule_103 : decode cX3_rule 103 = .ok (.iload_n 1, 1) := dk_27 (dk_at dksX3_rule_4 9 rfl rfl)
theorem dX3_rule_104 : decode cX3_rule 104 = .ok (.aaload, 1) := dk_50 (dk_at dksX3_rule_4 10 rfl rfl)
theorem dX3_rule_105 : decode cX3_rule 105 = .ok (.iload 4, 2) := dk_21 4 (dk_at dksX3_rule_4 11 rfl rfl)
theorem dX3_rule_107 : decode cX3_rule 107 = .ok (.iload 4, 2) := dk_21 4 (dk_at dksX3_rule_4 13 rfl rfl)
theorem dX3_rule_109 : decode cX3_rule 109 = .ok (.aload_n 0, 1) := dk_42 (dk_at dksX3_rule_4 15 rfl rfl)
theorem dX3_rule_110 : decode cX3_rule 110 = .ok (.getfield 16, 3) := dk_180 0 16 (dk_at dksX3_rule_4 16 rfl rfl)
theorem dX3_rule_113 : decode cX3_rule 113 = .ok (.iload_n 3, 1) := dk_29 (dk_at dksX3_rule_4 19 rfl rfl)
theorem dX3_rule_114 : decode cX3_rule 114 = .ok (.iaload, 1) := dk_46 (dk_at dksX3_rule_4 20 rfl rfl)
theorem dX3_rule_115 : decode cX3_rule 115 = .ok (.if_icmp .ge 21, 3) := dk_162 0 21 (dk_at dksX3_rule_4 21 rfl rfl)
theorem dX3_rule_118 : decode cX3_rule 118 = .ok (.aload_n 0, 1) := dk_42 (dk_at dksX3_rule_5 0 rfl rfl)
theorem dX3_rule_119 : decode cX3_rule 119 = .ok (.getfield 21, 3) := dk_180 0 21 (dk_at dksX3_rule_5 1 rfl rfl)
theorem dX3_rule_122 : decode cX3_rule 122 = .ok (.iload_n 3, 1) := dk_29 (dk_at dksX3_rule_5 4 rfl rfl)
theorem dX3_rule_123 : decode cX3_rule 123 = .ok (.aaload, 1) := dk_50 (dk_at dksX3_rule_5 5 rfl rfl)
theorem dX3_rule_124 : decode cX3_rule 124 = .ok (.iload 4, 2) := dk_21 4 (dk_at dksX3_rule_5 6 rfl rfl)
theorem dX3_rule_126 : decode cX3_rule 126 = .ok (.laload, 1) := dk_47 (dk_at dksX3_rule_5 8 rfl rfl)
theorem dX3_rule_127 : decode cX3_rule 127 = .ok (.lconst 0, 1) := dk_9 (dk_at dksX3_rule_5 9 rfl rfl)
theorem dX3_rule_128 : decode cX3_rule 128 = .ok (.lcmp, 1) := dk_148 (dk_at dksX3_rule_5 10 rfl rfl)
theorem dX3_rule_129 : decode cX3_rule 129 = .ok (.ifCond .eq 7, 3) := dk_153 0 7 (dk_at dksX3_rule_5 11 rfl rfl)
theorem dX3_rule_132 : decode cX3_rule 132 = .ok (.iconst 1, 1) := dk_4 (dk_at dksX3_rule_5 14 rfl rfl)
theorem dX3_rule_133 : decode cX3_rule 133 = .ok (.goto 4, 3) := dk_167 0 4 (dk_at dksX3_rule_5 15 rfl rfl)
theorem dX3_rule_136 : decode cX3_rule 136 = .ok (.iconst 0, 1) := dk_3 (dk_at dksX3_rule_5 18 rfl rfl)
theorem dX3_rule_137 : decode cX3_rule 137 = .ok (.iastore, 1) := dk_79 (dk_at dksX3_rule_5 19 rfl rfl)
theorem dX3_rule_138 : decode cX3_rule 138 = .ok (.iinc 4 1, 3) := dk_132 4 1 (dk_at dksX3_rule_5 20 rfl rfl)
theorem dX3_rule_141 : decode cX3_rule 141 = .ok (.goto (-49), 3) := dk_167 255 207 (dk_at dksX3_rule_6 0 rfl rfl)
theorem dX3_rule_144 : decode cX3_rule 144 = .ok (.aload_n 0, 1) := dk_42 (dk_at dksX3_rule_6 3 rfl rfl)
theorem dX3_rule_145 : decode cX3_rule 145 = .ok (.getfield 7, 3) := dk_180 0 7 (dk_at dksX3_rule_6 4 rfl rfl)
theorem dX3_rule_148 : decode cX3_rule 148 = .ok (.iload_n 1, 1) := dk_27 (dk_at dksX3_rule_6 7 rfl rfl)
theorem dX3_rule_149 : decode cX3_rule 149 = .ok (.iconst 2, 1) := dk_5 (dk_at dksX3_rule_6 8 rfl rfl)
theorem dX3_rule_150 : decode cX3_rule 150 = .ok (.iastore, 1) := dk_79 (dk_at dksX3_rule_6 9 rfl rfl)
theorem dX3_rule_151 : decode cX3_rule 151 = .ok (.aload_n 0, 1) := dk_42 (dk_at dksX3_rule_6 10 rfl rfl)
theorem dX3_rule_152 : decode cX3_rule 152 = .ok (.getfield 28, 3) := dk_180 0 28 (dk_at dksX3_rule_6 11 rfl rfl)
theorem dX3_rule_155 : decode cX3_rule 155 = .ok (.iload_n 1, 1) := dk_27 (dk_at dksX3_rule_6 14 rfl rfl)
theorem dX3_rule_156 : decode cX3_rule 156 = .ok (.iload_n 2, 1) := dk_28 (dk_at dksX3_rule_6 15 rfl rfl)
theorem dX3_rule_157 : decode cX3_rule 157 = .ok (.iastore, 1) := dk_79 (dk_at dksX3_rule_6 16 rfl rfl)
theorem dX3_rule_158 : decode cX3_rule 158 = .ok (.aload_n 0, 1) := dk_42 (dk_at dksX3_rule_6 17 rfl rfl)
theorem dX3_rule_159 : decode cX3_rule 159 = .ok (.getfield 31, 3) := dk_180 0 31 (dk_at dksX3_rule_6 18 rfl rfl)
theorem dX3_rule_162 : decode cX3_rule 162 = .ok (.iload_n 1, 1) := dk_27 (dk_at dksX3_rule_6 21 rfl rfl)
theorem dX3_rule_163 : decode cX3_rule 163 = .ok (.iload_n 3, 1) := dk_29 (dk_at dksX3_rule_6 22 rfl rfl)
theorem dX3_rule_164 : decode cX3_rule 164 = .ok (.iastore, 1) := dk_79 (dk_at dksX3_rule_6 23 rfl rfl)
theorem dX3_rule_165 : decode cX3_rule 165 = .ok (.iconst 1, 1) := dk_4 (dk_at dksX3_rule_7 0 rfl rfl)
theorem dX3_rule_166 : decode cX3_rule 166 = .ok (.ireturn, 1) := dk_172 (dk_at dksX3_rule_7 1 rfl rfl)
abbrev cX3_mayBy : ByteArray := prog_17_method_16_code
def yX3_mayBy : MethodName := ⟨RX3, "mayBy", "(II)Z"⟩
def dkwX3_mayBy_4 : List UInt8 := [184, 0, 94, 153, 0, 7, 4, 167, 0, 4, 3, 172, 4, 172, 27, 133, 9, 20, 0, 113, 184, 0, 94, 172]
abbrev dktX3_mayBy_4 : List UInt8 := dkwX3_mayBy_4 ++ []
def dkwX3_mayBy_3 : List UInt8 := [27, 16, 10, 108, 133, 9, 20, 0, 126, 184, 0, 94, 153, 0, 22, 27, 16, 10, 112, 133, 10, 20, 0, 128]
abbrev dktX3_mayBy_3 : List UInt8 := dkwX3_mayBy_3 ++ dktX3_mayBy_4
def dkwX3_mayBy_2 : List UInt8 := [27, 133, 9, 20, 0, 126, 184, 0, 94, 172, 27, 133, 10, 20, 0, 128, 184, 0, 94, 172, 27, 155, 0, 37]
abbrev dktX3_mayBy_2 : List UInt8 := dkwX3_mayBy_2 ++ dktX3_mayBy_3
def dkwX3_mayBy_1 : List UInt8 := [170, 0, 0, 0, 0, 0, 93, 0, 0, 0, 1, 0, 0, 0, 4, 0, 0, 0, 31, 0, 0, 0, 41, 0, 0, 0, 51, 0, 0, 0, 91]
abbrev dktX3_mayBy_1 : List UInt8 := dkwX3_mayBy_1 ++ dktX3_mayBy_2
def dkwX3_mayBy_0 : List UInt8 := [26]
abbrev dktX3_mayBy_0 : List UInt8 := dkwX3_mayBy_0 ++ dktX3_mayBy_1
theorem dksX3_mayBy_0 : cX3_mayBy.data.toList.drop 0 = dktX3_mayBy_0 := by decide +kernel
theorem dksX3_mayBy_1 : cX3_mayBy.data.toList.drop 1 = dktX3_mayBy_1 := dk_seg dksX3_mayBy_0 1 rfl rfl
theorem dksX3_mayBy_2 : cX3_mayBy.data.toList.drop 32 = dktX3_mayBy_2 := dk_seg dksX3_mayBy_1 31 rfl rfl
theorem dksX3_mayBy_3 : cX3_mayBy.data.toList.drop 56 = dktX3_mayBy_3 := dk_seg dksX3_mayBy_2 24 rfl rfl
theorem dksX3_mayBy_4 : cX3_mayBy.data.toList.drop 80 = dktX3_mayBy_4 := dk_seg dksX3_mayBy_3 24 rfl rfl
theorem dX3_mayBy_0 : decode cX3_mayBy 0 = .ok (.iload_n 0, 1) := dk_26 (dk_at dksX3_mayBy_0 0 rfl rfl)
theorem dX3_mayBy_1 : decode cX3_mayBy 1 = .ok (.tableswitch 93 1 4 #[31, 41, 51, 91], 31) := by decide +kernel
theorem dX3_mayBy_32 : decode cX3_mayBy 32 = .ok (.iload_n 1, 1) := dk_27 (dk_at dksX3_mayBy_2 0 rfl rfl)
theorem dX3_mayBy_33 : decode cX3_mayBy 33 = .ok (.i2l, 1) := dk_133 (dk_at dksX3_mayBy_2 1 rfl rfl)
theorem dX3_mayBy_34 : decode cX3_mayBy 34 = .ok (.lconst 0, 1) := dk_9 (dk_at dksX3_mayBy_2 2 rfl rfl)
theorem dX3_mayBy_35 : decode cX3_mayBy 35 = .ok (.ldc2_w 126, 3) := dk_20 0 126 (dk_at dksX3_mayBy_2 3 rfl rfl)
theorem dX3_mayBy_38 : decode cX3_mayBy 38 = .ok (.invokestatic 94, 3) := dk_184 0 94 (dk_at dksX3_mayBy_2 6 rfl rfl)
theorem dX3_mayBy_41 : decode cX3_mayBy 41 = .ok (.ireturn, 1) := dk_172 (dk_at dksX3_mayBy_2 9 rfl rfl)
theorem dX3_mayBy_42 : decode cX3_mayBy 42 = .ok (.iload_n 1, 1) := dk_27 (dk_at dksX3_mayBy_2 10 rfl rfl)
theorem dX3_mayBy_43 : decode cX3_mayBy 43 = .ok (.i2l, 1) := dk_133 (dk_at dksX3_mayBy_2 11 rfl rfl)
theorem dX3_mayBy_44 : decode cX3_mayBy 44 = .ok (.lconst 1, 1) := dk_10 (dk_at dksX3_mayBy_2 12 rfl rfl)
theorem dX3_mayBy_45 : decode cX3_mayBy 45 = .ok (.ldc2_w 128, 3) := dk_20 0 128 (dk_at dksX3_mayBy_2 13 rfl rfl)
theorem dX3_mayBy_48 : decode cX3_mayBy 48 = .ok (.invokestatic 94, 3) := dk_184 0 94 (dk_at dksX3_mayBy_2 16 rfl rfl)
theorem dX3_mayBy_51 : decode cX3_mayBy 51 = .ok (.ireturn, 1) := dk_172 (dk_at dksX3_mayBy_2 19 rfl rfl)
theorem dX3_mayBy_52 : decode cX3_mayBy 52 = .ok (.iload_n 1, 1) := dk_27 (dk_at dksX3_mayBy_2 20 rfl rfl)
theorem dX3_mayBy_53 : decode cX3_mayBy 53 = .ok (.ifCond .lt 37, 3) := dk_155 0 37 (dk_at dksX3_mayBy_2 21 rfl rfl)
theorem dX3_mayBy_56 : decode cX3_mayBy 56 = .ok (.iload_n 1, 1) := dk_27 (dk_at dksX3_mayBy_3 0 rfl rfl)
theorem dX3_mayBy_57 : decode cX3_mayBy 57 = .ok (.bipush 10, 2) := dk_16 10 (dk_at dksX3_mayBy_3 1 rfl rfl)
theorem dX3_mayBy_59 : decode cX3_mayBy 59 = .ok (.idiv, 1) := dk_108 (dk_at dksX3_mayBy_3 3 rfl rfl)
theorem dX3_mayBy_60 : decode cX3_mayBy 60 = .ok (.i2l, 1) := dk_133 (dk_at dksX3_mayBy_3 4 rfl rfl)
theorem dX3_mayBy_61 : decode cX3_mayBy 61 = .ok (.lconst 0, 1) := dk_9 (dk_at dksX3_mayBy_3 5 rfl rfl)
theorem dX3_mayBy_62 : decode cX3_mayBy 62 = .ok (.ldc2_w 126, 3) := dk_20 0 126 (dk_at dksX3_mayBy_3 6 rfl rfl)
theorem dX3_mayBy_65 : decode cX3_mayBy 65 = .ok (.invokestatic 94, 3) := dk_184 0 94 (dk_at dksX3_mayBy_3 9 rfl rfl)
theorem dX3_mayBy_68 : decode cX3_mayBy 68 = .ok (.ifCond .eq 22, 3) := dk_153 0 22 (dk_at dksX3_mayBy_3 12 rfl rfl)
theorem dX3_mayBy_71 : decode cX3_mayBy 71 = .ok (.iload_n 1, 1) := dk_27 (dk_at dksX3_mayBy_3 15 rfl rfl)
theorem dX3_mayBy_72 : decode cX3_mayBy 72 = .ok (.bipush 10, 2) := dk_16 10 (dk_at dksX3_mayBy_3 16 rfl rfl)
theorem dX3_mayBy_74 : decode cX3_mayBy 74 = .ok (.irem, 1) := dk_112 (dk_at dksX3_mayBy_3 18 rfl rfl)
theorem dX3_mayBy_75 : decode cX3_mayBy 75 = .ok (.i2l, 1) := dk_133 (dk_at dksX3_mayBy_3 19 rfl rfl)
theorem dX3_mayBy_76 : decode cX3_mayBy 76 = .ok (.lconst 1, 1) := dk_10 (dk_at dksX3_mayBy_3 20 rfl rfl)
theorem dX3_mayBy_77 : decode cX3_mayBy 77 = .ok (.ldc2_w 128, 3) := dk_20 0 128 (dk_at dksX3_mayBy_3 21 rfl rfl)
theorem dX3_mayBy_80 : decode cX3_mayBy 80 = .ok (.invokestatic 94, 3) := dk_184 0 94 (dk_at dksX3_mayBy_4 0 rfl rfl)
theorem dX3_mayBy_83 : decode cX3_mayBy 83 = .ok (.ifCond .eq 7, 3) := dk_153 0 7 (dk_at dksX3_mayBy_4 3 rfl rfl)
theorem dX3_mayBy_86 : decode cX3_mayBy 86 = .ok (.iconst 1, 1) := dk_4 (dk_at dksX3_mayBy_4 6 rfl rfl)
theorem dX3_mayBy_87 : decode cX3_mayBy 87 = .ok (.goto 4, 3) := dk_167 0 4 (dk_at dksX3_mayBy_4 7 rfl rfl)
theorem dX3_mayBy_90 : decode cX3_mayBy 90 = .ok (.iconst 0, 1) := dk_3 (dk_at dksX3_mayBy_4 10 rfl rfl)
theorem dX3_mayBy_91 : decode cX3_mayBy 91 = .ok (.ireturn, 1) := dk_172 (dk_at dksX3_mayBy_4 11 rfl rfl)
theorem dX3_mayBy_92 : decode cX3_mayBy 92 = .ok (.iconst 1, 1) := dk_4 (dk_at dksX3_mayBy_4 12 rfl rfl)
theorem dX3_mayBy_93 : decode cX3_mayBy 93 = .ok (.ireturn, 1) := dk_172 (dk_at dksX3_mayBy_4 13 rfl rfl)
theorem dX3_mayBy_94 : decode cX3_mayBy 94 = .ok (.iload_n 1, 1) := dk_27 (dk_at dksX3_mayBy_4 14 rfl rfl)
theorem dX3_mayBy_95 : decode cX3_mayBy 95 = .ok (.i2l, 1) := dk_133 (dk_at dksX3_mayBy_4 15 rfl rfl)
theorem dX3_mayBy_96 : decode cX3_mayBy 96 = .ok (.lconst 0, 1) := dk_9 (dk_at dksX3_mayBy_4 16 rfl rfl)
theorem dX3_mayBy_97 : decode cX3_mayBy 97 = .ok (.ldc2_w 113, 3) := dk_20 0 113 (dk_at dksX3_mayBy_4 17 rfl rfl)
theorem dX3_mayBy_100 : decode cX3_mayBy 100 = .ok (.invokestatic 94, 3) := dk_184 0 94 (dk_at dksX3_mayBy_4 20 rfl rfl)
theorem dX3_mayBy_103 : decode cX3_mayBy 103 = .ok (.ireturn, 1) := dk_172 (dk_at dksX3_mayBy_4 23 rfl rfl)
abbrev cX3_says : ByteArray := prog_17_method_18_code
def yX3_says : MethodName := ⟨RX3, "says", "(II)I"⟩
def dkwX3_says_9 : List UInt8 := [4, 172, 42, 180, 0, 52, 27, 46, 172]
abbrev dktX3_says_9 : List UInt8 := dkwX3_says_9 ++ []
def dkwX3_says_8 : List UInt8 := [42, 180, 0, 31, 27, 46, 172, 42, 180, 0, 31, 27, 46, 172, 42, 180, 0, 31, 27, 46, 16, 10, 112, 172]
abbrev dktX3_says_8 : List UInt8 := dkwX3_says_8 ++ dktX3_says_9
def dkwX3_says_7 : List UInt8 := [3, 172, 42, 180, 0, 28, 27, 46, 6, 160, 0, 15, 42, 180, 0, 31, 27, 46, 16, 10, 108, 167, 0, 9]
abbrev dktX3_says_7 : List UInt8 := dkwX3_says_7 ++ dktX3_says_8
def dkwX3_says_6 : List UInt8 := [170, 0, 0, 0, 0, 0, 0, 86, 0, 0, 0, 0, 0, 0, 0, 4, 0, 0, 0, 36, 0, 0, 0, 38, 0, 0, 0, 67, 0, 0, 0, 74, 0, 0, 0, 84]
abbrev dktX3_says_6 : List UInt8 := dkwX3_says_6 ++ dktX3_says_7
def dkwX3_says_5 : List UInt8 := [16, 252, 182, 0, 119, 172, 28]
abbrev dktX3_says_5 : List UInt8 := dkwX3_says_5 ++ dktX3_says_6
def dkwX3_says_4 : List UInt8 := [160, 0, 14, 29, 154, 0, 10, 42, 16, 253, 182, 0, 119, 172, 42, 180, 0, 7, 27, 46, 154, 0, 10, 42]
abbrev dktX3_says_4 : List UInt8 := dkwX3_says_4 ++ dktX3_says_5
def dkwX3_says_3 : List UInt8 := [4, 167, 0, 4, 3, 62, 42, 180, 0, 7, 27, 46, 4, 159, 0, 17, 42, 180, 0, 7, 27, 46, 5]
abbrev dktX3_says_3 : List UInt8 := dkwX3_says_3 ++ dktX3_says_4
def dkwX3_says_2 : List UInt8 := [180, 0, 28, 27, 46, 28, 159, 0, 18, 28, 4, 160, 0, 17, 42, 180, 0, 28, 27, 46, 6, 160, 0, 7]
abbrev dktX3_says_2 : List UInt8 := dkwX3_says_2 ++ dktX3_says_3
def dkwX3_says_1 : List UInt8 := [42, 16, 254, 182, 0, 119, 172, 42, 180, 0, 7, 27, 46, 5, 160, 0, 36, 28, 153, 0, 28, 42]
abbrev dktX3_says_1 : List UInt8 := dkwX3_says_1 ++ dktX3_says_2
def dkwX3_says_0 : List UInt8 := [27, 133, 9, 20, 0, 113, 184, 0, 94, 153, 0, 15, 28, 133, 9, 20, 0, 130, 184, 0, 94, 154, 0, 10]
abbrev dktX3_says_0 : List UInt8 := dkwX3_says_0 ++ dktX3_says_1
theorem dksX3_says_0 : cX3_says.data.toList.drop 0 = dktX3_says_0 := by decide +kernel
theorem dksX3_says_1 : cX3_says.data.toList.drop 24 = dktX3_says_1 := dk_seg dksX3_says_0 24 rfl rfl
theorem dksX3_says_2 : cX3_says.data.toList.drop 46 = dktX3_says_2 := dk_seg dksX3_says_1 22 rfl rfl
theorem dksX3_says_3 : cX3_says.data.toList.drop 70 = dktX3_says_3 := dk_seg dksX3_says_2 24 rfl rfl
theorem dksX3_says_4 : cX3_says.data.toList.drop 93 = dktX3_says_4 := dk_seg dksX3_says_3 23 rfl rfl
theorem dksX3_says_5 : cX3_says.data.toList.drop 117 = dktX3_says_5 := dk_seg dksX3_says_4 24 rfl rfl
theorem dksX3_says_6 : cX3_says.data.toList.drop 124 = dktX3_says_6 := dk_seg dksX3_says_5 7 rfl rfl
theorem dksX3_says_7 : cX3_says.data.toList.drop 160 = dktX3_says_7 := dk_seg dksX3_says_6 36 rfl rfl
theorem dksX3_says_8 : cX3_says.data.toList.drop 184 = dktX3_says_8 := dk_seg dksX3_says_7 24 rfl rfl
theorem dksX3_says_9 : cX3_says.data.toList.drop 208 = dktX3_says_9 := dk_seg dksX3_says_8 24 rfl rfl
theorem dX3_says_0 : decode cX3_says 0 = .ok (.iload_n 1, 1) := dk_27 (dk_at dksX3_says_0 0 rfl rfl)
theorem dX3_says_1 : decode cX3_says 1 = .ok (.i2l, 1) := dk_133 (dk_at dksX3_says_0 1 rfl rfl)
theorem dX3_says_2 : decode cX3_says 2 = .ok (.lconst 0, 1) := dk_9 (dk_at dksX3_says_0 2 rfl rfl)
theorem dX3_says_3 : decode cX3_says 3 = .ok (.ldc2_w 113, 3) := dk_20 0 113 (dk_at dksX3_says_0 3 rfl rfl)
theorem dX3_says_6 : decode cX3_says 6 = .ok (.invokestatic 94, 3) := dk_184 0 94 (dk_at dksX3_says_0 6 rfl rfl)
theorem dX3_says_9 : decode cX3_says 9 = .ok (.ifCond .eq 15, 3) := dk_153 0 15 (dk_at dksX3_says_0 9 rfl rfl)
theorem dX3_says_12 : decode cX3_says 12 = .ok (.iload_n 2, 1) := dk_28 (dk_at dksX3_says_0 12 rfl rfl)
theorem dX3_says_13 : decode cX3_says 13 = .ok (.i2l, 1) := dk_133 (dk_at dksX3_says_0 13 rfl rfl)
theorem dX3_says_14 : decode cX3_says 14 = .ok (.lconst 0, 1) := dk_9 (dk_at dksX3_says_0 14 rfl rfl)
theorem dX3_says_15 : decode cX3_says 15 = .ok (.ldc2_w 130, 3) := dk_20 0 130 (dk_at dksX3_says_0 15 rfl rfl)
theorem dX3_says_18 : decode cX3_says 18 = .ok (.invokestatic 94, 3) := dk_184 0 94 (dk_at dksX3_says_0 18 rfl rfl)
theorem dX3_says_21 : decode cX3_says 21 = .ok (.ifCond .ne 10, 3) := dk_154 0 10 (dk_at dksX3_says_0 21 rfl rfl)
theorem dX3_says_24 : decode cX3_says 24 = .ok (.aload_n 0, 1) := dk_42 (dk_at dksX3_says_1 0 rfl rfl)
theorem dX3_says_25 : decode cX3_says 25 = .ok (.bipush (-2), 2) := dk_16 254 (dk_at dksX3_says_1 1 rfl rfl)
theorem dX3_says_27 : decode cX3_says 27 = .ok (.invokevirtual 119, 3) := dk_182 0 119 (dk_at dksX3_says_1 3 rfl rfl)
theorem dX3_says_30 : decode cX3_says 30 = .ok (.ireturn, 1) := dk_172 (dk_at dksX3_says_1 6 rfl rfl)
theorem dX3_says_31 : decode cX3_says 31 = .ok (.aload_n 0, 1) := dk_42 (dk_at dksX3_says_1 7 rfl rfl)
theorem dX3_says_32 : decode cX3_says 32 = .ok (.getfield 7, 3) := dk_180 0 7 (dk_at dksX3_says_1 8 rfl rfl)
theorem dX3_says_35 : decode cX3_says 35 = .ok (.iload_n 1, 1) := dk_27 (dk_at dksX3_says_1 11 rfl rfl)
theorem dX3_says_36 : decode cX3_says 36 = .ok (.iaload, 1) := dk_46 (dk_at dksX3_says_1 12 rfl rfl)
theorem dX3_says_37 : decode cX3_says 37 = .ok (.iconst 2, 1) := dk_5 (dk_at dksX3_says_1 13 rfl rfl)
theorem dX3_says_38 : decode cX3_says 38 = .ok (.if_icmp .ne 36, 3) := dk_160 0 36 (dk_at dksX3_says_1 14 rfl rfl)
theorem dX3_says_41 : decode cX3_says 41 = .ok (.iload_n 2, 1) := dk_28 (dk_at dksX3_says_1 17 rfl rfl)
theorem dX3_says_42 : decode cX3_says 42 = .ok (.ifCond .eq 28, 3) := dk_153 0 28 (dk_at dksX3_says_1 18 rfl rfl)
theorem dX3_says_45 : decode cX3_says 45 = .ok (.aload_n 0, 1) := dk_42 (dk_at dksX3_says_1 21 rfl rfl)
theorem dX3_says_46 : decode cX3_says 46 = .ok (.getfield 28, 3) := dk_180 0 28 (dk_at dksX3_says_2 0 rfl rfl)
theorem dX3_says_49 : decode cX3_says 49 = .ok (.iload_n 1, 1) := dk_27 (dk_at dksX3_says_2 3 rfl rfl)
theorem dX3_says_50 : decode cX3_says 50 = .ok (.iaload, 1) := dk_46 (dk_at dksX3_says_2 4 rfl rfl)
theorem dX3_says_51 : decode cX3_says 51 = .ok (.iload_n 2, 1) := dk_28 (dk_at dksX3_says_2 5 rfl rfl)
theorem dX3_says_52 : decode cX3_says 52 = .ok (.if_icmp .eq 18, 3) := dk_159 0 18 (dk_at dksX3_says_2 6 rfl rfl)
theorem dX3_says_55 : decode cX3_says 55 = .ok (.iload_n 2, 1) := dk_28 (dk_at dksX3_says_2 9 rfl rfl)
theorem dX3_says_56 : decode cX3_says 56 = .ok (.iconst 1, 1) := dk_4 (dk_at dksX3_says_2 10 rfl rfl)
theorem dX3_says_57 : decode cX3_says 57 = .ok (.if_icmp .ne 17, 3) := dk_160 0 17 (dk_at dksX3_says_2 11 rfl rfl)
theorem dX3_says_60 : decode cX3_says 60 = .ok (.aload_n 0, 1) := dk_42 (dk_at dksX3_says_2 14 rfl rfl)
theorem dX3_says_61 : decode cX3_says 61 = .ok (.getfield 28, 3) := dk_180 0 28 (dk_at dksX3_says_2 15 rfl rfl)
theorem dX3_says_64 : decode cX3_says 64 = .ok (.iload_n 1, 1) := dk_27 (dk_at dksX3_says_2 18 rfl rfl)
theorem dX3_says_65 : decode cX3_says 65 = .ok (.iaload, 1) := dk_46 (dk_at dksX3_says_2 19 rfl rfl)
theorem dX3_says_66 : decode cX3_says 66 = .ok (.iconst 3, 1) := dk_6 (dk_at dksX3_says_2 20 rfl rfl)
theorem dX3_says_67 : decode cX3_says 67 = .ok (.if_icmp .ne 7, 3) := dk_160 0 7 (dk_at dksX3_says_2 21 rfl rfl)
theorem dX3_says_70 : decode cX3_says 70 = .ok (.iconst 1, 1) := dk_4 (dk_at dksX3_says_3 0 rfl rfl)
theorem dX3_says_71 : decode cX3_says 71 = .ok (.goto 4, 3) := dk_167 0 4 (dk_at dksX3_says_3 1 rfl rfl)
theorem dX3_says_74 : decode cX3_says 74 = .ok (.iconst 0, 1) := dk_3 (dk_at dksX3_says_3 4 rfl rfl)
theorem dX3_says_75 : decode cX3_says 75 = .ok (.istore_n 3, 1) := dk_62 (dk_at dksX3_says_3 5 rfl rfl)
theorem dX3_says_76 : decode cX3_says 76 = .ok (.aload_n 0, 1) := dk_42 (dk_at dksX3_says_3 6 rfl rfl)
theorem dX3_says_77 : decode cX3_says 77 = .ok (.getfield 7, 3) := dk_180 0 7 (dk_at dksX3_says_3 7 rfl rfl)
theorem dX3_says_80 : decode cX3_says 80 = .ok (.iload_n 1, 1) := dk_27 (dk_at dksX3_says_3 10 rfl rfl)
theorem dX3_says_81 : decode cX3_says 81 = .ok (.iaload, 1) := dk_46 (dk_at dksX3_says_3 11 rfl rfl)
theorem dX3_says_82 : decode cX3_says 82 = .ok (.iconst 1, 1) := dk_4 (dk_at dksX3_says_3 12 rfl rfl)
theorem dX3_says_83 : decode cX3_says 83 = .ok (.if_icmp .eq 17, 3) := dk_159 0 17 (dk_at dksX3_says_3 13 rfl rfl)
theorem dX3_says_86 : decode cX3_says 86 = .ok (.aload_n 0, 1) := dk_42 (dk_at dksX3_says_3 16 rfl rfl)
theorem dX3_says_87 : decode cX3_says 87 = .ok (.getfield 7, 3) := dk_180 0 7 (dk_at dksX3_says_3 17 rfl rfl)
theorem dX3_says_90 : decode cX3_says 90 = .ok (.iload_n 1, 1) := dk_27 (dk_at dksX3_says_3 20 rfl rfl)
theorem dX3_says_91 : decode cX3_says 91 = .ok (.iaload, 1) := dk_46 (dk_at dksX3_says_3 21 rfl rfl)
theorem dX3_says_92 : decode cX3_says 92 = .ok (.iconst 2, 1) := dk_5 (dk_at dksX3_says_3 22 rfl rfl)
theorem dX3_says_93 : decode cX3_says 93 = .ok (.if_icmp .ne 14, 3) := dk_160 0 14 (dk_at dksX3_says_4 0 rfl rfl)
theorem dX3_says_96 : decode cX3_says 96 = .ok (.iload_n 3, 1) := dk_29 (dk_at dksX3_says_4 3 rfl rfl)
theorem dX3_says_97 : decode cX3_says 97 = .ok (.ifCond .ne 10, 3) := dk_154 0 10 (dk_at dksX3_says_4 4 rfl rfl)
theorem dX3_says_100 : decode cX3_says 100 = .ok (.aload_n 0, 1) := dk_42 (dk_at dksX3_says_4 7 rfl rfl)
theorem dX3_says_101 : decode cX3_says 101 = .ok (.bipush (-3), 2) := dk_16 253 (dk_at dksX3_says_4 8 rfl rfl)
theorem dX3_says_103 : decode cX3_says 103 = .ok (.invokevirtual 119, 3) := dk_182 0 119 (dk_at dksX3_says_4 10 rfl rfl)
theorem dX3_says_106 : decode cX3_says 106 = .ok (.ireturn, 1) := dk_172 (dk_at dksX3_says_4 13 rfl rfl)
theorem dX3_says_107 : decode cX3_says 107 = .ok (.aload_n 0, 1) := dk_42 (dk_at dksX3_says_4 14 rfl rfl)
theorem dX3_says_108 : decode cX3_says 108 = .ok (.getfield 7, 3) := dk_180 0 7 (dk_at dksX3_says_4 15 rfl rfl)
theorem dX3_says_111 : decode cX3_says 111 = .ok (.iload_n 1, 1) := dk_27 (dk_at dksX3_says_4 18 rfl rfl)
theorem dX3_says_112 : decode cX3_says 112 = .ok (.iaload, 1) := dk_46 (dk_at dksX3_says_4 19 rfl rfl)
theorem dX3_says_113 : decode cX3_says 113 = .ok (.ifCond .ne 10, 3) := dk_154 0 10 (dk_at dksX3_says_4 20 rfl rfl)
theorem dX3_says_116 : decode cX3_says 116 = .ok (.aload_n 0, 1) := dk_42 (dk_at dksX3_says_4 23 rfl rfl)
theorem dX3_says_117 : decode cX3_says 117 = .ok (.bipush (-4), 2) := dk_16 252 (dk_at dksX3_says_5 0 rfl rfl)
theorem dX3_says_119 : decode cX3_says 119 = .ok (.invokevirtual 119, 3) := dk_182 0 119 (dk_at dksX3_says_5 2 rfl rfl)
theorem dX3_says_122 : decode cX3_says 122 = .ok (.ireturn, 1) := dk_172 (dk_at dksX3_says_5 5 rfl rfl)
theorem dX3_says_123 : decode cX3_says 123 = .ok (.iload_n 2, 1) := dk_28 (dk_at dksX3_says_5 6 rfl rfl)
theorem dX3_says_124 : decode cX3_says 124 = .ok (.tableswitch 86 0 4 #[36, 38, 67, 74, 84], 36) := by decide +kernel
theorem dX3_says_160 : decode cX3_says 160 = .ok (.iconst 0, 1) := dk_3 (dk_at dksX3_says_7 0 rfl rfl)
theorem dX3_says_161 : decode cX3_says 161 = .ok (.ireturn, 1) := dk_172 (dk_at dksX3_says_7 1 rfl rfl)
theorem dX3_says_162 : decode cX3_says 162 = .ok (.aload_n 0, 1) := dk_42 (dk_at dksX3_says_7 2 rfl rfl)
theorem dX3_says_163 : decode cX3_says 163 = .ok (.getfield 28, 3) := dk_180 0 28 (dk_at dksX3_says_7 3 rfl rfl)
theorem dX3_says_166 : decode cX3_says 166 = .ok (.iload_n 1, 1) := dk_27 (dk_at dksX3_says_7 6 rfl rfl)
theorem dX3_says_167 : decode cX3_says 167 = .ok (.iaload, 1) := dk_46 (dk_at dksX3_says_7 7 rfl rfl)
theorem dX3_says_168 : decode cX3_says 168 = .ok (.iconst 3, 1) := dk_6 (dk_at dksX3_says_7 8 rfl rfl)
theorem dX3_says_169 : decode cX3_says 169 = .ok (.if_icmp .ne 15, 3) := dk_160 0 15 (dk_at dksX3_says_7 9 rfl rfl)
theorem dX3_says_172 : decode cX3_says 172 = .ok (.aload_n 0, 1) := dk_42 (dk_at dksX3_says_7 12 rfl rfl)
theorem dX3_says_173 : decode cX3_says 173 = .ok (.getfield 31, 3) := dk_180 0 31 (dk_at dksX3_says_7 13 rfl rfl)
theorem dX3_says_176 : decode cX3_says 176 = .ok (.iload_n 1, 1) := dk_27 (dk_at dksX3_says_7 16 rfl rfl)
theorem dX3_says_177 : decode cX3_says 177 = .ok (.iaload, 1) := dk_46 (dk_at dksX3_says_7 17 rfl rfl)
theorem dX3_says_178 : decode cX3_says 178 = .ok (.bipush 10, 2) := dk_16 10 (dk_at dksX3_says_7 18 rfl rfl)
theorem dX3_says_180 : decode cX3_says 180 = .ok (.idiv, 1) := dk_108 (dk_at dksX3_says_7 20 rfl rfl)
theorem dX3_says_181 : decode cX3_says 181 = .ok (.goto 9, 3) := dk_167 0 9 (dk_at dksX3_says_7 21 rfl rfl)
theorem dX3_says_184 : decode cX3_says 184 = .ok (.aload_n 0, 1) := dk_42 (dk_at dksX3_says_8 0 rfl rfl)
theorem dX3_says_185 : decode cX3_says 185 = .ok (.getfield 31, 3) := dk_180 0 31 (dk_at dksX3_says_8 1 rfl rfl)
theorem dX3_says_188 : decode cX3_says 188 = .ok (.iload_n 1, 1) := dk_27 (dk_at dksX3_says_8 4 rfl rfl)
theorem dX3_says_189 : decode cX3_says 189 = .ok (.iaload, 1) := dk_46 (dk_at dksX3_says_8 5 rfl rfl)
theorem dX3_says_190 : decode cX3_says 190 = .ok (.ireturn, 1) := dk_172 (dk_at dksX3_says_8 6 rfl rfl)
theorem dX3_says_191 : decode cX3_says 191 = .ok (.aload_n 0, 1) := dk_42 (dk_at dksX3_says_8 7 rfl rfl)
theorem dX3_says_192 : decode cX3_says 192 = .ok (.getfield 31, 3) := dk_180 0 31 (dk_at dksX3_says_8 8 rfl rfl)
theorem dX3_says_195 : decode cX3_says 195 = .ok (.iload_n 1, 1) := dk_27 (dk_at dksX3_says_8 11 rfl rfl)
theorem dX3_says_196 : decode cX3_says 196 = .ok (.iaload, 1) := dk_46 (dk_at dksX3_says_8 12 rfl rfl)
theorem dX3_says_197 : decode cX3_says 197 = .ok (.ireturn, 1) := dk_172 (dk_at dksX3_says_8 13 rfl rfl)
theorem dX3_says_198 : decode cX3_says 198 = .ok (.aload_n 0, 1) := dk_42 (dk_at dksX3_says_8 14 rfl rfl)
theorem dX3_says_199 : decode cX3_says 199 = .ok (.getfield 31, 3) := dk_180 0 31 (dk_at dksX3_says_8 15 rfl rfl)
theorem dX3_says_202 : decode cX3_says 202 = .ok (.iload_n 1, 1) := dk_27 (dk_at dksX3_says_8 18 rfl rfl)
theorem dX3_says_203 : decode cX3_says 203 = .ok (.iaload, 1) := dk_46 (dk_at dksX3_says_8 19 rfl rfl)
theorem dX3_says_204 : decode cX3_says 204 = .ok (.bipush 10, 2) := dk_16 10 (dk_at dksX3_says_8 20 rfl rfl)
theorem dX3_says_206 : decode cX3_says 206 = .ok (.irem, 1) := dk_112 (dk_at dksX3_says_8 22 rfl rfl)
theorem dX3_says_207 : decode cX3_says 207 = .ok (.ireturn, 1) := dk_172 (dk_at dksX3_says_8 23 rfl rfl)
theorem dX3_says_208 : decode cX3_says 208 = .ok (.iconst 1, 1) := dk_4 (dk_at dksX3_says_9 0 rfl rfl)
theorem dX3_says_209 : decode cX3_says 209 = .ok (.ireturn, 1) := dk_172 (dk_at dksX3_says_9 1 rfl rfl)
theorem dX3_says_210 : decode cX3_says 210 = .ok (.aload_n 0, 1) := dk_42 (dk_at dksX3_says_9 2 rfl rfl)
theorem dX3_says_211 : decode cX3_says 211 = .ok (.getfield 52, 3) := dk_180 0 52 (dk_at dksX3_says_9 3 rfl rfl)
theorem dX3_says_214 : decode cX3_says 214 = .ok (.iload_n 1, 1) := dk_27 (dk_at dksX3_says_9 6 rfl rfl)
theorem dX3_says_215 : decode cX3_says 215 = .ok (.iaload, 1) := dk_46 (dk_at dksX3_says_9 7 rfl rfl)
theorem dX3_says_216 : decode cX3_says 216 = .ok (.ireturn, 1) := dk_172 (dk_at dksX3_says_9 8 rfl rfl)
abbrev cX3_feed : ByteArray := prog_17_method_19_code
def yX3_feed : MethodName := ⟨RX3, "feed", "(II)I"⟩
def dkwX3_feed_3 : List UInt8 := [79, 132, 3, 255, 167, 255, 223, 42, 180, 0, 136, 172]
abbrev dktX3_feed_3 : List UInt8 := dkwX3_feed_3 ++ []
def dkwX3_feed_2 : List UInt8 := [180, 0, 39, 42, 89, 180, 0, 136, 90, 4, 96, 181, 0, 136, 27, 16, 8, 29, 104, 122, 17, 0, 255, 126]
abbrev dktX3_feed_2 : List UInt8 := dkwX3_feed_2 ++ dktX3_feed_3
def dkwX3_feed_1 : List UInt8 := [180, 0, 136, 100, 164, 0, 10, 42, 16, 250, 182, 0, 119, 172, 28, 4, 100, 62, 29, 155, 0, 35, 42]
abbrev dktX3_feed_1 : List UInt8 := dkwX3_feed_1 ++ dktX3_feed_2
def dkwX3_feed_0 : List UInt8 := [28, 133, 10, 20, 0, 115, 184, 0, 94, 154, 0, 10, 42, 16, 254, 182, 0, 119, 172, 28, 17, 0, 160, 42]
abbrev dktX3_feed_0 : List UInt8 := dkwX3_feed_0 ++ dktX3_feed_1
theorem dksX3_feed_0 : cX3_feed.data.toList.drop 0 = dktX3_feed_0 := by decide +kernel
theorem dksX3_feed_1 : cX3_feed.data.toList.drop 24 = dktX3_feed_1 := dk_seg dksX3_feed_0 24 rfl rfl
theorem dksX3_feed_2 : cX3_feed.data.toList.drop 47 = dktX3_feed_2 := dk_seg dksX3_feed_1 23 rfl rfl
theorem dksX3_feed_3 : cX3_feed.data.toList.drop 71 = dktX3_feed_3 := dk_seg dksX3_feed_2 24 rfl rfl
theorem dX3_feed_0 : decode cX3_feed 0 = .ok (.iload_n 2, 1) := dk_28 (dk_at dksX3_feed_0 0 rfl rfl)
theorem dX3_feed_1 : decode cX3_feed 1 = .ok (.i2l, 1) := dk_133 (dk_at dksX3_feed_0 1 rfl rfl)
theorem dX3_feed_2 : decode cX3_feed 2 = .ok (.lconst 1, 1) := dk_10 (dk_at dksX3_feed_0 2 rfl rfl)
theorem dX3_feed_3 : decode cX3_feed 3 = .ok (.ldc2_w 115, 3) := dk_20 0 115 (dk_at dksX3_feed_0 3 rfl rfl)
theorem dX3_feed_6 : decode cX3_feed 6 = .ok (.invokestatic 94, 3) := dk_184 0 94 (dk_at dksX3_feed_0 6 rfl rfl)
theorem dX3_feed_9 : decode cX3_feed 9 = .ok (.ifCond .ne 10, 3) := dk_154 0 10 (dk_at dksX3_feed_0 9 rfl rfl)
theorem dX3_feed_12 : decode cX3_feed 12 = .ok (.aload_n 0, 1) := dk_42 (dk_at dksX3_feed_0 12 rfl rfl)
theorem dX3_feed_13 : decode cX3_feed 13 = .ok (.bipush (-2), 2) := dk_16 254 (dk_at dksX3_feed_0 13 rfl rfl)
theorem dX3_feed_15 : decode cX3_feed 15 = .ok (.invokevirtual 119, 3) := dk_182 0 119 (dk_at dksX3_feed_0 15 rfl rfl)
theorem dX3_feed_18 : decode cX3_feed 18 = .ok (.ireturn, 1) := dk_172 (dk_at dksX3_feed_0 18 rfl rfl)
theorem dX3_feed_19 : decode cX3_feed 19 = .ok (.iload_n 2, 1) := dk_28 (dk_at dksX3_feed_0 19 rfl rfl)
theorem dX3_feed_20 : decode cX3_feed 20 = .ok (.sipush 160, 3) := dk_17 0 160 (dk_at dksX3_feed_0 20 rfl rfl)
theorem dX3_feed_23 : decode cX3_feed 23 = .ok (.aload_n 0, 1) := dk_42 (dk_at dksX3_feed_0 23 rfl rfl)
theorem dX3_feed_24 : decode cX3_feed 24 = .ok (.getfield 136, 3) := dk_180 0 136 (dk_at dksX3_feed_1 0 rfl rfl)
theorem dX3_feed_27 : decode cX3_feed 27 = .ok (.isub, 1) := dk_100 (dk_at dksX3_feed_1 3 rfl rfl)
theorem dX3_feed_28 : decode cX3_feed 28 = .ok (.if_icmp .le 10, 3) := dk_164 0 10 (dk_at dksX3_feed_1 4 rfl rfl)
theorem dX3_feed_31 : decode cX3_feed 31 = .ok (.aload_n 0, 1) := dk_42 (dk_at dksX3_feed_1 7 rfl rfl)
theorem dX3_feed_32 : decode cX3_feed 32 = .ok (.bipush (-6), 2) := dk_16 250 (dk_at dksX3_feed_1 8 rfl rfl)
theorem dX3_feed_34 : decode cX3_feed 34 = .ok (.invokevirtual 119, 3) := dk_182 0 119 (dk_at dksX3_feed_1 10 rfl rfl)
theorem dX3_feed_37 : decode cX3_feed 37 = .ok (.ireturn, 1) := dk_172 (dk_at dksX3_feed_1 13 rfl rfl)
theorem dX3_feed_38 : decode cX3_feed 38 = .ok (.iload_n 2, 1) := dk_28 (dk_at dksX3_feed_1 14 rfl rfl)
theorem dX3_feed_39 : decode cX3_feed 39 = .ok (.iconst 1, 1) := dk_4 (dk_at dksX3_feed_1 15 rfl rfl)
theorem dX3_feed_40 : decode cX3_feed 40 = .ok (.isub, 1) := dk_100 (dk_at dksX3_feed_1 16 rfl rfl)
theorem dX3_feed_41 : decode cX3_feed 41 = .ok (.istore_n 3, 1) := dk_62 (dk_at dksX3_feed_1 17 rfl rfl)
theorem dX3_feed_42 : decode cX3_feed 42 = .ok (.iload_n 3, 1) := dk_29 (dk_at dksX3_feed_1 18 rfl rfl)
theorem dX3_feed_43 : decode cX3_feed 43 = .ok (.ifCond .lt 35, 3) := dk_155 0 35 (dk_at dksX3_feed_1 19 rfl rfl)
theorem dX3_feed_46 : decode cX3_feed 46 = .ok (.aload_n 0, 1) := dk_42 (dk_at dksX3_feed_1 22 rfl rfl)
theorem dX3_feed_47 : decode cX3_feed 47 = .ok (.getfield 39, 3) := dk_180 0 39 (dk_at dksX3_feed_2 0 rfl rfl)
theorem dX3_feed_50 : decode cX3_feed 50 = .ok (.aload_n 0, 1) := dk_42 (dk_at dksX3_feed_2 3 rfl rfl)
theorem dX3_feed_51 : decode cX3_feed 51 = .ok (.dup, 1) := dk_89 (dk_at dksX3_feed_2 4 rfl rfl)
theorem dX3_feed_52 : decode cX3_feed 52 = .ok (.getfield 136, 3) := dk_180 0 136 (dk_at dksX3_feed_2 5 rfl rfl)
theorem dX3_feed_55 : decode cX3_feed 55 = .ok (.dup_x1, 1) := dk_90 (dk_at dksX3_feed_2 8 rfl rfl)
theorem dX3_feed_56 : decode cX3_feed 56 = .ok (.iconst 1, 1) := dk_4 (dk_at dksX3_feed_2 9 rfl rfl)
theorem dX3_feed_57 : decode cX3_feed 57 = .ok (.iadd, 1) := dk_96 (dk_at dksX3_feed_2 10 rfl rfl)
theorem dX3_feed_58 : decode cX3_feed 58 = .ok (.putfield 136, 3) := dk_181 0 136 (dk_at dksX3_feed_2 11 rfl rfl)
theorem dX3_feed_61 : decode cX3_feed 61 = .ok (.iload_n 1, 1) := dk_27 (dk_at dksX3_feed_2 14 rfl rfl)
theorem dX3_feed_62 : decode cX3_feed 62 = .ok (.bipush 8, 2) := dk_16 8 (dk_at dksX3_feed_2 15 rfl rfl)
theorem dX3_feed_64 : decode cX3_feed 64 = .ok (.iload_n 3, 1) := dk_29 (dk_at dksX3_feed_2 17 rfl rfl)
theorem dX3_feed_65 : decode cX3_feed 65 = .ok (.imul, 1) := dk_104 (dk_at dksX3_feed_2 18 rfl rfl)
theorem dX3_feed_66 : decode cX3_feed 66 = .ok (.ishr, 1) := dk_122 (dk_at dksX3_feed_2 19 rfl rfl)
theorem dX3_feed_67 : decode cX3_feed 67 = .ok (.sipush 255, 3) := dk_17 0 255 (dk_at dksX3_feed_2 20 rfl rfl)
theorem dX3_feed_70 : decode cX3_feed 70 = .ok (.iand, 1) := dk_126 (dk_at dksX3_feed_2 23 rfl rfl)
theorem dX3_feed_71 : decode cX3_feed 71 = .ok (.iastore, 1) := dk_79 (dk_at dksX3_feed_3 0 rfl rfl)
theorem dX3_feed_72 : decode cX3_feed 72 = .ok (.iinc 3 (-1), 3) := dk_132 3 255 (dk_at dksX3_feed_3 1 rfl rfl)
theorem dX3_feed_75 : decode cX3_feed 75 = .ok (.goto (-33), 3) := dk_167 255 223 (dk_at dksX3_feed_3 4 rfl rfl)
theorem dX3_feed_78 : decode cX3_feed 78 = .ok (.aload_n 0, 1) := dk_42 (dk_at dksX3_feed_3 7 rfl rfl)
theorem dX3_feed_79 : decode cX3_feed 79 = .ok (.getfield 136, 3) := dk_180 0 136 (dk_at dksX3_feed_3 8 rfl rfl)
theorem dX3_feed_82 : decode cX3_feed 82 = .ok (.ireturn, 1) := dk_172 (dk_at dksX3_feed_3 11 rfl rfl)
abbrev cX3_wipe : ByteArray := prog_17_method_20_code
def yX3_wipe : MethodName := ⟨RX3, "wipe", "()I"⟩
def dkwX3_wipe_0 : List UInt8 := [42, 180, 0, 136, 60, 42, 3, 181, 0, 136, 27, 172]
abbrev dktX3_wipe_0 : List UInt8 := dkwX3_wipe_0 ++ []
theorem dksX3_wipe_0 : cX3_wipe.data.toList.drop 0 = dktX3_wipe_0 := by decide +kernel
theorem dX3_wipe_0 : decode cX3_wipe 0 = .ok (.aload_n 0, 1) := dk_42 (dk_at dksX3_wipe_0 0 rfl rfl)
theorem dX3_wipe_1 : decode cX3_wipe 1 = .ok (.getfield 136, 3) := dk_180 0 136 (dk_at dksX3_wipe_0 1 rfl rfl)
theorem dX3_wipe_4 : decode cX3_wipe 4 = .ok (.istore_n 1, 1) := dk_60 (dk_at dksX3_wipe_0 4 rfl rfl)
theorem dX3_wipe_5 : decode cX3_wipe 5 = .ok (.aload_n 0, 1) := dk_42 (dk_at dksX3_wipe_0 5 rfl rfl)
theorem dX3_wipe_6 : decode cX3_wipe 6 = .ok (.iconst 0, 1) := dk_3 (dk_at dksX3_wipe_0 6 rfl rfl)
theorem dX3_wipe_7 : decode cX3_wipe 7 = .ok (.putfield 136, 3) := dk_181 0 136 (dk_at dksX3_wipe_0 7 rfl rfl)
theorem dX3_wipe_10 : decode cX3_wipe 10 = .ok (.iload_n 1, 1) := dk_27 (dk_at dksX3_wipe_0 10 rfl rfl)
theorem dX3_wipe_11 : decode cX3_wipe 11 = .ok (.ireturn, 1) := dk_172 (dk_at dksX3_wipe_0 11 rfl rfl)
abbrev cX3_house : ByteArray := prog_17_method_29_code
def yX3_house : MethodName := ⟨RX3, "house", "()I"⟩
def dkwX3_house_2 : List UInt8 := [16, 236, 42, 180, 0, 164, 100, 172, 42, 89, 180, 0, 91, 90, 4, 96, 181, 0, 91, 172]
abbrev dktX3_house_2 : List UInt8 := dkwX3_house_2 ++ []
def dkwX3_house_1 : List UInt8 := [180, 0, 91, 50, 182, 0, 213, 60, 42, 3, 181, 0, 136, 27, 154, 0, 18, 42, 16, 254, 182, 0, 119, 87]
abbrev dktX3_house_1 : List UInt8 := dkwX3_house_1 ++ dktX3_house_2
def dkwX3_house_0 : List UInt8 := [42, 180, 0, 91, 16, 6, 160, 0, 10, 42, 16, 250, 182, 0, 119, 172, 42, 42, 180, 0, 45, 42]
abbrev dktX3_house_0 : List UInt8 := dkwX3_house_0 ++ dktX3_house_1
theorem dksX3_house_0 : cX3_house.data.toList.drop 0 = dktX3_house_0 := by decide +kernel
theorem dksX3_house_1 : cX3_house.data.toList.drop 22 = dktX3_house_1 := dk_seg dksX3_house_0 22 rfl rfl
theorem dksX3_house_2 : cX3_house.data.toList.drop 46 = dktX3_house_2 := dk_seg dksX3_house_1 24 rfl rfl
theorem dX3_house_0 : decode cX3_house 0 = .ok (.aload_n 0, 1) := dk_42 (dk_at dksX3_house_0 0 rfl rfl)
theorem dX3_house_1 : decode cX3_house 1 = .ok (.getfield 91, 3) := dk_180 0 91 (dk_at dksX3_house_0 1 rfl rfl)
theorem dX3_house_4 : decode cX3_house 4 = .ok (.bipush 6, 2) := dk_16 6 (dk_at dksX3_house_0 4 rfl rfl)
theorem dX3_house_6 : decode cX3_house 6 = .ok (.if_icmp .ne 10, 3) := dk_160 0 10 (dk_at dksX3_house_0 6 rfl rfl)
theorem dX3_house_9 : decode cX3_house 9 = .ok (.aload_n 0, 1) := dk_42 (dk_at dksX3_house_0 9 rfl rfl)
theorem dX3_house_10 : decode cX3_house 10 = .ok (.bipush (-6), 2) := dk_16 250 (dk_at dksX3_house_0 10 rfl rfl)
theorem dX3_house_12 : decode cX3_house 12 = .ok (.invokevirtual 119, 3) := dk_182 0 119 (dk_at dksX3_house_0 12 rfl rfl)
theorem dX3_house_15 : decode cX3_house 15 = .ok (.ireturn, 1) := dk_172 (dk_at dksX3_house_0 15 rfl rfl)
theorem dX3_house_16 : decode cX3_house 16 = .ok (.aload_n 0, 1) := dk_42 (dk_at dksX3_house_0 16 rfl rfl)
theorem dX3_house_17 : decode cX3_house 17 = .ok (.aload_n 0, 1) := dk_42 (dk_at dksX3_house_0 17 rfl rfl)
theorem dX3_house_18 : decode cX3_house 18 = .ok (.getfield 45, 3) := dk_180 0 45 (dk_at dksX3_house_0 18 rfl rfl)
theorem dX3_house_21 : decode cX3_house 21 = .ok (.aload_n 0, 1) := dk_42 (dk_at dksX3_house_0 21 rfl rfl)
theorem dX3_house_22 : decode cX3_house 22 = .ok (.getfield 91, 3) := dk_180 0 91 (dk_at dksX3_house_1 0 rfl rfl)
theorem dX3_house_25 : decode cX3_house 25 = .ok (.aaload, 1) := dk_50 (dk_at dksX3_house_1 3 rfl rfl)
theorem dX3_house_26 : decode cX3_house 26 = .ok (.invokevirtual 213, 3) := dk_182 0 213 (dk_at dksX3_house_1 4 rfl rfl)
theorem dX3_house_29 : decode cX3_house 29 = .ok (.istore_n 1, 1) := dk_60 (dk_at dksX3_house_1 7 rfl rfl)
theorem dX3_house_30 : decode cX3_house 30 = .ok (.aload_n 0, 1) := dk_42 (dk_at dksX3_house_1 8 rfl rfl)
theorem dX3_house_31 : decode cX3_house 31 = .ok (.iconst 0, 1) := dk_3 (dk_at dksX3_house_1 9 rfl rfl)
theorem dX3_house_32 : decode cX3_house 32 = .ok (.putfield 136, 3) := dk_181 0 136 (dk_at dksX3_house_1 10 rfl rfl)
theorem dX3_house_35 : decode cX3_house 35 = .ok (.iload_n 1, 1) := dk_27 (dk_at dksX3_house_1 13 rfl rfl)
theorem dX3_house_36 : decode cX3_house 36 = .ok (.ifCond .ne 18, 3) := dk_154 0 18 (dk_at dksX3_house_1 14 rfl rfl)
theorem dX3_house_39 : decode cX3_house 39 = .ok (.aload_n 0, 1) := dk_42 (dk_at dksX3_house_1 17 rfl rfl)
theorem dX3_house_40 : decode cX3_house 40 = .ok (.bipush (-2), 2) := dk_16 254 (dk_at dksX3_house_1 18 rfl rfl)
theorem dX3_house_42 : decode cX3_house 42 = .ok (.invokevirtual 119, 3) := dk_182 0 119 (dk_at dksX3_house_1 20 rfl rfl)
theorem dX3_house_45 : decode cX3_house 45 = .ok (.pop, 1) := dk_87 (dk_at dksX3_house_1 23 rfl rfl)
theorem dX3_house_46 : decode cX3_house 46 = .ok (.bipush (-20), 2) := dk_16 236 (dk_at dksX3_house_2 0 rfl rfl)
theorem dX3_house_48 : decode cX3_house 48 = .ok (.aload_n 0, 1) := dk_42 (dk_at dksX3_house_2 2 rfl rfl)
theorem dX3_house_49 : decode cX3_house 49 = .ok (.getfield 164, 3) := dk_180 0 164 (dk_at dksX3_house_2 3 rfl rfl)
theorem dX3_house_52 : decode cX3_house 52 = .ok (.isub, 1) := dk_100 (dk_at dksX3_house_2 6 rfl rfl)
theorem dX3_house_53 : decode cX3_house 53 = .ok (.ireturn, 1) := dk_172 (dk_at dksX3_house_2 7 rfl rfl)
theorem dX3_house_54 : decode cX3_house 54 = .ok (.aload_n 0, 1) := dk_42 (dk_at dksX3_house_2 8 rfl rfl)
theorem dX3_house_55 : decode cX3_house 55 = .ok (.dup, 1) := dk_89 (dk_at dksX3_house_2 9 rfl rfl)
theorem dX3_house_56 : decode cX3_house 56 = .ok (.getfield 91, 3) := dk_180 0 91 (dk_at dksX3_house_2 10 rfl rfl)
theorem dX3_house_59 : decode cX3_house 59 = .ok (.dup_x1, 1) := dk_90 (dk_at dksX3_house_2 13 rfl rfl)
theorem dX3_house_60 : decode cX3_house 60 = .ok (.iconst 1, 1) := dk_4 (dk_at dksX3_house_2 14 rfl rfl)
theorem dX3_house_61 : decode cX3_house 61 = .ok (.iadd, 1) := dk_96 (dk_at dksX3_house_2 15 rfl rfl)
theorem dX3_house_62 : decode cX3_house 62 = .ok (.putfield 91, 3) := dk_181 0 91 (dk_at dksX3_house_2 16 rfl rfl)
theorem dX3_house_65 : decode cX3_house 65 = .ok (.ireturn, 1) := dk_172 (dk_at dksX3_house_2 19 rfl rfl)
abbrev cX3_read : ByteArray := prog_17_method_28_code
def yX3_read : MethodName := ⟨RX3, "read", "([I)Z"⟩
def dkwX3_read_3 : List UInt8 := [154, 255, 227, 3, 172, 43, 7, 46, 157, 0, 10, 42, 182, 0, 181, 153, 0, 7, 4, 167, 0, 4, 3, 172]
abbrev dktX3_read_3 : List UInt8 := dkwX3_read_3 ++ []
def dkwX3_read_2 : List UInt8 := [42, 180, 0, 149, 6, 159, 0, 8, 42, 182, 0, 181, 172, 42, 182, 0, 185, 42, 43, 182, 0, 209]
abbrev dktX3_read_2 : List UInt8 := dkwX3_read_2 ++ dktX3_read_3
def dkwX3_read_1 : List UInt8 := [181, 0, 139, 42, 182, 0, 185, 42, 43, 182, 0, 209, 154, 0, 5, 3, 172, 42, 180, 0, 149, 153, 0, 30]
abbrev dktX3_read_1 : List UInt8 := dkwX3_read_1 ++ dktX3_read_2
def dkwX3_read_0 : List UInt8 := [43, 3, 6, 79, 43, 4, 16, 10, 79, 43, 5, 16, 10, 79, 43, 6, 3, 79, 43, 7, 3, 79, 42, 3]
abbrev dktX3_read_0 : List UInt8 := dkwX3_read_0 ++ dktX3_read_1
theorem dksX3_read_0 : cX3_read.data.toList.drop 0 = dktX3_read_0 := by decide +kernel
theorem dksX3_read_1 : cX3_read.data.toList.drop 24 = dktX3_read_1 := dk_seg dksX3_read_0 24 rfl rfl
theorem dksX3_read_2 : cX3_read.data.toList.drop 48 = dktX3_read_2 := dk_seg dksX3_read_1 24 rfl rfl
theorem dksX3_read_3 : cX3_read.data.toList.drop 70 = dktX3_read_3 := dk_seg dksX3_read_2 22 rfl rfl
theorem dX3_read_0 : decode cX3_read 0 = .ok (.aload_n 1, 1) := dk_43 (dk_at dksX3_read_0 0 rfl rfl)
theorem dX3_read_1 : decode cX3_read 1 = .ok (.iconst 0, 1) := dk_3 (dk_at dksX3_read_0 1 rfl rfl)
theorem dX3_read_2 : decode cX3_read 2 = .ok (.iconst 3, 1) := dk_6 (dk_at dksX3_read_0 2 rfl rfl)
theorem dX3_read_3 : decode cX3_read 3 = .ok (.iastore, 1) := dk_79 (dk_at dksX3_read_0 3 rfl rfl)
theorem dX3_read_4 : decode cX3_read 4 = .ok (.aload_n 1, 1) := dk_43 (dk_at dksX3_read_0 4 rfl rfl)
theorem dX3_read_5 : decode cX3_read 5 = .ok (.iconst 1, 1) := dk_4 (dk_at dksX3_read_0 5 rfl rfl)
theorem dX3_read_6 : decode cX3_read 6 = .ok (.bipush 10, 2) := dk_16 10 (dk_at dksX3_read_0 6 rfl rfl)
theorem dX3_read_8 : decode cX3_read 8 = .ok (.iastore, 1) := dk_79 (dk_at dksX3_read_0 8 rfl rfl)
theorem dX3_read_9 : decode cX3_read 9 = .ok (.aload_n 1, 1) := dk_43 (dk_at dksX3_read_0 9 rfl rfl)
theorem dX3_read_10 : decode cX3_read 10 = .ok (.iconst 2, 1) := dk_5 (dk_at dksX3_read_0 10 rfl rfl)
theorem dX3_read_11 : decode cX3_read 11 = .ok (.bipush 10, 2) := dk_16 10 (dk_at dksX3_read_0 11 rfl rfl)
theorem dX3_read_13 : decode cX3_read 13 = .ok (.iastore, 1) := dk_79 (dk_at dksX3_read_0 13 rfl rfl)
theorem dX3_read_14 : decode cX3_read 14 = .ok (.aload_n 1, 1) := dk_43 (dk_at dksX3_read_0 14 rfl rfl)
theorem dX3_read_15 : decode cX3_read 15 = .ok (.iconst 3, 1) := dk_6 (dk_at dksX3_read_0 15 rfl rfl)
theorem dX3_read_16 : decode cX3_read 16 = .ok (.iconst 0, 1) := dk_3 (dk_at dksX3_read_0 16 rfl rfl)
theorem dX3_read_17 : decode cX3_read 17 = .ok (.iastore, 1) := dk_79 (dk_at dksX3_read_0 17 rfl rfl)
theorem dX3_read_18 : decode cX3_read 18 = .ok (.aload_n 1, 1) := dk_43 (dk_at dksX3_read_0 18 rfl rfl)
theorem dX3_read_19 : decode cX3_read 19 = .ok (.iconst 4, 1) := dk_7 (dk_at dksX3_read_0 19 rfl rfl)
theorem dX3_read_20 : decode cX3_read 20 = .ok (.iconst 0, 1) := dk_3 (dk_at dksX3_read_0 20 rfl rfl)
theorem dX3_read_21 : decode cX3_read 21 = .ok (.iastore, 1) := dk_79 (dk_at dksX3_read_0 21 rfl rfl)
theorem dX3_read_22 : decode cX3_read 22 = .ok (.aload_n 0, 1) := dk_42 (dk_at dksX3_read_0 22 rfl rfl)
theorem dX3_read_23 : decode cX3_read 23 = .ok (.iconst 0, 1) := dk_3 (dk_at dksX3_read_0 23 rfl rfl)
theorem dX3_read_24 : decode cX3_read 24 = .ok (.putfield 139, 3) := dk_181 0 139 (dk_at dksX3_read_1 0 rfl rfl)
theorem dX3_read_27 : decode cX3_read 27 = .ok (.aload_n 0, 1) := dk_42 (dk_at dksX3_read_1 3 rfl rfl)
theorem dX3_read_28 : decode cX3_read 28 = .ok (.invokevirtual 185, 3) := dk_182 0 185 (dk_at dksX3_read_1 4 rfl rfl)
theorem dX3_read_31 : decode cX3_read 31 = .ok (.aload_n 0, 1) := dk_42 (dk_at dksX3_read_1 7 rfl rfl)
theorem dX3_read_32 : decode cX3_read 32 = .ok (.aload_n 1, 1) := dk_43 (dk_at dksX3_read_1 8 rfl rfl)
theorem dX3_read_33 : decode cX3_read 33 = .ok (.invokevirtual 209, 3) := dk_182 0 209 (dk_at dksX3_read_1 9 rfl rfl)
theorem dX3_read_36 : decode cX3_read 36 = .ok (.ifCond .ne 5, 3) := dk_154 0 5 (dk_at dksX3_read_1 12 rfl rfl)
theorem dX3_read_39 : decode cX3_read 39 = .ok (.iconst 0, 1) := dk_3 (dk_at dksX3_read_1 15 rfl rfl)
theorem dX3_read_40 : decode cX3_read 40 = .ok (.ireturn, 1) := dk_172 (dk_at dksX3_read_1 16 rfl rfl)
theorem dX3_read_41 : decode cX3_read 41 = .ok (.aload_n 0, 1) := dk_42 (dk_at dksX3_read_1 17 rfl rfl)
theorem dX3_read_42 : decode cX3_read 42 = .ok (.getfield 149, 3) := dk_180 0 149 (dk_at dksX3_read_1 18 rfl rfl)
theorem dX3_read_45 : decode cX3_read 45 = .ok (.ifCond .eq 30, 3) := dk_153 0 30 (dk_at dksX3_read_1 21 rfl rfl)
theorem dX3_read_48 : decode cX3_read 48 = .ok (.aload_n 0, 1) := dk_42 (dk_at dksX3_read_2 0 rfl rfl)
theorem dX3_read_49 : decode cX3_read 49 = .ok (.getfield 149, 3) := dk_180 0 149 (dk_at dksX3_read_2 1 rfl rfl)
theorem dX3_read_52 : decode cX3_read 52 = .ok (.iconst 3, 1) := dk_6 (dk_at dksX3_read_2 4 rfl rfl)
theorem dX3_read_53 : decode cX3_read 53 = .ok (.if_icmp .eq 8, 3) := dk_159 0 8 (dk_at dksX3_read_2 5 rfl rfl)
theorem dX3_read_56 : decode cX3_read 56 = .ok (.aload_n 0, 1) := dk_42 (dk_at dksX3_read_2 8 rfl rfl)
theorem dX3_read_57 : decode cX3_read 57 = .ok (.invokevirtual 181, 3) := dk_182 0 181 (dk_at dksX3_read_2 9 rfl rfl)
theorem dX3_read_60 : decode cX3_read 60 = .ok (.ireturn, 1) := dk_172 (dk_at dksX3_read_2 12 rfl rfl)
theorem dX3_read_61 : decode cX3_read 61 = .ok (.aload_n 0, 1) := dk_42 (dk_at dksX3_read_2 13 rfl rfl)
theorem dX3_read_62 : decode cX3_read 62 = .ok (.invokevirtual 185, 3) := dk_182 0 185 (dk_at dksX3_read_2 14 rfl rfl)
theorem dX3_read_65 : decode cX3_read 65 = .ok (.aload_n 0, 1) := dk_42 (dk_at dksX3_read_2 17 rfl rfl)
theorem dX3_read_66 : decode cX3_read 66 = .ok (.aload_n 1, 1) := dk_43 (dk_at dksX3_read_2 18 rfl rfl)
theorem dX3_read_67 : decode cX3_read 67 = .ok (.invokevirtual 209, 3) := dk_182 0 209 (dk_at dksX3_read_2 19 rfl rfl)
theorem dX3_read_70 : decode cX3_read 70 = .ok (.ifCond .ne (-29), 3) := dk_154 255 227 (dk_at dksX3_read_3 0 rfl rfl)
theorem dX3_read_73 : decode cX3_read 73 = .ok (.iconst 0, 1) := dk_3 (dk_at dksX3_read_3 3 rfl rfl)
theorem dX3_read_74 : decode cX3_read 74 = .ok (.ireturn, 1) := dk_172 (dk_at dksX3_read_3 4 rfl rfl)
theorem dX3_read_75 : decode cX3_read 75 = .ok (.aload_n 1, 1) := dk_43 (dk_at dksX3_read_3 5 rfl rfl)
theorem dX3_read_76 : decode cX3_read 76 = .ok (.iconst 4, 1) := dk_7 (dk_at dksX3_read_3 6 rfl rfl)
theorem dX3_read_77 : decode cX3_read 77 = .ok (.iaload, 1) := dk_46 (dk_at dksX3_read_3 7 rfl rfl)
theorem dX3_read_78 : decode cX3_read 78 = .ok (.ifCond .gt 10, 3) := dk_157 0 10 (dk_at dksX3_read_3 8 rfl rfl)
theorem dX3_read_81 : decode cX3_read 81 = .ok (.aload_n 0, 1) := dk_42 (dk_at dksX3_read_3 11 rfl rfl)
theorem dX3_read_82 : decode cX3_read 82 = .ok (.invokevirtual 181, 3) := dk_182 0 181 (dk_at dksX3_read_3 12 rfl rfl)
theorem dX3_read_85 : decode cX3_read 85 = .ok (.ifCond .eq 7, 3) := dk_153 0 7 (dk_at dksX3_read_3 15 rfl rfl)
theorem dX3_read_88 : decode cX3_read 88 = .ok (.iconst 1, 1) := dk_4 (dk_at dksX3_read_3 18 rfl rfl)
theorem dX3_read_89 : decode cX3_read 89 = .ok (.goto 4, 3) := dk_167 0 4 (dk_at dksX3_read_3 19 rfl rfl)
theorem dX3_read_92 : decode cX3_read 92 = .ok (.iconst 0, 1) := dk_3 (dk_at dksX3_read_3 22 rfl rfl)
theorem dX3_read_93 : decode cX3_read 93 = .ok (.ireturn, 1) := dk_172 (dk_at dksX3_read_3 23 rfl rfl)
abbrev cX3_look : ByteArray := prog_17_method_23_code
def yX3_look : MethodName := ⟨RX3, "look", "()V"⟩
def dkwX3_look_11 : List UInt8 := [180, 0, 139, 4, 96, 181, 0, 139, 177]
abbrev dktX3_look_11 : List UInt8 := dkwX3_look_11 ++ []
def dkwX3_look_10 : List UInt8 := [180, 0, 39, 42, 180, 0, 139, 46, 16, 59, 160, 0, 7, 6, 167, 0, 4, 7, 181, 0, 149, 42, 89]
abbrev dktX3_look_10 : List UInt8 := dkwX3_look_10 ++ dktX3_look_11
def dkwX3_look_9 : List UInt8 := [167, 0, 6, 20, 0, 162, 181, 0, 145, 42, 89, 180, 0, 139, 4, 96, 181, 0, 139, 167, 255, 174, 42, 42]
abbrev dktX3_look_9 : List UInt8 := dkwX3_look_9 ++ dktX3_look_10
def dkwX3_look_8 : List UInt8 := [42, 180, 0, 145, 20, 0, 158, 105, 42, 180, 0, 39, 42, 180, 0, 139, 46, 133, 97, 20, 0, 160, 101]
abbrev dktX3_look_8 : List UInt8 := dkwX3_look_8 ++ dktX3_look_9
def dkwX3_look_7 : List UInt8 := [180, 0, 139, 46, 184, 0, 155, 153, 0, 95, 42, 42, 180, 0, 139, 42, 180, 0, 142, 100, 5, 162, 0, 29]
abbrev dktX3_look_7 : List UInt8 := dkwX3_look_7 ++ dktX3_look_8
def dkwX3_look_6 : List UInt8 := [153, 0, 93, 42, 5, 181, 0, 149, 42, 180, 0, 139, 42, 180, 0, 136, 162, 0, 110, 42, 180, 0, 39, 42]
abbrev dktX3_look_6 : List UInt8 := dkwX3_look_6 ++ dktX3_look_7
def dkwX3_look_5 : List UInt8 := [180, 0, 139, 4, 96, 181, 0, 139, 167, 255, 220, 42, 180, 0, 39, 42, 180, 0, 139, 46, 184, 0, 155]
abbrev dktX3_look_5 : List UInt8 := dkwX3_look_5 ++ dktX3_look_6
def dkwX3_look_4 : List UInt8 := [42, 180, 0, 136, 162, 0, 169, 42, 180, 0, 39, 42, 180, 0, 139, 46, 184, 0, 152, 153, 0, 154, 42, 89]
abbrev dktX3_look_4 : List UInt8 := dkwX3_look_4 ++ dktX3_look_5
def dkwX3_look_3 : List UInt8 := [42, 180, 0, 39, 42, 180, 0, 139, 46, 184, 0, 152, 153, 0, 47, 42, 4, 181, 0, 149, 42, 180, 0, 139]
abbrev dktX3_look_3 : List UInt8 := dkwX3_look_3 ++ dktX3_look_4
def dkwX3_look_2 : List UInt8 := [42, 9, 181, 0, 145, 42, 180, 0, 139, 42, 180, 0, 136, 160, 0, 11, 42, 3, 181, 0, 149, 167, 0, 200]
abbrev dktX3_look_2 : List UInt8 := dkwX3_look_2 ++ dktX3_look_3
def dkwX3_look_1 : List UInt8 := [160, 0, 16, 42, 89, 180, 0, 139, 4, 96, 181, 0, 139, 167, 255, 221, 42, 42, 180, 0, 139, 181, 0, 142]
abbrev dktX3_look_1 : List UInt8 := dkwX3_look_1 ++ dktX3_look_2
def dkwX3_look_0 : List UInt8 := [42, 180, 0, 139, 42, 180, 0, 136, 162, 0, 30, 42, 180, 0, 39, 42, 180, 0, 139, 46, 16, 32]
abbrev dktX3_look_0 : List UInt8 := dkwX3_look_0 ++ dktX3_look_1
theorem dksX3_look_0 : cX3_look.data.toList.drop 0 = dktX3_look_0 := by decide +kernel
theorem dksX3_look_1 : cX3_look.data.toList.drop 22 = dktX3_look_1 := dk_seg dksX3_look_0 22 rfl rfl
theorem dksX3_look_2 : cX3_look.data.toList.drop 46 = dktX3_look_2 := dk_seg dksX3_look_1 24 rfl rfl
theorem dksX3_look_3 : cX3_look.data.toList.drop 70 = dktX3_look_3 := dk_seg dksX3_look_2 24 rfl rfl
theorem dksX3_look_4 : cX3_look.data.toList.drop 94 = dktX3_look_4 := dk_seg dksX3_look_3 24 rfl rfl
theorem dksX3_look_5 : cX3_look.data.toList.drop 118 = dktX3_look_5 := dk_seg dksX3_look_4 24 rfl rfl
theorem dksX3_look_6 : cX3_look.data.toList.drop 141 = dktX3_look_6 := dk_seg dksX3_look_5 23 rfl rfl
theorem dksX3_look_7 : cX3_look.data.toList.drop 165 = dktX3_look_7 := dk_seg dksX3_look_6 24 rfl rfl
theorem dksX3_look_8 : cX3_look.data.toList.drop 189 = dktX3_look_8 := dk_seg dksX3_look_7 24 rfl rfl
theorem dksX3_look_9 : cX3_look.data.toList.drop 212 = dktX3_look_9 := dk_seg dksX3_look_8 23 rfl rfl
theorem dksX3_look_10 : cX3_look.data.toList.drop 236 = dktX3_look_10 := dk_seg dksX3_look_9 24 rfl rfl
theorem dksX3_look_11 : cX3_look.data.toList.drop 259 = dktX3_look_11 := dk_seg dksX3_look_10 23 rfl rfl
theorem dX3_look_0 : decode cX3_look 0 = .ok (.aload_n 0, 1) := dk_42 (dk_at dksX3_look_0 0 rfl rfl)
theorem dX3_look_1 : decode cX3_look 1 = .ok (.getfield 139, 3) := dk_180 0 139 (dk_at dksX3_look_0 1 rfl rfl)
theorem dX3_look_4 : decode cX3_look 4 = .ok (.aload_n 0, 1) := dk_42 (dk_at dksX3_look_0 4 rfl rfl)
theorem dX3_look_5 : decode cX3_look 5 = .ok (.getfield 136, 3) := dk_180 0 136 (dk_at dksX3_look_0 5 rfl rfl)
theorem dX3_look_8 : decode cX3_look 8 = .ok (.if_icmp .ge 30, 3) := dk_162 0 30 (dk_at dksX3_look_0 8 rfl rfl)
theorem dX3_look_11 : decode cX3_look 11 = .ok (.aload_n 0, 1) := dk_42 (dk_at dksX3_look_0 11 rfl rfl)
theorem dX3_look_12 : decode cX3_look 12 = .ok (.getfield 39, 3) := dk_180 0 39 (dk_at dksX3_look_0 12 rfl rfl)
theorem dX3_look_15 : decode cX3_look 15 = .ok (.aload_n 0, 1) := dk_42 (dk_at dksX3_look_0 15 rfl rfl)
theorem dX3_look_16 : decode cX3_look 16 = .ok (.getfield 139, 3) := dk_180 0 139 (dk_at dksX3_look_0 16 rfl rfl)
theorem dX3_look_19 : decode cX3_look 19 = .ok (.iaload, 1) := dk_46 (dk_at dksX3_look_0 19 rfl rfl)
theorem dX3_look_20 : decode cX3_look 20 = .ok (.bipush 32, 2) := dk_16 32 (dk_at dksX3_look_0 20 rfl rfl)
theorem dX3_look_22 : decode cX3_look 22 = .ok (.if_icmp .ne 16, 3) := dk_160 0 16 (dk_at dksX3_look_1 0 rfl rfl)
theorem dX3_look_25 : decode cX3_look 25 = .ok (.aload_n 0, 1) := dk_42 (dk_at dksX3_look_1 3 rfl rfl)
theorem dX3_look_26 : decode cX3_look 26 = .ok (.dup, 1) := dk_89 (dk_at dksX3_look_1 4 rfl rfl)
theorem dX3_look_27 : decode cX3_look 27 = .ok (.getfield 139, 3) := dk_180 0 139 (dk_at dksX3_look_1 5 rfl rfl)
theorem dX3_look_30 : decode cX3_look 30 = .ok (.iconst 1, 1) := dk_4 (dk_at dksX3_look_1 8 rfl rfl)
theorem dX3_look_31 : decode cX3_look 31 = .ok (.iadd, 1) := dk_96 (dk_at dksX3_look_1 9 rfl rfl)
theorem dX3_look_32 : decode cX3_look 32 = .ok (.putfield 139, 3) := dk_181 0 139 (dk_at dksX3_look_1 10 rfl rfl)
theorem dX3_look_35 : decode cX3_look 35 = .ok (.goto (-35), 3) := dk_167 255 221 (dk_at dksX3_look_1 13 rfl rfl)
theorem dX3_look_38 : decode cX3_look 38 = .ok (.aload_n 0, 1) := dk_42 (dk_at dksX3_look_1 16 rfl rfl)
theorem dX3_look_39 : decode cX3_look 39 = .ok (.aload_n 0, 1) := dk_42 (dk_at dksX3_look_1 17 rfl rfl)
theorem dX3_look_40 : decode cX3_look 40 = .ok (.getfield 139, 3) := dk_180 0 139 (dk_at dksX3_look_1 18 rfl rfl)
theorem dX3_look_43 : decode cX3_look 43 = .ok (.putfield 142, 3) := dk_181 0 142 (dk_at dksX3_look_1 21 rfl rfl)
theorem dX3_look_46 : decode cX3_look 46 = .ok (.aload_n 0, 1) := dk_42 (dk_at dksX3_look_2 0 rfl rfl)
theorem dX3_look_47 : decode cX3_look 47 = .ok (.lconst 0, 1) := dk_9 (dk_at dksX3_look_2 1 rfl rfl)
theorem dX3_look_48 : decode cX3_look 48 = .ok (.putfield 145, 3) := dk_181 0 145 (dk_at dksX3_look_2 2 rfl rfl)
theorem dX3_look_51 : decode cX3_look 51 = .ok (.aload_n 0, 1) := dk_42 (dk_at dksX3_look_2 5 rfl rfl)
theorem dX3_look_52 : decode cX3_look 52 = .ok (.getfield 139, 3) := dk_180 0 139 (dk_at dksX3_look_2 6 rfl rfl)
theorem dX3_look_55 : decode cX3_look 55 = .ok (.aload_n 0, 1) := dk_42 (dk_at dksX3_look_2 9 rfl rfl)
theorem dX3_look_56 : decode cX3_look 56 = .ok (.getfield 136, 3) := dk_180 0 136 (dk_at dksX3_look_2 10 rfl rfl)
theorem dX3_look_59 : decode cX3_look 59 = .ok (.if_icmp .ne 11, 3) := dk_160 0 11 (dk_at dksX3_look_2 13 rfl rfl)
theorem dX3_look_62 : decode cX3_look 62 = .ok (.aload_n 0, 1) := dk_42 (dk_at dksX3_look_2 16 rfl rfl)
theorem dX3_look_63 : decode cX3_look 63 = .ok (.iconst 0, 1) := dk_3 (dk_at dksX3_look_2 17 rfl rfl)
theorem dX3_look_64 : decode cX3_look 64 = .ok (.putfield 149, 3) := dk_181 0 149 (dk_at dksX3_look_2 18 rfl rfl)
theorem dX3_look_67 : decode cX3_look 67 = .ok (.goto 200, 3) := dk_167 0 200 (dk_at dksX3_look_2 21 rfl rfl)
theorem dX3_look_70 : decode cX3_look 70 = .ok (.aload_n 0, 1) := dk_42 (dk_at dksX3_look_3 0 rfl rfl)
theorem dX3_look_71 : decode cX3_look 71 = .ok (.getfield 39, 3) := dk_180 0 39 (dk_at dksX3_look_3 1 rfl rfl)
theorem dX3_look_74 : decode cX3_look 74 = .ok (.aload_n 0, 1) := dk_42 (dk_at dksX3_look_3 4 rfl rfl)
theorem dX3_look_75 : decode cX3_look 75 = .ok (.getfield 139, 3) := dk_180 0 139 (dk_at dksX3_look_3 5 rfl rfl)
theorem dX3_look_78 : decode cX3_look 78 = .ok (.iaload, 1) := dk_46 (dk_at dksX3_look_3 8 rfl rfl)
theorem dX3_look_79 : decode cX3_look 79 = .ok (.invokestatic 152, 3) := dk_184 0 152 (dk_at dksX3_look_3 9 rfl rfl)
theorem dX3_look_82 : decode cX3_look 82 = .ok (.ifCond .eq 47, 3) := dk_153 0 47 (dk_at dksX3_look_3 12 rfl rfl)
theorem dX3_look_85 : decode cX3_look 85 = .ok (.aload_n 0, 1) := dk_42 (dk_at dksX3_look_3 15 rfl rfl)
theorem dX3_look_86 : decode cX3_look 86 = .ok (.iconst 1, 1) := dk_4 (dk_at dksX3_look_3 16 rfl rfl)
theorem dX3_look_87 : decode cX3_look 87 = .ok (.putfield 149, 3) := dk_181 0 149 (dk_at dksX3_look_3 17 rfl rfl)
theorem dX3_look_90 : decode cX3_look 90 = .ok (.aload_n 0, 1) := dk_42 (dk_at dksX3_look_3 20 rfl rfl)
theorem dX3_look_91 : decode cX3_look 91 = .ok (.getfield 139, 3) := dk_180 0 139 (dk_at dksX3_look_3 21 rfl rfl)
theorem dX3_look_94 : decode cX3_look 94 = .ok (.aload_n 0, 1) := dk_42 (dk_at dksX3_look_4 0 rfl rfl)
theorem dX3_look_95 : decode cX3_look 95 = .ok (.getfield 136, 3) := dk_180 0 136 (dk_at dksX3_look_4 1 rfl rfl)
theorem dX3_look_98 : decode cX3_look 98 = .ok (.if_icmp .ge 169, 3) := dk_162 0 169 (dk_at dksX3_look_4 4 rfl rfl)
theorem dX3_look_101 : decode cX3_look 101 = .ok (.aload_n 0, 1) := dk_42 (dk_at dksX3_look_4 7 rfl rfl)
theorem dX3_look_102 : decode cX3_look 102 = .ok (.getfield 39, 3) := dk_180 0 39 (dk_at dksX3_look_4 8 rfl rfl)
theorem dX3_look_105 : decode cX3_look 105 = .ok (.aload_n 0, 1) := dk_42 (dk_at dksX3_look_4 11 rfl rfl)
theorem dX3_look_106 : decode cX3_look 106 = .ok (.getfield 139, 3) := dk_180 0 139 (dk_at dksX3_look_4 12 rfl rfl)
theorem dX3_look_109 : decode cX3_look 109 = .ok (.iaload, 1) := dk_46 (dk_at dksX3_look_4 15 rfl rfl)
theorem dX3_look_110 : decode cX3_look 110 = .ok (.invokestatic 152, 3) := dk_184 0 152 (dk_at dksX3_look_4 16 rfl rfl)
theorem dX3_look_113 : decode cX3_look 113 = .ok (.ifCond .eq 154, 3) := dk_153 0 154 (dk_at dksX3_look_4 19 rfl rfl)
theorem dX3_look_116 : decode cX3_look 116 = .ok (.aload_n 0, 1) := dk_42 (dk_at dksX3_look_4 22 rfl rfl)
theorem dX3_look_117 : decode cX3_look 117 = .ok (.dup, 1) := dk_89 (dk_at dksX3_look_4 23 rfl rfl)
theorem dX3_look_118 : decode cX3_look 118 = .ok (.getfield 139, 3) := dk_180 0 139 (dk_at dksX3_look_5 0 rfl rfl)
theorem dX3_look_121 : decode cX3_look 121 = .ok (.iconst 1, 1) := dk_4 (dk_at dksX3_look_5 3 rfl rfl)
theorem dX3_look_122 : decode cX3_look 122 = .ok (.iadd, 1) := dk_96 (dk_at dksX3_look_5 4 rfl rfl)
theorem dX3_look_123 : decode cX3_look 123 = .ok (.putfield 139, 3) := dk_181 0 139 (dk_at dksX3_look_5 5 rfl rfl)
theorem dX3_look_126 : decode cX3_look 126 = .ok (.goto (-36), 3) := dk_167 255 220 (dk_at dksX3_look_5 8 rfl rfl)
theorem dX3_look_129 : decode cX3_look 129 = .ok (.aload_n 0, 1) := dk_42 (dk_at dksX3_look_5 11 rfl rfl)
theorem dX3_look_130 : decode cX3_look 130 = .ok (.getfield 39, 3) := dk_180 0 39 (dk_at dksX3_look_5 12 rfl rfl)
theorem dX3_look_133 : decode cX3_look 133 = .ok (.aload_n 0, 1) := dk_42 (dk_at dksX3_look_5 15 rfl rfl)
theorem dX3_look_134 : decode cX3_look 134 = .ok (.getfield 139, 3) := dk_180 0 139 (dk_at dksX3_look_5 16 rfl rfl)
theorem dX3_look_137 : decode cX3_look 137 = .ok (.iaload, 1) := dk_46 (dk_at dksX3_look_5 19 rfl rfl)
theorem dX3_look_138 : decode cX3_look 138 = .ok (.invokestatic 155, 3) := dk_184 0 155 (dk_at dksX3_look_5 20 rfl rfl)
theorem dX3_look_141 : decode cX3_look 141 = .ok (.ifCond .eq 93, 3) := dk_153 0 93 (dk_at dksX3_look_6 0 rfl rfl)
theorem dX3_look_144 : decode cX3_look 144 = .ok (.aload_n 0, 1) := dk_42 (dk_at dksX3_look_6 3 rfl rfl)
theorem dX3_look_145 : decode cX3_look 145 = .ok (.iconst 2, 1) := dk_5 (dk_at dksX3_look_6 4 rfl rfl)
theorem dX3_look_146 : decode cX3_look 146 = .ok (.putfield 149, 3) := dk_181 0 149 (dk_at dksX3_look_6 5 rfl rfl)
theorem dX3_look_149 : decode cX3_look 149 = .ok (.aload_n 0, 1) := dk_42 (dk_at dksX3_look_6 8 rfl rfl)
theorem dX3_look_150 : decode cX3_look 150 = .ok (.getfield 139, 3) := dk_180 0 139 (dk_at dksX3_look_6 9 rfl rfl)
theorem dX3_look_153 : decode cX3_look 153 = .ok (.aload_n 0, 1) := dk_42 (dk_at dksX3_look_6 12 rfl rfl)
theorem dX3_look_154 : decode cX3_look 154 = .ok (.getfield 136, 3) := dk_180 0 136 (dk_at dksX3_look_6 13 rfl rfl)
theorem dX3_look_157 : decode cX3_look 157 = .ok (.if_icmp .ge 110, 3) := dk_162 0 110 (dk_at dksX3_look_6 16 rfl rfl)
theorem dX3_look_160 : decode cX3_look 160 = .ok (.aload_n 0, 1) := dk_42 (dk_at dksX3_look_6 19 rfl rfl)
theorem dX3_look_161 : decode cX3_look 161 = .ok (.getfield 39, 3) := dk_180 0 39 (dk_at dksX3_look_6 20 rfl rfl)
theorem dX3_look_164 : decode cX3_look 164 = .ok (.aload_n 0, 1) := dk_42 (dk_at dksX3_look_6 23 rfl rfl)
theorem dX3_look_165 : decode cX3_look 165 = .ok (.getfield 139, 3) := dk_180 0 139 (dk_at dksX3_look_7 0 rfl rfl)
theorem dX3_look_168 : decode cX3_look 168 = .ok (.iaload, 1) := dk_46 (dk_at dksX3_look_7 3 rfl rfl)
theorem dX3_look_169 : decode cX3_look 169 = .ok (.invokestatic 155, 3) := dk_184 0 155 (dk_at dksX3_look_7 4 rfl rfl)
theorem dX3_look_172 : decode cX3_look 172 = .ok (.ifCond .eq 95, 3) := dk_153 0 95 (dk_at dksX3_look_7 7 rfl rfl)
theorem dX3_look_175 : decode cX3_look 175 = .ok (.aload_n 0, 1) := dk_42 (dk_at dksX3_look_7 10 rfl rfl)
theorem dX3_look_176 : decode cX3_look 176 = .ok (.aload_n 0, 1) := dk_42 (dk_at dksX3_look_7 11 rfl rfl)
theorem dX3_look_177 : decode cX3_look 177 = .ok (.getfield 139, 3) := dk_180 0 139 (dk_at dksX3_look_7 12 rfl rfl)
theorem dX3_look_180 : decode cX3_look 180 = .ok (.aload_n 0, 1) := dk_42 (dk_at dksX3_look_7 15 rfl rfl)
theorem dX3_look_181 : decode cX3_look 181 = .ok (.getfield 142, 3) := dk_180 0 142 (dk_at dksX3_look_7 16 rfl rfl)
theorem dX3_look_184 : decode cX3_look 184 = .ok (.isub, 1) := dk_100 (dk_at dksX3_look_7 19 rfl rfl)
theorem dX3_look_185 : decode cX3_look 185 = .ok (.iconst 2, 1) := dk_5 (dk_at dksX3_look_7 20 rfl rfl)
theorem dX3_look_186 : decode cX3_look 186 = .ok (.if_icmp .ge 29, 3) := dk_162 0 29 (dk_at dksX3_look_7 21 rfl rfl)
theorem dX3_look_189 : decode cX3_look 189 = .ok (.aload_n 0, 1) := dk_42 (dk_at dksX3_look_8 0 rfl rfl)
theorem dX3_look_190 : decode cX3_look 190 = .ok (.getfield 145, 3) := dk_180 0 145 (dk_at dksX3_look_8 1 rfl rfl)
theorem dX3_look_193 : decode cX3_look 193 = .ok (.ldc2_w 158, 3) := dk_20 0 158 (dk_at dksX3_look_8 4 rfl rfl)
theorem dX3_look_196 : decode cX3_look 196 = .ok (.lmul, 1) := dk_105 (dk_at dksX3_look_8 7 rfl rfl)
theorem dX3_look_197 : decode cX3_look 197 = .ok (.aload_n 0, 1) := dk_42 (dk_at dksX3_look_8 8 rfl rfl)
theorem dX3_look_198 : decode cX3_look 198 = .ok (.getfield 39, 3) := dk_180 0 39 (dk_at dksX3_look_8 9 rfl rfl)
theorem dX3_look_201 : decode cX3_look 201 = .ok (.aload_n 0, 1) := dk_42 (dk_at dksX3_look_8 12 rfl rfl)
theorem dX3_look_202 : decode cX3_look 202 = .ok (.getfield 139, 3) := dk_180 0 139 (dk_at dksX3_look_8 13 rfl rfl)
theorem dX3_look_205 : decode cX3_look 205 = .ok (.iaload, 1) := dk_46 (dk_at dksX3_look_8 16 rfl rfl)
theorem dX3_look_206 : decode cX3_look 206 = .ok (.i2l, 1) := dk_133 (dk_at dksX3_look_8 17 rfl rfl)
theorem dX3_look_207 : decode cX3_look 207 = .ok (.ladd, 1) := dk_97 (dk_at dksX3_look_8 18 rfl rfl)
theorem dX3_look_208 : decode cX3_look 208 = .ok (.ldc2_w 160, 3) := dk_20 0 160 (dk_at dksX3_look_8 19 rfl rfl)
theorem dX3_look_211 : decode cX3_look 211 = .ok (.lsub, 1) := dk_101 (dk_at dksX3_look_8 22 rfl rfl)
theorem dX3_look_212 : decode cX3_look 212 = .ok (.goto 6, 3) := dk_167 0 6 (dk_at dksX3_look_9 0 rfl rfl)
theorem dX3_look_215 : decode cX3_look 215 = .ok (.ldc2_w 162, 3) := dk_20 0 162 (dk_at dksX3_look_9 3 rfl rfl)
theorem dX3_look_218 : decode cX3_look 218 = .ok (.putfield 145, 3) := dk_181 0 145 (dk_at dksX3_look_9 6 rfl rfl)
theorem dX3_look_221 : decode cX3_look 221 = .ok (.aload_n 0, 1) := dk_42 (dk_at dksX3_look_9 9 rfl rfl)
theorem dX3_look_222 : decode cX3_look 222 = .ok (.dup, 1) := dk_89 (dk_at dksX3_look_9 10 rfl rfl)
theorem dX3_look_223 : decode cX3_look 223 = .ok (.getfield 139, 3) := dk_180 0 139 (dk_at dksX3_look_9 11 rfl rfl)
theorem dX3_look_226 : decode cX3_look 226 = .ok (.iconst 1, 1) := dk_4 (dk_at dksX3_look_9 14 rfl rfl)
theorem dX3_look_227 : decode cX3_look 227 = .ok (.iadd, 1) := dk_96 (dk_at dksX3_look_9 15 rfl rfl)
theorem dX3_look_228 : decode cX3_look 228 = .ok (.putfield 139, 3) := dk_181 0 139 (dk_at dksX3_look_9 16 rfl rfl)
theorem dX3_look_231 : decode cX3_look 231 = .ok (.goto (-82), 3) := dk_167 255 174 (dk_at dksX3_look_9 19 rfl rfl)
theorem dX3_look_234 : decode cX3_look 234 = .ok (.aload_n 0, 1) := dk_42 (dk_at dksX3_look_9 22 rfl rfl)
theorem dX3_look_235 : decode cX3_look 235 = .ok (.aload_n 0, 1) := dk_42 (dk_at dksX3_look_9 23 rfl rfl)
theorem dX3_look_236 : decode cX3_look 236 = .ok (.getfield 39, 3) := dk_180 0 39 (dk_at dksX3_look_10 0 rfl rfl)
theorem dX3_look_239 : decode cX3_look 239 = .ok (.aload_n 0, 1) := dk_42 (dk_at dksX3_look_10 3 rfl rfl)
theorem dX3_look_240 : decode cX3_look 240 = .ok (.getfield 139, 3) := dk_180 0 139 (dk_at dksX3_look_10 4 rfl rfl)
theorem dX3_look_243 : decode cX3_look 243 = .ok (.iaload, 1) := dk_46 (dk_at dksX3_look_10 7 rfl rfl)
theorem dX3_look_244 : decode cX3_look 244 = .ok (.bipush 59, 2) := dk_16 59 (dk_at dksX3_look_10 8 rfl rfl)
theorem dX3_look_246 : decode cX3_look 246 = .ok (.if_icmp .ne 7, 3) := dk_160 0 7 (dk_at dksX3_look_10 10 rfl rfl)
theorem dX3_look_249 : decode cX3_look 249 = .ok (.iconst 3, 1) := dk_6 (dk_at dksX3_look_10 13 rfl rfl)
theorem dX3_look_250 : decode cX3_look 250 = .ok (.goto 4, 3) := dk_167 0 4 (dk_at dksX3_look_10 14 rfl rfl)
theorem dX3_look_253 : decode cX3_look 253 = .ok (.iconst 4, 1) := dk_7 (dk_at dksX3_look_10 17 rfl rfl)
theorem dX3_look_254 : decode cX3_look 254 = .ok (.putfield 149, 3) := dk_181 0 149 (dk_at dksX3_look_10 18 rfl rfl)
theorem dX3_look_257 : decode cX3_look 257 = .ok (.aload_n 0, 1) := dk_42 (dk_at dksX3_look_10 21 rfl rfl)
theorem dX3_look_258 : decode cX3_look 258 = .ok (.dup, 1) := dk_89 (dk_at dksX3_look_10 22 rfl rfl)
theorem dX3_look_259 : decode cX3_look 259 = .ok (.getfield 139, 3) := dk_180 0 139 (dk_at dksX3_look_11 0 rfl rfl)
theorem dX3_look_262 : decode cX3_look 262 = .ok (.iconst 1, 1) := dk_4 (dk_at dksX3_look_11 3 rfl rfl)
theorem dX3_look_263 : decode cX3_look 263 = .ok (.iadd, 1) := dk_96 (dk_at dksX3_look_11 4 rfl rfl)
theorem dX3_look_264 : decode cX3_look 264 = .ok (.putfield 139, 3) := dk_181 0 139 (dk_at dksX3_look_11 5 rfl rfl)
theorem dX3_look_267 : decode cX3_look 267 = .ok (.return_, 1) := dk_177 (dk_at dksX3_look_11 8 rfl rfl)
abbrev cX3_isLetter : ByteArray := prog_17_method_21_code
def yX3_isLetter : MethodName := ⟨RX3, "isLetter", "(I)Z"⟩
def dkwX3_isLetter_0 : List UInt8 := [26, 16, 97, 161, 0, 13, 26, 16, 122, 163, 0, 7, 4, 167, 0, 4, 3, 172]
abbrev dktX3_isLetter_0 : List UInt8 := dkwX3_isLetter_0 ++ []
theorem dksX3_isLetter_0 : cX3_isLetter.data.toList.drop 0 = dktX3_isLetter_0 := by decide +kernel
theorem dX3_isLetter_0 : decode cX3_isLetter 0 = .ok (.iload_n 0, 1) := dk_26 (dk_at dksX3_isLetter_0 0 rfl rfl)
theorem dX3_isLetter_1 : decode cX3_isLetter 1 = .ok (.bipush 97, 2) := dk_16 97 (dk_at dksX3_isLetter_0 1 rfl rfl)
theorem dX3_isLetter_3 : decode cX3_isLetter 3 = .ok (.if_icmp .lt 13, 3) := dk_161 0 13 (dk_at dksX3_isLetter_0 3 rfl rfl)
theorem dX3_isLetter_6 : decode cX3_isLetter 6 = .ok (.iload_n 0, 1) := dk_26 (dk_at dksX3_isLetter_0 6 rfl rfl)
theorem dX3_isLetter_7 : decode cX3_isLetter 7 = .ok (.bipush 122, 2) := dk_16 122 (dk_at dksX3_isLetter_0 7 rfl rfl)
theorem dX3_isLetter_9 : decode cX3_isLetter 9 = .ok (.if_icmp .gt 7, 3) := dk_163 0 7 (dk_at dksX3_isLetter_0 9 rfl rfl)
theorem dX3_isLetter_12 : decode cX3_isLetter 12 = .ok (.iconst 1, 1) := dk_4 (dk_at dksX3_isLetter_0 12 rfl rfl)
theorem dX3_isLetter_13 : decode cX3_isLetter 13 = .ok (.goto 4, 3) := dk_167 0 4 (dk_at dksX3_isLetter_0 13 rfl rfl)
theorem dX3_isLetter_16 : decode cX3_isLetter 16 = .ok (.iconst 0, 1) := dk_3 (dk_at dksX3_isLetter_0 16 rfl rfl)
theorem dX3_isLetter_17 : decode cX3_isLetter 17 = .ok (.ireturn, 1) := dk_172 (dk_at dksX3_isLetter_0 17 rfl rfl)
abbrev cX3_isDigit : ByteArray := prog_17_method_22_code
def yX3_isDigit : MethodName := ⟨RX3, "isDigit", "(I)Z"⟩
def dkwX3_isDigit_0 : List UInt8 := [26, 16, 48, 161, 0, 13, 26, 16, 57, 163, 0, 7, 4, 167, 0, 4, 3, 172]
abbrev dktX3_isDigit_0 : List UInt8 := dkwX3_isDigit_0 ++ []
theorem dksX3_isDigit_0 : cX3_isDigit.data.toList.drop 0 = dktX3_isDigit_0 := by decide +kernel
theorem dX3_isDigit_0 : decode cX3_isDigit 0 = .ok (.iload_n 0, 1) := dk_26 (dk_at dksX3_isDigit_0 0 rfl rfl)
theorem dX3_isDigit_1 : decode cX3_isDigit 1 = .ok (.bipush 48, 2) := dk_16 48 (dk_at dksX3_isDigit_0 1 rfl rfl)
theorem dX3_isDigit_3 : decode cX3_isDigit 3 = .ok (.if_icmp .lt 13, 3) := dk_161 0 13 (dk_at dksX3_isDigit_0 3 rfl rfl)
theorem dX3_isDigit_6 : decode cX3_isDigit 6 = .ok (.iload_n 0, 1) := dk_26 (dk_at dksX3_isDigit_0 6 rfl rfl)
theorem dX3_isDigit_7 : decode cX3_isDigit 7 = .ok (.bipush 57, 2) := dk_16 57 (dk_at dksX3_isDigit_0 7 rfl rfl)
theorem dX3_isDigit_9 : decode cX3_isDigit 9 = .ok (.if_icmp .gt 7, 3) := dk_163 0 7 (dk_at dksX3_isDigit_0 9 rfl rfl)
theorem dX3_isDigit_12 : decode cX3_isDigit 12 = .ok (.iconst 1, 1) := dk_4 (dk_at dksX3_isDigit_0 12 rfl rfl)
theorem dX3_isDigit_13 : decode cX3_isDigit 13 = .ok (.goto 4, 3) := dk_167 0 4 (dk_at dksX3_isDigit_0 13 rfl rfl)
theorem dX3_isDigit_16 : decode cX3_isDigit 16 = .ok (.iconst 0, 1) := dk_3 (dk_at dksX3_isDigit_0 16 rfl rfl)
theorem dX3_isDigit_17 : decode cX3_isDigit 17 = .ok (.ireturn, 1) := dk_172 (dk_at dksX3_isDigit_0 17 rfl rfl)
abbrev cX3_statement : ByteArray := prog_17_method_27_code
def yX3_statement : MethodName := ⟨RX3, "statement", "([I)Z"⟩
def dkwX3_statement_10 : List UInt8 := [79, 4, 172]
abbrev dktX3_statement_10 : List UInt8 := dkwX3_statement_10 ++ []
def dkwX3_statement_9 : List UInt8 := [42, 18, 207, 43, 28, 7, 96, 3, 16, 99, 182, 0, 190, 154, 0, 5, 3, 172, 43, 7, 92, 46, 4, 96]
abbrev dktX3_statement_9 : List UInt8 := dkwX3_statement_9 ++ dktX3_statement_10
def dkwX3_statement_8 : List UInt8 := [43, 28, 6, 96, 3, 16, 99, 182, 0, 190, 154, 0, 5, 3, 172, 42, 18, 207, 182, 0, 177, 153, 0, 21]
abbrev dktX3_statement_8 : List UInt8 := dkwX3_statement_8 ++ dktX3_statement_9
def dkwX3_statement_7 : List UInt8 := [96, 3, 16, 9, 182, 0, 190, 154, 0, 5, 3, 172, 42, 18, 206, 182, 0, 177, 153, 0, 21, 42, 18, 206]
abbrev dktX3_statement_7 : List UInt8 := dkwX3_statement_7 ++ dktX3_statement_8
def dkwX3_statement_6 : List UInt8 := [153, 0, 34, 42, 18, 202, 43, 28, 4, 96, 3, 7, 182, 0, 190, 153, 0, 19, 42, 18, 204, 43, 28, 5]
abbrev dktX3_statement_6 : List UInt8 := dkwX3_statement_6 ++ dktX3_statement_7
def dkwX3_statement_5 : List UInt8 := [28, 6, 96, 3, 79, 43, 28, 7, 96, 3, 79, 42, 18, 196, 43, 28, 4, 16, 9, 182, 0, 190]
abbrev dktX3_statement_5 : List UInt8 := dkwX3_statement_5 ++ dktX3_statement_6
def dkwX3_statement_4 : List UInt8 := [7, 46, 6, 160, 0, 8, 42, 182, 0, 181, 172, 42, 182, 0, 185, 8, 8, 43, 7, 46, 104, 96, 61, 43]
abbrev dktX3_statement_4 : List UInt8 := dkwX3_statement_4 ++ dktX3_statement_5
def dkwX3_statement_3 : List UInt8 := [153, 0, 14, 42, 18, 198, 43, 6, 3, 6, 182, 0, 190, 172, 42, 18, 200, 182, 0, 177, 153, 0, 10, 43]
abbrev dktX3_statement_3 : List UInt8 := dkwX3_statement_3 ++ dktX3_statement_4
def dkwX3_statement_2 : List UInt8 := [5, 4, 16, 40, 182, 0, 190, 153, 0, 7, 4, 167, 0, 4, 3, 172, 42, 18, 198, 182, 0, 177]
abbrev dktX3_statement_2 : List UInt8 := dkwX3_statement_2 ++ dktX3_statement_3
def dkwX3_statement_1 : List UInt8 := [182, 0, 177, 153, 0, 37, 42, 18, 194, 43, 4, 3, 16, 99, 182, 0, 190, 153, 0, 21, 42, 18, 196, 43]
abbrev dktX3_statement_1 : List UInt8 := dkwX3_statement_1 ++ dktX3_statement_2
def dkwX3_statement_0 : List UInt8 := [42, 18, 188, 182, 0, 177, 153, 0, 15, 42, 18, 188, 43, 3, 4, 16, 6, 182, 0, 190, 172, 42, 18, 194]
abbrev dktX3_statement_0 : List UInt8 := dkwX3_statement_0 ++ dktX3_statement_1
theorem dksX3_statement_0 : cX3_statement.data.toList.drop 0 = dktX3_statement_0 := by decide +kernel
theorem dksX3_statement_1 : cX3_statement.data.toList.drop 24 = dktX3_statement_1 := dk_seg dksX3_statement_0 24 rfl rfl
theorem dksX3_statement_2 : cX3_statement.data.toList.drop 48 = dktX3_statement_2 := dk_seg dksX3_statement_1 24 rfl rfl
theorem dksX3_statement_3 : cX3_statement.data.toList.drop 70 = dktX3_statement_3 := dk_seg dksX3_statement_2 22 rfl rfl
theorem dksX3_statement_4 : cX3_statement.data.toList.drop 94 = dktX3_statement_4 := dk_seg dksX3_statement_3 24 rfl rfl
theorem dksX3_statement_5 : cX3_statement.data.toList.drop 118 = dktX3_statement_5 := dk_seg dksX3_statement_4 24 rfl rfl
theorem dksX3_statement_6 : cX3_statement.data.toList.drop 140 = dktX3_statement_6 := dk_seg dksX3_statement_5 22 rfl rfl
theorem dksX3_statement_7 : cX3_statement.data.toList.drop 164 = dktX3_statement_7 := dk_seg dksX3_statement_6 24 rfl rfl
theorem dksX3_statement_8 : cX3_statement.data.toList.drop 188 = dktX3_statement_8 := dk_seg dksX3_statement_7 24 rfl rfl
theorem dksX3_statement_9 : cX3_statement.data.toList.drop 212 = dktX3_statement_9 := dk_seg dksX3_statement_8 24 rfl rfl
theorem dksX3_statement_10 : cX3_statement.data.toList.drop 236 = dktX3_statement_10 := dk_seg dksX3_statement_9 24 rfl rfl
theorem dX3_statement_0 : decode cX3_statement 0 = .ok (.aload_n 0, 1) := dk_42 (dk_at dksX3_statement_0 0 rfl rfl)
theorem dX3_statement_1 : decode cX3_statement 1 = .ok (.ldc 188, 2) := dk_18 188 (dk_at dksX3_statement_0 1 rfl rfl)
theorem dX3_statement_3 : decode cX3_statement 3 = .ok (.invokevirtual 177, 3) := dk_182 0 177 (dk_at dksX3_statement_0 3 rfl rfl)
theorem dX3_statement_6 : decode cX3_statement 6 = .ok (.ifCond .eq 15, 3) := dk_153 0 15 (dk_at dksX3_statement_0 6 rfl rfl)
theorem dX3_statement_9 : decode cX3_statement 9 = .ok (.aload_n 0, 1) := dk_42 (dk_at dksX3_statement_0 9 rfl rfl)
theorem dX3_statement_10 : decode cX3_statement 10 = .ok (.ldc 188, 2) := dk_18 188 (dk_at dksX3_statement_0 10 rfl rfl)
theorem dX3_statement_12 : decode cX3_statement 12 = .ok (.aload_n 1, 1) := dk_43 (dk_at dksX3_statement_0 12 rfl rfl)
theorem dX3_statement_13 : decode cX3_statement 13 = .ok (.iconst 0, 1) := dk_3 (dk_at dksX3_statement_0 13 rfl rfl)
theorem dX3_statement_14 : decode cX3_statement 14 = .ok (.iconst 1, 1) := dk_4 (dk_at dksX3_statement_0 14 rfl rfl)
theorem dX3_statement_15 : decode cX3_statement 15 = .ok (.bipush 6, 2) := dk_16 6 (dk_at dksX3_statement_0 15 rfl rfl)
theorem dX3_statement_17 : decode cX3_statement 17 = .ok (.invokevirtual 190, 3) := dk_182 0 190 (dk_at dksX3_statement_0 17 rfl rfl)
theorem dX3_statement_20 : decode cX3_statement 20 = .ok (.ireturn, 1) := dk_172 (dk_at dksX3_statement_0 20 rfl rfl)
theorem dX3_statement_21 : decode cX3_statement 21 = .ok (.aload_n 0, 1) := dk_42 (dk_at dksX3_statement_0 21 rfl rfl)
theorem dX3_statement_22 : decode cX3_statement 22 = .ok (.ldc 194, 2) := dk_18 194 (dk_at dksX3_statement_0 22 rfl rfl)
theorem dX3_statement_24 : decode cX3_statement 24 = .ok (.invokevirtual 177, 3) := dk_182 0 177 (dk_at dksX3_statement_1 0 rfl rfl)
theorem dX3_statement_27 : decode cX3_statement 27 = .ok (.ifCond .eq 37, 3) := dk_153 0 37 (dk_at dksX3_statement_1 3 rfl rfl)
theorem dX3_statement_30 : decode cX3_statement 30 = .ok (.aload_n 0, 1) := dk_42 (dk_at dksX3_statement_1 6 rfl rfl)
theorem dX3_statement_31 : decode cX3_statement 31 = .ok (.ldc 194, 2) := dk_18 194 (dk_at dksX3_statement_1 7 rfl rfl)
theorem dX3_statement_33 : decode cX3_statement 33 = .ok (.aload_n 1, 1) := dk_43 (dk_at dksX3_statement_1 9 rfl rfl)
theorem dX3_statement_34 : decode cX3_statement 34 = .ok (.iconst 1, 1) := dk_4 (dk_at dksX3_statement_1 10 rfl rfl)
theorem dX3_statement_35 : decode cX3_statement 35 = .ok (.iconst 0, 1) := dk_3 (dk_at dksX3_statement_1 11 rfl rfl)
theorem dX3_statement_36 : decode cX3_statement 36 = .ok (.bipush 99, 2) := dk_16 99 (dk_at dksX3_statement_1 12 rfl rfl)
theorem dX3_statement_38 : decode cX3_statement 38 = .ok (.invokevirtual 190, 3) := dk_182 0 190 (dk_at dksX3_statement_1 14 rfl rfl)
theorem dX3_statement_41 : decode cX3_statement 41 = .ok (.ifCond .eq 21, 3) := dk_153 0 21 (dk_at dksX3_statement_1 17 rfl rfl)
theorem dX3_statement_44 : decode cX3_statement 44 = .ok (.aload_n 0, 1) := dk_42 (dk_at dksX3_statement_1 20 rfl rfl)
theorem dX3_statement_45 : decode cX3_statement 45 = .ok (.ldc 196, 2) := dk_18 196 (dk_at dksX3_statement_1 21 rfl rfl)
theorem dX3_statement_47 : decode cX3_statement 47 = .ok (.aload_n 1, 1) := dk_43 (dk_at dksX3_statement_1 23 rfl rfl)
theorem dX3_statement_48 : decode cX3_statement 48 = .ok (.iconst 2, 1) := dk_5 (dk_at dksX3_statement_2 0 rfl rfl)
theorem dX3_statement_49 : decode cX3_statement 49 = .ok (.iconst 1, 1) := dk_4 (dk_at dksX3_statement_2 1 rfl rfl)
theorem dX3_statement_50 : decode cX3_statement 50 = .ok (.bipush 40, 2) := dk_16 40 (dk_at dksX3_statement_2 2 rfl rfl)
theorem dX3_statement_52 : decode cX3_statement 52 = .ok (.invokevirtual 190, 3) := dk_182 0 190 (dk_at dksX3_statement_2 4 rfl rfl)
theorem dX3_statement_55 : decode cX3_statement 55 = .ok (.ifCond .eq 7, 3) := dk_153 0 7 (dk_at dksX3_statement_2 7 rfl rfl)
theorem dX3_statement_58 : decode cX3_statement 58 = .ok (.iconst 1, 1) := dk_4 (dk_at dksX3_statement_2 10 rfl rfl)
theorem dX3_statement_59 : decode cX3_statement 59 = .ok (.goto 4, 3) := dk_167 0 4 (dk_at dksX3_statement_2 11 rfl rfl)
theorem dX3_statement_62 : decode cX3_statement 62 = .ok (.iconst 0, 1) := dk_3 (dk_at dksX3_statement_2 14 rfl rfl)
theorem dX3_statement_63 : decode cX3_statement 63 = .ok (.ireturn, 1) := dk_172 (dk_at dksX3_statement_2 15 rfl rfl)
theorem dX3_statement_64 : decode cX3_statement 64 = .ok (.aload_n 0, 1) := dk_42 (dk_at dksX3_statement_2 16 rfl rfl)
theorem dX3_statement_65 : decode cX3_statement 65 = .ok (.ldc 198, 2) := dk_18 198 (dk_at dksX3_statement_2 17 rfl rfl)
theorem dX3_statement_67 : decode cX3_statement 67 = .ok (.invokevirtual 177, 3) := dk_182 0 177 (dk_at dksX3_statement_2 19 rfl rfl)
theorem dX3_statement_70 : decode cX3_statement 70 = .ok (.ifCond .eq 14, 3) := dk_153 0 14 (dk_at dksX3_statement_3 0 rfl rfl)
theorem dX3_statement_73 : decode cX3_statement 73 = .ok (.aload_n 0, 1) := dk_42 (dk_at dksX3_statement_3 3 rfl rfl)
theorem dX3_statement_74 : decode cX3_statement 74 = .ok (.ldc 198, 2) := dk_18 198 (dk_at dksX3_statement_3 4 rfl rfl)
theorem dX3_statement_76 : decode cX3_statement 76 = .ok (.aload_n 1, 1) := dk_43 (dk_at dksX3_statement_3 6 rfl rfl)
theorem dX3_statement_77 : decode cX3_statement 77 = .ok (.iconst 3, 1) := dk_6 (dk_at dksX3_statement_3 7 rfl rfl)
theorem dX3_statement_78 : decode cX3_statement 78 = .ok (.iconst 0, 1) := dk_3 (dk_at dksX3_statement_3 8 rfl rfl)
theorem dX3_statement_79 : decode cX3_statement 79 = .ok (.iconst 3, 1) := dk_6 (dk_at dksX3_statement_3 9 rfl rfl)
theorem dX3_statement_80 : decode cX3_statement 80 = .ok (.invokevirtual 190, 3) := dk_182 0 190 (dk_at dksX3_statement_3 10 rfl rfl)
theorem dX3_statement_83 : decode cX3_statement 83 = .ok (.ireturn, 1) := dk_172 (dk_at dksX3_statement_3 13 rfl rfl)
theorem dX3_statement_84 : decode cX3_statement 84 = .ok (.aload_n 0, 1) := dk_42 (dk_at dksX3_statement_3 14 rfl rfl)
theorem dX3_statement_85 : decode cX3_statement 85 = .ok (.ldc 200, 2) := dk_18 200 (dk_at dksX3_statement_3 15 rfl rfl)
theorem dX3_statement_87 : decode cX3_statement 87 = .ok (.invokevirtual 177, 3) := dk_182 0 177 (dk_at dksX3_statement_3 17 rfl rfl)
theorem dX3_statement_90 : decode cX3_statement 90 = .ok (.ifCond .eq 10, 3) := dk_153 0 10 (dk_at dksX3_statement_3 20 rfl rfl)
theorem dX3_statement_93 : decode cX3_statement 93 = .ok (.aload_n 1, 1) := dk_43 (dk_at dksX3_statement_3 23 rfl rfl)
theorem dX3_statement_94 : decode cX3_statement 94 = .ok (.iconst 4, 1) := dk_7 (dk_at dksX3_statement_4 0 rfl rfl)
theorem dX3_statement_95 : decode cX3_statement 95 = .ok (.iaload, 1) := dk_46 (dk_at dksX3_statement_4 1 rfl rfl)
theorem dX3_statement_96 : decode cX3_statement 96 = .ok (.iconst 3, 1) := dk_6 (dk_at dksX3_statement_4 2 rfl rfl)
theorem dX3_statement_97 : decode cX3_statement 97 = .ok (.if_icmp .ne 8, 3) := dk_160 0 8 (dk_at dksX3_statement_4 3 rfl rfl)
theorem dX3_statement_100 : decode cX3_statement 100 = .ok (.aload_n 0, 1) := dk_42 (dk_at dksX3_statement_4 6 rfl rfl)
theorem dX3_statement_101 : decode cX3_statement 101 = .ok (.invokevirtual 181, 3) := dk_182 0 181 (dk_at dksX3_statement_4 7 rfl rfl)
theorem dX3_statement_104 : decode cX3_statement 104 = .ok (.ireturn, 1) := dk_172 (dk_at dksX3_statement_4 10 rfl rfl)
theorem dX3_statement_105 : decode cX3_statement 105 = .ok (.aload_n 0, 1) := dk_42 (dk_at dksX3_statement_4 11 rfl rfl)
theorem dX3_statement_106 : decode cX3_statement 106 = .ok (.invokevirtual 185, 3) := dk_182 0 185 (dk_at dksX3_statement_4 12 rfl rfl)
theorem dX3_statement_109 : decode cX3_statement 109 = .ok (.iconst 5, 1) := dk_8 (dk_at dksX3_statement_4 15 rfl rfl)
theorem dX3_statement_110 : decode cX3_statement 110 = .ok (.iconst 5, 1) := dk_8 (dk_at dksX3_statement_4 16 rfl rfl)
theorem dX3_statement_111 : decode cX3_statement 111 = .ok (.aload_n 1, 1) := dk_43 (dk_at dksX3_statement_4 17 rfl rfl)
theorem dX3_statement_112 : decode cX3_statement 112 = .ok (.iconst 4, 1) := dk_7 (dk_at dksX3_statement_4 18 rfl rfl)
theorem dX3_statement_113 : decode cX3_statement 113 = .ok (.iaload, 1) := dk_46 (dk_at dksX3_statement_4 19 rfl rfl)
theorem dX3_statement_114 : decode cX3_statement 114 = .ok (.imul, 1) := dk_104 (dk_at dksX3_statement_4 20 rfl rfl)
theorem dX3_statement_115 : decode cX3_statement 115 = .ok (.iadd, 1) := dk_96 (dk_at dksX3_statement_4 21 rfl rfl)
theorem dX3_statement_116 : decode cX3_statement 116 = .ok (.istore_n 2, 1) := dk_61 (dk_at dksX3_statement_4 22 rfl rfl)
theorem dX3_statement_117 : decode cX3_statement 117 = .ok (.aload_n 1, 1) := dk_43 (dk_at dksX3_statement_4 23 rfl rfl)
theorem dX3_statement_118 : decode cX3_statement 118 = .ok (.iload_n 2, 1) := dk_28 (dk_at dksX3_statement_5 0 rfl rfl)
theorem dX3_statement_119 : decode cX3_statement 119 = .ok (.iconst 3, 1) := dk_6 (dk_at dksX3_statement_5 1 rfl rfl)
theorem dX3_statement_120 : decode cX3_statement 120 = .ok (.iadd, 1) := dk_96 (dk_at dksX3_statement_5 2 rfl rfl)
theorem dX3_statement_121 : decode cX3_statement 121 = .ok (.iconst 0, 1) := dk_3 (dk_at dksX3_statement_5 3 rfl rfl)
theorem dX3_statement_122 : decode cX3_statement 122 = .ok (.iastore, 1) := dk_79 (dk_at dksX3_statement_5 4 rfl rfl)
theorem dX3_statement_123 : decode cX3_statement 123 = .ok (.aload_n 1, 1) := dk_43 (dk_at dksX3_statement_5 5 rfl rfl)
theorem dX3_statement_124 : decode cX3_statement 124 = .ok (.iload_n 2, 1) := dk_28 (dk_at dksX3_statement_5 6 rfl rfl)
theorem dX3_statement_125 : decode cX3_statement 125 = .ok (.iconst 4, 1) := dk_7 (dk_at dksX3_statement_5 7 rfl rfl)
theorem dX3_statement_126 : decode cX3_statement 126 = .ok (.iadd, 1) := dk_96 (dk_at dksX3_statement_5 8 rfl rfl)
theorem dX3_statement_127 : decode cX3_statement 127 = .ok (.iconst 0, 1) := dk_3 (dk_at dksX3_statement_5 9 rfl rfl)
theorem dX3_statement_128 : decode cX3_statement 128 = .ok (.iastore, 1) := dk_79 (dk_at dksX3_statement_5 10 rfl rfl)
theorem dX3_statement_129 : decode cX3_statement 129 = .ok (.aload_n 0, 1) := dk_42 (dk_at dksX3_statement_5 11 rfl rfl)
theorem dX3_statement_130 : decode cX3_statement 130 = .ok (.ldc 196, 2) := dk_18 196 (dk_at dksX3_statement_5 12 rfl rfl)
theorem dX3_statement_132 : decode cX3_statement 132 = .ok (.aload_n 1, 1) := dk_43 (dk_at dksX3_statement_5 14 rfl rfl)
theorem dX3_statement_133 : decode cX3_statement 133 = .ok (.iload_n 2, 1) := dk_28 (dk_at dksX3_statement_5 15 rfl rfl)
theorem dX3_statement_134 : decode cX3_statement 134 = .ok (.iconst 1, 1) := dk_4 (dk_at dksX3_statement_5 16 rfl rfl)
theorem dX3_statement_135 : decode cX3_statement 135 = .ok (.bipush 9, 2) := dk_16 9 (dk_at dksX3_statement_5 17 rfl rfl)
theorem dX3_statement_137 : decode cX3_statement 137 = .ok (.invokevirtual 190, 3) := dk_182 0 190 (dk_at dksX3_statement_5 19 rfl rfl)
theorem dX3_statement_140 : decode cX3_statement 140 = .ok (.ifCond .eq 34, 3) := dk_153 0 34 (dk_at dksX3_statement_6 0 rfl rfl)
theorem dX3_statement_143 : decode cX3_statement 143 = .ok (.aload_n 0, 1) := dk_42 (dk_at dksX3_statement_6 3 rfl rfl)
theorem dX3_statement_144 : decode cX3_statement 144 = .ok (.ldc 202, 2) := dk_18 202 (dk_at dksX3_statement_6 4 rfl rfl)
theorem dX3_statement_146 : decode cX3_statement 146 = .ok (.aload_n 1, 1) := dk_43 (dk_at dksX3_statement_6 6 rfl rfl)
theorem dX3_statement_147 : decode cX3_statement 147 = .ok (.iload_n 2, 1) := dk_28 (dk_at dksX3_statement_6 7 rfl rfl)
theorem dX3_statement_148 : decode cX3_statement 148 = .ok (.iconst 1, 1) := dk_4 (dk_at dksX3_statement_6 8 rfl rfl)
theorem dX3_statement_149 : decode cX3_statement 149 = .ok (.iadd, 1) := dk_96 (dk_at dksX3_statement_6 9 rfl rfl)
theorem dX3_statement_150 : decode cX3_statement 150 = .ok (.iconst 0, 1) := dk_3 (dk_at dksX3_statement_6 10 rfl rfl)
theorem dX3_statement_151 : decode cX3_statement 151 = .ok (.iconst 4, 1) := dk_7 (dk_at dksX3_statement_6 11 rfl rfl)
theorem dX3_statement_152 : decode cX3_statement 152 = .ok (.invokevirtual 190, 3) := dk_182 0 190 (dk_at dksX3_statement_6 12 rfl rfl)
theorem dX3_statement_155 : decode cX3_statement 155 = .ok (.ifCond .eq 19, 3) := dk_153 0 19 (dk_at dksX3_statement_6 15 rfl rfl)
theorem dX3_statement_158 : decode cX3_statement 158 = .ok (.aload_n 0, 1) := dk_42 (dk_at dksX3_statement_6 18 rfl rfl)
theorem dX3_statement_159 : decode cX3_statement 159 = .ok (.ldc 204, 2) := dk_18 204 (dk_at dksX3_statement_6 19 rfl rfl)
theorem dX3_statement_161 : decode cX3_statement 161 = .ok (.aload_n 1, 1) := dk_43 (dk_at dksX3_statement_6 21 rfl rfl)
theorem dX3_statement_162 : decode cX3_statement 162 = .ok (.iload_n 2, 1) := dk_28 (dk_at dksX3_statement_6 22 rfl rfl)
theorem dX3_statement_163 : decode cX3_statement 163 = .ok (.iconst 2, 1) := dk_5 (dk_at dksX3_statement_6 23 rfl rfl)
theorem dX3_statement_164 : decode cX3_statement 164 = .ok (.iadd, 1) := dk_96 (dk_at dksX3_statement_7 0 rfl rfl)
theorem dX3_statement_165 : decode cX3_statement 165 = .ok (.iconst 0, 1) := dk_3 (dk_at dksX3_statement_7 1 rfl rfl)
theorem dX3_statement_166 : decode cX3_statement 166 = .ok (.bipush 9, 2) := dk_16 9 (dk_at dksX3_statement_7 2 rfl rfl)
theorem dX3_statement_168 : decode cX3_statement 168 = .ok (.invokevirtual 190, 3) := dk_182 0 190 (dk_at dksX3_statement_7 4 rfl rfl)
theorem dX3_statement_171 : decode cX3_statement 171 = .ok (.ifCond .ne 5, 3) := dk_154 0 5 (dk_at dksX3_statement_7 7 rfl rfl)
theorem dX3_statement_174 : decode cX3_statement 174 = .ok (.iconst 0, 1) := dk_3 (dk_at dksX3_statement_7 10 rfl rfl)
theorem dX3_statement_175 : decode cX3_statement 175 = .ok (.ireturn, 1) := dk_172 (dk_at dksX3_statement_7 11 rfl rfl)
theorem dX3_statement_176 : decode cX3_statement 176 = .ok (.aload_n 0, 1) := dk_42 (dk_at dksX3_statement_7 12 rfl rfl)
theorem dX3_statement_177 : decode cX3_statement 177 = .ok (.ldc 206, 2) := dk_18 206 (dk_at dksX3_statement_7 13 rfl rfl)
theorem dX3_statement_179 : decode cX3_statement 179 = .ok (.invokevirtual 177, 3) := dk_182 0 177 (dk_at dksX3_statement_7 15 rfl rfl)
theorem dX3_statement_182 : decode cX3_statement 182 = .ok (.ifCond .eq 21, 3) := dk_153 0 21 (dk_at dksX3_statement_7 18 rfl rfl)
theorem dX3_statement_185 : decode cX3_statement 185 = .ok (.aload_n 0, 1) := dk_42 (dk_at dksX3_statement_7 21 rfl rfl)
theorem dX3_statement_186 : decode cX3_statement 186 = .ok (.ldc 206, 2) := dk_18 206 (dk_at dksX3_statement_7 22 rfl rfl)
theorem dX3_statement_188 : decode cX3_statement 188 = .ok (.aload_n 1, 1) := dk_43 (dk_at dksX3_statement_8 0 rfl rfl)
theorem dX3_statement_189 : decode cX3_statement 189 = .ok (.iload_n 2, 1) := dk_28 (dk_at dksX3_statement_8 1 rfl rfl)
theorem dX3_statement_190 : decode cX3_statement 190 = .ok (.iconst 3, 1) := dk_6 (dk_at dksX3_statement_8 2 rfl rfl)
theorem dX3_statement_191 : decode cX3_statement 191 = .ok (.iadd, 1) := dk_96 (dk_at dksX3_statement_8 3 rfl rfl)
theorem dX3_statement_192 : decode cX3_statement 192 = .ok (.iconst 0, 1) := dk_3 (dk_at dksX3_statement_8 4 rfl rfl)
theorem dX3_statement_193 : decode cX3_statement 193 = .ok (.bipush 99, 2) := dk_16 99 (dk_at dksX3_statement_8 5 rfl rfl)
theorem dX3_statement_195 : decode cX3_statement 195 = .ok (.invokevirtual 190, 3) := dk_182 0 190 (dk_at dksX3_statement_8 7 rfl rfl)
theorem dX3_statement_198 : decode cX3_statement 198 = .ok (.ifCond .ne 5, 3) := dk_154 0 5 (dk_at dksX3_statement_8 10 rfl rfl)
theorem dX3_statement_201 : decode cX3_statement 201 = .ok (.iconst 0, 1) := dk_3 (dk_at dksX3_statement_8 13 rfl rfl)
theorem dX3_statement_202 : decode cX3_statement 202 = .ok (.ireturn, 1) := dk_172 (dk_at dksX3_statement_8 14 rfl rfl)
theorem dX3_statement_203 : decode cX3_statement 203 = .ok (.aload_n 0, 1) := dk_42 (dk_at dksX3_statement_8 15 rfl rfl)
theorem dX3_statement_204 : decode cX3_statement 204 = .ok (.ldc 207, 2) := dk_18 207 (dk_at dksX3_statement_8 16 rfl rfl)
theorem dX3_statement_206 : decode cX3_statement 206 = .ok (.invokevirtual 177, 3) := dk_182 0 177 (dk_at dksX3_statement_8 18 rfl rfl)
theorem dX3_statement_209 : decode cX3_statement 209 = .ok (.ifCond .eq 21, 3) := dk_153 0 21 (dk_at dksX3_statement_8 21 rfl rfl)
theorem dX3_statement_212 : decode cX3_statement 212 = .ok (.aload_n 0, 1) := dk_42 (dk_at dksX3_statement_9 0 rfl rfl)
theorem dX3_statement_213 : decode cX3_statement 213 = .ok (.ldc 207, 2) := dk_18 207 (dk_at dksX3_statement_9 1 rfl rfl)
theorem dX3_statement_215 : decode cX3_statement 215 = .ok (.aload_n 1, 1) := dk_43 (dk_at dksX3_statement_9 3 rfl rfl)
theorem dX3_statement_216 : decode cX3_statement 216 = .ok (.iload_n 2, 1) := dk_28 (dk_at dksX3_statement_9 4 rfl rfl)
theorem dX3_statement_217 : decode cX3_statement 217 = .ok (.iconst 4, 1) := dk_7 (dk_at dksX3_statement_9 5 rfl rfl)
theorem dX3_statement_218 : decode cX3_statement 218 = .ok (.iadd, 1) := dk_96 (dk_at dksX3_statement_9 6 rfl rfl)
theorem dX3_statement_219 : decode cX3_statement 219 = .ok (.iconst 0, 1) := dk_3 (dk_at dksX3_statement_9 7 rfl rfl)
theorem dX3_statement_220 : decode cX3_statement 220 = .ok (.bipush 99, 2) := dk_16 99 (dk_at dksX3_statement_9 8 rfl rfl)
theorem dX3_statement_222 : decode cX3_statement 222 = .ok (.invokevirtual 190, 3) := dk_182 0 190 (dk_at dksX3_statement_9 10 rfl rfl)
theorem dX3_statement_225 : decode cX3_statement 225 = .ok (.ifCond .ne 5, 3) := dk_154 0 5 (dk_at dksX3_statement_9 13 rfl rfl)
theorem dX3_statement_228 : decode cX3_statement 228 = .ok (.iconst 0, 1) := dk_3 (dk_at dksX3_statement_9 16 rfl rfl)
theorem dX3_statement_229 : decode cX3_statement 229 = .ok (.ireturn, 1) := dk_172 (dk_at dksX3_statement_9 17 rfl rfl)
theorem dX3_statement_230 : decode cX3_statement 230 = .ok (.aload_n 1, 1) := dk_43 (dk_at dksX3_statement_9 18 rfl rfl)
theorem dX3_statement_231 : decode cX3_statement 231 = .ok (.iconst 4, 1) := dk_7 (dk_at dksX3_statement_9 19 rfl rfl)
theorem dX3_statement_232 : decode cX3_statement 232 = .ok (.dup2, 1) := dk_92 (dk_at dksX3_statement_9 20 rfl rfl)
theorem dX3_statement_233 : decode cX3_statement 233 = .ok (.iaload, 1) := dk_46 (dk_at dksX3_statement_9 21 rfl rfl)
theorem dX3_statement_234 : decode cX3_statement 234 = .ok (.iconst 1, 1) := dk_4 (dk_at dksX3_statement_9 22 rfl rfl)
theorem dX3_statement_235 : decode cX3_statement 235 = .ok (.iadd, 1) := dk_96 (dk_at dksX3_statement_9 23 rfl rfl)
theorem dX3_statement_236 : decode cX3_statement 236 = .ok (.iastore, 1) := dk_79 (dk_at dksX3_statement_10 0 rfl rfl)
theorem dX3_statement_237 : decode cX3_statement 237 = .ok (.iconst 1, 1) := dk_4 (dk_at dksX3_statement_10 1 rfl rfl)
theorem dX3_statement_238 : decode cX3_statement 238 = .ok (.ireturn, 1) := dk_172 (dk_at dksX3_statement_10 2 rfl rfl)
abbrev cX3_isWord : ByteArray := prog_17_method_25_code
def yX3_isWord : MethodName := ⟨RX3, "isWord", "(Ljava/lang/String;)Z"⟩
def dkwX3_isWord_2 : List UInt8 := [28, 182, 0, 173, 159, 0, 5, 3, 172, 132, 2, 1, 167, 255, 224, 4, 172]
abbrev dktX3_isWord_2 : List UInt8 := dkwX3_isWord_2 ++ []
def dkwX3_isWord_1 : List UInt8 := [3, 172, 3, 61, 28, 43, 182, 0, 167, 162, 0, 30, 42, 180, 0, 39, 42, 180, 0, 142, 28, 96, 46, 43]
abbrev dktX3_isWord_1 : List UInt8 := dkwX3_isWord_1 ++ dktX3_isWord_2
def dkwX3_isWord_0 : List UInt8 := [42, 180, 0, 149, 4, 160, 0, 19, 42, 180, 0, 139, 42, 180, 0, 142, 100, 43, 182, 0, 167, 159, 0, 5]
abbrev dktX3_isWord_0 : List UInt8 := dkwX3_isWord_0 ++ dktX3_isWord_1
theorem dksX3_isWord_0 : cX3_isWord.data.toList.drop 0 = dktX3_isWord_0 := by decide +kernel
theorem dksX3_isWord_1 : cX3_isWord.data.toList.drop 24 = dktX3_isWord_1 := dk_seg dksX3_isWord_0 24 rfl rfl
theorem dksX3_isWord_2 : cX3_isWord.data.toList.drop 48 = dktX3_isWord_2 := dk_seg dksX3_isWord_1 24 rfl rfl
theorem dX3_isWord_0 : decode cX3_isWord 0 = .ok (.aload_n 0, 1) := dk_42 (dk_at dksX3_isWord_0 0 rfl rfl)
theorem dX3_isWord_1 : decode cX3_isWord 1 = .ok (.getfield 149, 3) := dk_180 0 149 (dk_at dksX3_isWord_0 1 rfl rfl)
theorem dX3_isWord_4 : decode cX3_isWord 4 = .ok (.iconst 1, 1) := dk_4 (dk_at dksX3_isWord_0 4 rfl rfl)
theorem dX3_isWord_5 : decode cX3_isWord 5 = .ok (.if_icmp .ne 19, 3) := dk_160 0 19 (dk_at dksX3_isWord_0 5 rfl rfl)
theorem dX3_isWord_8 : decode cX3_isWord 8 = .ok (.aload_n 0, 1) := dk_42 (dk_at dksX3_isWord_0 8 rfl rfl)
theorem dX3_isWord_9 : decode cX3_isWord 9 = .ok (.getfield 139, 3) := dk_180 0 139 (dk_at dksX3_isWord_0 9 rfl rfl)
theorem dX3_isWord_12 : decode cX3_isWord 12 = .ok (.aload_n 0, 1) := dk_42 (dk_at dksX3_isWord_0 12 rfl rfl)
theorem dX3_isWord_13 : decode cX3_isWord 13 = .ok (.getfield 142, 3) := dk_180 0 142 (dk_at dksX3_isWord_0 13 rfl rfl)
theorem dX3_isWord_16 : decode cX3_isWord 16 = .ok (.isub, 1) := dk_100 (dk_at dksX3_isWord_0 16 rfl rfl)
theorem dX3_isWord_17 : decode cX3_isWord 17 = .ok (.aload_n 1, 1) := dk_43 (dk_at dksX3_isWord_0 17 rfl rfl)
theorem dX3_isWord_18 : decode cX3_isWord 18 = .ok (.invokevirtual 167, 3) := dk_182 0 167 (dk_at dksX3_isWord_0 18 rfl rfl)
theorem dX3_isWord_21 : decode cX3_isWord 21 = .ok (.if_icmp .eq 5, 3) := dk_159 0 5 (dk_at dksX3_isWord_0 21 rfl rfl)
theorem dX3_isWord_24 : decode cX3_isWord 24 = .ok (.iconst 0, 1) := dk_3 (dk_at dksX3_isWord_1 0 rfl rfl)
theorem dX3_isWord_25 : decode cX3_isWord 25 = .ok (.ireturn, 1) := dk_172 (dk_at dksX3_isWord_1 1 rfl rfl)
theorem dX3_isWord_26 : decode cX3_isWord 26 = .ok (.iconst 0, 1) := dk_3 (dk_at dksX3_isWord_1 2 rfl rfl)
theorem dX3_isWord_27 : decode cX3_isWord 27 = .ok (.istore_n 2, 1) := dk_61 (dk_at dksX3_isWord_1 3 rfl rfl)
theorem dX3_isWord_28 : decode cX3_isWord 28 = .ok (.iload_n 2, 1) := dk_28 (dk_at dksX3_isWord_1 4 rfl rfl)
theorem dX3_isWord_29 : decode cX3_isWord 29 = .ok (.aload_n 1, 1) := dk_43 (dk_at dksX3_isWord_1 5 rfl rfl)
theorem dX3_isWord_30 : decode cX3_isWord 30 = .ok (.invokevirtual 167, 3) := dk_182 0 167 (dk_at dksX3_isWord_1 6 rfl rfl)
theorem dX3_isWord_33 : decode cX3_isWord 33 = .ok (.if_icmp .ge 30, 3) := dk_162 0 30 (dk_at dksX3_isWord_1 9 rfl rfl)
theorem dX3_isWord_36 : decode cX3_isWord 36 = .ok (.aload_n 0, 1) := dk_42 (dk_at dksX3_isWord_1 12 rfl rfl)
theorem dX3_isWord_37 : decode cX3_isWord 37 = .ok (.getfield 39, 3) := dk_180 0 39 (dk_at dksX3_isWord_1 13 rfl rfl)
theorem dX3_isWord_40 : decode cX3_isWord 40 = .ok (.aload_n 0, 1) := dk_42 (dk_at dksX3_isWord_1 16 rfl rfl)
theorem dX3_isWord_41 : decode cX3_isWord 41 = .ok (.getfield 142, 3) := dk_180 0 142 (dk_at dksX3_isWord_1 17 rfl rfl)
theorem dX3_isWord_44 : decode cX3_isWord 44 = .ok (.iload_n 2, 1) := dk_28 (dk_at dksX3_isWord_1 20 rfl rfl)
theorem dX3_isWord_45 : decode cX3_isWord 45 = .ok (.iadd, 1) := dk_96 (dk_at dksX3_isWord_1 21 rfl rfl)
theorem dX3_isWord_46 : decode cX3_isWord 46 = .ok (.iaload, 1) := dk_46 (dk_at dksX3_isWord_1 22 rfl rfl)
theorem dX3_isWord_47 : decode cX3_isWord 47 = .ok (.aload_n 1, 1) := dk_43 (dk_at dksX3_isWord_1 23 rfl rfl)
theorem dX3_isWord_48 : decode cX3_isWord 48 = .ok (.iload_n 2, 1) := dk_28 (dk_at dksX3_isWord_2 0 rfl rfl)
theorem dX3_isWord_49 : decode cX3_isWord 49 = .ok (.invokevirtual 173, 3) := dk_182 0 173 (dk_at dksX3_isWord_2 1 rfl rfl)
theorem dX3_isWord_52 : decode cX3_isWord 52 = .ok (.if_icmp .eq 5, 3) := dk_159 0 5 (dk_at dksX3_isWord_2 4 rfl rfl)
theorem dX3_isWord_55 : decode cX3_isWord 55 = .ok (.iconst 0, 1) := dk_3 (dk_at dksX3_isWord_2 7 rfl rfl)
theorem dX3_isWord_56 : decode cX3_isWord 56 = .ok (.ireturn, 1) := dk_172 (dk_at dksX3_isWord_2 8 rfl rfl)
theorem dX3_isWord_57 : decode cX3_isWord 57 = .ok (.iinc 2 1, 3) := dk_132 2 1 (dk_at dksX3_isWord_2 9 rfl rfl)
theorem dX3_isWord_60 : decode cX3_isWord 60 = .ok (.goto (-32), 3) := dk_167 255 224 (dk_at dksX3_isWord_2 12 rfl rfl)
theorem dX3_isWord_63 : decode cX3_isWord 63 = .ok (.iconst 1, 1) := dk_4 (dk_at dksX3_isWord_2 15 rfl rfl)
theorem dX3_isWord_64 : decode cX3_isWord 64 = .ok (.ireturn, 1) := dk_172 (dk_at dksX3_isWord_2 16 rfl rfl)
abbrev cX3_told : ByteArray := prog_17_method_26_code
def yX3_told : MethodName := ⟨RX3, "told", "(Ljava/lang/String;[IIII)Z"⟩
def dkwX3_told_2 : List UInt8 := [44, 29, 42, 180, 0, 145, 136, 79, 42, 182, 0, 185, 4, 172]
abbrev dktX3_told_2 : List UInt8 := dkwX3_told_2 ++ []
def dkwX3_told_1 : List UInt8 := [160, 0, 19, 42, 180, 0, 145, 21, 4, 133, 21, 5, 133, 184, 0, 94, 154, 0, 8, 42, 182, 0, 181, 172]
abbrev dktX3_told_1 : List UInt8 := dkwX3_told_1 ++ dktX3_told_2
def dkwX3_told_0 : List UInt8 := [42, 43, 182, 0, 177, 154, 0, 8, 42, 182, 0, 181, 172, 42, 182, 0, 185, 42, 180, 0, 149, 5]
abbrev dktX3_told_0 : List UInt8 := dkwX3_told_0 ++ dktX3_told_1
theorem dksX3_told_0 : cX3_told.data.toList.drop 0 = dktX3_told_0 := by decide +kernel
theorem dksX3_told_1 : cX3_told.data.toList.drop 22 = dktX3_told_1 := dk_seg dksX3_told_0 22 rfl rfl
theorem dksX3_told_2 : cX3_told.data.toList.drop 46 = dktX3_told_2 := dk_seg dksX3_told_1 24 rfl rfl
theorem dX3_told_0 : decode cX3_told 0 = .ok (.aload_n 0, 1) := dk_42 (dk_at dksX3_told_0 0 rfl rfl)
theorem dX3_told_1 : decode cX3_told 1 = .ok (.aload_n 1, 1) := dk_43 (dk_at dksX3_told_0 1 rfl rfl)
theorem dX3_told_2 : decode cX3_told 2 = .ok (.invokevirtual 177, 3) := dk_182 0 177 (dk_at dksX3_told_0 2 rfl rfl)
theorem dX3_told_5 : decode cX3_told 5 = .ok (.ifCond .ne 8, 3) := dk_154 0 8 (dk_at dksX3_told_0 5 rfl rfl)
theorem dX3_told_8 : decode cX3_told 8 = .ok (.aload_n 0, 1) := dk_42 (dk_at dksX3_told_0 8 rfl rfl)
theorem dX3_told_9 : decode cX3_told 9 = .ok (.invokevirtual 181, 3) := dk_182 0 181 (dk_at dksX3_told_0 9 rfl rfl)
theorem dX3_told_12 : decode cX3_told 12 = .ok (.ireturn, 1) := dk_172 (dk_at dksX3_told_0 12 rfl rfl)
theorem dX3_told_13 : decode cX3_told 13 = .ok (.aload_n 0, 1) := dk_42 (dk_at dksX3_told_0 13 rfl rfl)
theorem dX3_told_14 : decode cX3_told 14 = .ok (.invokevirtual 185, 3) := dk_182 0 185 (dk_at dksX3_told_0 14 rfl rfl)
theorem dX3_told_17 : decode cX3_told 17 = .ok (.aload_n 0, 1) := dk_42 (dk_at dksX3_told_0 17 rfl rfl)
theorem dX3_told_18 : decode cX3_told 18 = .ok (.getfield 149, 3) := dk_180 0 149 (dk_at dksX3_told_0 18 rfl rfl)
theorem dX3_told_21 : decode cX3_told 21 = .ok (.iconst 2, 1) := dk_5 (dk_at dksX3_told_0 21 rfl rfl)
theorem dX3_told_22 : decode cX3_told 22 = .ok (.if_icmp .ne 19, 3) := dk_160 0 19 (dk_at dksX3_told_1 0 rfl rfl)
theorem dX3_told_25 : decode cX3_told 25 = .ok (.aload_n 0, 1) := dk_42 (dk_at dksX3_told_1 3 rfl rfl)
theorem dX3_told_26 : decode cX3_told 26 = .ok (.getfield 145, 3) := dk_180 0 145 (dk_at dksX3_told_1 4 rfl rfl)
theorem dX3_told_29 : decode cX3_told 29 = .ok (.iload 4, 2) := dk_21 4 (dk_at dksX3_told_1 7 rfl rfl)
theorem dX3_told_31 : decode cX3_told 31 = .ok (.i2l, 1) := dk_133 (dk_at dksX3_told_1 9 rfl rfl)
theorem dX3_told_32 : decode cX3_told 32 = .ok (.iload 5, 2) := dk_21 5 (dk_at dksX3_told_1 10 rfl rfl)
theorem dX3_told_34 : decode cX3_told 34 = .ok (.i2l, 1) := dk_133 (dk_at dksX3_told_1 12 rfl rfl)
theorem dX3_told_35 : decode cX3_told 35 = .ok (.invokestatic 94, 3) := dk_184 0 94 (dk_at dksX3_told_1 13 rfl rfl)
theorem dX3_told_38 : decode cX3_told 38 = .ok (.ifCond .ne 8, 3) := dk_154 0 8 (dk_at dksX3_told_1 16 rfl rfl)
theorem dX3_told_41 : decode cX3_told 41 = .ok (.aload_n 0, 1) := dk_42 (dk_at dksX3_told_1 19 rfl rfl)
theorem dX3_told_42 : decode cX3_told 42 = .ok (.invokevirtual 181, 3) := dk_182 0 181 (dk_at dksX3_told_1 20 rfl rfl)
theorem dX3_told_45 : decode cX3_told 45 = .ok (.ireturn, 1) := dk_172 (dk_at dksX3_told_1 23 rfl rfl)
theorem dX3_told_46 : decode cX3_told 46 = .ok (.aload_n 2, 1) := dk_44 (dk_at dksX3_told_2 0 rfl rfl)
theorem dX3_told_47 : decode cX3_told 47 = .ok (.iload_n 3, 1) := dk_29 (dk_at dksX3_told_2 1 rfl rfl)
theorem dX3_told_48 : decode cX3_told 48 = .ok (.aload_n 0, 1) := dk_42 (dk_at dksX3_told_2 2 rfl rfl)
theorem dX3_told_49 : decode cX3_told 49 = .ok (.getfield 145, 3) := dk_180 0 145 (dk_at dksX3_told_2 3 rfl rfl)
theorem dX3_told_52 : decode cX3_told 52 = .ok (.l2i, 1) := dk_136 (dk_at dksX3_told_2 6 rfl rfl)
theorem dX3_told_53 : decode cX3_told 53 = .ok (.iastore, 1) := dk_79 (dk_at dksX3_told_2 7 rfl rfl)
theorem dX3_told_54 : decode cX3_told 54 = .ok (.aload_n 0, 1) := dk_42 (dk_at dksX3_told_2 8 rfl rfl)
theorem dX3_told_55 : decode cX3_told 55 = .ok (.invokevirtual 185, 3) := dk_182 0 185 (dk_at dksX3_told_2 9 rfl rfl)
theorem dX3_told_58 : decode cX3_told 58 = .ok (.iconst 1, 1) := dk_4 (dk_at dksX3_told_2 12 rfl rfl)
theorem dX3_told_59 : decode cX3_told 59 = .ok (.ireturn, 1) := dk_172 (dk_at dksX3_told_2 13 rfl rfl)
abbrev cX3_wrong : ByteArray := prog_17_method_24_code
def yX3_wrong : MethodName := ⟨RX3, "wrong", "()Z"⟩
def dkwX3_wrong_0 : List UInt8 := [42, 42, 180, 0, 142, 181, 0, 164, 3, 172]
abbrev dktX3_wrong_0 : List UInt8 := dkwX3_wrong_0 ++ []
theorem dksX3_wrong_0 : cX3_wrong.data.toList.drop 0 = dktX3_wrong_0 := by decide +kernel
theorem dX3_wrong_0 : decode cX3_wrong 0 = .ok (.aload_n 0, 1) := dk_42 (dk_at dksX3_wrong_0 0 rfl rfl)
theorem dX3_wrong_1 : decode cX3_wrong 1 = .ok (.aload_n 0, 1) := dk_42 (dk_at dksX3_wrong_0 1 rfl rfl)
theorem dX3_wrong_2 : decode cX3_wrong 2 = .ok (.getfield 142, 3) := dk_180 0 142 (dk_at dksX3_wrong_0 2 rfl rfl)
theorem dX3_wrong_5 : decode cX3_wrong 5 = .ok (.putfield 164, 3) := dk_181 0 164 (dk_at dksX3_wrong_0 5 rfl rfl)
theorem dX3_wrong_8 : decode cX3_wrong 8 = .ok (.iconst 0, 1) := dk_3 (dk_at dksX3_wrong_0 8 rfl rfl)
theorem dX3_wrong_9 : decode cX3_wrong 9 = .ok (.ireturn, 1) := dk_172 (dk_at dksX3_wrong_0 9 rfl rfl)
abbrev cX3_houseOf : ByteArray := prog_17_method_30_code
def yX3_houseOf : MethodName := ⟨RX3, "houseOf", "(II)I"⟩
def dkwX3_houseOf_1 : List UInt8 := [27, 50, 28, 46, 167, 0, 9, 42, 16, 254, 182, 0, 119, 172]
abbrev dktX3_houseOf_1 : List UInt8 := dkwX3_houseOf_1 ++ []
def dkwX3_houseOf_0 : List UInt8 := [42, 27, 182, 0, 106, 153, 0, 26, 28, 133, 9, 20, 0, 115, 184, 0, 94, 153, 0, 14, 42, 180, 0, 45]
abbrev dktX3_houseOf_0 : List UInt8 := dkwX3_houseOf_0 ++ dktX3_houseOf_1
theorem dksX3_houseOf_0 : cX3_houseOf.data.toList.drop 0 = dktX3_houseOf_0 := by decide +kernel
theorem dksX3_houseOf_1 : cX3_houseOf.data.toList.drop 24 = dktX3_houseOf_1 := dk_seg dksX3_houseOf_0 24 rfl rfl
theorem dX3_houseOf_0 : decode cX3_houseOf 0 = .ok (.aload_n 0, 1) := dk_42 (dk_at dksX3_houseOf_0 0 rfl rfl)
theorem dX3_houseOf_1 : decode cX3_houseOf 1 = .ok (.iload_n 1, 1) := dk_27 (dk_at dksX3_houseOf_0 1 rfl rfl)
theorem dX3_houseOf_2 : decode cX3_houseOf 2 = .ok (.invokevirtual 106, 3) := dk_182 0 106 (dk_at dksX3_houseOf_0 2 rfl rfl)
theorem dX3_houseOf_5 : decode cX3_houseOf 5 = .ok (.ifCond .eq 26, 3) := dk_153 0 26 (dk_at dksX3_houseOf_0 5 rfl rfl)
theorem dX3_houseOf_8 : decode cX3_houseOf 8 = .ok (.iload_n 2, 1) := dk_28 (dk_at dksX3_houseOf_0 8 rfl rfl)
theorem dX3_houseOf_9 : decode cX3_houseOf 9 = .ok (.i2l, 1) := dk_133 (dk_at dksX3_houseOf_0 9 rfl rfl)
theorem dX3_houseOf_10 : decode cX3_houseOf 10 = .ok (.lconst 0, 1) := dk_9 (dk_at dksX3_houseOf_0 10 rfl rfl)
theorem dX3_houseOf_11 : decode cX3_houseOf 11 = .ok (.ldc2_w 115, 3) := dk_20 0 115 (dk_at dksX3_houseOf_0 11 rfl rfl)
theorem dX3_houseOf_14 : decode cX3_houseOf 14 = .ok (.invokestatic 94, 3) := dk_184 0 94 (dk_at dksX3_houseOf_0 14 rfl rfl)
theorem dX3_houseOf_17 : decode cX3_houseOf 17 = .ok (.ifCond .eq 14, 3) := dk_153 0 14 (dk_at dksX3_houseOf_0 17 rfl rfl)
theorem dX3_houseOf_20 : decode cX3_houseOf 20 = .ok (.aload_n 0, 1) := dk_42 (dk_at dksX3_houseOf_0 20 rfl rfl)
theorem dX3_houseOf_21 : decode cX3_houseOf 21 = .ok (.getfield 45, 3) := dk_180 0 45 (dk_at dksX3_houseOf_0 21 rfl rfl)
theorem dX3_houseOf_24 : decode cX3_houseOf 24 = .ok (.iload_n 1, 1) := dk_27 (dk_at dksX3_houseOf_1 0 rfl rfl)
theorem dX3_houseOf_25 : decode cX3_houseOf 25 = .ok (.aaload, 1) := dk_50 (dk_at dksX3_houseOf_1 1 rfl rfl)
theorem dX3_houseOf_26 : decode cX3_houseOf 26 = .ok (.iload_n 2, 1) := dk_28 (dk_at dksX3_houseOf_1 2 rfl rfl)
theorem dX3_houseOf_27 : decode cX3_houseOf 27 = .ok (.iaload, 1) := dk_46 (dk_at dksX3_houseOf_1 3 rfl rfl)
theorem dX3_houseOf_28 : decode cX3_houseOf 28 = .ok (.goto 9, 3) := dk_167 0 9 (dk_at dksX3_houseOf_1 4 rfl rfl)
theorem dX3_houseOf_31 : decode cX3_houseOf 31 = .ok (.aload_n 0, 1) := dk_42 (dk_at dksX3_houseOf_1 7 rfl rfl)
theorem dX3_houseOf_32 : decode cX3_houseOf 32 = .ok (.bipush (-2), 2) := dk_16 254 (dk_at dksX3_houseOf_1 8 rfl rfl)
theorem dX3_houseOf_34 : decode cX3_houseOf 34 = .ok (.invokevirtual 119, 3) := dk_182 0 119 (dk_at dksX3_houseOf_1 10 rfl rfl)
theorem dX3_houseOf_37 : decode cX3_houseOf 37 = .ok (.ireturn, 1) := dk_172 (dk_at dksX3_houseOf_1 13 rfl rfl)
abbrev cX3_isHouse : ByteArray := prog_17_method_4_code
def yX3_isHouse : MethodName := ⟨RX3, "isHouse", "(I)Z"⟩
def dkwX3_isHouse_0 : List UInt8 := [27, 133, 9, 42, 180, 0, 91, 4, 100, 133, 184, 0, 94, 172]
abbrev dktX3_isHouse_0 : List UInt8 := dkwX3_isHouse_0 ++ []
theorem dksX3_isHouse_0 : cX3_isHouse.data.toList.drop 0 = dktX3_isHouse_0 := by decide +kernel
theorem dX3_isHouse_0 : decode cX3_isHouse 0 = .ok (.iload_n 1, 1) := dk_27 (dk_at dksX3_isHouse_0 0 rfl rfl)
theorem dX3_isHouse_1 : decode cX3_isHouse 1 = .ok (.i2l, 1) := dk_133 (dk_at dksX3_isHouse_0 1 rfl rfl)
theorem dX3_isHouse_2 : decode cX3_isHouse 2 = .ok (.lconst 0, 1) := dk_9 (dk_at dksX3_isHouse_0 2 rfl rfl)
theorem dX3_isHouse_3 : decode cX3_isHouse 3 = .ok (.aload_n 0, 1) := dk_42 (dk_at dksX3_isHouse_0 3 rfl rfl)
theorem dX3_isHouse_4 : decode cX3_isHouse 4 = .ok (.getfield 91, 3) := dk_180 0 91 (dk_at dksX3_isHouse_0 4 rfl rfl)
theorem dX3_isHouse_7 : decode cX3_isHouse 7 = .ok (.iconst 1, 1) := dk_4 (dk_at dksX3_isHouse_0 7 rfl rfl)
theorem dX3_isHouse_8 : decode cX3_isHouse 8 = .ok (.isub, 1) := dk_100 (dk_at dksX3_isHouse_0 8 rfl rfl)
theorem dX3_isHouse_9 : decode cX3_isHouse 9 = .ok (.i2l, 1) := dk_133 (dk_at dksX3_isHouse_0 9 rfl rfl)
theorem dX3_isHouse_10 : decode cX3_isHouse 10 = .ok (.invokestatic 94, 3) := dk_184 0 94 (dk_at dksX3_isHouse_0 10 rfl rfl)
theorem dX3_isHouse_13 : decode cX3_isHouse 13 = .ok (.ireturn, 1) := dk_172 (dk_at dksX3_isHouse_0 13 rfl rfl)
abbrev cX3_sortOf : ByteArray := prog_17_method_31_code
def yX3_sortOf : MethodName := ⟨RX3, "sortOf", "(III)I"⟩
def dkwX3_sortOf_2 : List UInt8 := [180, 0, 45, 27, 50, 8, 8, 28, 104, 96, 29, 96, 46, 172]
abbrev dktX3_sortOf_2 : List UInt8 := dkwX3_sortOf_2 ++ []
def dkwX3_sortOf_1 : List UInt8 := [153, 0, 15, 29, 133, 9, 20, 0, 115, 184, 0, 94, 154, 0, 10, 42, 16, 254, 182, 0, 119, 172, 42]
abbrev dktX3_sortOf_1 : List UInt8 := dkwX3_sortOf_1 ++ dktX3_sortOf_2
def dkwX3_sortOf_0 : List UInt8 := [42, 27, 182, 0, 106, 153, 0, 32, 28, 133, 9, 42, 27, 182, 0, 98, 4, 100, 133, 184, 0, 94]
abbrev dktX3_sortOf_0 : List UInt8 := dkwX3_sortOf_0 ++ dktX3_sortOf_1
theorem dksX3_sortOf_0 : cX3_sortOf.data.toList.drop 0 = dktX3_sortOf_0 := by decide +kernel
theorem dksX3_sortOf_1 : cX3_sortOf.data.toList.drop 22 = dktX3_sortOf_1 := dk_seg dksX3_sortOf_0 22 rfl rfl
theorem dksX3_sortOf_2 : cX3_sortOf.data.toList.drop 45 = dktX3_sortOf_2 := dk_seg dksX3_sortOf_1 23 rfl rfl
theorem dX3_sortOf_0 : decode cX3_sortOf 0 = .ok (.aload_n 0, 1) := dk_42 (dk_at dksX3_sortOf_0 0 rfl rfl)
theorem dX3_sortOf_1 : decode cX3_sortOf 1 = .ok (.iload_n 1, 1) := dk_27 (dk_at dksX3_sortOf_0 1 rfl rfl)
theorem dX3_sortOf_2 : decode cX3_sortOf 2 = .ok (.invokevirtual 106, 3) := dk_182 0 106 (dk_at dksX3_sortOf_0 2 rfl rfl)
theorem dX3_sortOf_5 : decode cX3_sortOf 5 = .ok (.ifCond .eq 32, 3) := dk_153 0 32 (dk_at dksX3_sortOf_0 5 rfl rfl)
theorem dX3_sortOf_8 : decode cX3_sortOf 8 = .ok (.iload_n 2, 1) := dk_28 (dk_at dksX3_sortOf_0 8 rfl rfl)
theorem dX3_sortOf_9 : decode cX3_sortOf 9 = .ok (.i2l, 1) := dk_133 (dk_at dksX3_sortOf_0 9 rfl rfl)
theorem dX3_sortOf_10 : decode cX3_sortOf 10 = .ok (.lconst 0, 1) := dk_9 (dk_at dksX3_sortOf_0 10 rfl rfl)
theorem dX3_sortOf_11 : decode cX3_sortOf 11 = .ok (.aload_n 0, 1) := dk_42 (dk_at dksX3_sortOf_0 11 rfl rfl)
theorem dX3_sortOf_12 : decode cX3_sortOf 12 = .ok (.iload_n 1, 1) := dk_27 (dk_at dksX3_sortOf_0 12 rfl rfl)
theorem dX3_sortOf_13 : decode cX3_sortOf 13 = .ok (.invokevirtual 98, 3) := dk_182 0 98 (dk_at dksX3_sortOf_0 13 rfl rfl)
theorem dX3_sortOf_16 : decode cX3_sortOf 16 = .ok (.iconst 1, 1) := dk_4 (dk_at dksX3_sortOf_0 16 rfl rfl)
theorem dX3_sortOf_17 : decode cX3_sortOf 17 = .ok (.isub, 1) := dk_100 (dk_at dksX3_sortOf_0 17 rfl rfl)
theorem dX3_sortOf_18 : decode cX3_sortOf 18 = .ok (.i2l, 1) := dk_133 (dk_at dksX3_sortOf_0 18 rfl rfl)
theorem dX3_sortOf_19 : decode cX3_sortOf 19 = .ok (.invokestatic 94, 3) := dk_184 0 94 (dk_at dksX3_sortOf_0 19 rfl rfl)
theorem dX3_sortOf_22 : decode cX3_sortOf 22 = .ok (.ifCond .eq 15, 3) := dk_153 0 15 (dk_at dksX3_sortOf_1 0 rfl rfl)
theorem dX3_sortOf_25 : decode cX3_sortOf 25 = .ok (.iload_n 3, 1) := dk_29 (dk_at dksX3_sortOf_1 3 rfl rfl)
theorem dX3_sortOf_26 : decode cX3_sortOf 26 = .ok (.i2l, 1) := dk_133 (dk_at dksX3_sortOf_1 4 rfl rfl)
theorem dX3_sortOf_27 : decode cX3_sortOf 27 = .ok (.lconst 0, 1) := dk_9 (dk_at dksX3_sortOf_1 5 rfl rfl)
theorem dX3_sortOf_28 : decode cX3_sortOf 28 = .ok (.ldc2_w 115, 3) := dk_20 0 115 (dk_at dksX3_sortOf_1 6 rfl rfl)
theorem dX3_sortOf_31 : decode cX3_sortOf 31 = .ok (.invokestatic 94, 3) := dk_184 0 94 (dk_at dksX3_sortOf_1 9 rfl rfl)
theorem dX3_sortOf_34 : decode cX3_sortOf 34 = .ok (.ifCond .ne 10, 3) := dk_154 0 10 (dk_at dksX3_sortOf_1 12 rfl rfl)
theorem dX3_sortOf_37 : decode cX3_sortOf 37 = .ok (.aload_n 0, 1) := dk_42 (dk_at dksX3_sortOf_1 15 rfl rfl)
theorem dX3_sortOf_38 : decode cX3_sortOf 38 = .ok (.bipush (-2), 2) := dk_16 254 (dk_at dksX3_sortOf_1 16 rfl rfl)
theorem dX3_sortOf_40 : decode cX3_sortOf 40 = .ok (.invokevirtual 119, 3) := dk_182 0 119 (dk_at dksX3_sortOf_1 18 rfl rfl)
theorem dX3_sortOf_43 : decode cX3_sortOf 43 = .ok (.ireturn, 1) := dk_172 (dk_at dksX3_sortOf_1 21 rfl rfl)
theorem dX3_sortOf_44 : decode cX3_sortOf 44 = .ok (.aload_n 0, 1) := dk_42 (dk_at dksX3_sortOf_1 22 rfl rfl)
theorem dX3_sortOf_45 : decode cX3_sortOf 45 = .ok (.getfield 45, 3) := dk_180 0 45 (dk_at dksX3_sortOf_2 0 rfl rfl)
theorem dX3_sortOf_48 : decode cX3_sortOf 48 = .ok (.iload_n 1, 1) := dk_27 (dk_at dksX3_sortOf_2 3 rfl rfl)
theorem dX3_sortOf_49 : decode cX3_sortOf 49 = .ok (.aaload, 1) := dk_50 (dk_at dksX3_sortOf_2 4 rfl rfl)
theorem dX3_sortOf_50 : decode cX3_sortOf 50 = .ok (.iconst 5, 1) := dk_8 (dk_at dksX3_sortOf_2 5 rfl rfl)
theorem dX3_sortOf_51 : decode cX3_sortOf 51 = .ok (.iconst 5, 1) := dk_8 (dk_at dksX3_sortOf_2 6 rfl rfl)
theorem dX3_sortOf_52 : decode cX3_sortOf 52 = .ok (.iload_n 2, 1) := dk_28 (dk_at dksX3_sortOf_2 7 rfl rfl)
theorem dX3_sortOf_53 : decode cX3_sortOf 53 = .ok (.imul, 1) := dk_104 (dk_at dksX3_sortOf_2 8 rfl rfl)
theorem dX3_sortOf_54 : decode cX3_sortOf 54 = .ok (.iadd, 1) := dk_96 (dk_at dksX3_sortOf_2 9 rfl rfl)
theorem dX3_sortOf_55 : decode cX3_sortOf 55 = .ok (.iload_n 3, 1) := dk_29 (dk_at dksX3_sortOf_2 10 rfl rfl)
theorem dX3_sortOf_56 : decode cX3_sortOf 56 = .ok (.iadd, 1) := dk_96 (dk_at dksX3_sortOf_2 11 rfl rfl)
theorem dX3_sortOf_57 : decode cX3_sortOf 57 = .ok (.iaload, 1) := dk_46 (dk_at dksX3_sortOf_2 12 rfl rfl)
theorem dX3_sortOf_58 : decode cX3_sortOf 58 = .ok (.ireturn, 1) := dk_172 (dk_at dksX3_sortOf_2 13 rfl rfl)
abbrev cX3_sorts : ByteArray := prog_17_method_6_code
def yX3_sorts : MethodName := ⟨RX3, "sorts", "(I)I"⟩
def dkwX3_sorts_0 : List UInt8 := [42, 180, 0, 45, 27, 50, 7, 46, 172]
abbrev dktX3_sorts_0 : List UInt8 := dkwX3_sorts_0 ++ []
theorem dksX3_sorts_0 : cX3_sorts.data.toList.drop 0 = dktX3_sorts_0 := by decide +kernel
theorem dX3_sorts_0 : decode cX3_sorts 0 = .ok (.aload_n 0, 1) := dk_42 (dk_at dksX3_sorts_0 0 rfl rfl)
theorem dX3_sorts_1 : decode cX3_sorts 1 = .ok (.getfield 45, 3) := dk_180 0 45 (dk_at dksX3_sorts_0 1 rfl rfl)
theorem dX3_sorts_4 : decode cX3_sorts 4 = .ok (.iload_n 1, 1) := dk_27 (dk_at dksX3_sorts_0 4 rfl rfl)
theorem dX3_sorts_5 : decode cX3_sorts 5 = .ok (.aaload, 1) := dk_50 (dk_at dksX3_sorts_0 5 rfl rfl)
theorem dX3_sorts_6 : decode cX3_sorts 6 = .ok (.iconst 4, 1) := dk_7 (dk_at dksX3_sorts_0 6 rfl rfl)
theorem dX3_sorts_7 : decode cX3_sorts 7 = .ok (.iaload, 1) := dk_46 (dk_at dksX3_sorts_0 7 rfl rfl)
theorem dX3_sorts_8 : decode cX3_sorts 8 = .ok (.ireturn, 1) := dk_172 (dk_at dksX3_sorts_0 8 rfl rfl)
abbrev cX3_alter : ByteArray := prog_17_method_32_code
def yX3_alter : MethodName := ⟨RX3, "alter", "(III)I"⟩
def dkwX3_alter_4 : List UInt8 := [172]
abbrev dktX3_alter_4 : List UInt8 := dkwX3_alter_4 ++ []
def dkwX3_alter_3 : List UInt8 := [180, 0, 45, 27, 50, 4, 28, 96, 46, 54, 4, 42, 180, 0, 45, 27, 50, 4, 28, 96, 29, 79, 21, 4]
abbrev dktX3_alter_3 : List UInt8 := dkwX3_alter_3 ++ dktX3_alter_4
def dkwX3_alter_2 : List UInt8 := [20, 0, 218, 167, 0, 6, 20, 0, 220, 184, 0, 94, 154, 0, 10, 42, 16, 254, 182, 0, 119, 172, 42]
abbrev dktX3_alter_2 : List UInt8 := dkwX3_alter_2 ++ dktX3_alter_3
def dkwX3_alter_1 : List UInt8 := [160, 0, 7, 10, 167, 0, 4, 9, 28, 154, 0, 9, 20, 0, 126, 167, 0, 17, 28, 4, 160, 0, 9]
abbrev dktX3_alter_1 : List UInt8 := dkwX3_alter_1 ++ dktX3_alter_2
def dkwX3_alter_0 : List UInt8 := [42, 27, 182, 0, 106, 153, 0, 57, 28, 133, 9, 20, 0, 216, 184, 0, 94, 153, 0, 45, 29, 133, 28, 4]
abbrev dktX3_alter_0 : List UInt8 := dkwX3_alter_0 ++ dktX3_alter_1
theorem dksX3_alter_0 : cX3_alter.data.toList.drop 0 = dktX3_alter_0 := by decide +kernel
theorem dksX3_alter_1 : cX3_alter.data.toList.drop 24 = dktX3_alter_1 := dk_seg dksX3_alter_0 24 rfl rfl
theorem dksX3_alter_2 : cX3_alter.data.toList.drop 47 = dktX3_alter_2 := dk_seg dksX3_alter_1 23 rfl rfl
theorem dksX3_alter_3 : cX3_alter.data.toList.drop 70 = dktX3_alter_3 := dk_seg dksX3_alter_2 23 rfl rfl
theorem dksX3_alter_4 : cX3_alter.data.toList.drop 94 = dktX3_alter_4 := dk_seg dksX3_alter_3 24 rfl rfl
theorem dX3_alter_0 : decode cX3_alter 0 = .ok (.aload_n 0, 1) := dk_42 (dk_at dksX3_alter_0 0 rfl rfl)
theorem dX3_alter_1 : decode cX3_alter 1 = .ok (.iload_n 1, 1) := dk_27 (dk_at dksX3_alter_0 1 rfl rfl)
theorem dX3_alter_2 : decode cX3_alter 2 = .ok (.invokevirtual 106, 3) := dk_182 0 106 (dk_at dksX3_alter_0 2 rfl rfl)
theorem dX3_alter_5 : decode cX3_alter 5 = .ok (.ifCond .eq 57, 3) := dk_153 0 57 (dk_at dksX3_alter_0 5 rfl rfl)
theorem dX3_alter_8 : decode cX3_alter 8 = .ok (.iload_n 2, 1) := dk_28 (dk_at dksX3_alter_0 8 rfl rfl)
theorem dX3_alter_9 : decode cX3_alter 9 = .ok (.i2l, 1) := dk_133 (dk_at dksX3_alter_0 9 rfl rfl)
theorem dX3_alter_10 : decode cX3_alter 10 = .ok (.lconst 0, 1) := dk_9 (dk_at dksX3_alter_0 10 rfl rfl)
theorem dX3_alter_11 : decode cX3_alter 11 = .ok (.ldc2_w 216, 3) := dk_20 0 216 (dk_at dksX3_alter_0 11 rfl rfl)
theorem dX3_alter_14 : decode cX3_alter 14 = .ok (.invokestatic 94, 3) := dk_184 0 94 (dk_at dksX3_alter_0 14 rfl rfl)
theorem dX3_alter_17 : decode cX3_alter 17 = .ok (.ifCond .eq 45, 3) := dk_153 0 45 (dk_at dksX3_alter_0 17 rfl rfl)
theorem dX3_alter_20 : decode cX3_alter 20 = .ok (.iload_n 3, 1) := dk_29 (dk_at dksX3_alter_0 20 rfl rfl)
theorem dX3_alter_21 : decode cX3_alter 21 = .ok (.i2l, 1) := dk_133 (dk_at dksX3_alter_0 21 rfl rfl)
theorem dX3_alter_22 : decode cX3_alter 22 = .ok (.iload_n 2, 1) := dk_28 (dk_at dksX3_alter_0 22 rfl rfl)
theorem dX3_alter_23 : decode cX3_alter 23 = .ok (.iconst 1, 1) := dk_4 (dk_at dksX3_alter_0 23 rfl rfl)
theorem dX3_alter_24 : decode cX3_alter 24 = .ok (.if_icmp .ne 7, 3) := dk_160 0 7 (dk_at dksX3_alter_1 0 rfl rfl)
theorem dX3_alter_27 : decode cX3_alter 27 = .ok (.lconst 1, 1) := dk_10 (dk_at dksX3_alter_1 3 rfl rfl)
theorem dX3_alter_28 : decode cX3_alter 28 = .ok (.goto 4, 3) := dk_167 0 4 (dk_at dksX3_alter_1 4 rfl rfl)
theorem dX3_alter_31 : decode cX3_alter 31 = .ok (.lconst 0, 1) := dk_9 (dk_at dksX3_alter_1 7 rfl rfl)
theorem dX3_alter_32 : decode cX3_alter 32 = .ok (.iload_n 2, 1) := dk_28 (dk_at dksX3_alter_1 8 rfl rfl)
theorem dX3_alter_33 : decode cX3_alter 33 = .ok (.ifCond .ne 9, 3) := dk_154 0 9 (dk_at dksX3_alter_1 9 rfl rfl)
theorem dX3_alter_36 : decode cX3_alter 36 = .ok (.ldc2_w 126, 3) := dk_20 0 126 (dk_at dksX3_alter_1 12 rfl rfl)
theorem dX3_alter_39 : decode cX3_alter 39 = .ok (.goto 17, 3) := dk_167 0 17 (dk_at dksX3_alter_1 15 rfl rfl)
theorem dX3_alter_42 : decode cX3_alter 42 = .ok (.iload_n 2, 1) := dk_28 (dk_at dksX3_alter_1 18 rfl rfl)
theorem dX3_alter_43 : decode cX3_alter 43 = .ok (.iconst 1, 1) := dk_4 (dk_at dksX3_alter_1 19 rfl rfl)
theorem dX3_alter_44 : decode cX3_alter 44 = .ok (.if_icmp .ne 9, 3) := dk_160 0 9 (dk_at dksX3_alter_1 20 rfl rfl)
theorem dX3_alter_47 : decode cX3_alter 47 = .ok (.ldc2_w 218, 3) := dk_20 0 218 (dk_at dksX3_alter_2 0 rfl rfl)
theorem dX3_alter_50 : decode cX3_alter 50 = .ok (.goto 6, 3) := dk_167 0 6 (dk_at dksX3_alter_2 3 rfl rfl)
theorem dX3_alter_53 : decode cX3_alter 53 = .ok (.ldc2_w 220, 3) := dk_20 0 220 (dk_at dksX3_alter_2 6 rfl rfl)
theorem dX3_alter_56 : decode cX3_alter 56 = .ok (.invokestatic 94, 3) := dk_184 0 94 (dk_at dksX3_alter_2 9 rfl rfl)
theorem dX3_alter_59 : decode cX3_alter 59 = .ok (.ifCond .ne 10, 3) := dk_154 0 10 (dk_at dksX3_alter_2 12 rfl rfl)
theorem dX3_alter_62 : decode cX3_alter 62 = .ok (.aload_n 0, 1) := dk_42 (dk_at dksX3_alter_2 15 rfl rfl)
theorem dX3_alter_63 : decode cX3_alter 63 = .ok (.bipush (-2), 2) := dk_16 254 (dk_at dksX3_alter_2 16 rfl rfl)
theorem dX3_alter_65 : decode cX3_alter 65 = .ok (.invokevirtual 119, 3) := dk_182 0 119 (dk_at dksX3_alter_2 18 rfl rfl)
theorem dX3_alter_68 : decode cX3_alter 68 = .ok (.ireturn, 1) := dk_172 (dk_at dksX3_alter_2 21 rfl rfl)
theorem dX3_alter_69 : decode cX3_alter 69 = .ok (.aload_n 0, 1) := dk_42 (dk_at dksX3_alter_2 22 rfl rfl)
theorem dX3_alter_70 : decode cX3_alter 70 = .ok (.getfield 45, 3) := dk_180 0 45 (dk_at dksX3_alter_3 0 rfl rfl)
theorem dX3_alter_73 : decode cX3_alter 73 = .ok (.iload_n 1, 1) := dk_27 (dk_at dksX3_alter_3 3 rfl rfl)
theorem dX3_alter_74 : decode cX3_alter 74 = .ok (.aaload, 1) := dk_50 (dk_at dksX3_alter_3 4 rfl rfl)
theorem dX3_alter_75 : decode cX3_alter 75 = .ok (.iconst 1, 1) := dk_4 (dk_at dksX3_alter_3 5 rfl rfl)
theorem dX3_alter_76 : decode cX3_alter 76 = .ok (.iload_n 2, 1) := dk_28 (dk_at dksX3_alter_3 6 rfl rfl)
theorem dX3_alter_77 : decode cX3_alter 77 = .ok (.iadd, 1) := dk_96 (dk_at dksX3_alter_3 7 rfl rfl)
theorem dX3_alter_78 : decode cX3_alter 78 = .ok (.iaload, 1) := dk_46 (dk_at dksX3_alter_3 8 rfl rfl)
theorem dX3_alter_79 : decode cX3_alter 79 = .ok (.istore 4, 2) := dk_54 4 (dk_at dksX3_alter_3 9 rfl rfl)
theorem dX3_alter_81 : decode cX3_alter 81 = .ok (.aload_n 0, 1) := dk_42 (dk_at dksX3_alter_3 11 rfl rfl)
theorem dX3_alter_82 : decode cX3_alter 82 = .ok (.getfield 45, 3) := dk_180 0 45 (dk_at dksX3_alter_3 12 rfl rfl)
theorem dX3_alter_85 : decode cX3_alter 85 = .ok (.iload_n 1, 1) := dk_27 (dk_at dksX3_alter_3 15 rfl rfl)
theorem dX3_alter_86 : decode cX3_alter 86 = .ok (.aaload, 1) := dk_50 (dk_at dksX3_alter_3 16 rfl rfl)
theorem dX3_alter_87 : decode cX3_alter 87 = .ok (.iconst 1, 1) := dk_4 (dk_at dksX3_alter_3 17 rfl rfl)
theorem dX3_alter_88 : decode cX3_alter 88 = .ok (.iload_n 2, 1) := dk_28 (dk_at dksX3_alter_3 18 rfl rfl)
theorem dX3_alter_89 : decode cX3_alter 89 = .ok (.iadd, 1) := dk_96 (dk_at dksX3_alter_3 19 rfl rfl)
theorem dX3_alter_90 : decode cX3_alter 90 = .ok (.iload_n 3, 1) := dk_29 (dk_at dksX3_alter_3 20 rfl rfl)
theorem dX3_alter_91 : decode cX3_alter 91 = .ok (.iastore, 1) := dk_79 (dk_at dksX3_alter_3 21 rfl rfl)
theorem dX3_alter_92 : decode cX3_alter 92 = .ok (.iload 4, 2) := dk_21 4 (dk_at dksX3_alter_3 22 rfl rfl)
theorem dX3_alter_94 : decode cX3_alter 94 = .ok (.ireturn, 1) := dk_172 (dk_at dksX3_alter_4 0 rfl rfl)
abbrev cX3_change : ByteArray := prog_17_method_33_code
def yX3_change : MethodName := ⟨RX3, "change", "(IIII)I"⟩
def dkwX3_change_4 : List UInt8 := [27, 50, 21, 5, 46, 54, 6, 42, 180, 0, 45, 27, 50, 21, 5, 21, 4, 79, 21, 6, 172]
abbrev dktX3_change_4 : List UInt8 := dkwX3_change_4 ++ []
def dkwX3_change_3 : List UInt8 := [154, 0, 10, 42, 16, 254, 182, 0, 119, 172, 16, 6, 8, 28, 104, 96, 29, 96, 54, 5, 42, 180, 0, 45]
abbrev dktX3_change_3 : List UInt8 := dkwX3_change_3 ++ dktX3_change_4
def dkwX3_change_2 : List UInt8 := [20, 0, 115, 167, 0, 17, 29, 4, 160, 0, 9, 20, 0, 222, 167, 0, 6, 20, 0, 126, 184, 0, 94]
abbrev dktX3_change_2 : List UInt8 := dkwX3_change_2 ++ dktX3_change_3
def dkwX3_change_1 : List UInt8 := [153, 0, 49, 29, 133, 9, 20, 0, 220, 184, 0, 94, 153, 0, 37, 21, 4, 133, 9, 29, 154, 0, 9]
abbrev dktX3_change_1 : List UInt8 := dkwX3_change_1 ++ dktX3_change_2
def dkwX3_change_0 : List UInt8 := [42, 27, 182, 0, 106, 153, 0, 66, 28, 133, 9, 42, 27, 182, 0, 98, 4, 100, 133, 184, 0, 94]
abbrev dktX3_change_0 : List UInt8 := dkwX3_change_0 ++ dktX3_change_1
theorem dksX3_change_0 : cX3_change.data.toList.drop 0 = dktX3_change_0 := by decide +kernel
theorem dksX3_change_1 : cX3_change.data.toList.drop 22 = dktX3_change_1 := dk_seg dksX3_change_0 22 rfl rfl
theorem dksX3_change_2 : cX3_change.data.toList.drop 45 = dktX3_change_2 := dk_seg dksX3_change_1 23 rfl rfl
theorem dksX3_change_3 : cX3_change.data.toList.drop 68 = dktX3_change_3 := dk_seg dksX3_change_2 23 rfl rfl
theorem dksX3_change_4 : cX3_change.data.toList.drop 92 = dktX3_change_4 := dk_seg dksX3_change_3 24 rfl rfl
theorem dX3_change_0 : decode cX3_change 0 = .ok (.aload_n 0, 1) := dk_42 (dk_at dksX3_change_0 0 rfl rfl)
theorem dX3_change_1 : decode cX3_change 1 = .ok (.iload_n 1, 1) := dk_27 (dk_at dksX3_change_0 1 rfl rfl)
theorem dX3_change_2 : decode cX3_change 2 = .ok (.invokevirtual 106, 3) := dk_182 0 106 (dk_at dksX3_change_0 2 rfl rfl)
theorem dX3_change_5 : decode cX3_change 5 = .ok (.ifCond .eq 66, 3) := dk_153 0 66 (dk_at dksX3_change_0 5 rfl rfl)
theorem dX3_change_8 : decode cX3_change 8 = .ok (.iload_n 2, 1) := dk_28 (dk_at dksX3_change_0 8 rfl rfl)
theorem dX3_change_9 : decode cX3_change 9 = .ok (.i2l, 1) := dk_133 (dk_at dksX3_change_0 9 rfl rfl)
theorem dX3_change_10 : decode cX3_change 10 = .ok (.lconst 0, 1) := dk_9 (dk_at dksX3_change_0 10 rfl rfl)
theorem dX3_change_11 : decode cX3_change 11 = .ok (.aload_n 0, 1) := dk_42 (dk_at dksX3_change_0 11 rfl rfl)
theorem dX3_change_12 : decode cX3_change 12 = .ok (.iload_n 1, 1) := dk_27 (dk_at dksX3_change_0 12 rfl rfl)
theorem dX3_change_13 : decode cX3_change 13 = .ok (.invokevirtual 98, 3) := dk_182 0 98 (dk_at dksX3_change_0 13 rfl rfl)
theorem dX3_change_16 : decode cX3_change 16 = .ok (.iconst 1, 1) := dk_4 (dk_at dksX3_change_0 16 rfl rfl)
theorem dX3_change_17 : decode cX3_change 17 = .ok (.isub, 1) := dk_100 (dk_at dksX3_change_0 17 rfl rfl)
theorem dX3_change_18 : decode cX3_change 18 = .ok (.i2l, 1) := dk_133 (dk_at dksX3_change_0 18 rfl rfl)
theorem dX3_change_19 : decode cX3_change 19 = .ok (.invokestatic 94, 3) := dk_184 0 94 (dk_at dksX3_change_0 19 rfl rfl)
theorem dX3_change_22 : decode cX3_change 22 = .ok (.ifCond .eq 49, 3) := dk_153 0 49 (dk_at dksX3_change_1 0 rfl rfl)
theorem dX3_change_25 : decode cX3_change 25 = .ok (.iload_n 3, 1) := dk_29 (dk_at dksX3_change_1 3 rfl rfl)
theorem dX3_change_26 : decode cX3_change 26 = .ok (.i2l, 1) := dk_133 (dk_at dksX3_change_1 4 rfl rfl)
theorem dX3_change_27 : decode cX3_change 27 = .ok (.lconst 0, 1) := dk_9 (dk_at dksX3_change_1 5 rfl rfl)
theorem dX3_change_28 : decode cX3_change 28 = .ok (.ldc2_w 220, 3) := dk_20 0 220 (dk_at dksX3_change_1 6 rfl rfl)
theorem dX3_change_31 : decode cX3_change 31 = .ok (.invokestatic 94, 3) := dk_184 0 94 (dk_at dksX3_change_1 9 rfl rfl)
theorem dX3_change_34 : decode cX3_change 34 = .ok (.ifCond .eq 37, 3) := dk_153 0 37 (dk_at dksX3_change_1 12 rfl rfl)
theorem dX3_change_37 : decode cX3_change 37 = .ok (.iload 4, 2) := dk_21 4 (dk_at dksX3_change_1 15 rfl rfl)
theorem dX3_change_39 : decode cX3_change 39 = .ok (.i2l, 1) := dk_133 (dk_at dksX3_change_1 17 rfl rfl)
theorem dX3_change_40 : decode cX3_change 40 = .ok (.lconst 0, 1) := dk_9 (dk_at dksX3_change_1 18 rfl rfl)
theorem dX3_change_41 : decode cX3_change 41 = .ok (.iload_n 3, 1) := dk_29 (dk_at dksX3_change_1 19 rfl rfl)
theorem dX3_change_42 : decode cX3_change 42 = .ok (.ifCond .ne 9, 3) := dk_154 0 9 (dk_at dksX3_change_1 20 rfl rfl)
theorem dX3_change_45 : decode cX3_change 45 = .ok (.ldc2_w 115, 3) := dk_20 0 115 (dk_at dksX3_change_2 0 rfl rfl)
theorem dX3_change_48 : decode cX3_change 48 = .ok (.goto 17, 3) := dk_167 0 17 (dk_at dksX3_change_2 3 rfl rfl)
theorem dX3_change_51 : decode cX3_change 51 = .ok (.iload_n 3, 1) := dk_29 (dk_at dksX3_change_2 6 rfl rfl)
theorem dX3_change_52 : decode cX3_change 52 = .ok (.iconst 1, 1) := dk_4 (dk_at dksX3_change_2 7 rfl rfl)
theorem dX3_change_53 : decode cX3_change 53 = .ok (.if_icmp .ne 9, 3) := dk_160 0 9 (dk_at dksX3_change_2 8 rfl rfl)
theorem dX3_change_56 : decode cX3_change 56 = .ok (.ldc2_w 222, 3) := dk_20 0 222 (dk_at dksX3_change_2 11 rfl rfl)
theorem dX3_change_59 : decode cX3_change 59 = .ok (.goto 6, 3) := dk_167 0 6 (dk_at dksX3_change_2 14 rfl rfl)
theorem dX3_change_62 : decode cX3_change 62 = .ok (.ldc2_w 126, 3) := dk_20 0 126 (dk_at dksX3_change_2 17 rfl rfl)
theorem dX3_change_65 : decode cX3_change 65 = .ok (.invokestatic 94, 3) := dk_184 0 94 (dk_at dksX3_change_2 20 rfl rfl)
theorem dX3_change_68 : decode cX3_change 68 = .ok (.ifCond .ne 10, 3) := dk_154 0 10 (dk_at dksX3_change_3 0 rfl rfl)
theorem dX3_change_71 : decode cX3_change 71 = .ok (.aload_n 0, 1) := dk_42 (dk_at dksX3_change_3 3 rfl rfl)
theorem dX3_change_72 : decode cX3_change 72 = .ok (.bipush (-2), 2) := dk_16 254 (dk_at dksX3_change_3 4 rfl rfl)
theorem dX3_change_74 : decode cX3_change 74 = .ok (.invokevirtual 119, 3) := dk_182 0 119 (dk_at dksX3_change_3 6 rfl rfl)
theorem dX3_change_77 : decode cX3_change 77 = .ok (.ireturn, 1) := dk_172 (dk_at dksX3_change_3 9 rfl rfl)
theorem dX3_change_78 : decode cX3_change 78 = .ok (.bipush 6, 2) := dk_16 6 (dk_at dksX3_change_3 10 rfl rfl)
theorem dX3_change_80 : decode cX3_change 80 = .ok (.iconst 5, 1) := dk_8 (dk_at dksX3_change_3 12 rfl rfl)
theorem dX3_change_81 : decode cX3_change 81 = .ok (.iload_n 2, 1) := dk_28 (dk_at dksX3_change_3 13 rfl rfl)
theorem dX3_change_82 : decode cX3_change 82 = .ok (.imul, 1) := dk_104 (dk_at dksX3_change_3 14 rfl rfl)
theorem dX3_change_83 : decode cX3_change 83 = .ok (.iadd, 1) := dk_96 (dk_at dksX3_change_3 15 rfl rfl)
theorem dX3_change_84 : decode cX3_change 84 = .ok (.iload_n 3, 1) := dk_29 (dk_at dksX3_change_3 16 rfl rfl)
theorem dX3_change_85 : decode cX3_change 85 = .ok (.iadd, 1) := dk_96 (dk_at dksX3_change_3 17 rfl rfl)
theorem dX3_change_86 : decode cX3_change 86 = .ok (.istore 5, 2) := dk_54 5 (dk_at dksX3_change_3 18 rfl rfl)
theorem dX3_change_88 : decode cX3_change 88 = .ok (.aload_n 0, 1) := dk_42 (dk_at dksX3_change_3 20 rfl rfl)
theorem dX3_change_89 : decode cX3_change 89 = .ok (.getfield 45, 3) := dk_180 0 45 (dk_at dksX3_change_3 21 rfl rfl)
theorem dX3_change_92 : decode cX3_change 92 = .ok (.iload_n 1, 1) := dk_27 (dk_at dksX3_change_4 0 rfl rfl)
theorem dX3_change_93 : decode cX3_change 93 = .ok (.aaload, 1) := dk_50 (dk_at dksX3_change_4 1 rfl rfl)
theorem dX3_change_94 : decode cX3_change 94 = .ok (.iload 5, 2) := dk_21 5 (dk_at dksX3_change_4 2 rfl rfl)
theorem dX3_change_96 : decode cX3_change 96 = .ok (.iaload, 1) := dk_46 (dk_at dksX3_change_4 4 rfl rfl)
theorem dX3_change_97 : decode cX3_change 97 = .ok (.istore 6, 2) := dk_54 6 (dk_at dksX3_change_4 5 rfl rfl)
theorem dX3_change_99 : decode cX3_change 99 = .ok (.aload_n 0, 1) := dk_42 (dk_at dksX3_change_4 7 rfl rfl)
theorem dX3_change_100 : decode cX3_change 100 = .ok (.getfield 45, 3) := dk_180 0 45 (dk_at dksX3_change_4 8 rfl rfl)
theorem dX3_change_103 : decode cX3_change 103 = .ok (.iload_n 1, 1) := dk_27 (dk_at dksX3_change_4 11 rfl rfl)
theorem dX3_change_104 : decode cX3_change 104 = .ok (.aaload, 1) := dk_50 (dk_at dksX3_change_4 12 rfl rfl)
theorem dX3_change_105 : decode cX3_change 105 = .ok (.iload 5, 2) := dk_21 5 (dk_at dksX3_change_4 13 rfl rfl)
theorem dX3_change_107 : decode cX3_change 107 = .ok (.iload 4, 2) := dk_21 4 (dk_at dksX3_change_4 15 rfl rfl)
theorem dX3_change_109 : decode cX3_change 109 = .ok (.iastore, 1) := dk_79 (dk_at dksX3_change_4 17 rfl rfl)
theorem dX3_change_110 : decode cX3_change 110 = .ok (.iload 6, 2) := dk_21 6 (dk_at dksX3_change_4 18 rfl rfl)
theorem dX3_change_112 : decode cX3_change 112 = .ok (.ireturn, 1) := dk_172 (dk_at dksX3_change_4 20 rfl rfl)
abbrev cX3_of : ByteArray := prog_17_method_35_code
def yX3_of : MethodName := ⟨RX3, "of", "(II)I"⟩
def dkwX3_of_1 : List UInt8 := [27, 28, 184, 0, 226, 167, 0, 9, 42, 16, 254, 182, 0, 119, 172]
abbrev dktX3_of_1 : List UInt8 := dkwX3_of_1 ++ []
def dkwX3_of_0 : List UInt8 := [27, 133, 9, 20, 0, 224, 184, 0, 94, 153, 0, 23, 28, 133, 9, 20, 0, 216, 184, 0, 94, 153, 0, 11]
abbrev dktX3_of_0 : List UInt8 := dkwX3_of_0 ++ dktX3_of_1
theorem dksX3_of_0 : cX3_of.data.toList.drop 0 = dktX3_of_0 := by decide +kernel
theorem dksX3_of_1 : cX3_of.data.toList.drop 24 = dktX3_of_1 := dk_seg dksX3_of_0 24 rfl rfl
theorem dX3_of_0 : decode cX3_of 0 = .ok (.iload_n 1, 1) := dk_27 (dk_at dksX3_of_0 0 rfl rfl)
theorem dX3_of_1 : decode cX3_of 1 = .ok (.i2l, 1) := dk_133 (dk_at dksX3_of_0 1 rfl rfl)
theorem dX3_of_2 : decode cX3_of 2 = .ok (.lconst 0, 1) := dk_9 (dk_at dksX3_of_0 2 rfl rfl)
theorem dX3_of_3 : decode cX3_of 3 = .ok (.ldc2_w 224, 3) := dk_20 0 224 (dk_at dksX3_of_0 3 rfl rfl)
theorem dX3_of_6 : decode cX3_of 6 = .ok (.invokestatic 94, 3) := dk_184 0 94 (dk_at dksX3_of_0 6 rfl rfl)
theorem dX3_of_9 : decode cX3_of 9 = .ok (.ifCond .eq 23, 3) := dk_153 0 23 (dk_at dksX3_of_0 9 rfl rfl)
theorem dX3_of_12 : decode cX3_of 12 = .ok (.iload_n 2, 1) := dk_28 (dk_at dksX3_of_0 12 rfl rfl)
theorem dX3_of_13 : decode cX3_of 13 = .ok (.i2l, 1) := dk_133 (dk_at dksX3_of_0 13 rfl rfl)
theorem dX3_of_14 : decode cX3_of 14 = .ok (.lconst 0, 1) := dk_9 (dk_at dksX3_of_0 14 rfl rfl)
theorem dX3_of_15 : decode cX3_of 15 = .ok (.ldc2_w 216, 3) := dk_20 0 216 (dk_at dksX3_of_0 15 rfl rfl)
theorem dX3_of_18 : decode cX3_of 18 = .ok (.invokestatic 94, 3) := dk_184 0 94 (dk_at dksX3_of_0 18 rfl rfl)
theorem dX3_of_21 : decode cX3_of 21 = .ok (.ifCond .eq 11, 3) := dk_153 0 11 (dk_at dksX3_of_0 21 rfl rfl)
theorem dX3_of_24 : decode cX3_of 24 = .ok (.iload_n 1, 1) := dk_27 (dk_at dksX3_of_1 0 rfl rfl)
theorem dX3_of_25 : decode cX3_of 25 = .ok (.iload_n 2, 1) := dk_28 (dk_at dksX3_of_1 1 rfl rfl)
theorem dX3_of_26 : decode cX3_of 26 = .ok (.invokestatic 226, 3) := dk_184 0 226 (dk_at dksX3_of_1 2 rfl rfl)
theorem dX3_of_29 : decode cX3_of 29 = .ok (.goto 9, 3) := dk_167 0 9 (dk_at dksX3_of_1 5 rfl rfl)
theorem dX3_of_32 : decode cX3_of 32 = .ok (.aload_n 0, 1) := dk_42 (dk_at dksX3_of_1 8 rfl rfl)
theorem dX3_of_33 : decode cX3_of 33 = .ok (.bipush (-2), 2) := dk_16 254 (dk_at dksX3_of_1 9 rfl rfl)
theorem dX3_of_35 : decode cX3_of 35 = .ok (.invokevirtual 119, 3) := dk_182 0 119 (dk_at dksX3_of_1 11 rfl rfl)
theorem dX3_of_38 : decode cX3_of 38 = .ok (.ireturn, 1) := dk_172 (dk_at dksX3_of_1 14 rfl rfl)
abbrev cX3_ofState : ByteArray := prog_17_method_34_code
def yX3_ofState : MethodName := ⟨RX3, "ofState", "(II)I"⟩
def dkwX3_ofState_0 : List UInt8 := [26, 8, 27, 184, 0, 102, 108, 8, 112, 172]
abbrev dktX3_ofState_0 : List UInt8 := dkwX3_ofState_0 ++ []
theorem dksX3_ofState_0 : cX3_ofState.data.toList.drop 0 = dktX3_ofState_0 := by decide +kernel
theorem dX3_ofState_0 : decode cX3_ofState 0 = .ok (.iload_n 0, 1) := dk_26 (dk_at dksX3_ofState_0 0 rfl rfl)
theorem dX3_ofState_1 : decode cX3_ofState 1 = .ok (.iconst 5, 1) := dk_8 (dk_at dksX3_ofState_0 1 rfl rfl)
theorem dX3_ofState_2 : decode cX3_ofState 2 = .ok (.iload_n 1, 1) := dk_27 (dk_at dksX3_ofState_0 2 rfl rfl)
theorem dX3_ofState_3 : decode cX3_ofState 3 = .ok (.invokestatic 102, 3) := dk_184 0 102 (dk_at dksX3_ofState_0 3 rfl rfl)
theorem dX3_ofState_6 : decode cX3_ofState 6 = .ok (.idiv, 1) := dk_108 (dk_at dksX3_ofState_0 6 rfl rfl)
theorem dX3_ofState_7 : decode cX3_ofState 7 = .ok (.iconst 5, 1) := dk_8 (dk_at dksX3_ofState_0 7 rfl rfl)
theorem dX3_ofState_8 : decode cX3_ofState 8 = .ok (.irem, 1) := dk_112 (dk_at dksX3_ofState_0 8 rfl rfl)
theorem dX3_ofState_9 : decode cX3_ofState 9 = .ok (.ireturn, 1) := dk_172 (dk_at dksX3_ofState_0 9 rfl rfl)
abbrev cX3_power : ByteArray := prog_17_method_5_code
def yX3_power : MethodName := ⟨RX3, "power", "(II)I"⟩
def dkwX3_power_0 : List UInt8 := [4, 61, 3, 62, 29, 27, 162, 0, 13, 28, 26, 104, 61, 132, 3, 1, 167, 255, 244, 28, 172]
abbrev dktX3_power_0 : List UInt8 := dkwX3_power_0 ++ []
theorem dksX3_power_0 : cX3_power.data.toList.drop 0 = dktX3_power_0 := by decide +kernel
theorem dX3_power_0 : decode cX3_power 0 = .ok (.iconst 1, 1) := dk_4 (dk_at dksX3_power_0 0 rfl rfl)
theorem dX3_power_1 : decode cX3_power 1 = .ok (.istore_n 2, 1) := dk_61 (dk_at dksX3_power_0 1 rfl rfl)
theorem dX3_power_2 : decode cX3_power 2 = .ok (.iconst 0, 1) := dk_3 (dk_at dksX3_power_0 2 rfl rfl)
theorem dX3_power_3 : decode cX3_power 3 = .ok (.istore_n 3, 1) := dk_62 (dk_at dksX3_power_0 3 rfl rfl)
theorem dX3_power_4 : decode cX3_power 4 = .ok (.iload_n 3, 1) := dk_29 (dk_at dksX3_power_0 4 rfl rfl)
theorem dX3_power_5 : decode cX3_power 5 = .ok (.iload_n 1, 1) := dk_27 (dk_at dksX3_power_0 5 rfl rfl)
theorem dX3_power_6 : decode cX3_power 6 = .ok (.if_icmp .ge 13, 3) := dk_162 0 13 (dk_at dksX3_power_0 6 rfl rfl)
theorem dX3_power_9 : decode cX3_power 9 = .ok (.iload_n 2, 1) := dk_28 (dk_at dksX3_power_0 9 rfl rfl)
theorem dX3_power_10 : decode cX3_power 10 = .ok (.iload_n 0, 1) := dk_26 (dk_at dksX3_power_0 10 rfl rfl)
theorem dX3_power_11 : decode cX3_power 11 = .ok (.imul, 1) := dk_104 (dk_at dksX3_power_0 11 rfl rfl)
theorem dX3_power_12 : decode cX3_power 12 = .ok (.istore_n 2, 1) := dk_61 (dk_at dksX3_power_0 12 rfl rfl)
theorem dX3_power_13 : decode cX3_power 13 = .ok (.iinc 3 1, 3) := dk_132 3 1 (dk_at dksX3_power_0 13 rfl rfl)
theorem dX3_power_16 : decode cX3_power 16 = .ok (.goto (-12), 3) := dk_167 255 244 (dk_at dksX3_power_0 16 rfl rfl)
theorem dX3_power_19 : decode cX3_power 19 = .ok (.iload_n 2, 1) := dk_28 (dk_at dksX3_power_0 19 rfl rfl)
theorem dX3_power_20 : decode cX3_power 20 = .ok (.ireturn, 1) := dk_172 (dk_at dksX3_power_0 20 rfl rfl)
abbrev cX3_space : ByteArray := prog_17_method_38_code
def yX3_space : MethodName := ⟨RX3, "space", "(II)I"⟩
def dkwX3_space_1 : List UInt8 := [182, 0, 119, 172]
abbrev dktX3_space_1 : List UInt8 := dkwX3_space_1 ++ []
def dkwX3_space_0 : List UInt8 := [42, 27, 28, 182, 0, 233, 153, 0, 13, 42, 27, 28, 3, 182, 0, 236, 167, 0, 9, 42, 16, 254]
abbrev dktX3_space_0 : List UInt8 := dkwX3_space_0 ++ dktX3_space_1
theorem dksX3_space_0 : cX3_space.data.toList.drop 0 = dktX3_space_0 := by decide +kernel
theorem dksX3_space_1 : cX3_space.data.toList.drop 22 = dktX3_space_1 := dk_seg dksX3_space_0 22 rfl rfl
theorem dX3_space_0 : decode cX3_space 0 = .ok (.aload_n 0, 1) := dk_42 (dk_at dksX3_space_0 0 rfl rfl)
theorem dX3_space_1 : decode cX3_space 1 = .ok (.iload_n 1, 1) := dk_27 (dk_at dksX3_space_0 1 rfl rfl)
theorem dX3_space_2 : decode cX3_space 2 = .ok (.iload_n 2, 1) := dk_28 (dk_at dksX3_space_0 2 rfl rfl)
theorem dX3_space_3 : decode cX3_space 3 = .ok (.invokevirtual 233, 3) := dk_182 0 233 (dk_at dksX3_space_0 3 rfl rfl)
theorem dX3_space_6 : decode cX3_space 6 = .ok (.ifCond .eq 13, 3) := dk_153 0 13 (dk_at dksX3_space_0 6 rfl rfl)
theorem dX3_space_9 : decode cX3_space 9 = .ok (.aload_n 0, 1) := dk_42 (dk_at dksX3_space_0 9 rfl rfl)
theorem dX3_space_10 : decode cX3_space 10 = .ok (.iload_n 1, 1) := dk_27 (dk_at dksX3_space_0 10 rfl rfl)
theorem dX3_space_11 : decode cX3_space 11 = .ok (.iload_n 2, 1) := dk_28 (dk_at dksX3_space_0 11 rfl rfl)
theorem dX3_space_12 : decode cX3_space 12 = .ok (.iconst 0, 1) := dk_3 (dk_at dksX3_space_0 12 rfl rfl)
theorem dX3_space_13 : decode cX3_space 13 = .ok (.invokevirtual 236, 3) := dk_182 0 236 (dk_at dksX3_space_0 13 rfl rfl)
theorem dX3_space_16 : decode cX3_space 16 = .ok (.goto 9, 3) := dk_167 0 9 (dk_at dksX3_space_0 16 rfl rfl)
theorem dX3_space_19 : decode cX3_space 19 = .ok (.aload_n 0, 1) := dk_42 (dk_at dksX3_space_0 19 rfl rfl)
theorem dX3_space_20 : decode cX3_space 20 = .ok (.bipush (-2), 2) := dk_16 254 (dk_at dksX3_space_0 20 rfl rfl)
theorem dX3_space_22 : decode cX3_space 22 = .ok (.invokevirtual 119, 3) := dk_182 0 119 (dk_at dksX3_space_1 0 rfl rfl)
theorem dX3_space_25 : decode cX3_space 25 = .ok (.ireturn, 1) := dk_172 (dk_at dksX3_space_1 3 rfl rfl)
abbrev cX3_isState : ByteArray := prog_17_method_8_code
def yX3_isState : MethodName := ⟨RX3, "isState", "(II)Z"⟩
def dkwX3_isState_1 : List UInt8 := [153, 0, 7, 4, 167, 0, 4, 3, 172]
abbrev dktX3_isState_1 : List UInt8 := dkwX3_isState_1 ++ []
def dkwX3_isState_0 : List UInt8 := [42, 27, 182, 0, 106, 153, 0, 24, 28, 133, 9, 42, 27, 182, 0, 110, 4, 100, 133, 184, 0, 94]
abbrev dktX3_isState_0 : List UInt8 := dkwX3_isState_0 ++ dktX3_isState_1
theorem dksX3_isState_0 : cX3_isState.data.toList.drop 0 = dktX3_isState_0 := by decide +kernel
theorem dksX3_isState_1 : cX3_isState.data.toList.drop 22 = dktX3_isState_1 := dk_seg dksX3_isState_0 22 rfl rfl
theorem dX3_isState_0 : decode cX3_isState 0 = .ok (.aload_n 0, 1) := dk_42 (dk_at dksX3_isState_0 0 rfl rfl)
theorem dX3_isState_1 : decode cX3_isState 1 = .ok (.iload_n 1, 1) := dk_27 (dk_at dksX3_isState_0 1 rfl rfl)
theorem dX3_isState_2 : decode cX3_isState 2 = .ok (.invokevirtual 106, 3) := dk_182 0 106 (dk_at dksX3_isState_0 2 rfl rfl)
theorem dX3_isState_5 : decode cX3_isState 5 = .ok (.ifCond .eq 24, 3) := dk_153 0 24 (dk_at dksX3_isState_0 5 rfl rfl)
theorem dX3_isState_8 : decode cX3_isState 8 = .ok (.iload_n 2, 1) := dk_28 (dk_at dksX3_isState_0 8 rfl rfl)
theorem dX3_isState_9 : decode cX3_isState 9 = .ok (.i2l, 1) := dk_133 (dk_at dksX3_isState_0 9 rfl rfl)
theorem dX3_isState_10 : decode cX3_isState 10 = .ok (.lconst 0, 1) := dk_9 (dk_at dksX3_isState_0 10 rfl rfl)
theorem dX3_isState_11 : decode cX3_isState 11 = .ok (.aload_n 0, 1) := dk_42 (dk_at dksX3_isState_0 11 rfl rfl)
theorem dX3_isState_12 : decode cX3_isState 12 = .ok (.iload_n 1, 1) := dk_27 (dk_at dksX3_isState_0 12 rfl rfl)
theorem dX3_isState_13 : decode cX3_isState 13 = .ok (.invokevirtual 110, 3) := dk_182 0 110 (dk_at dksX3_isState_0 13 rfl rfl)
theorem dX3_isState_16 : decode cX3_isState 16 = .ok (.iconst 1, 1) := dk_4 (dk_at dksX3_isState_0 16 rfl rfl)
theorem dX3_isState_17 : decode cX3_isState 17 = .ok (.isub, 1) := dk_100 (dk_at dksX3_isState_0 17 rfl rfl)
theorem dX3_isState_18 : decode cX3_isState 18 = .ok (.i2l, 1) := dk_133 (dk_at dksX3_isState_0 18 rfl rfl)
theorem dX3_isState_19 : decode cX3_isState 19 = .ok (.invokestatic 94, 3) := dk_184 0 94 (dk_at dksX3_isState_0 19 rfl rfl)
theorem dX3_isState_22 : decode cX3_isState 22 = .ok (.ifCond .eq 7, 3) := dk_153 0 7 (dk_at dksX3_isState_1 0 rfl rfl)
theorem dX3_isState_25 : decode cX3_isState 25 = .ok (.iconst 1, 1) := dk_4 (dk_at dksX3_isState_1 3 rfl rfl)
theorem dX3_isState_26 : decode cX3_isState 26 = .ok (.goto 4, 3) := dk_167 0 4 (dk_at dksX3_isState_1 4 rfl rfl)
theorem dX3_isState_29 : decode cX3_isState 29 = .ok (.iconst 0, 1) := dk_3 (dk_at dksX3_isState_1 7 rfl rfl)
theorem dX3_isState_30 : decode cX3_isState 30 = .ok (.ireturn, 1) := dk_172 (dk_at dksX3_isState_1 8 rfl rfl)
abbrev cX3_states : ByteArray := prog_17_method_7_code
def yX3_states : MethodName := ⟨RX3, "states", "(I)I"⟩
def dkwX3_states_0 : List UInt8 := [8, 42, 27, 182, 0, 98, 184, 0, 102, 172]
abbrev dktX3_states_0 : List UInt8 := dkwX3_states_0 ++ []
theorem dksX3_states_0 : cX3_states.data.toList.drop 0 = dktX3_states_0 := by decide +kernel
theorem dX3_states_0 : decode cX3_states 0 = .ok (.iconst 5, 1) := dk_8 (dk_at dksX3_states_0 0 rfl rfl)
theorem dX3_states_1 : decode cX3_states 1 = .ok (.aload_n 0, 1) := dk_42 (dk_at dksX3_states_0 1 rfl rfl)
theorem dX3_states_2 : decode cX3_states 2 = .ok (.iload_n 1, 1) := dk_27 (dk_at dksX3_states_0 2 rfl rfl)
theorem dX3_states_3 : decode cX3_states 3 = .ok (.invokevirtual 98, 3) := dk_182 0 98 (dk_at dksX3_states_0 3 rfl rfl)
theorem dX3_states_6 : decode cX3_states 6 = .ok (.invokestatic 102, 3) := dk_184 0 102 (dk_at dksX3_states_0 6 rfl rfl)
theorem dX3_states_9 : decode cX3_states 9 = .ok (.ireturn, 1) := dk_172 (dk_at dksX3_states_0 9 rfl rfl)
abbrev cX3_sum : ByteArray := prog_17_method_37_code
def yX3_sum : MethodName := ⟨RX3, "sum", "(III)I"⟩
def dkwX3_sum_1 : List UInt8 := [42, 27, 21, 5, 29, 182, 0, 229, 104, 96, 54, 4, 132, 5, 1, 167, 255, 223, 21, 4, 172]
abbrev dktX3_sum_1 : List UInt8 := dkwX3_sum_1 ++ []
def dkwX3_sum_0 : List UInt8 := [3, 54, 4, 3, 54, 5, 21, 5, 42, 27, 182, 0, 98, 162, 0, 29, 21, 4, 28, 21, 5, 184, 0, 226]
abbrev dktX3_sum_0 : List UInt8 := dkwX3_sum_0 ++ dktX3_sum_1
theorem dksX3_sum_0 : cX3_sum.data.toList.drop 0 = dktX3_sum_0 := by decide +kernel
theorem dksX3_sum_1 : cX3_sum.data.toList.drop 24 = dktX3_sum_1 := dk_seg dksX3_sum_0 24 rfl rfl
theorem dX3_sum_0 : decode cX3_sum 0 = .ok (.iconst 0, 1) := dk_3 (dk_at dksX3_sum_0 0 rfl rfl)
theorem dX3_sum_1 : decode cX3_sum 1 = .ok (.istore 4, 2) := dk_54 4 (dk_at dksX3_sum_0 1 rfl rfl)
theorem dX3_sum_3 : decode cX3_sum 3 = .ok (.iconst 0, 1) := dk_3 (dk_at dksX3_sum_0 3 rfl rfl)
theorem dX3_sum_4 : decode cX3_sum 4 = .ok (.istore 5, 2) := dk_54 5 (dk_at dksX3_sum_0 4 rfl rfl)
theorem dX3_sum_6 : decode cX3_sum 6 = .ok (.iload 5, 2) := dk_21 5 (dk_at dksX3_sum_0 6 rfl rfl)
theorem dX3_sum_8 : decode cX3_sum 8 = .ok (.aload_n 0, 1) := dk_42 (dk_at dksX3_sum_0 8 rfl rfl)
theorem dX3_sum_9 : decode cX3_sum 9 = .ok (.iload_n 1, 1) := dk_27 (dk_at dksX3_sum_0 9 rfl rfl)
theorem dX3_sum_10 : decode cX3_sum 10 = .ok (.invokevirtual 98, 3) := dk_182 0 98 (dk_at dksX3_sum_0 10 rfl rfl)
theorem dX3_sum_13 : decode cX3_sum 13 = .ok (.if_icmp .ge 29, 3) := dk_162 0 29 (dk_at dksX3_sum_0 13 rfl rfl)
theorem dX3_sum_16 : decode cX3_sum 16 = .ok (.iload 4, 2) := dk_21 4 (dk_at dksX3_sum_0 16 rfl rfl)
theorem dX3_sum_18 : decode cX3_sum 18 = .ok (.iload_n 2, 1) := dk_28 (dk_at dksX3_sum_0 18 rfl rfl)
theorem dX3_sum_19 : decode cX3_sum 19 = .ok (.iload 5, 2) := dk_21 5 (dk_at dksX3_sum_0 19 rfl rfl)
theorem dX3_sum_21 : decode cX3_sum 21 = .ok (.invokestatic 226, 3) := dk_184 0 226 (dk_at dksX3_sum_0 21 rfl rfl)
theorem dX3_sum_24 : decode cX3_sum 24 = .ok (.aload_n 0, 1) := dk_42 (dk_at dksX3_sum_1 0 rfl rfl)
theorem dX3_sum_25 : decode cX3_sum 25 = .ok (.iload_n 1, 1) := dk_27 (dk_at dksX3_sum_1 1 rfl rfl)
theorem dX3_sum_26 : decode cX3_sum 26 = .ok (.iload 5, 2) := dk_21 5 (dk_at dksX3_sum_1 2 rfl rfl)
theorem dX3_sum_28 : decode cX3_sum 28 = .ok (.iload_n 3, 1) := dk_29 (dk_at dksX3_sum_1 4 rfl rfl)
theorem dX3_sum_29 : decode cX3_sum 29 = .ok (.invokevirtual 229, 3) := dk_182 0 229 (dk_at dksX3_sum_1 5 rfl rfl)
theorem dX3_sum_32 : decode cX3_sum 32 = .ok (.imul, 1) := dk_104 (dk_at dksX3_sum_1 8 rfl rfl)
theorem dX3_sum_33 : decode cX3_sum 33 = .ok (.iadd, 1) := dk_96 (dk_at dksX3_sum_1 9 rfl rfl)
theorem dX3_sum_34 : decode cX3_sum 34 = .ok (.istore 4, 2) := dk_54 4 (dk_at dksX3_sum_1 10 rfl rfl)
theorem dX3_sum_36 : decode cX3_sum 36 = .ok (.iinc 5 1, 3) := dk_132 5 1 (dk_at dksX3_sum_1 12 rfl rfl)
theorem dX3_sum_39 : decode cX3_sum 39 = .ok (.goto (-33), 3) := dk_167 255 223 (dk_at dksX3_sum_1 15 rfl rfl)
theorem dX3_sum_42 : decode cX3_sum 42 = .ok (.iload 4, 2) := dk_21 4 (dk_at dksX3_sum_1 18 rfl rfl)
theorem dX3_sum_44 : decode cX3_sum 44 = .ok (.ireturn, 1) := dk_172 (dk_at dksX3_sum_1 20 rfl rfl)
abbrev cX3_numberOf : ByteArray := prog_17_method_36_code
def yX3_numberOf : MethodName := ⟨RX3, "numberOf", "(III)I"⟩
def dkwX3_numberOf_0 : List UInt8 := [42, 180, 0, 45, 27, 50, 8, 8, 28, 104, 96, 29, 96, 46, 172]
abbrev dktX3_numberOf_0 : List UInt8 := dkwX3_numberOf_0 ++ []
theorem dksX3_numberOf_0 : cX3_numberOf.data.toList.drop 0 = dktX3_numberOf_0 := by decide +kernel
theorem dX3_numberOf_0 : decode cX3_numberOf 0 = .ok (.aload_n 0, 1) := dk_42 (dk_at dksX3_numberOf_0 0 rfl rfl)
theorem dX3_numberOf_1 : decode cX3_numberOf 1 = .ok (.getfield 45, 3) := dk_180 0 45 (dk_at dksX3_numberOf_0 1 rfl rfl)
theorem dX3_numberOf_4 : decode cX3_numberOf 4 = .ok (.iload_n 1, 1) := dk_27 (dk_at dksX3_numberOf_0 4 rfl rfl)
theorem dX3_numberOf_5 : decode cX3_numberOf 5 = .ok (.aaload, 1) := dk_50 (dk_at dksX3_numberOf_0 5 rfl rfl)
theorem dX3_numberOf_6 : decode cX3_numberOf 6 = .ok (.iconst 5, 1) := dk_8 (dk_at dksX3_numberOf_0 6 rfl rfl)
theorem dX3_numberOf_7 : decode cX3_numberOf 7 = .ok (.iconst 5, 1) := dk_8 (dk_at dksX3_numberOf_0 7 rfl rfl)
theorem dX3_numberOf_8 : decode cX3_numberOf 8 = .ok (.iload_n 2, 1) := dk_28 (dk_at dksX3_numberOf_0 8 rfl rfl)
theorem dX3_numberOf_9 : decode cX3_numberOf 9 = .ok (.imul, 1) := dk_104 (dk_at dksX3_numberOf_0 9 rfl rfl)
theorem dX3_numberOf_10 : decode cX3_numberOf 10 = .ok (.iadd, 1) := dk_96 (dk_at dksX3_numberOf_0 10 rfl rfl)
theorem dX3_numberOf_11 : decode cX3_numberOf 11 = .ok (.iload_n 3, 1) := dk_29 (dk_at dksX3_numberOf_0 11 rfl rfl)
theorem dX3_numberOf_12 : decode cX3_numberOf 12 = .ok (.iadd, 1) := dk_96 (dk_at dksX3_numberOf_0 12 rfl rfl)
theorem dX3_numberOf_13 : decode cX3_numberOf 13 = .ok (.iaload, 1) := dk_46 (dk_at dksX3_numberOf_0 13 rfl rfl)
theorem dX3_numberOf_14 : decode cX3_numberOf 14 = .ok (.ireturn, 1) := dk_172 (dk_at dksX3_numberOf_0 14 rfl rfl)
abbrev cX3_scale : ByteArray := prog_17_method_40_code
def yX3_scale : MethodName := ⟨RX3, "scale", "(II)J"⟩
def dkwX3_scale_1 : List UInt8 := [133, 173]
abbrev dktX3_scale_1 : List UInt8 := dkwX3_scale_1 ++ []
def dkwX3_scale_0 : List UInt8 := [42, 27, 28, 182, 0, 239, 153, 0, 12, 42, 27, 28, 182, 0, 242, 167, 0, 10, 42, 16, 254, 182, 0, 119]
abbrev dktX3_scale_0 : List UInt8 := dkwX3_scale_0 ++ dktX3_scale_1
theorem dksX3_scale_0 : cX3_scale.data.toList.drop 0 = dktX3_scale_0 := by decide +kernel
theorem dksX3_scale_1 : cX3_scale.data.toList.drop 24 = dktX3_scale_1 := dk_seg dksX3_scale_0 24 rfl rfl
theorem dX3_scale_0 : decode cX3_scale 0 = .ok (.aload_n 0, 1) := dk_42 (dk_at dksX3_scale_0 0 rfl rfl)
theorem dX3_scale_1 : decode cX3_scale 1 = .ok (.iload_n 1, 1) := dk_27 (dk_at dksX3_scale_0 1 rfl rfl)
theorem dX3_scale_2 : decode cX3_scale 2 = .ok (.iload_n 2, 1) := dk_28 (dk_at dksX3_scale_0 2 rfl rfl)
theorem dX3_scale_3 : decode cX3_scale 3 = .ok (.invokevirtual 239, 3) := dk_182 0 239 (dk_at dksX3_scale_0 3 rfl rfl)
theorem dX3_scale_6 : decode cX3_scale 6 = .ok (.ifCond .eq 12, 3) := dk_153 0 12 (dk_at dksX3_scale_0 6 rfl rfl)
theorem dX3_scale_9 : decode cX3_scale 9 = .ok (.aload_n 0, 1) := dk_42 (dk_at dksX3_scale_0 9 rfl rfl)
theorem dX3_scale_10 : decode cX3_scale 10 = .ok (.iload_n 1, 1) := dk_27 (dk_at dksX3_scale_0 10 rfl rfl)
theorem dX3_scale_11 : decode cX3_scale 11 = .ok (.iload_n 2, 1) := dk_28 (dk_at dksX3_scale_0 11 rfl rfl)
theorem dX3_scale_12 : decode cX3_scale 12 = .ok (.invokevirtual 242, 3) := dk_182 0 242 (dk_at dksX3_scale_0 12 rfl rfl)
theorem dX3_scale_15 : decode cX3_scale 15 = .ok (.goto 10, 3) := dk_167 0 10 (dk_at dksX3_scale_0 15 rfl rfl)
theorem dX3_scale_18 : decode cX3_scale 18 = .ok (.aload_n 0, 1) := dk_42 (dk_at dksX3_scale_0 18 rfl rfl)
theorem dX3_scale_19 : decode cX3_scale 19 = .ok (.bipush (-2), 2) := dk_16 254 (dk_at dksX3_scale_0 19 rfl rfl)
theorem dX3_scale_21 : decode cX3_scale 21 = .ok (.invokevirtual 119, 3) := dk_182 0 119 (dk_at dksX3_scale_0 21 rfl rfl)
theorem dX3_scale_24 : decode cX3_scale 24 = .ok (.i2l, 1) := dk_133 (dk_at dksX3_scale_1 0 rfl rfl)
theorem dX3_scale_25 : decode cX3_scale 25 = .ok (.lreturn, 1) := dk_173 (dk_at dksX3_scale_1 1 rfl rfl)
abbrev cX3_isLeft : ByteArray := prog_17_method_9_code
def yX3_isLeft : MethodName := ⟨RX3, "isLeft", "(II)Z"⟩
def dkwX3_isLeft_1 : List UInt8 := [153, 0, 7, 4, 167, 0, 4, 3, 172]
abbrev dktX3_isLeft_1 : List UInt8 := dkwX3_isLeft_1 ++ []
def dkwX3_isLeft_0 : List UInt8 := [42, 27, 182, 0, 106, 153, 0, 25, 28, 133, 9, 42, 180, 0, 45, 27, 50, 3, 46, 133, 184, 0, 94]
abbrev dktX3_isLeft_0 : List UInt8 := dkwX3_isLeft_0 ++ dktX3_isLeft_1
theorem dksX3_isLeft_0 : cX3_isLeft.data.toList.drop 0 = dktX3_isLeft_0 := by decide +kernel
theorem dksX3_isLeft_1 : cX3_isLeft.data.toList.drop 23 = dktX3_isLeft_1 := dk_seg dksX3_isLeft_0 23 rfl rfl
theorem dX3_isLeft_0 : decode cX3_isLeft 0 = .ok (.aload_n 0, 1) := dk_42 (dk_at dksX3_isLeft_0 0 rfl rfl)
theorem dX3_isLeft_1 : decode cX3_isLeft 1 = .ok (.iload_n 1, 1) := dk_27 (dk_at dksX3_isLeft_0 1 rfl rfl)
theorem dX3_isLeft_2 : decode cX3_isLeft 2 = .ok (.invokevirtual 106, 3) := dk_182 0 106 (dk_at dksX3_isLeft_0 2 rfl rfl)
theorem dX3_isLeft_5 : decode cX3_isLeft 5 = .ok (.ifCond .eq 25, 3) := dk_153 0 25 (dk_at dksX3_isLeft_0 5 rfl rfl)
theorem dX3_isLeft_8 : decode cX3_isLeft 8 = .ok (.iload_n 2, 1) := dk_28 (dk_at dksX3_isLeft_0 8 rfl rfl)
theorem dX3_isLeft_9 : decode cX3_isLeft 9 = .ok (.i2l, 1) := dk_133 (dk_at dksX3_isLeft_0 9 rfl rfl)
theorem dX3_isLeft_10 : decode cX3_isLeft 10 = .ok (.lconst 0, 1) := dk_9 (dk_at dksX3_isLeft_0 10 rfl rfl)
theorem dX3_isLeft_11 : decode cX3_isLeft 11 = .ok (.aload_n 0, 1) := dk_42 (dk_at dksX3_isLeft_0 11 rfl rfl)
theorem dX3_isLeft_12 : decode cX3_isLeft 12 = .ok (.getfield 45, 3) := dk_180 0 45 (dk_at dksX3_isLeft_0 12 rfl rfl)
theorem dX3_isLeft_15 : decode cX3_isLeft 15 = .ok (.iload_n 1, 1) := dk_27 (dk_at dksX3_isLeft_0 15 rfl rfl)
theorem dX3_isLeft_16 : decode cX3_isLeft 16 = .ok (.aaload, 1) := dk_50 (dk_at dksX3_isLeft_0 16 rfl rfl)
theorem dX3_isLeft_17 : decode cX3_isLeft 17 = .ok (.iconst 0, 1) := dk_3 (dk_at dksX3_isLeft_0 17 rfl rfl)
theorem dX3_isLeft_18 : decode cX3_isLeft 18 = .ok (.iaload, 1) := dk_46 (dk_at dksX3_isLeft_0 18 rfl rfl)
theorem dX3_isLeft_19 : decode cX3_isLeft 19 = .ok (.i2l, 1) := dk_133 (dk_at dksX3_isLeft_0 19 rfl rfl)
theorem dX3_isLeft_20 : decode cX3_isLeft 20 = .ok (.invokestatic 94, 3) := dk_184 0 94 (dk_at dksX3_isLeft_0 20 rfl rfl)
theorem dX3_isLeft_23 : decode cX3_isLeft 23 = .ok (.ifCond .eq 7, 3) := dk_153 0 7 (dk_at dksX3_isLeft_1 0 rfl rfl)
theorem dX3_isLeft_26 : decode cX3_isLeft 26 = .ok (.iconst 1, 1) := dk_4 (dk_at dksX3_isLeft_1 3 rfl rfl)
theorem dX3_isLeft_27 : decode cX3_isLeft 27 = .ok (.goto 4, 3) := dk_167 0 4 (dk_at dksX3_isLeft_1 4 rfl rfl)
theorem dX3_isLeft_30 : decode cX3_isLeft 30 = .ok (.iconst 0, 1) := dk_3 (dk_at dksX3_isLeft_1 7 rfl rfl)
theorem dX3_isLeft_31 : decode cX3_isLeft 31 = .ok (.ireturn, 1) := dk_172 (dk_at dksX3_isLeft_1 8 rfl rfl)
abbrev cX3_scaleOf : ByteArray := prog_17_method_39_code
def yX3_scaleOf : MethodName := ⟨RX3, "scaleOf", "(II)J"⟩
def dkwX3_scaleOf_1 : List UInt8 := [66, 132, 5, 1, 167, 255, 233, 33, 173]
abbrev dktX3_scaleOf_1 : List UInt8 := dkwX3_scaleOf_1 ++ []
def dkwX3_scaleOf_0 : List UInt8 := [10, 66, 3, 54, 5, 21, 5, 28, 4, 42, 27, 182, 0, 98, 96, 104, 162, 0, 15, 33, 20, 0, 115, 105]
abbrev dktX3_scaleOf_0 : List UInt8 := dkwX3_scaleOf_0 ++ dktX3_scaleOf_1
theorem dksX3_scaleOf_0 : cX3_scaleOf.data.toList.drop 0 = dktX3_scaleOf_0 := by decide +kernel
theorem dksX3_scaleOf_1 : cX3_scaleOf.data.toList.drop 24 = dktX3_scaleOf_1 := dk_seg dksX3_scaleOf_0 24 rfl rfl
theorem dX3_scaleOf_0 : decode cX3_scaleOf 0 = .ok (.lconst 1, 1) := dk_10 (dk_at dksX3_scaleOf_0 0 rfl rfl)
theorem dX3_scaleOf_1 : decode cX3_scaleOf 1 = .ok (.lstore_n 3, 1) := dk_66 (dk_at dksX3_scaleOf_0 1 rfl rfl)
theorem dX3_scaleOf_2 : decode cX3_scaleOf 2 = .ok (.iconst 0, 1) := dk_3 (dk_at dksX3_scaleOf_0 2 rfl rfl)
theorem dX3_scaleOf_3 : decode cX3_scaleOf 3 = .ok (.istore 5, 2) := dk_54 5 (dk_at dksX3_scaleOf_0 3 rfl rfl)
theorem dX3_scaleOf_5 : decode cX3_scaleOf 5 = .ok (.iload 5, 2) := dk_21 5 (dk_at dksX3_scaleOf_0 5 rfl rfl)
theorem dX3_scaleOf_7 : decode cX3_scaleOf 7 = .ok (.iload_n 2, 1) := dk_28 (dk_at dksX3_scaleOf_0 7 rfl rfl)
theorem dX3_scaleOf_8 : decode cX3_scaleOf 8 = .ok (.iconst 1, 1) := dk_4 (dk_at dksX3_scaleOf_0 8 rfl rfl)
theorem dX3_scaleOf_9 : decode cX3_scaleOf 9 = .ok (.aload_n 0, 1) := dk_42 (dk_at dksX3_scaleOf_0 9 rfl rfl)
theorem dX3_scaleOf_10 : decode cX3_scaleOf 10 = .ok (.iload_n 1, 1) := dk_27 (dk_at dksX3_scaleOf_0 10 rfl rfl)
theorem dX3_scaleOf_11 : decode cX3_scaleOf 11 = .ok (.invokevirtual 98, 3) := dk_182 0 98 (dk_at dksX3_scaleOf_0 11 rfl rfl)
theorem dX3_scaleOf_14 : decode cX3_scaleOf 14 = .ok (.iadd, 1) := dk_96 (dk_at dksX3_scaleOf_0 14 rfl rfl)
theorem dX3_scaleOf_15 : decode cX3_scaleOf 15 = .ok (.imul, 1) := dk_104 (dk_at dksX3_scaleOf_0 15 rfl rfl)
theorem dX3_scaleOf_16 : decode cX3_scaleOf 16 = .ok (.if_icmp .ge 15, 3) := dk_162 0 15 (dk_at dksX3_scaleOf_0 16 rfl rfl)
theorem dX3_scaleOf_19 : decode cX3_scaleOf 19 = .ok (.lload_n 3, 1) := dk_33 (dk_at dksX3_scaleOf_0 19 rfl rfl)
theorem dX3_scaleOf_20 : decode cX3_scaleOf 20 = .ok (.ldc2_w 115, 3) := dk_20 0 115 (dk_at dksX3_scaleOf_0 20 rfl rfl)
theorem dX3_scaleOf_23 : decode cX3_scaleOf 23 = .ok (.lmul, 1) := dk_105 (dk_at dksX3_scaleOf_0 23 rfl rfl)
theorem dX3_scaleOf_24 : decode cX3_scaleOf 24 = .ok (.lstore_n 3, 1) := dk_66 (dk_at dksX3_scaleOf_1 0 rfl rfl)
theorem dX3_scaleOf_25 : decode cX3_scaleOf 25 = .ok (.iinc 5 1, 3) := dk_132 5 1 (dk_at dksX3_scaleOf_1 1 rfl rfl)
theorem dX3_scaleOf_28 : decode cX3_scaleOf 28 = .ok (.goto (-23), 3) := dk_167 255 233 (dk_at dksX3_scaleOf_1 4 rfl rfl)
theorem dX3_scaleOf_31 : decode cX3_scaleOf 31 = .ok (.lload_n 3, 1) := dk_33 (dk_at dksX3_scaleOf_1 7 rfl rfl)
theorem dX3_scaleOf_32 : decode cX3_scaleOf 32 = .ok (.lreturn, 1) := dk_173 (dk_at dksX3_scaleOf_1 8 rfl rfl)
abbrev cX3_fill : ByteArray := prog_17_method_43_code
def yX3_fill : MethodName := ⟨RX3, "fill", "(II)I"⟩
def dkwX3_fill_1 : List UInt8 := [172]
abbrev dktX3_fill_1 : List UInt8 := dkwX3_fill_1 ++ []
def dkwX3_fill_0 : List UInt8 := [42, 27, 28, 182, 0, 233, 153, 0, 12, 42, 27, 28, 182, 0, 246, 167, 0, 9, 42, 16, 254, 182, 0, 119]
abbrev dktX3_fill_0 : List UInt8 := dkwX3_fill_0 ++ dktX3_fill_1
theorem dksX3_fill_0 : cX3_fill.data.toList.drop 0 = dktX3_fill_0 := by decide +kernel
theorem dksX3_fill_1 : cX3_fill.data.toList.drop 24 = dktX3_fill_1 := dk_seg dksX3_fill_0 24 rfl rfl
theorem dX3_fill_0 : decode cX3_fill 0 = .ok (.aload_n 0, 1) := dk_42 (dk_at dksX3_fill_0 0 rfl rfl)
theorem dX3_fill_1 : decode cX3_fill 1 = .ok (.iload_n 1, 1) := dk_27 (dk_at dksX3_fill_0 1 rfl rfl)
theorem dX3_fill_2 : decode cX3_fill 2 = .ok (.iload_n 2, 1) := dk_28 (dk_at dksX3_fill_0 2 rfl rfl)
theorem dX3_fill_3 : decode cX3_fill 3 = .ok (.invokevirtual 233, 3) := dk_182 0 233 (dk_at dksX3_fill_0 3 rfl rfl)
theorem dX3_fill_6 : decode cX3_fill 6 = .ok (.ifCond .eq 12, 3) := dk_153 0 12 (dk_at dksX3_fill_0 6 rfl rfl)
theorem dX3_fill_9 : decode cX3_fill 9 = .ok (.aload_n 0, 1) := dk_42 (dk_at dksX3_fill_0 9 rfl rfl)
theorem dX3_fill_10 : decode cX3_fill 10 = .ok (.iload_n 1, 1) := dk_27 (dk_at dksX3_fill_0 10 rfl rfl)
theorem dX3_fill_11 : decode cX3_fill 11 = .ok (.iload_n 2, 1) := dk_28 (dk_at dksX3_fill_0 11 rfl rfl)
theorem dX3_fill_12 : decode cX3_fill 12 = .ok (.invokevirtual 246, 3) := dk_182 0 246 (dk_at dksX3_fill_0 12 rfl rfl)
theorem dX3_fill_15 : decode cX3_fill 15 = .ok (.goto 9, 3) := dk_167 0 9 (dk_at dksX3_fill_0 15 rfl rfl)
theorem dX3_fill_18 : decode cX3_fill 18 = .ok (.aload_n 0, 1) := dk_42 (dk_at dksX3_fill_0 18 rfl rfl)
theorem dX3_fill_19 : decode cX3_fill 19 = .ok (.bipush (-2), 2) := dk_16 254 (dk_at dksX3_fill_0 19 rfl rfl)
theorem dX3_fill_21 : decode cX3_fill 21 = .ok (.invokevirtual 119, 3) := dk_182 0 119 (dk_at dksX3_fill_0 21 rfl rfl)
theorem dX3_fill_24 : decode cX3_fill 24 = .ok (.ireturn, 1) := dk_172 (dk_at dksX3_fill_1 0 rfl rfl)
abbrev cX3_fillOf : ByteArray := prog_17_method_42_code
def yX3_fillOf : MethodName := ⟨RX3, "fillOf", "(II)I"⟩
def dkwX3_fillOf_7 : List UInt8 := [167, 255, 110, 29, 172]
abbrev dktX3_fillOf_7 : List UInt8 := dkwX3_fillOf_7 ++ []
def dkwX3_fillOf_6 : List UInt8 := [21, 9, 21, 8, 104, 100, 54, 4, 29, 21, 9, 8, 21, 7, 184, 0, 102, 104, 96, 62, 132, 6, 1]
abbrev dktX3_fillOf_6 : List UInt8 := dkwX3_fillOf_6 ++ dktX3_fillOf_7
def dkwX3_fillOf_5 : List UInt8 := [21, 7, 184, 0, 226, 164, 0, 12, 28, 21, 7, 184, 0, 226, 167, 0, 5, 21, 9, 54, 9, 21, 4]
abbrev dktX3_fillOf_5 : List UInt8 := dkwX3_fillOf_5 ++ dktX3_fillOf_6
def dkwX3_fillOf_4 : List UInt8 := [120, 128, 54, 5, 42, 27, 21, 7, 3, 182, 0, 229, 54, 8, 21, 4, 21, 8, 108, 54, 9, 21, 9, 28]
abbrev dktX3_fillOf_4 : List UInt8 := dkwX3_fillOf_4 ++ dktX3_fillOf_5
def dkwX3_fillOf_3 : List UInt8 := [21, 7, 5, 182, 0, 229, 164, 0, 7, 21, 8, 54, 7, 132, 8, 1, 167, 255, 204, 21, 5, 4, 21, 7]
abbrev dktX3_fillOf_3 : List UInt8 := dkwX3_fillOf_3 ++ dktX3_fillOf_4
def dkwX3_fillOf_2 : List UInt8 := [21, 8, 122, 4, 126, 154, 0, 32, 21, 7, 2, 159, 0, 22, 42, 27, 21, 8, 5, 182, 0, 229, 42, 27]
abbrev dktX3_fillOf_2 : List UInt8 := dkwX3_fillOf_2 ++ dktX3_fillOf_3
def dkwX3_fillOf_1 : List UInt8 := [182, 0, 98, 162, 0, 142, 2, 54, 7, 3, 54, 8, 21, 8, 42, 27, 182, 0, 98, 162, 0, 48, 21, 5]
abbrev dktX3_fillOf_1 : List UInt8 := dkwX3_fillOf_1 ++ dktX3_fillOf_2
def dkwX3_fillOf_0 : List UInt8 := [3, 62, 42, 180, 0, 45, 27, 50, 5, 46, 54, 4, 3, 54, 5, 3, 54, 6, 21, 6, 42, 27]
abbrev dktX3_fillOf_0 : List UInt8 := dkwX3_fillOf_0 ++ dktX3_fillOf_1
theorem dksX3_fillOf_0 : cX3_fillOf.data.toList.drop 0 = dktX3_fillOf_0 := by decide +kernel
theorem dksX3_fillOf_1 : cX3_fillOf.data.toList.drop 22 = dktX3_fillOf_1 := dk_seg dksX3_fillOf_0 22 rfl rfl
theorem dksX3_fillOf_2 : cX3_fillOf.data.toList.drop 46 = dktX3_fillOf_2 := dk_seg dksX3_fillOf_1 24 rfl rfl
theorem dksX3_fillOf_3 : cX3_fillOf.data.toList.drop 70 = dktX3_fillOf_3 := dk_seg dksX3_fillOf_2 24 rfl rfl
theorem dksX3_fillOf_4 : cX3_fillOf.data.toList.drop 94 = dktX3_fillOf_4 := dk_seg dksX3_fillOf_3 24 rfl rfl
theorem dksX3_fillOf_5 : cX3_fillOf.data.toList.drop 118 = dktX3_fillOf_5 := dk_seg dksX3_fillOf_4 24 rfl rfl
theorem dksX3_fillOf_6 : cX3_fillOf.data.toList.drop 141 = dktX3_fillOf_6 := dk_seg dksX3_fillOf_5 23 rfl rfl
theorem dksX3_fillOf_7 : cX3_fillOf.data.toList.drop 164 = dktX3_fillOf_7 := dk_seg dksX3_fillOf_6 23 rfl rfl
theorem dX3_fillOf_0 : decode cX3_fillOf 0 = .ok (.iconst 0, 1) := dk_3 (dk_at dksX3_fillOf_0 0 rfl rfl)
theorem dX3_fillOf_1 : decode cX3_fillOf 1 = .ok (.istore_n 3, 1) := dk_62 (dk_at dksX3_fillOf_0 1 rfl rfl)
theorem dX3_fillOf_2 : decode cX3_fillOf 2 = .ok (.aload_n 0, 1) := dk_42 (dk_at dksX3_fillOf_0 2 rfl rfl)
theorem dX3_fillOf_3 : decode cX3_fillOf 3 = .ok (.getfield 45, 3) := dk_180 0 45 (dk_at dksX3_fillOf_0 3 rfl rfl)
theorem dX3_fillOf_6 : decode cX3_fillOf 6 = .ok (.iload_n 1, 1) := dk_27 (dk_at dksX3_fillOf_0 6 rfl rfl)
theorem dX3_fillOf_7 : decode cX3_fillOf 7 = .ok (.aaload, 1) := dk_50 (dk_at dksX3_fillOf_0 7 rfl rfl)
theorem dX3_fillOf_8 : decode cX3_fillOf 8 = .ok (.iconst 2, 1) := dk_5 (dk_at dksX3_fillOf_0 8 rfl rfl)
theorem dX3_fillOf_9 : decode cX3_fillOf 9 = .ok (.iaload, 1) := dk_46 (dk_at dksX3_fillOf_0 9 rfl rfl)
theorem dX3_fillOf_10 : decode cX3_fillOf 10 = .ok (.istore 4, 2) := dk_54 4 (dk_at dksX3_fillOf_0 10 rfl rfl)
theorem dX3_fillOf_12 : decode cX3_fillOf 12 = .ok (.iconst 0, 1) := dk_3 (dk_at dksX3_fillOf_0 12 rfl rfl)
theorem dX3_fillOf_13 : decode cX3_fillOf 13 = .ok (.istore 5, 2) := dk_54 5 (dk_at dksX3_fillOf_0 13 rfl rfl)
theorem dX3_fillOf_15 : decode cX3_fillOf 15 = .ok (.iconst 0, 1) := dk_3 (dk_at dksX3_fillOf_0 15 rfl rfl)
theorem dX3_fillOf_16 : decode cX3_fillOf 16 = .ok (.istore 6, 2) := dk_54 6 (dk_at dksX3_fillOf_0 16 rfl rfl)
theorem dX3_fillOf_18 : decode cX3_fillOf 18 = .ok (.iload 6, 2) := dk_21 6 (dk_at dksX3_fillOf_0 18 rfl rfl)
theorem dX3_fillOf_20 : decode cX3_fillOf 20 = .ok (.aload_n 0, 1) := dk_42 (dk_at dksX3_fillOf_0 20 rfl rfl)
theorem dX3_fillOf_21 : decode cX3_fillOf 21 = .ok (.iload_n 1, 1) := dk_27 (dk_at dksX3_fillOf_0 21 rfl rfl)
theorem dX3_fillOf_22 : decode cX3_fillOf 22 = .ok (.invokevirtual 98, 3) := dk_182 0 98 (dk_at dksX3_fillOf_1 0 rfl rfl)
theorem dX3_fillOf_25 : decode cX3_fillOf 25 = .ok (.if_icmp .ge 142, 3) := dk_162 0 142 (dk_at dksX3_fillOf_1 3 rfl rfl)
theorem dX3_fillOf_28 : decode cX3_fillOf 28 = .ok (.iconst (-1), 1) := dk_2 (dk_at dksX3_fillOf_1 6 rfl rfl)
theorem dX3_fillOf_29 : decode cX3_fillOf 29 = .ok (.istore 7, 2) := dk_54 7 (dk_at dksX3_fillOf_1 7 rfl rfl)
theorem dX3_fillOf_31 : decode cX3_fillOf 31 = .ok (.iconst 0, 1) := dk_3 (dk_at dksX3_fillOf_1 9 rfl rfl)
theorem dX3_fillOf_32 : decode cX3_fillOf 32 = .ok (.istore 8, 2) := dk_54 8 (dk_at dksX3_fillOf_1 10 rfl rfl)
theorem dX3_fillOf_34 : decode cX3_fillOf 34 = .ok (.iload 8, 2) := dk_21 8 (dk_at dksX3_fillOf_1 12 rfl rfl)
theorem dX3_fillOf_36 : decode cX3_fillOf 36 = .ok (.aload_n 0, 1) := dk_42 (dk_at dksX3_fillOf_1 14 rfl rfl)
theorem dX3_fillOf_37 : decode cX3_fillOf 37 = .ok (.iload_n 1, 1) := dk_27 (dk_at dksX3_fillOf_1 15 rfl rfl)
theorem dX3_fillOf_38 : decode cX3_fillOf 38 = .ok (.invokevirtual 98, 3) := dk_182 0 98 (dk_at dksX3_fillOf_1 16 rfl rfl)
theorem dX3_fillOf_41 : decode cX3_fillOf 41 = .ok (.if_icmp .ge 48, 3) := dk_162 0 48 (dk_at dksX3_fillOf_1 19 rfl rfl)
theorem dX3_fillOf_44 : decode cX3_fillOf 44 = .ok (.iload 5, 2) := dk_21 5 (dk_at dksX3_fillOf_1 22 rfl rfl)
theorem dX3_fillOf_46 : decode cX3_fillOf 46 = .ok (.iload 8, 2) := dk_21 8 (dk_at dksX3_fillOf_2 0 rfl rfl)
theorem dX3_fillOf_48 : decode cX3_fillOf 48 = .ok (.ishr, 1) := dk_122 (dk_at dksX3_fillOf_2 2 rfl rfl)
theorem dX3_fillOf_49 : decode cX3_fillOf 49 = .ok (.iconst 1, 1) := dk_4 (dk_at dksX3_fillOf_2 3 rfl rfl)
theorem dX3_fillOf_50 : decode cX3_fillOf 50 = .ok (.iand, 1) := dk_126 (dk_at dksX3_fillOf_2 4 rfl rfl)
theorem dX3_fillOf_51 : decode cX3_fillOf 51 = .ok (.ifCond .ne 32, 3) := dk_154 0 32 (dk_at dksX3_fillOf_2 5 rfl rfl)
theorem dX3_fillOf_54 : decode cX3_fillOf 54 = .ok (.iload 7, 2) := dk_21 7 (dk_at dksX3_fillOf_2 8 rfl rfl)
theorem dX3_fillOf_56 : decode cX3_fillOf 56 = .ok (.iconst (-1), 1) := dk_2 (dk_at dksX3_fillOf_2 10 rfl rfl)
theorem dX3_fillOf_57 : decode cX3_fillOf 57 = .ok (.if_icmp .eq 22, 3) := dk_159 0 22 (dk_at dksX3_fillOf_2 11 rfl rfl)
theorem dX3_fillOf_60 : decode cX3_fillOf 60 = .ok (.aload_n 0, 1) := dk_42 (dk_at dksX3_fillOf_2 14 rfl rfl)
theorem dX3_fillOf_61 : decode cX3_fillOf 61 = .ok (.iload_n 1, 1) := dk_27 (dk_at dksX3_fillOf_2 15 rfl rfl)
theorem dX3_fillOf_62 : decode cX3_fillOf 62 = .ok (.iload 8, 2) := dk_21 8 (dk_at dksX3_fillOf_2 16 rfl rfl)
theorem dX3_fillOf_64 : decode cX3_fillOf 64 = .ok (.iconst 2, 1) := dk_5 (dk_at dksX3_fillOf_2 18 rfl rfl)
theorem dX3_fillOf_65 : decode cX3_fillOf 65 = .ok (.invokevirtual 229, 3) := dk_182 0 229 (dk_at dksX3_fillOf_2 19 rfl rfl)
theorem dX3_fillOf_68 : decode cX3_fillOf 68 = .ok (.aload_n 0, 1) := dk_42 (dk_at dksX3_fillOf_2 22 rfl rfl)
theorem dX3_fillOf_69 : decode cX3_fillOf 69 = .ok (.iload_n 1, 1) := dk_27 (dk_at dksX3_fillOf_2 23 rfl rfl)
theorem dX3_fillOf_70 : decode cX3_fillOf 70 = .ok (.iload 7, 2) := dk_21 7 (dk_at dksX3_fillOf_3 0 rfl rfl)
theorem dX3_fillOf_72 : decode cX3_fillOf 72 = .ok (.iconst 2, 1) := dk_5 (dk_at dksX3_fillOf_3 2 rfl rfl)
theorem dX3_fillOf_73 : decode cX3_fillOf 73 = .ok (.invokevirtual 229, 3) := dk_182 0 229 (dk_at dksX3_fillOf_3 3 rfl rfl)
theorem dX3_fillOf_76 : decode cX3_fillOf 76 = .ok (.if_icmp .le 7, 3) := dk_164 0 7 (dk_at dksX3_fillOf_3 6 rfl rfl)
theorem dX3_fillOf_79 : decode cX3_fillOf 79 = .ok (.iload 8, 2) := dk_21 8 (dk_at dksX3_fillOf_3 9 rfl rfl)
theorem dX3_fillOf_81 : decode cX3_fillOf 81 = .ok (.istore 7, 2) := dk_54 7 (dk_at dksX3_fillOf_3 11 rfl rfl)
theorem dX3_fillOf_83 : decode cX3_fillOf 83 = .ok (.iinc 8 1, 3) := dk_132 8 1 (dk_at dksX3_fillOf_3 13 rfl rfl)
theorem dX3_fillOf_86 : decode cX3_fillOf 86 = .ok (.goto (-52), 3) := dk_167 255 204 (dk_at dksX3_fillOf_3 16 rfl rfl)
theorem dX3_fillOf_89 : decode cX3_fillOf 89 = .ok (.iload 5, 2) := dk_21 5 (dk_at dksX3_fillOf_3 19 rfl rfl)
theorem dX3_fillOf_91 : decode cX3_fillOf 91 = .ok (.iconst 1, 1) := dk_4 (dk_at dksX3_fillOf_3 21 rfl rfl)
theorem dX3_fillOf_92 : decode cX3_fillOf 92 = .ok (.iload 7, 2) := dk_21 7 (dk_at dksX3_fillOf_3 22 rfl rfl)
theorem dX3_fillOf_94 : decode cX3_fillOf 94 = .ok (.ishl, 1) := dk_120 (dk_at dksX3_fillOf_4 0 rfl rfl)
theorem dX3_fillOf_95 : decode cX3_fillOf 95 = .ok (.ior, 1) := dk_128 (dk_at dksX3_fillOf_4 1 rfl rfl)
theorem dX3_fillOf_96 : decode cX3_fillOf 96 = .ok (.istore 5, 2) := dk_54 5 (dk_at dksX3_fillOf_4 2 rfl rfl)
theorem dX3_fillOf_98 : decode cX3_fillOf 98 = .ok (.aload_n 0, 1) := dk_42 (dk_at dksX3_fillOf_4 4 rfl rfl)
theorem dX3_fillOf_99 : decode cX3_fillOf 99 = .ok (.iload_n 1, 1) := dk_27 (dk_at dksX3_fillOf_4 5 rfl rfl)
theorem dX3_fillOf_100 : decode cX3_fillOf 100 = .ok (.iload 7, 2) := dk_21 7 (dk_at dksX3_fillOf_4 6 rfl rfl)
theorem dX3_fillOf_102 : decode cX3_fillOf 102 = .ok (.iconst 0, 1) := dk_3 (dk_at dksX3_fillOf_4 8 rfl rfl)
theorem dX3_fillOf_103 : decode cX3_fillOf 103 = .ok (.invokevirtual 229, 3) := dk_182 0 229 (dk_at dksX3_fillOf_4 9 rfl rfl)
theorem dX3_fillOf_106 : decode cX3_fillOf 106 = .ok (.istore 8, 2) := dk_54 8 (dk_at dksX3_fillOf_4 12 rfl rfl)
theorem dX3_fillOf_108 : decode cX3_fillOf 108 = .ok (.iload 4, 2) := dk_21 4 (dk_at dksX3_fillOf_4 14 rfl rfl)
theorem dX3_fillOf_110 : decode cX3_fillOf 110 = .ok (.iload 8, 2) := dk_21 8 (dk_at dksX3_fillOf_4 16 rfl rfl)
theorem dX3_fillOf_112 : decode cX3_fillOf 112 = .ok (.idiv, 1) := dk_108 (dk_at dksX3_fillOf_4 18 rfl rfl)
theorem dX3_fillOf_113 : decode cX3_fillOf 113 = .ok (.istore 9, 2) := dk_54 9 (dk_at dksX3_fillOf_4 19 rfl rfl)
theorem dX3_fillOf_115 : decode cX3_fillOf 115 = .ok (.iload 9, 2) := dk_21 9 (dk_at dksX3_fillOf_4 21 rfl rfl)
theorem dX3_fillOf_117 : decode cX3_fillOf 117 = .ok (.iload_n 2, 1) := dk_28 (dk_at dksX3_fillOf_4 23 rfl rfl)
theorem dX3_fillOf_118 : decode cX3_fillOf 118 = .ok (.iload 7, 2) := dk_21 7 (dk_at dksX3_fillOf_5 0 rfl rfl)
theorem dX3_fillOf_120 : decode cX3_fillOf 120 = .ok (.invokestatic 226, 3) := dk_184 0 226 (dk_at dksX3_fillOf_5 2 rfl rfl)
theorem dX3_fillOf_123 : decode cX3_fillOf 123 = .ok (.if_icmp .le 12, 3) := dk_164 0 12 (dk_at dksX3_fillOf_5 5 rfl rfl)
theorem dX3_fillOf_126 : decode cX3_fillOf 126 = .ok (.iload_n 2, 1) := dk_28 (dk_at dksX3_fillOf_5 8 rfl rfl)
theorem dX3_fillOf_127 : decode cX3_fillOf 127 = .ok (.iload 7, 2) := dk_21 7 (dk_at dksX3_fillOf_5 9 rfl rfl)
theorem dX3_fillOf_129 : decode cX3_fillOf 129 = .ok (.invokestatic 226, 3) := dk_184 0 226 (dk_at dksX3_fillOf_5 11 rfl rfl)
theorem dX3_fillOf_132 : decode cX3_fillOf 132 = .ok (.goto 5, 3) := dk_167 0 5 (dk_at dksX3_fillOf_5 14 rfl rfl)
theorem dX3_fillOf_135 : decode cX3_fillOf 135 = .ok (.iload 9, 2) := dk_21 9 (dk_at dksX3_fillOf_5 17 rfl rfl)
theorem dX3_fillOf_137 : decode cX3_fillOf 137 = .ok (.istore 9, 2) := dk_54 9 (dk_at dksX3_fillOf_5 19 rfl rfl)
theorem dX3_fillOf_139 : decode cX3_fillOf 139 = .ok (.iload 4, 2) := dk_21 4 (dk_at dksX3_fillOf_5 21 rfl rfl)
theorem dX3_fillOf_141 : decode cX3_fillOf 141 = .ok (.iload 9, 2) := dk_21 9 (dk_at dksX3_fillOf_6 0 rfl rfl)
theorem dX3_fillOf_143 : decode cX3_fillOf 143 = .ok (.iload 8, 2) := dk_21 8 (dk_at dksX3_fillOf_6 2 rfl rfl)
theorem dX3_fillOf_145 : decode cX3_fillOf 145 = .ok (.imul, 1) := dk_104 (dk_at dksX3_fillOf_6 4 rfl rfl)
theorem dX3_fillOf_146 : decode cX3_fillOf 146 = .ok (.isub, 1) := dk_100 (dk_at dksX3_fillOf_6 5 rfl rfl)
theorem dX3_fillOf_147 : decode cX3_fillOf 147 = .ok (.istore 4, 2) := dk_54 4 (dk_at dksX3_fillOf_6 6 rfl rfl)
theorem dX3_fillOf_149 : decode cX3_fillOf 149 = .ok (.iload_n 3, 1) := dk_29 (dk_at dksX3_fillOf_6 8 rfl rfl)
theorem dX3_fillOf_150 : decode cX3_fillOf 150 = .ok (.iload 9, 2) := dk_21 9 (dk_at dksX3_fillOf_6 9 rfl rfl)
theorem dX3_fillOf_152 : decode cX3_fillOf 152 = .ok (.iconst 5, 1) := dk_8 (dk_at dksX3_fillOf_6 11 rfl rfl)
theorem dX3_fillOf_153 : decode cX3_fillOf 153 = .ok (.iload 7, 2) := dk_21 7 (dk_at dksX3_fillOf_6 12 rfl rfl)
theorem dX3_fillOf_155 : decode cX3_fillOf 155 = .ok (.invokestatic 102, 3) := dk_184 0 102 (dk_at dksX3_fillOf_6 14 rfl rfl)
theorem dX3_fillOf_158 : decode cX3_fillOf 158 = .ok (.imul, 1) := dk_104 (dk_at dksX3_fillOf_6 17 rfl rfl)
theorem dX3_fillOf_159 : decode cX3_fillOf 159 = .ok (.iadd, 1) := dk_96 (dk_at dksX3_fillOf_6 18 rfl rfl)
theorem dX3_fillOf_160 : decode cX3_fillOf 160 = .ok (.istore_n 3, 1) := dk_62 (dk_at dksX3_fillOf_6 19 rfl rfl)
theorem dX3_fillOf_161 : decode cX3_fillOf 161 = .ok (.iinc 6 1, 3) := dk_132 6 1 (dk_at dksX3_fillOf_6 20 rfl rfl)
theorem dX3_fillOf_164 : decode cX3_fillOf 164 = .ok (.goto (-146), 3) := dk_167 255 110 (dk_at dksX3_fillOf_7 0 rfl rfl)
theorem dX3_fillOf_167 : decode cX3_fillOf 167 = .ok (.iload_n 3, 1) := dk_29 (dk_at dksX3_fillOf_7 3 rfl rfl)
theorem dX3_fillOf_168 : decode cX3_fillOf 168 = .ok (.ireturn, 1) := dk_172 (dk_at dksX3_fillOf_7 4 rfl rfl)
abbrev cX3_cost : ByteArray := prog_17_method_49_code
def yX3_cost : MethodName := ⟨RX3, "cost", "(III)J"⟩
def dkwX3_cost_1 : List UInt8 := [133, 173, 42, 27, 182, 1, 8, 42, 180, 0, 55, 28, 50, 29, 47, 173]
abbrev dktX3_cost_1 : List UInt8 := dkwX3_cost_1 ++ []
def dkwX3_cost_0 : List UInt8 := [42, 27, 28, 182, 0, 239, 153, 0, 12, 42, 27, 29, 182, 0, 233, 154, 0, 11, 42, 16, 254, 182, 0, 119]
abbrev dktX3_cost_0 : List UInt8 := dkwX3_cost_0 ++ dktX3_cost_1
theorem dksX3_cost_0 : cX3_cost.data.toList.drop 0 = dktX3_cost_0 := by decide +kernel
theorem dksX3_cost_1 : cX3_cost.data.toList.drop 24 = dktX3_cost_1 := dk_seg dksX3_cost_0 24 rfl rfl
theorem dX3_cost_0 : decode cX3_cost 0 = .ok (.aload_n 0, 1) := dk_42 (dk_at dksX3_cost_0 0 rfl rfl)
theorem dX3_cost_1 : decode cX3_cost 1 = .ok (.iload_n 1, 1) := dk_27 (dk_at dksX3_cost_0 1 rfl rfl)
theorem dX3_cost_2 : decode cX3_cost 2 = .ok (.iload_n 2, 1) := dk_28 (dk_at dksX3_cost_0 2 rfl rfl)
theorem dX3_cost_3 : decode cX3_cost 3 = .ok (.invokevirtual 239, 3) := dk_182 0 239 (dk_at dksX3_cost_0 3 rfl rfl)
theorem dX3_cost_6 : decode cX3_cost 6 = .ok (.ifCond .eq 12, 3) := dk_153 0 12 (dk_at dksX3_cost_0 6 rfl rfl)
theorem dX3_cost_9 : decode cX3_cost 9 = .ok (.aload_n 0, 1) := dk_42 (dk_at dksX3_cost_0 9 rfl rfl)
theorem dX3_cost_10 : decode cX3_cost 10 = .ok (.iload_n 1, 1) := dk_27 (dk_at dksX3_cost_0 10 rfl rfl)
theorem dX3_cost_11 : decode cX3_cost 11 = .ok (.iload_n 3, 1) := dk_29 (dk_at dksX3_cost_0 11 rfl rfl)
theorem dX3_cost_12 : decode cX3_cost 12 = .ok (.invokevirtual 233, 3) := dk_182 0 233 (dk_at dksX3_cost_0 12 rfl rfl)
theorem dX3_cost_15 : decode cX3_cost 15 = .ok (.ifCond .ne 11, 3) := dk_154 0 11 (dk_at dksX3_cost_0 15 rfl rfl)
theorem dX3_cost_18 : decode cX3_cost 18 = .ok (.aload_n 0, 1) := dk_42 (dk_at dksX3_cost_0 18 rfl rfl)
theorem dX3_cost_19 : decode cX3_cost 19 = .ok (.bipush (-2), 2) := dk_16 254 (dk_at dksX3_cost_0 19 rfl rfl)
theorem dX3_cost_21 : decode cX3_cost 21 = .ok (.invokevirtual 119, 3) := dk_182 0 119 (dk_at dksX3_cost_0 21 rfl rfl)
theorem dX3_cost_24 : decode cX3_cost 24 = .ok (.i2l, 1) := dk_133 (dk_at dksX3_cost_1 0 rfl rfl)
theorem dX3_cost_25 : decode cX3_cost 25 = .ok (.lreturn, 1) := dk_173 (dk_at dksX3_cost_1 1 rfl rfl)
theorem dX3_cost_26 : decode cX3_cost 26 = .ok (.aload_n 0, 1) := dk_42 (dk_at dksX3_cost_1 2 rfl rfl)
theorem dX3_cost_27 : decode cX3_cost 27 = .ok (.iload_n 1, 1) := dk_27 (dk_at dksX3_cost_1 3 rfl rfl)
theorem dX3_cost_28 : decode cX3_cost 28 = .ok (.invokevirtual 264, 3) := dk_182 1 8 (dk_at dksX3_cost_1 4 rfl rfl)
theorem dX3_cost_31 : decode cX3_cost 31 = .ok (.aload_n 0, 1) := dk_42 (dk_at dksX3_cost_1 7 rfl rfl)
theorem dX3_cost_32 : decode cX3_cost 32 = .ok (.getfield 55, 3) := dk_180 0 55 (dk_at dksX3_cost_1 8 rfl rfl)
theorem dX3_cost_35 : decode cX3_cost 35 = .ok (.iload_n 2, 1) := dk_28 (dk_at dksX3_cost_1 11 rfl rfl)
theorem dX3_cost_36 : decode cX3_cost 36 = .ok (.aaload, 1) := dk_50 (dk_at dksX3_cost_1 12 rfl rfl)
theorem dX3_cost_37 : decode cX3_cost 37 = .ok (.iload_n 3, 1) := dk_29 (dk_at dksX3_cost_1 13 rfl rfl)
theorem dX3_cost_38 : decode cX3_cost 38 = .ok (.laload, 1) := dk_47 (dk_at dksX3_cost_1 14 rfl rfl)
theorem dX3_cost_39 : decode cX3_cost 39 = .ok (.lreturn, 1) := dk_173 (dk_at dksX3_cost_1 15 rfl rfl)
abbrev cX3_findBest : ByteArray := prog_17_method_47_code
def yX3_findBest : MethodName := ⟨RX3, "findBest", "(I)V"⟩
def dkwX3_findBest_11 : List UInt8 := [132, 3, 1, 167, 255, 93, 132, 2, 1, 167, 255, 35, 177]
abbrev dktX3_findBest_11 : List UInt8 := dkwX3_findBest_11 ++ []
def dkwX3_findBest_10 : List UInt8 := [180, 0, 45, 27, 50, 6, 46, 100, 133, 22, 4, 105, 97, 80, 42, 180, 0, 58, 28, 50, 29, 21, 6, 79]
abbrev dktX3_findBest_10 : List UInt8 := dkwX3_findBest_10 ++ dktX3_findBest_11
def dkwX3_findBest_9 : List UInt8 := [180, 0, 55, 28, 50, 29, 42, 180, 0, 45, 27, 50, 6, 46, 133, 42, 180, 0, 82, 29, 47, 105, 7, 42]
abbrev dktX3_findBest_9 : List UInt8 := dkwX3_findBest_9 ++ dktX3_findBest_10
def dkwX3_findBest_8 : List UInt8 := [160, 0, 16, 21, 6, 154, 0, 11, 22, 8, 55, 4, 21, 7, 54, 6, 132, 7, 1, 167, 255, 171, 42]
abbrev dktX3_findBest_8 : List UInt8 := dkwX3_findBest_8 ++ dktX3_findBest_9
def dkwX3_findBest_7 : List UInt8 := [180, 0, 82, 29, 21, 7, 100, 47, 97, 55, 8, 22, 8, 22, 4, 148, 155, 0, 16, 28, 42, 180, 0, 88]
abbrev dktX3_findBest_7 : List UInt8 := dkwX3_findBest_7 ++ dktX3_findBest_8
def dkwX3_findBest_6 : List UInt8 := [5, 46, 163, 0, 61, 42, 27, 29, 21, 7, 182, 1, 1, 153, 0, 50, 42, 27, 28, 182, 1, 5, 42]
abbrev dktX3_findBest_6 : List UInt8 := dkwX3_findBest_6 ++ dktX3_findBest_7
def dkwX3_findBest_5 : List UInt8 := [54, 6, 4, 54, 7, 21, 7, 29, 163, 0, 85, 42, 180, 0, 76, 21, 7, 46, 42, 180, 0, 45, 27, 50]
abbrev dktX3_findBest_5 : List UInt8 := dkwX3_findBest_5 ++ dktX3_findBest_6
def dkwX3_findBest_4 : List UInt8 := [167, 255, 223, 3, 62, 29, 42, 27, 182, 0, 110, 162, 0, 160, 42, 180, 0, 82, 29, 47, 55, 4, 3]
abbrev dktX3_findBest_4 : List UInt8 := dkwX3_findBest_4 ++ dktX3_findBest_5
def dkwX3_findBest_3 : List UInt8 := [42, 180, 0, 82, 29, 42, 27, 28, 29, 42, 180, 0, 55, 28, 4, 100, 50, 182, 0, 253, 80, 132, 3, 1]
abbrev dktX3_findBest_3 : List UInt8 := dkwX3_findBest_3 ++ dktX3_findBest_4
def dkwX3_findBest_2 : List UInt8 := [61, 28, 42, 180, 0, 45, 27, 50, 3, 46, 163, 0, 215, 3, 62, 29, 42, 27, 182, 0, 110, 162, 0, 30]
abbrev dktX3_findBest_2 : List UInt8 := dkwX3_findBest_2 ++ dktX3_findBest_3
def dkwX3_findBest_1 : List UInt8 := [27, 28, 7, 182, 0, 236, 133, 80, 42, 180, 0, 58, 3, 50, 28, 3, 79, 132, 2, 1, 167, 255, 219, 4]
abbrev dktX3_findBest_1 : List UInt8 := dkwX3_findBest_1 ++ dktX3_findBest_2
def dkwX3_findBest_0 : List UInt8 := [42, 27, 182, 0, 249, 3, 61, 28, 42, 27, 182, 0, 110, 162, 0, 34, 42, 180, 0, 55, 3, 50, 28, 42]
abbrev dktX3_findBest_0 : List UInt8 := dkwX3_findBest_0 ++ dktX3_findBest_1
theorem dksX3_findBest_0 : cX3_findBest.data.toList.drop 0 = dktX3_findBest_0 := by decide +kernel
theorem dksX3_findBest_1 : cX3_findBest.data.toList.drop 24 = dktX3_findBest_1 := dk_seg dksX3_findBest_0 24 rfl rfl
theorem dksX3_findBest_2 : cX3_findBest.data.toList.drop 48 = dktX3_findBest_2 := dk_seg dksX3_findBest_1 24 rfl rfl
theorem dksX3_findBest_3 : cX3_findBest.data.toList.drop 72 = dktX3_findBest_3 := dk_seg dksX3_findBest_2 24 rfl rfl
theorem dksX3_findBest_4 : cX3_findBest.data.toList.drop 96 = dktX3_findBest_4 := dk_seg dksX3_findBest_3 24 rfl rfl
theorem dksX3_findBest_5 : cX3_findBest.data.toList.drop 119 = dktX3_findBest_5 := dk_seg dksX3_findBest_4 23 rfl rfl
theorem dksX3_findBest_6 : cX3_findBest.data.toList.drop 143 = dktX3_findBest_6 := dk_seg dksX3_findBest_5 24 rfl rfl
theorem dksX3_findBest_7 : cX3_findBest.data.toList.drop 166 = dktX3_findBest_7 := dk_seg dksX3_findBest_6 23 rfl rfl
theorem dksX3_findBest_8 : cX3_findBest.data.toList.drop 190 = dktX3_findBest_8 := dk_seg dksX3_findBest_7 24 rfl rfl
theorem dksX3_findBest_9 : cX3_findBest.data.toList.drop 213 = dktX3_findBest_9 := dk_seg dksX3_findBest_8 23 rfl rfl
theorem dksX3_findBest_10 : cX3_findBest.data.toList.drop 237 = dktX3_findBest_10 := dk_seg dksX3_findBest_9 24 rfl rfl
theorem dksX3_findBest_11 : cX3_findBest.data.toList.drop 261 = dktX3_findBest_11 := dk_seg dksX3_findBest_10 24 rfl rfl
theorem dX3_findBest_0 : decode cX3_findBest 0 = .ok (.aload_n 0, 1) := dk_42 (dk_at dksX3_findBest_0 0 rfl rfl)
theorem dX3_findBest_1 : decode cX3_findBest 1 = .ok (.iload_n 1, 1) := dk_27 (dk_at dksX3_findBest_0 1 rfl rfl)
theorem dX3_findBest_2 : decode cX3_findBest 2 = .ok (.invokevirtual 249, 3) := dk_182 0 249 (dk_at dksX3_findBest_0 2 rfl rfl)
theorem dX3_findBest_5 : decode cX3_findBest 5 = .ok (.iconst 0, 1) := dk_3 (dk_at dksX3_findBest_0 5 rfl rfl)
theorem dX3_findBest_6 : decode cX3_findBest 6 = .ok (.istore_n 2, 1) := dk_61 (dk_at dksX3_findBest_0 6 rfl rfl)
theorem dX3_findBest_7 : decode cX3_findBest 7 = .ok (.iload_n 2, 1) := dk_28 (dk_at dksX3_findBest_0 7 rfl rfl)
theorem dX3_findBest_8 : decode cX3_findBest 8 = .ok (.aload_n 0, 1) := dk_42 (dk_at dksX3_findBest_0 8 rfl rfl)
theorem dX3_findBest_9 : decode cX3_findBest 9 = .ok (.iload_n 1, 1) := dk_27 (dk_at dksX3_findBest_0 9 rfl rfl)
theorem dX3_findBest_10 : decode cX3_findBest 10 = .ok (.invokevirtual 110, 3) := dk_182 0 110 (dk_at dksX3_findBest_0 10 rfl rfl)
theorem dX3_findBest_13 : decode cX3_findBest 13 = .ok (.if_icmp .ge 34, 3) := dk_162 0 34 (dk_at dksX3_findBest_0 13 rfl rfl)
theorem dX3_findBest_16 : decode cX3_findBest 16 = .ok (.aload_n 0, 1) := dk_42 (dk_at dksX3_findBest_0 16 rfl rfl)
theorem dX3_findBest_17 : decode cX3_findBest 17 = .ok (.getfield 55, 3) := dk_180 0 55 (dk_at dksX3_findBest_0 17 rfl rfl)
theorem dX3_findBest_20 : decode cX3_findBest 20 = .ok (.iconst 0, 1) := dk_3 (dk_at dksX3_findBest_0 20 rfl rfl)
theorem dX3_findBest_21 : decode cX3_findBest 21 = .ok (.aaload, 1) := dk_50 (dk_at dksX3_findBest_0 21 rfl rfl)
theorem dX3_findBest_22 : decode cX3_findBest 22 = .ok (.iload_n 2, 1) := dk_28 (dk_at dksX3_findBest_0 22 rfl rfl)
theorem dX3_findBest_23 : decode cX3_findBest 23 = .ok (.aload_n 0, 1) := dk_42 (dk_at dksX3_findBest_0 23 rfl rfl)
theorem dX3_findBest_24 : decode cX3_findBest 24 = .ok (.iload_n 1, 1) := dk_27 (dk_at dksX3_findBest_1 0 rfl rfl)
theorem dX3_findBest_25 : decode cX3_findBest 25 = .ok (.iload_n 2, 1) := dk_28 (dk_at dksX3_findBest_1 1 rfl rfl)
theorem dX3_findBest_26 : decode cX3_findBest 26 = .ok (.iconst 4, 1) := dk_7 (dk_at dksX3_findBest_1 2 rfl rfl)
theorem dX3_findBest_27 : decode cX3_findBest 27 = .ok (.invokevirtual 236, 3) := dk_182 0 236 (dk_at dksX3_findBest_1 3 rfl rfl)
theorem dX3_findBest_30 : decode cX3_findBest 30 = .ok (.i2l, 1) := dk_133 (dk_at dksX3_findBest_1 6 rfl rfl)
theorem dX3_findBest_31 : decode cX3_findBest 31 = .ok (.lastore, 1) := dk_80 (dk_at dksX3_findBest_1 7 rfl rfl)
theorem dX3_findBest_32 : decode cX3_findBest 32 = .ok (.aload_n 0, 1) := dk_42 (dk_at dksX3_findBest_1 8 rfl rfl)
theorem dX3_findBest_33 : decode cX3_findBest 33 = .ok (.getfield 58, 3) := dk_180 0 58 (dk_at dksX3_findBest_1 9 rfl rfl)
theorem dX3_findBest_36 : decode cX3_findBest 36 = .ok (.iconst 0, 1) := dk_3 (dk_at dksX3_findBest_1 12 rfl rfl)
theorem dX3_findBest_37 : decode cX3_findBest 37 = .ok (.aaload, 1) := dk_50 (dk_at dksX3_findBest_1 13 rfl rfl)
theorem dX3_findBest_38 : decode cX3_findBest 38 = .ok (.iload_n 2, 1) := dk_28 (dk_at dksX3_findBest_1 14 rfl rfl)
theorem dX3_findBest_39 : decode cX3_findBest 39 = .ok (.iconst 0, 1) := dk_3 (dk_at dksX3_findBest_1 15 rfl rfl)
theorem dX3_findBest_40 : decode cX3_findBest 40 = .ok (.iastore, 1) := dk_79 (dk_at dksX3_findBest_1 16 rfl rfl)
theorem dX3_findBest_41 : decode cX3_findBest 41 = .ok (.iinc 2 1, 3) := dk_132 2 1 (dk_at dksX3_findBest_1 17 rfl rfl)
theorem dX3_findBest_44 : decode cX3_findBest 44 = .ok (.goto (-37), 3) := dk_167 255 219 (dk_at dksX3_findBest_1 20 rfl rfl)
theorem dX3_findBest_47 : decode cX3_findBest 47 = .ok (.iconst 1, 1) := dk_4 (dk_at dksX3_findBest_1 23 rfl rfl)
theorem dX3_findBest_48 : decode cX3_findBest 48 = .ok (.istore_n 2, 1) := dk_61 (dk_at dksX3_findBest_2 0 rfl rfl)
theorem dX3_findBest_49 : decode cX3_findBest 49 = .ok (.iload_n 2, 1) := dk_28 (dk_at dksX3_findBest_2 1 rfl rfl)
theorem dX3_findBest_50 : decode cX3_findBest 50 = .ok (.aload_n 0, 1) := dk_42 (dk_at dksX3_findBest_2 2 rfl rfl)
theorem dX3_findBest_51 : decode cX3_findBest 51 = .ok (.getfield 45, 3) := dk_180 0 45 (dk_at dksX3_findBest_2 3 rfl rfl)
theorem dX3_findBest_54 : decode cX3_findBest 54 = .ok (.iload_n 1, 1) := dk_27 (dk_at dksX3_findBest_2 6 rfl rfl)
theorem dX3_findBest_55 : decode cX3_findBest 55 = .ok (.aaload, 1) := dk_50 (dk_at dksX3_findBest_2 7 rfl rfl)
theorem dX3_findBest_56 : decode cX3_findBest 56 = .ok (.iconst 0, 1) := dk_3 (dk_at dksX3_findBest_2 8 rfl rfl)
theorem dX3_findBest_57 : decode cX3_findBest 57 = .ok (.iaload, 1) := dk_46 (dk_at dksX3_findBest_2 9 rfl rfl)
theorem dX3_findBest_58 : decode cX3_findBest 58 = .ok (.if_icmp .gt 215, 3) := dk_163 0 215 (dk_at dksX3_findBest_2 10 rfl rfl)
theorem dX3_findBest_61 : decode cX3_findBest 61 = .ok (.iconst 0, 1) := dk_3 (dk_at dksX3_findBest_2 13 rfl rfl)
theorem dX3_findBest_62 : decode cX3_findBest 62 = .ok (.istore_n 3, 1) := dk_62 (dk_at dksX3_findBest_2 14 rfl rfl)
theorem dX3_findBest_63 : decode cX3_findBest 63 = .ok (.iload_n 3, 1) := dk_29 (dk_at dksX3_findBest_2 15 rfl rfl)
theorem dX3_findBest_64 : decode cX3_findBest 64 = .ok (.aload_n 0, 1) := dk_42 (dk_at dksX3_findBest_2 16 rfl rfl)
theorem dX3_findBest_65 : decode cX3_findBest 65 = .ok (.iload_n 1, 1) := dk_27 (dk_at dksX3_findBest_2 17 rfl rfl)
theorem dX3_findBest_66 : decode cX3_findBest 66 = .ok (.invokevirtual 110, 3) := dk_182 0 110 (dk_at dksX3_findBest_2 18 rfl rfl)
theorem dX3_findBest_69 : decode cX3_findBest 69 = .ok (.if_icmp .ge 30, 3) := dk_162 0 30 (dk_at dksX3_findBest_2 21 rfl rfl)
theorem dX3_findBest_72 : decode cX3_findBest 72 = .ok (.aload_n 0, 1) := dk_42 (dk_at dksX3_findBest_3 0 rfl rfl)
theorem dX3_findBest_73 : decode cX3_findBest 73 = .ok (.getfield 82, 3) := dk_180 0 82 (dk_at dksX3_findBest_3 1 rfl rfl)
theorem dX3_findBest_76 : decode cX3_findBest 76 = .ok (.iload_n 3, 1) := dk_29 (dk_at dksX3_findBest_3 4 rfl rfl)
theorem dX3_findBest_77 : decode cX3_findBest 77 = .ok (.aload_n 0, 1) := dk_42 (dk_at dksX3_findBest_3 5 rfl rfl)
theorem dX3_findBest_78 : decode cX3_findBest 78 = .ok (.iload_n 1, 1) := dk_27 (dk_at dksX3_findBest_3 6 rfl rfl)
theorem dX3_findBest_79 : decode cX3_findBest 79 = .ok (.iload_n 2, 1) := dk_28 (dk_at dksX3_findBest_3 7 rfl rfl)
theorem dX3_findBest_80 : decode cX3_findBest 80 = .ok (.iload_n 3, 1) := dk_29 (dk_at dksX3_findBest_3 8 rfl rfl)
theorem dX3_findBest_81 : decode cX3_findBest 81 = .ok (.aload_n 0, 1) := dk_42 (dk_at dksX3_findBest_3 9 rfl rfl)
theorem dX3_findBest_82 : decode cX3_findBest 82 = .ok (.getfield 55, 3) := dk_180 0 55 (dk_at dksX3_findBest_3 10 rfl rfl)
theorem dX3_findBest_85 : decode cX3_findBest 85 = .ok (.iload_n 2, 1) := dk_28 (dk_at dksX3_findBest_3 13 rfl rfl)
theorem dX3_findBest_86 : decode cX3_findBest 86 = .ok (.iconst 1, 1) := dk_4 (dk_at dksX3_findBest_3 14 rfl rfl)
theorem dX3_findBest_87 : decode cX3_findBest 87 = .ok (.isub, 1) := dk_100 (dk_at dksX3_findBest_3 15 rfl rfl)
theorem dX3_findBest_88 : decode cX3_findBest 88 = .ok (.aaload, 1) := dk_50 (dk_at dksX3_findBest_3 16 rfl rfl)
theorem dX3_findBest_89 : decode cX3_findBest 89 = .ok (.invokevirtual 253, 3) := dk_182 0 253 (dk_at dksX3_findBest_3 17 rfl rfl)
theorem dX3_findBest_92 : decode cX3_findBest 92 = .ok (.lastore, 1) := dk_80 (dk_at dksX3_findBest_3 20 rfl rfl)
theorem dX3_findBest_93 : decode cX3_findBest 93 = .ok (.iinc 3 1, 3) := dk_132 3 1 (dk_at dksX3_findBest_3 21 rfl rfl)
theorem dX3_findBest_96 : decode cX3_findBest 96 = .ok (.goto (-33), 3) := dk_167 255 223 (dk_at dksX3_findBest_4 0 rfl rfl)
theorem dX3_findBest_99 : decode cX3_findBest 99 = .ok (.iconst 0, 1) := dk_3 (dk_at dksX3_findBest_4 3 rfl rfl)
theorem dX3_findBest_100 : decode cX3_findBest 100 = .ok (.istore_n 3, 1) := dk_62 (dk_at dksX3_findBest_4 4 rfl rfl)
theorem dX3_findBest_101 : decode cX3_findBest 101 = .ok (.iload_n 3, 1) := dk_29 (dk_at dksX3_findBest_4 5 rfl rfl)
theorem dX3_findBest_102 : decode cX3_findBest 102 = .ok (.aload_n 0, 1) := dk_42 (dk_at dksX3_findBest_4 6 rfl rfl)
theorem dX3_findBest_103 : decode cX3_findBest 103 = .ok (.iload_n 1, 1) := dk_27 (dk_at dksX3_findBest_4 7 rfl rfl)
theorem dX3_findBest_104 : decode cX3_findBest 104 = .ok (.invokevirtual 110, 3) := dk_182 0 110 (dk_at dksX3_findBest_4 8 rfl rfl)
theorem dX3_findBest_107 : decode cX3_findBest 107 = .ok (.if_icmp .ge 160, 3) := dk_162 0 160 (dk_at dksX3_findBest_4 11 rfl rfl)
theorem dX3_findBest_110 : decode cX3_findBest 110 = .ok (.aload_n 0, 1) := dk_42 (dk_at dksX3_findBest_4 14 rfl rfl)
theorem dX3_findBest_111 : decode cX3_findBest 111 = .ok (.getfield 82, 3) := dk_180 0 82 (dk_at dksX3_findBest_4 15 rfl rfl)
theorem dX3_findBest_114 : decode cX3_findBest 114 = .ok (.iload_n 3, 1) := dk_29 (dk_at dksX3_findBest_4 18 rfl rfl)
theorem dX3_findBest_115 : decode cX3_findBest 115 = .ok (.laload, 1) := dk_47 (dk_at dksX3_findBest_4 19 rfl rfl)
theorem dX3_findBest_116 : decode cX3_findBest 116 = .ok (.lstore 4, 2) := dk_55 4 (dk_at dksX3_findBest_4 20 rfl rfl)
theorem dX3_findBest_118 : decode cX3_findBest 118 = .ok (.iconst 0, 1) := dk_3 (dk_at dksX3_findBest_4 22 rfl rfl)
theorem dX3_findBest_119 : decode cX3_findBest 119 = .ok (.istore 6, 2) := dk_54 6 (dk_at dksX3_findBest_5 0 rfl rfl)
theorem dX3_findBest_121 : decode cX3_findBest 121 = .ok (.iconst 1, 1) := dk_4 (dk_at dksX3_findBest_5 2 rfl rfl)
theorem dX3_findBest_122 : decode cX3_findBest 122 = .ok (.istore 7, 2) := dk_54 7 (dk_at dksX3_findBest_5 3 rfl rfl)
theorem dX3_findBest_124 : decode cX3_findBest 124 = .ok (.iload 7, 2) := dk_21 7 (dk_at dksX3_findBest_5 5 rfl rfl)
theorem dX3_findBest_126 : decode cX3_findBest 126 = .ok (.iload_n 3, 1) := dk_29 (dk_at dksX3_findBest_5 7 rfl rfl)
theorem dX3_findBest_127 : decode cX3_findBest 127 = .ok (.if_icmp .gt 85, 3) := dk_163 0 85 (dk_at dksX3_findBest_5 8 rfl rfl)
theorem dX3_findBest_130 : decode cX3_findBest 130 = .ok (.aload_n 0, 1) := dk_42 (dk_at dksX3_findBest_5 11 rfl rfl)
theorem dX3_findBest_131 : decode cX3_findBest 131 = .ok (.getfield 76, 3) := dk_180 0 76 (dk_at dksX3_findBest_5 12 rfl rfl)
theorem dX3_findBest_134 : decode cX3_findBest 134 = .ok (.iload 7, 2) := dk_21 7 (dk_at dksX3_findBest_5 15 rfl rfl)
theorem dX3_findBest_136 : decode cX3_findBest 136 = .ok (.iaload, 1) := dk_46 (dk_at dksX3_findBest_5 17 rfl rfl)
theorem dX3_findBest_137 : decode cX3_findBest 137 = .ok (.aload_n 0, 1) := dk_42 (dk_at dksX3_findBest_5 18 rfl rfl)
theorem dX3_findBest_138 : decode cX3_findBest 138 = .ok (.getfield 45, 3) := dk_180 0 45 (dk_at dksX3_findBest_5 19 rfl rfl)
theorem dX3_findBest_141 : decode cX3_findBest 141 = .ok (.iload_n 1, 1) := dk_27 (dk_at dksX3_findBest_5 22 rfl rfl)
theorem dX3_findBest_142 : decode cX3_findBest 142 = .ok (.aaload, 1) := dk_50 (dk_at dksX3_findBest_5 23 rfl rfl)
theorem dX3_findBest_143 : decode cX3_findBest 143 = .ok (.iconst 2, 1) := dk_5 (dk_at dksX3_findBest_6 0 rfl rfl)
theorem dX3_findBest_144 : decode cX3_findBest 144 = .ok (.iaload, 1) := dk_46 (dk_at dksX3_findBest_6 1 rfl rfl)
theorem dX3_findBest_145 : decode cX3_findBest 145 = .ok (.if_icmp .gt 61, 3) := dk_163 0 61 (dk_at dksX3_findBest_6 2 rfl rfl)
theorem dX3_findBest_148 : decode cX3_findBest 148 = .ok (.aload_n 0, 1) := dk_42 (dk_at dksX3_findBest_6 5 rfl rfl)
theorem dX3_findBest_149 : decode cX3_findBest 149 = .ok (.iload_n 1, 1) := dk_27 (dk_at dksX3_findBest_6 6 rfl rfl)
theorem dX3_findBest_150 : decode cX3_findBest 150 = .ok (.iload_n 3, 1) := dk_29 (dk_at dksX3_findBest_6 7 rfl rfl)
theorem dX3_findBest_151 : decode cX3_findBest 151 = .ok (.iload 7, 2) := dk_21 7 (dk_at dksX3_findBest_6 8 rfl rfl)
theorem dX3_findBest_153 : decode cX3_findBest 153 = .ok (.invokevirtual 257, 3) := dk_182 1 1 (dk_at dksX3_findBest_6 10 rfl rfl)
theorem dX3_findBest_156 : decode cX3_findBest 156 = .ok (.ifCond .eq 50, 3) := dk_153 0 50 (dk_at dksX3_findBest_6 13 rfl rfl)
theorem dX3_findBest_159 : decode cX3_findBest 159 = .ok (.aload_n 0, 1) := dk_42 (dk_at dksX3_findBest_6 16 rfl rfl)
theorem dX3_findBest_160 : decode cX3_findBest 160 = .ok (.iload_n 1, 1) := dk_27 (dk_at dksX3_findBest_6 17 rfl rfl)
theorem dX3_findBest_161 : decode cX3_findBest 161 = .ok (.iload_n 2, 1) := dk_28 (dk_at dksX3_findBest_6 18 rfl rfl)
theorem dX3_findBest_162 : decode cX3_findBest 162 = .ok (.invokevirtual 261, 3) := dk_182 1 5 (dk_at dksX3_findBest_6 19 rfl rfl)
theorem dX3_findBest_165 : decode cX3_findBest 165 = .ok (.aload_n 0, 1) := dk_42 (dk_at dksX3_findBest_6 22 rfl rfl)
theorem dX3_findBest_166 : decode cX3_findBest 166 = .ok (.getfield 82, 3) := dk_180 0 82 (dk_at dksX3_findBest_7 0 rfl rfl)
theorem dX3_findBest_169 : decode cX3_findBest 169 = .ok (.iload_n 3, 1) := dk_29 (dk_at dksX3_findBest_7 3 rfl rfl)
theorem dX3_findBest_170 : decode cX3_findBest 170 = .ok (.iload 7, 2) := dk_21 7 (dk_at dksX3_findBest_7 4 rfl rfl)
theorem dX3_findBest_172 : decode cX3_findBest 172 = .ok (.isub, 1) := dk_100 (dk_at dksX3_findBest_7 6 rfl rfl)
theorem dX3_findBest_173 : decode cX3_findBest 173 = .ok (.laload, 1) := dk_47 (dk_at dksX3_findBest_7 7 rfl rfl)
theorem dX3_findBest_174 : decode cX3_findBest 174 = .ok (.ladd, 1) := dk_97 (dk_at dksX3_findBest_7 8 rfl rfl)
theorem dX3_findBest_175 : decode cX3_findBest 175 = .ok (.lstore 8, 2) := dk_55 8 (dk_at dksX3_findBest_7 9 rfl rfl)
theorem dX3_findBest_177 : decode cX3_findBest 177 = .ok (.lload 8, 2) := dk_22 8 (dk_at dksX3_findBest_7 11 rfl rfl)
theorem dX3_findBest_179 : decode cX3_findBest 179 = .ok (.lload 4, 2) := dk_22 4 (dk_at dksX3_findBest_7 13 rfl rfl)
theorem dX3_findBest_181 : decode cX3_findBest 181 = .ok (.lcmp, 1) := dk_148 (dk_at dksX3_findBest_7 15 rfl rfl)
theorem dX3_findBest_182 : decode cX3_findBest 182 = .ok (.ifCond .lt 16, 3) := dk_155 0 16 (dk_at dksX3_findBest_7 16 rfl rfl)
theorem dX3_findBest_185 : decode cX3_findBest 185 = .ok (.iload_n 2, 1) := dk_28 (dk_at dksX3_findBest_7 19 rfl rfl)
theorem dX3_findBest_186 : decode cX3_findBest 186 = .ok (.aload_n 0, 1) := dk_42 (dk_at dksX3_findBest_7 20 rfl rfl)
theorem dX3_findBest_187 : decode cX3_findBest 187 = .ok (.getfield 88, 3) := dk_180 0 88 (dk_at dksX3_findBest_7 21 rfl rfl)
theorem dX3_findBest_190 : decode cX3_findBest 190 = .ok (.if_icmp .ne 16, 3) := dk_160 0 16 (dk_at dksX3_findBest_8 0 rfl rfl)
theorem dX3_findBest_193 : decode cX3_findBest 193 = .ok (.iload 6, 2) := dk_21 6 (dk_at dksX3_findBest_8 3 rfl rfl)
theorem dX3_findBest_195 : decode cX3_findBest 195 = .ok (.ifCond .ne 11, 3) := dk_154 0 11 (dk_at dksX3_findBest_8 5 rfl rfl)
theorem dX3_findBest_198 : decode cX3_findBest 198 = .ok (.lload 8, 2) := dk_22 8 (dk_at dksX3_findBest_8 8 rfl rfl)
theorem dX3_findBest_200 : decode cX3_findBest 200 = .ok (.lstore 4, 2) := dk_55 4 (dk_at dksX3_findBest_8 10 rfl rfl)
theorem dX3_findBest_202 : decode cX3_findBest 202 = .ok (.iload 7, 2) := dk_21 7 (dk_at dksX3_findBest_8 12 rfl rfl)
theorem dX3_findBest_204 : decode cX3_findBest 204 = .ok (.istore 6, 2) := dk_54 6 (dk_at dksX3_findBest_8 14 rfl rfl)
theorem dX3_findBest_206 : decode cX3_findBest 206 = .ok (.iinc 7 1, 3) := dk_132 7 1 (dk_at dksX3_findBest_8 16 rfl rfl)
theorem dX3_findBest_209 : decode cX3_findBest 209 = .ok (.goto (-85), 3) := dk_167 255 171 (dk_at dksX3_findBest_8 19 rfl rfl)
theorem dX3_findBest_212 : decode cX3_findBest 212 = .ok (.aload_n 0, 1) := dk_42 (dk_at dksX3_findBest_8 22 rfl rfl)
theorem dX3_findBest_213 : decode cX3_findBest 213 = .ok (.getfield 55, 3) := dk_180 0 55 (dk_at dksX3_findBest_9 0 rfl rfl)
theorem dX3_findBest_216 : decode cX3_findBest 216 = .ok (.iload_n 2, 1) := dk_28 (dk_at dksX3_findBest_9 3 rfl rfl)
theorem dX3_findBest_217 : decode cX3_findBest 217 = .ok (.aaload, 1) := dk_50 (dk_at dksX3_findBest_9 4 rfl rfl)
theorem dX3_findBest_218 : decode cX3_findBest 218 = .ok (.iload_n 3, 1) := dk_29 (dk_at dksX3_findBest_9 5 rfl rfl)
theorem dX3_findBest_219 : decode cX3_findBest 219 = .ok (.aload_n 0, 1) := dk_42 (dk_at dksX3_findBest_9 6 rfl rfl)
theorem dX3_findBest_220 : decode cX3_findBest 220 = .ok (.getfield 45, 3) := dk_180 0 45 (dk_at dksX3_findBest_9 7 rfl rfl)
theorem dX3_findBest_223 : decode cX3_findBest 223 = .ok (.iload_n 1, 1) := dk_27 (dk_at dksX3_findBest_9 10 rfl rfl)
theorem dX3_findBest_224 : decode cX3_findBest 224 = .ok (.aaload, 1) := dk_50 (dk_at dksX3_findBest_9 11 rfl rfl)
theorem dX3_findBest_225 : decode cX3_findBest 225 = .ok (.iconst 3, 1) := dk_6 (dk_at dksX3_findBest_9 12 rfl rfl)
theorem dX3_findBest_226 : decode cX3_findBest 226 = .ok (.iaload, 1) := dk_46 (dk_at dksX3_findBest_9 13 rfl rfl)
theorem dX3_findBest_227 : decode cX3_findBest 227 = .ok (.i2l, 1) := dk_133 (dk_at dksX3_findBest_9 14 rfl rfl)
theorem dX3_findBest_228 : decode cX3_findBest 228 = .ok (.aload_n 0, 1) := dk_42 (dk_at dksX3_findBest_9 15 rfl rfl)
theorem dX3_findBest_229 : decode cX3_findBest 229 = .ok (.getfield 82, 3) := dk_180 0 82 (dk_at dksX3_findBest_9 16 rfl rfl)
theorem dX3_findBest_232 : decode cX3_findBest 232 = .ok (.iload_n 3, 1) := dk_29 (dk_at dksX3_findBest_9 19 rfl rfl)
theorem dX3_findBest_233 : decode cX3_findBest 233 = .ok (.laload, 1) := dk_47 (dk_at dksX3_findBest_9 20 rfl rfl)
theorem dX3_findBest_234 : decode cX3_findBest 234 = .ok (.lmul, 1) := dk_105 (dk_at dksX3_findBest_9 21 rfl rfl)
theorem dX3_findBest_235 : decode cX3_findBest 235 = .ok (.iconst 4, 1) := dk_7 (dk_at dksX3_findBest_9 22 rfl rfl)
theorem dX3_findBest_236 : decode cX3_findBest 236 = .ok (.aload_n 0, 1) := dk_42 (dk_at dksX3_findBest_9 23 rfl rfl)
theorem dX3_findBest_237 : decode cX3_findBest 237 = .ok (.getfield 45, 3) := dk_180 0 45 (dk_at dksX3_findBest_10 0 rfl rfl)
theorem dX3_findBest_240 : decode cX3_findBest 240 = .ok (.iload_n 1, 1) := dk_27 (dk_at dksX3_findBest_10 3 rfl rfl)
theorem dX3_findBest_241 : decode cX3_findBest 241 = .ok (.aaload, 1) := dk_50 (dk_at dksX3_findBest_10 4 rfl rfl)
theorem dX3_findBest_242 : decode cX3_findBest 242 = .ok (.iconst 3, 1) := dk_6 (dk_at dksX3_findBest_10 5 rfl rfl)
theorem dX3_findBest_243 : decode cX3_findBest 243 = .ok (.iaload, 1) := dk_46 (dk_at dksX3_findBest_10 6 rfl rfl)
theorem dX3_findBest_244 : decode cX3_findBest 244 = .ok (.isub, 1) := dk_100 (dk_at dksX3_findBest_10 7 rfl rfl)
theorem dX3_findBest_245 : decode cX3_findBest 245 = .ok (.i2l, 1) := dk_133 (dk_at dksX3_findBest_10 8 rfl rfl)
theorem dX3_findBest_246 : decode cX3_findBest 246 = .ok (.lload 4, 2) := dk_22 4 (dk_at dksX3_findBest_10 9 rfl rfl)
theorem dX3_findBest_248 : decode cX3_findBest 248 = .ok (.lmul, 1) := dk_105 (dk_at dksX3_findBest_10 11 rfl rfl)
theorem dX3_findBest_249 : decode cX3_findBest 249 = .ok (.ladd, 1) := dk_97 (dk_at dksX3_findBest_10 12 rfl rfl)
theorem dX3_findBest_250 : decode cX3_findBest 250 = .ok (.lastore, 1) := dk_80 (dk_at dksX3_findBest_10 13 rfl rfl)
theorem dX3_findBest_251 : decode cX3_findBest 251 = .ok (.aload_n 0, 1) := dk_42 (dk_at dksX3_findBest_10 14 rfl rfl)
theorem dX3_findBest_252 : decode cX3_findBest 252 = .ok (.getfield 58, 3) := dk_180 0 58 (dk_at dksX3_findBest_10 15 rfl rfl)
theorem dX3_findBest_255 : decode cX3_findBest 255 = .ok (.iload_n 2, 1) := dk_28 (dk_at dksX3_findBest_10 18 rfl rfl)
theorem dX3_findBest_256 : decode cX3_findBest 256 = .ok (.aaload, 1) := dk_50 (dk_at dksX3_findBest_10 19 rfl rfl)
theorem dX3_findBest_257 : decode cX3_findBest 257 = .ok (.iload_n 3, 1) := dk_29 (dk_at dksX3_findBest_10 20 rfl rfl)
theorem dX3_findBest_258 : decode cX3_findBest 258 = .ok (.iload 6, 2) := dk_21 6 (dk_at dksX3_findBest_10 21 rfl rfl)
theorem dX3_findBest_260 : decode cX3_findBest 260 = .ok (.iastore, 1) := dk_79 (dk_at dksX3_findBest_10 23 rfl rfl)
theorem dX3_findBest_261 : decode cX3_findBest 261 = .ok (.iinc 3 1, 3) := dk_132 3 1 (dk_at dksX3_findBest_11 0 rfl rfl)
theorem dX3_findBest_264 : decode cX3_findBest 264 = .ok (.goto (-163), 3) := dk_167 255 93 (dk_at dksX3_findBest_11 3 rfl rfl)
theorem dX3_findBest_267 : decode cX3_findBest 267 = .ok (.iinc 2 1, 3) := dk_132 2 1 (dk_at dksX3_findBest_11 6 rfl rfl)
theorem dX3_findBest_270 : decode cX3_findBest 270 = .ok (.goto (-221), 3) := dk_167 255 35 (dk_at dksX3_findBest_11 9 rfl rfl)
theorem dX3_findBest_273 : decode cX3_findBest 273 = .ok (.return_, 1) := dk_177 (dk_at dksX3_findBest_11 12 rfl rfl)
abbrev cX3_findWays : ByteArray := prog_17_method_44_code
def yX3_findWays : MethodName := ⟨RX3, "findWays", "(I)V"⟩
def dkwX3_findWays_12 : List UInt8 := [132, 4, 1, 167, 255, 107, 132, 3, 1, 167, 255, 30, 177]
abbrev dktX3_findWays_12 : List UInt8 := dkwX3_findWays_12 ++ []
def dkwX3_findWays_11 : List UInt8 := [153, 0, 14, 42, 27, 21, 5, 6, 182, 0, 229, 167, 0, 4, 3, 96, 79, 132, 5, 1, 167, 255, 147]
abbrev dktX3_findWays_11 : List UInt8 := dkwX3_findWays_11 ++ dktX3_findWays_12
def dkwX3_findWays_10 : List UInt8 := [167, 0, 4, 3, 96, 79, 42, 180, 0, 70, 29, 50, 21, 4, 92, 46, 21, 6, 153, 0, 19, 21, 7]
abbrev dktX3_findWays_10 : List UInt8 := dkwX3_findWays_10 ++ dktX3_findWays_11
def dkwX3_findWays_9 : List UInt8 := [29, 50, 21, 4, 92, 46, 21, 6, 153, 0, 17, 21, 7, 154, 0, 12, 8, 21, 5, 184, 0, 102]
abbrev dktX3_findWays_9 : List UInt8 := dkwX3_findWays_9 ++ dktX3_findWays_10
def dkwX3_findWays_8 : List UInt8 := [54, 6, 21, 4, 21, 5, 184, 0, 226, 7, 160, 0, 7, 4, 167, 0, 4, 3, 54, 7, 42, 180, 0, 67]
abbrev dktX3_findWays_8 : List UInt8 := dkwX3_findWays_8 ++ dktX3_findWays_9
def dkwX3_findWays_7 : List UInt8 := [3, 54, 5, 21, 5, 28, 162, 0, 109, 29, 21, 5, 122, 4, 126, 153, 0, 7, 4, 167, 0, 4, 3]
abbrev dktX3_findWays_7 : List UInt8 := dkwX3_findWays_7 ++ dktX3_findWays_8
def dkwX3_findWays_6 : List UInt8 := [162, 0, 145, 42, 180, 0, 67, 29, 50, 21, 4, 21, 4, 79, 42, 180, 0, 70, 29, 50, 21, 4, 3, 79]
abbrev dktX3_findWays_6 : List UInt8 := dkwX3_findWays_6 ++ dktX3_findWays_7
def dkwX3_findWays_5 : List UInt8 := [7, 21, 5, 100, 133, 105, 80, 132, 4, 1, 167, 255, 208, 3, 54, 4, 21, 4, 42, 27, 182, 0, 110]
abbrev dktX3_findWays_5 : List UInt8 := dkwX3_findWays_5 ++ dktX3_findWays_6
def dkwX3_findWays_4 : List UInt8 := [54, 5, 42, 180, 0, 64, 29, 92, 47, 29, 21, 4, 122, 4, 126, 153, 0, 9, 21, 5, 133, 167, 0, 8]
abbrev dktX3_findWays_4 : List UInt8 := dkwX3_findWays_4 ++ dktX3_findWays_5
def dkwX3_findWays_3 : List UInt8 := [180, 0, 64, 29, 10, 80, 3, 54, 4, 21, 4, 28, 162, 0, 48, 42, 27, 21, 4, 4, 182, 0, 229]
abbrev dktX3_findWays_3 : List UInt8 := dkwX3_findWays_3 ++ dktX3_findWays_4
def dkwX3_findWays_2 : List UInt8 := [27, 29, 5, 182, 0, 236, 79, 132, 3, 1, 167, 255, 206, 3, 62, 29, 4, 28, 120, 162, 0, 225, 42]
abbrev dktX3_findWays_2 : List UInt8 := dkwX3_findWays_2 ++ dktX3_findWays_3
def dkwX3_findWays_1 : List UInt8 := [29, 182, 0, 246, 79, 42, 180, 0, 76, 29, 42, 27, 29, 3, 182, 0, 236, 79, 42, 180, 0, 79, 29, 42]
abbrev dktX3_findWays_1 : List UInt8 := dkwX3_findWays_1 ++ dktX3_findWays_2
def dkwX3_findWays_0 : List UInt8 := [42, 27, 182, 0, 98, 61, 3, 62, 29, 42, 27, 182, 0, 110, 162, 0, 47, 42, 180, 0, 73, 29, 42, 27]
abbrev dktX3_findWays_0 : List UInt8 := dkwX3_findWays_0 ++ dktX3_findWays_1
theorem dksX3_findWays_0 : cX3_findWays.data.toList.drop 0 = dktX3_findWays_0 := by decide +kernel
theorem dksX3_findWays_1 : cX3_findWays.data.toList.drop 24 = dktX3_findWays_1 := dk_seg dksX3_findWays_0 24 rfl rfl
theorem dksX3_findWays_2 : cX3_findWays.data.toList.drop 48 = dktX3_findWays_2 := dk_seg dksX3_findWays_1 24 rfl rfl
theorem dksX3_findWays_3 : cX3_findWays.data.toList.drop 71 = dktX3_findWays_3 := dk_seg dksX3_findWays_2 23 rfl rfl
theorem dksX3_findWays_4 : cX3_findWays.data.toList.drop 94 = dktX3_findWays_4 := dk_seg dksX3_findWays_3 23 rfl rfl
theorem dksX3_findWays_5 : cX3_findWays.data.toList.drop 118 = dktX3_findWays_5 := dk_seg dksX3_findWays_4 24 rfl rfl
theorem dksX3_findWays_6 : cX3_findWays.data.toList.drop 141 = dktX3_findWays_6 := dk_seg dksX3_findWays_5 23 rfl rfl
theorem dksX3_findWays_7 : cX3_findWays.data.toList.drop 165 = dktX3_findWays_7 := dk_seg dksX3_findWays_6 24 rfl rfl
theorem dksX3_findWays_8 : cX3_findWays.data.toList.drop 188 = dktX3_findWays_8 := dk_seg dksX3_findWays_7 23 rfl rfl
theorem dksX3_findWays_9 : cX3_findWays.data.toList.drop 212 = dktX3_findWays_9 := dk_seg dksX3_findWays_8 24 rfl rfl
theorem dksX3_findWays_10 : cX3_findWays.data.toList.drop 234 = dktX3_findWays_10 := dk_seg dksX3_findWays_9 22 rfl rfl
theorem dksX3_findWays_11 : cX3_findWays.data.toList.drop 257 = dktX3_findWays_11 := dk_seg dksX3_findWays_10 23 rfl rfl
theorem dksX3_findWays_12 : cX3_findWays.data.toList.drop 280 = dktX3_findWays_12 := dk_seg dksX3_findWays_11 23 rfl rfl
theorem dX3_findWays_0 : decode cX3_findWays 0 = .ok (.aload_n 0, 1) := dk_42 (dk_at dksX3_findWays_0 0 rfl rfl)
theorem dX3_findWays_1 : decode cX3_findWays 1 = .ok (.iload_n 1, 1) := dk_27 (dk_at dksX3_findWays_0 1 rfl rfl)
theorem dX3_findWays_2 : decode cX3_findWays 2 = .ok (.invokevirtual 98, 3) := dk_182 0 98 (dk_at dksX3_findWays_0 2 rfl rfl)
theorem dX3_findWays_5 : decode cX3_findWays 5 = .ok (.istore_n 2, 1) := dk_61 (dk_at dksX3_findWays_0 5 rfl rfl)
theorem dX3_findWays_6 : decode cX3_findWays 6 = .ok (.iconst 0, 1) := dk_3 (dk_at dksX3_findWays_0 6 rfl rfl)
theorem dX3_findWays_7 : decode cX3_findWays 7 = .ok (.istore_n 3, 1) := dk_62 (dk_at dksX3_findWays_0 7 rfl rfl)
theorem dX3_findWays_8 : decode cX3_findWays 8 = .ok (.iload_n 3, 1) := dk_29 (dk_at dksX3_findWays_0 8 rfl rfl)
theorem dX3_findWays_9 : decode cX3_findWays 9 = .ok (.aload_n 0, 1) := dk_42 (dk_at dksX3_findWays_0 9 rfl rfl)
theorem dX3_findWays_10 : decode cX3_findWays 10 = .ok (.iload_n 1, 1) := dk_27 (dk_at dksX3_findWays_0 10 rfl rfl)
theorem dX3_findWays_11 : decode cX3_findWays 11 = .ok (.invokevirtual 110, 3) := dk_182 0 110 (dk_at dksX3_findWays_0 11 rfl rfl)
theorem dX3_findWays_14 : decode cX3_findWays 14 = .ok (.if_icmp .ge 47, 3) := dk_162 0 47 (dk_at dksX3_findWays_0 14 rfl rfl)
theorem dX3_findWays_17 : decode cX3_findWays 17 = .ok (.aload_n 0, 1) := dk_42 (dk_at dksX3_findWays_0 17 rfl rfl)
theorem dX3_findWays_18 : decode cX3_findWays 18 = .ok (.getfield 73, 3) := dk_180 0 73 (dk_at dksX3_findWays_0 18 rfl rfl)
theorem dX3_findWays_21 : decode cX3_findWays 21 = .ok (.iload_n 3, 1) := dk_29 (dk_at dksX3_findWays_0 21 rfl rfl)
theorem dX3_findWays_22 : decode cX3_findWays 22 = .ok (.aload_n 0, 1) := dk_42 (dk_at dksX3_findWays_0 22 rfl rfl)
theorem dX3_findWays_23 : decode cX3_findWays 23 = .ok (.iload_n 1, 1) := dk_27 (dk_at dksX3_findWays_0 23 rfl rfl)
theorem dX3_findWays_24 : decode cX3_findWays 24 = .ok (.iload_n 3, 1) := dk_29 (dk_at dksX3_findWays_1 0 rfl rfl)
theorem dX3_findWays_25 : decode cX3_findWays 25 = .ok (.invokevirtual 246, 3) := dk_182 0 246 (dk_at dksX3_findWays_1 1 rfl rfl)
theorem dX3_findWays_28 : decode cX3_findWays 28 = .ok (.iastore, 1) := dk_79 (dk_at dksX3_findWays_1 4 rfl rfl)
theorem dX3_findWays_29 : decode cX3_findWays 29 = .ok (.aload_n 0, 1) := dk_42 (dk_at dksX3_findWays_1 5 rfl rfl)
theorem dX3_findWays_30 : decode cX3_findWays 30 = .ok (.getfield 76, 3) := dk_180 0 76 (dk_at dksX3_findWays_1 6 rfl rfl)
theorem dX3_findWays_33 : decode cX3_findWays 33 = .ok (.iload_n 3, 1) := dk_29 (dk_at dksX3_findWays_1 9 rfl rfl)
theorem dX3_findWays_34 : decode cX3_findWays 34 = .ok (.aload_n 0, 1) := dk_42 (dk_at dksX3_findWays_1 10 rfl rfl)
theorem dX3_findWays_35 : decode cX3_findWays 35 = .ok (.iload_n 1, 1) := dk_27 (dk_at dksX3_findWays_1 11 rfl rfl)
theorem dX3_findWays_36 : decode cX3_findWays 36 = .ok (.iload_n 3, 1) := dk_29 (dk_at dksX3_findWays_1 12 rfl rfl)
theorem dX3_findWays_37 : decode cX3_findWays 37 = .ok (.iconst 0, 1) := dk_3 (dk_at dksX3_findWays_1 13 rfl rfl)
theorem dX3_findWays_38 : decode cX3_findWays 38 = .ok (.invokevirtual 236, 3) := dk_182 0 236 (dk_at dksX3_findWays_1 14 rfl rfl)
theorem dX3_findWays_41 : decode cX3_findWays 41 = .ok (.iastore, 1) := dk_79 (dk_at dksX3_findWays_1 17 rfl rfl)
theorem dX3_findWays_42 : decode cX3_findWays 42 = .ok (.aload_n 0, 1) := dk_42 (dk_at dksX3_findWays_1 18 rfl rfl)
theorem dX3_findWays_43 : decode cX3_findWays 43 = .ok (.getfield 79, 3) := dk_180 0 79 (dk_at dksX3_findWays_1 19 rfl rfl)
theorem dX3_findWays_46 : decode cX3_findWays 46 = .ok (.iload_n 3, 1) := dk_29 (dk_at dksX3_findWays_1 22 rfl rfl)
theorem dX3_findWays_47 : decode cX3_findWays 47 = .ok (.aload_n 0, 1) := dk_42 (dk_at dksX3_findWays_1 23 rfl rfl)
theorem dX3_findWays_48 : decode cX3_findWays 48 = .ok (.iload_n 1, 1) := dk_27 (dk_at dksX3_findWays_2 0 rfl rfl)
theorem dX3_findWays_49 : decode cX3_findWays 49 = .ok (.iload_n 3, 1) := dk_29 (dk_at dksX3_findWays_2 1 rfl rfl)
theorem dX3_findWays_50 : decode cX3_findWays 50 = .ok (.iconst 2, 1) := dk_5 (dk_at dksX3_findWays_2 2 rfl rfl)
theorem dX3_findWays_51 : decode cX3_findWays 51 = .ok (.invokevirtual 236, 3) := dk_182 0 236 (dk_at dksX3_findWays_2 3 rfl rfl)
theorem dX3_findWays_54 : decode cX3_findWays 54 = .ok (.iastore, 1) := dk_79 (dk_at dksX3_findWays_2 6 rfl rfl)
theorem dX3_findWays_55 : decode cX3_findWays 55 = .ok (.iinc 3 1, 3) := dk_132 3 1 (dk_at dksX3_findWays_2 7 rfl rfl)
theorem dX3_findWays_58 : decode cX3_findWays 58 = .ok (.goto (-50), 3) := dk_167 255 206 (dk_at dksX3_findWays_2 10 rfl rfl)
theorem dX3_findWays_61 : decode cX3_findWays 61 = .ok (.iconst 0, 1) := dk_3 (dk_at dksX3_findWays_2 13 rfl rfl)
theorem dX3_findWays_62 : decode cX3_findWays 62 = .ok (.istore_n 3, 1) := dk_62 (dk_at dksX3_findWays_2 14 rfl rfl)
theorem dX3_findWays_63 : decode cX3_findWays 63 = .ok (.iload_n 3, 1) := dk_29 (dk_at dksX3_findWays_2 15 rfl rfl)
theorem dX3_findWays_64 : decode cX3_findWays 64 = .ok (.iconst 1, 1) := dk_4 (dk_at dksX3_findWays_2 16 rfl rfl)
theorem dX3_findWays_65 : decode cX3_findWays 65 = .ok (.iload_n 2, 1) := dk_28 (dk_at dksX3_findWays_2 17 rfl rfl)
theorem dX3_findWays_66 : decode cX3_findWays 66 = .ok (.ishl, 1) := dk_120 (dk_at dksX3_findWays_2 18 rfl rfl)
theorem dX3_findWays_67 : decode cX3_findWays 67 = .ok (.if_icmp .ge 225, 3) := dk_162 0 225 (dk_at dksX3_findWays_2 19 rfl rfl)
theorem dX3_findWays_70 : decode cX3_findWays 70 = .ok (.aload_n 0, 1) := dk_42 (dk_at dksX3_findWays_2 22 rfl rfl)
theorem dX3_findWays_71 : decode cX3_findWays 71 = .ok (.getfield 64, 3) := dk_180 0 64 (dk_at dksX3_findWays_3 0 rfl rfl)
theorem dX3_findWays_74 : decode cX3_findWays 74 = .ok (.iload_n 3, 1) := dk_29 (dk_at dksX3_findWays_3 3 rfl rfl)
theorem dX3_findWays_75 : decode cX3_findWays 75 = .ok (.lconst 1, 1) := dk_10 (dk_at dksX3_findWays_3 4 rfl rfl)
theorem dX3_findWays_76 : decode cX3_findWays 76 = .ok (.lastore, 1) := dk_80 (dk_at dksX3_findWays_3 5 rfl rfl)
theorem dX3_findWays_77 : decode cX3_findWays 77 = .ok (.iconst 0, 1) := dk_3 (dk_at dksX3_findWays_3 6 rfl rfl)
theorem dX3_findWays_78 : decode cX3_findWays 78 = .ok (.istore 4, 2) := dk_54 4 (dk_at dksX3_findWays_3 7 rfl rfl)
theorem dX3_findWays_80 : decode cX3_findWays 80 = .ok (.iload 4, 2) := dk_21 4 (dk_at dksX3_findWays_3 9 rfl rfl)
theorem dX3_findWays_82 : decode cX3_findWays 82 = .ok (.iload_n 2, 1) := dk_28 (dk_at dksX3_findWays_3 11 rfl rfl)
theorem dX3_findWays_83 : decode cX3_findWays 83 = .ok (.if_icmp .ge 48, 3) := dk_162 0 48 (dk_at dksX3_findWays_3 12 rfl rfl)
theorem dX3_findWays_86 : decode cX3_findWays 86 = .ok (.aload_n 0, 1) := dk_42 (dk_at dksX3_findWays_3 15 rfl rfl)
theorem dX3_findWays_87 : decode cX3_findWays 87 = .ok (.iload_n 1, 1) := dk_27 (dk_at dksX3_findWays_3 16 rfl rfl)
theorem dX3_findWays_88 : decode cX3_findWays 88 = .ok (.iload 4, 2) := dk_21 4 (dk_at dksX3_findWays_3 17 rfl rfl)
theorem dX3_findWays_90 : decode cX3_findWays 90 = .ok (.iconst 1, 1) := dk_4 (dk_at dksX3_findWays_3 19 rfl rfl)
theorem dX3_findWays_91 : decode cX3_findWays 91 = .ok (.invokevirtual 229, 3) := dk_182 0 229 (dk_at dksX3_findWays_3 20 rfl rfl)
theorem dX3_findWays_94 : decode cX3_findWays 94 = .ok (.istore 5, 2) := dk_54 5 (dk_at dksX3_findWays_4 0 rfl rfl)
theorem dX3_findWays_96 : decode cX3_findWays 96 = .ok (.aload_n 0, 1) := dk_42 (dk_at dksX3_findWays_4 2 rfl rfl)
theorem dX3_findWays_97 : decode cX3_findWays 97 = .ok (.getfield 64, 3) := dk_180 0 64 (dk_at dksX3_findWays_4 3 rfl rfl)
theorem dX3_findWays_100 : decode cX3_findWays 100 = .ok (.iload_n 3, 1) := dk_29 (dk_at dksX3_findWays_4 6 rfl rfl)
theorem dX3_findWays_101 : decode cX3_findWays 101 = .ok (.dup2, 1) := dk_92 (dk_at dksX3_findWays_4 7 rfl rfl)
theorem dX3_findWays_102 : decode cX3_findWays 102 = .ok (.laload, 1) := dk_47 (dk_at dksX3_findWays_4 8 rfl rfl)
theorem dX3_findWays_103 : decode cX3_findWays 103 = .ok (.iload_n 3, 1) := dk_29 (dk_at dksX3_findWays_4 9 rfl rfl)
theorem dX3_findWays_104 : decode cX3_findWays 104 = .ok (.iload 4, 2) := dk_21 4 (dk_at dksX3_findWays_4 10 rfl rfl)
theorem dX3_findWays_106 : decode cX3_findWays 106 = .ok (.ishr, 1) := dk_122 (dk_at dksX3_findWays_4 12 rfl rfl)
theorem dX3_findWays_107 : decode cX3_findWays 107 = .ok (.iconst 1, 1) := dk_4 (dk_at dksX3_findWays_4 13 rfl rfl)
theorem dX3_findWays_108 : decode cX3_findWays 108 = .ok (.iand, 1) := dk_126 (dk_at dksX3_findWays_4 14 rfl rfl)
theorem dX3_findWays_109 : decode cX3_findWays 109 = .ok (.ifCond .eq 9, 3) := dk_153 0 9 (dk_at dksX3_findWays_4 15 rfl rfl)
theorem dX3_findWays_112 : decode cX3_findWays 112 = .ok (.iload 5, 2) := dk_21 5 (dk_at dksX3_findWays_4 18 rfl rfl)
theorem dX3_findWays_114 : decode cX3_findWays 114 = .ok (.i2l, 1) := dk_133 (dk_at dksX3_findWays_4 20 rfl rfl)
theorem dX3_findWays_115 : decode cX3_findWays 115 = .ok (.goto 8, 3) := dk_167 0 8 (dk_at dksX3_findWays_4 21 rfl rfl)
theorem dX3_findWays_118 : decode cX3_findWays 118 = .ok (.iconst 4, 1) := dk_7 (dk_at dksX3_findWays_5 0 rfl rfl)
theorem dX3_findWays_119 : decode cX3_findWays 119 = .ok (.iload 5, 2) := dk_21 5 (dk_at dksX3_findWays_5 1 rfl rfl)
theorem dX3_findWays_121 : decode cX3_findWays 121 = .ok (.isub, 1) := dk_100 (dk_at dksX3_findWays_5 3 rfl rfl)
theorem dX3_findWays_122 : decode cX3_findWays 122 = .ok (.i2l, 1) := dk_133 (dk_at dksX3_findWays_5 4 rfl rfl)
theorem dX3_findWays_123 : decode cX3_findWays 123 = .ok (.lmul, 1) := dk_105 (dk_at dksX3_findWays_5 5 rfl rfl)
theorem dX3_findWays_124 : decode cX3_findWays 124 = .ok (.lastore, 1) := dk_80 (dk_at dksX3_findWays_5 6 rfl rfl)
theorem dX3_findWays_125 : decode cX3_findWays 125 = .ok (.iinc 4 1, 3) := dk_132 4 1 (dk_at dksX3_findWays_5 7 rfl rfl)
theorem dX3_findWays_128 : decode cX3_findWays 128 = .ok (.goto (-48), 3) := dk_167 255 208 (dk_at dksX3_findWays_5 10 rfl rfl)
theorem dX3_findWays_131 : decode cX3_findWays 131 = .ok (.iconst 0, 1) := dk_3 (dk_at dksX3_findWays_5 13 rfl rfl)
theorem dX3_findWays_132 : decode cX3_findWays 132 = .ok (.istore 4, 2) := dk_54 4 (dk_at dksX3_findWays_5 14 rfl rfl)
theorem dX3_findWays_134 : decode cX3_findWays 134 = .ok (.iload 4, 2) := dk_21 4 (dk_at dksX3_findWays_5 16 rfl rfl)
theorem dX3_findWays_136 : decode cX3_findWays 136 = .ok (.aload_n 0, 1) := dk_42 (dk_at dksX3_findWays_5 18 rfl rfl)
theorem dX3_findWays_137 : decode cX3_findWays 137 = .ok (.iload_n 1, 1) := dk_27 (dk_at dksX3_findWays_5 19 rfl rfl)
theorem dX3_findWays_138 : decode cX3_findWays 138 = .ok (.invokevirtual 110, 3) := dk_182 0 110 (dk_at dksX3_findWays_5 20 rfl rfl)
theorem dX3_findWays_141 : decode cX3_findWays 141 = .ok (.if_icmp .ge 145, 3) := dk_162 0 145 (dk_at dksX3_findWays_6 0 rfl rfl)
theorem dX3_findWays_144 : decode cX3_findWays 144 = .ok (.aload_n 0, 1) := dk_42 (dk_at dksX3_findWays_6 3 rfl rfl)
theorem dX3_findWays_145 : decode cX3_findWays 145 = .ok (.getfield 67, 3) := dk_180 0 67 (dk_at dksX3_findWays_6 4 rfl rfl)
theorem dX3_findWays_148 : decode cX3_findWays 148 = .ok (.iload_n 3, 1) := dk_29 (dk_at dksX3_findWays_6 7 rfl rfl)
theorem dX3_findWays_149 : decode cX3_findWays 149 = .ok (.aaload, 1) := dk_50 (dk_at dksX3_findWays_6 8 rfl rfl)
theorem dX3_findWays_150 : decode cX3_findWays 150 = .ok (.iload 4, 2) := dk_21 4 (dk_at dksX3_findWays_6 9 rfl rfl)
theorem dX3_findWays_152 : decode cX3_findWays 152 = .ok (.iload 4, 2) := dk_21 4 (dk_at dksX3_findWays_6 11 rfl rfl)
theorem dX3_findWays_154 : decode cX3_findWays 154 = .ok (.iastore, 1) := dk_79 (dk_at dksX3_findWays_6 13 rfl rfl)
theorem dX3_findWays_155 : decode cX3_findWays 155 = .ok (.aload_n 0, 1) := dk_42 (dk_at dksX3_findWays_6 14 rfl rfl)
theorem dX3_findWays_156 : decode cX3_findWays 156 = .ok (.getfield 70, 3) := dk_180 0 70 (dk_at dksX3_findWays_6 15 rfl rfl)
theorem dX3_findWays_159 : decode cX3_findWays 159 = .ok (.iload_n 3, 1) := dk_29 (dk_at dksX3_findWays_6 18 rfl rfl)
theorem dX3_findWays_160 : decode cX3_findWays 160 = .ok (.aaload, 1) := dk_50 (dk_at dksX3_findWays_6 19 rfl rfl)
theorem dX3_findWays_161 : decode cX3_findWays 161 = .ok (.iload 4, 2) := dk_21 4 (dk_at dksX3_findWays_6 20 rfl rfl)
theorem dX3_findWays_163 : decode cX3_findWays 163 = .ok (.iconst 0, 1) := dk_3 (dk_at dksX3_findWays_6 22 rfl rfl)
theorem dX3_findWays_164 : decode cX3_findWays 164 = .ok (.iastore, 1) := dk_79 (dk_at dksX3_findWays_6 23 rfl rfl)
theorem dX3_findWays_165 : decode cX3_findWays 165 = .ok (.iconst 0, 1) := dk_3 (dk_at dksX3_findWays_7 0 rfl rfl)
theorem dX3_findWays_166 : decode cX3_findWays 166 = .ok (.istore 5, 2) := dk_54 5 (dk_at dksX3_findWays_7 1 rfl rfl)
theorem dX3_findWays_168 : decode cX3_findWays 168 = .ok (.iload 5, 2) := dk_21 5 (dk_at dksX3_findWays_7 3 rfl rfl)
theorem dX3_findWays_170 : decode cX3_findWays 170 = .ok (.iload_n 2, 1) := dk_28 (dk_at dksX3_findWays_7 5 rfl rfl)
theorem dX3_findWays_171 : decode cX3_findWays 171 = .ok (.if_icmp .ge 109, 3) := dk_162 0 109 (dk_at dksX3_findWays_7 6 rfl rfl)
theorem dX3_findWays_174 : decode cX3_findWays 174 = .ok (.iload_n 3, 1) := dk_29 (dk_at dksX3_findWays_7 9 rfl rfl)
theorem dX3_findWays_175 : decode cX3_findWays 175 = .ok (.iload 5, 2) := dk_21 5 (dk_at dksX3_findWays_7 10 rfl rfl)
theorem dX3_findWays_177 : decode cX3_findWays 177 = .ok (.ishr, 1) := dk_122 (dk_at dksX3_findWays_7 12 rfl rfl)
theorem dX3_findWays_178 : decode cX3_findWays 178 = .ok (.iconst 1, 1) := dk_4 (dk_at dksX3_findWays_7 13 rfl rfl)
theorem dX3_findWays_179 : decode cX3_findWays 179 = .ok (.iand, 1) := dk_126 (dk_at dksX3_findWays_7 14 rfl rfl)
theorem dX3_findWays_180 : decode cX3_findWays 180 = .ok (.ifCond .eq 7, 3) := dk_153 0 7 (dk_at dksX3_findWays_7 15 rfl rfl)
theorem dX3_findWays_183 : decode cX3_findWays 183 = .ok (.iconst 1, 1) := dk_4 (dk_at dksX3_findWays_7 18 rfl rfl)
theorem dX3_findWays_184 : decode cX3_findWays 184 = .ok (.goto 4, 3) := dk_167 0 4 (dk_at dksX3_findWays_7 19 rfl rfl)
theorem dX3_findWays_187 : decode cX3_findWays 187 = .ok (.iconst 0, 1) := dk_3 (dk_at dksX3_findWays_7 22 rfl rfl)
theorem dX3_findWays_188 : decode cX3_findWays 188 = .ok (.istore 6, 2) := dk_54 6 (dk_at dksX3_findWays_8 0 rfl rfl)
theorem dX3_findWays_190 : decode cX3_findWays 190 = .ok (.iload 4, 2) := dk_21 4 (dk_at dksX3_findWays_8 2 rfl rfl)
theorem dX3_findWays_192 : decode cX3_findWays 192 = .ok (.iload 5, 2) := dk_21 5 (dk_at dksX3_findWays_8 4 rfl rfl)
theorem dX3_findWays_194 : decode cX3_findWays 194 = .ok (.invokestatic 226, 3) := dk_184 0 226 (dk_at dksX3_findWays_8 6 rfl rfl)
theorem dX3_findWays_197 : decode cX3_findWays 197 = .ok (.iconst 4, 1) := dk_7 (dk_at dksX3_findWays_8 9 rfl rfl)
theorem dX3_findWays_198 : decode cX3_findWays 198 = .ok (.if_icmp .ne 7, 3) := dk_160 0 7 (dk_at dksX3_findWays_8 10 rfl rfl)
theorem dX3_findWays_201 : decode cX3_findWays 201 = .ok (.iconst 1, 1) := dk_4 (dk_at dksX3_findWays_8 13 rfl rfl)
theorem dX3_findWays_202 : decode cX3_findWays 202 = .ok (.goto 4, 3) := dk_167 0 4 (dk_at dksX3_findWays_8 14 rfl rfl)
theorem dX3_findWays_205 : decode cX3_findWays 205 = .ok (.iconst 0, 1) := dk_3 (dk_at dksX3_findWays_8 17 rfl rfl)
theorem dX3_findWays_206 : decode cX3_findWays 206 = .ok (.istore 7, 2) := dk_54 7 (dk_at dksX3_findWays_8 18 rfl rfl)
theorem dX3_findWays_208 : decode cX3_findWays 208 = .ok (.aload_n 0, 1) := dk_42 (dk_at dksX3_findWays_8 20 rfl rfl)
theorem dX3_findWays_209 : decode cX3_findWays 209 = .ok (.getfield 67, 3) := dk_180 0 67 (dk_at dksX3_findWays_8 21 rfl rfl)
theorem dX3_findWays_212 : decode cX3_findWays 212 = .ok (.iload_n 3, 1) := dk_29 (dk_at dksX3_findWays_9 0 rfl rfl)
theorem dX3_findWays_213 : decode cX3_findWays 213 = .ok (.aaload, 1) := dk_50 (dk_at dksX3_findWays_9 1 rfl rfl)
theorem dX3_findWays_214 : decode cX3_findWays 214 = .ok (.iload 4, 2) := dk_21 4 (dk_at dksX3_findWays_9 2 rfl rfl)
theorem dX3_findWays_216 : decode cX3_findWays 216 = .ok (.dup2, 1) := dk_92 (dk_at dksX3_findWays_9 4 rfl rfl)
theorem dX3_findWays_217 : decode cX3_findWays 217 = .ok (.iaload, 1) := dk_46 (dk_at dksX3_findWays_9 5 rfl rfl)
theorem dX3_findWays_218 : decode cX3_findWays 218 = .ok (.iload 6, 2) := dk_21 6 (dk_at dksX3_findWays_9 6 rfl rfl)
theorem dX3_findWays_220 : decode cX3_findWays 220 = .ok (.ifCond .eq 17, 3) := dk_153 0 17 (dk_at dksX3_findWays_9 8 rfl rfl)
theorem dX3_findWays_223 : decode cX3_findWays 223 = .ok (.iload 7, 2) := dk_21 7 (dk_at dksX3_findWays_9 11 rfl rfl)
theorem dX3_findWays_225 : decode cX3_findWays 225 = .ok (.ifCond .ne 12, 3) := dk_154 0 12 (dk_at dksX3_findWays_9 13 rfl rfl)
theorem dX3_findWays_228 : decode cX3_findWays 228 = .ok (.iconst 5, 1) := dk_8 (dk_at dksX3_findWays_9 16 rfl rfl)
theorem dX3_findWays_229 : decode cX3_findWays 229 = .ok (.iload 5, 2) := dk_21 5 (dk_at dksX3_findWays_9 17 rfl rfl)
theorem dX3_findWays_231 : decode cX3_findWays 231 = .ok (.invokestatic 102, 3) := dk_184 0 102 (dk_at dksX3_findWays_9 19 rfl rfl)
theorem dX3_findWays_234 : decode cX3_findWays 234 = .ok (.goto 4, 3) := dk_167 0 4 (dk_at dksX3_findWays_10 0 rfl rfl)
theorem dX3_findWays_237 : decode cX3_findWays 237 = .ok (.iconst 0, 1) := dk_3 (dk_at dksX3_findWays_10 3 rfl rfl)
theorem dX3_findWays_238 : decode cX3_findWays 238 = .ok (.iadd, 1) := dk_96 (dk_at dksX3_findWays_10 4 rfl rfl)
theorem dX3_findWays_239 : decode cX3_findWays 239 = .ok (.iastore, 1) := dk_79 (dk_at dksX3_findWays_10 5 rfl rfl)
theorem dX3_findWays_240 : decode cX3_findWays 240 = .ok (.aload_n 0, 1) := dk_42 (dk_at dksX3_findWays_10 6 rfl rfl)
theorem dX3_findWays_241 : decode cX3_findWays 241 = .ok (.getfield 70, 3) := dk_180 0 70 (dk_at dksX3_findWays_10 7 rfl rfl)
theorem dX3_findWays_244 : decode cX3_findWays 244 = .ok (.iload_n 3, 1) := dk_29 (dk_at dksX3_findWays_10 10 rfl rfl)
theorem dX3_findWays_245 : decode cX3_findWays 245 = .ok (.aaload, 1) := dk_50 (dk_at dksX3_findWays_10 11 rfl rfl)
theorem dX3_findWays_246 : decode cX3_findWays 246 = .ok (.iload 4, 2) := dk_21 4 (dk_at dksX3_findWays_10 12 rfl rfl)
theorem dX3_findWays_248 : decode cX3_findWays 248 = .ok (.dup2, 1) := dk_92 (dk_at dksX3_findWays_10 14 rfl rfl)
theorem dX3_findWays_249 : decode cX3_findWays 249 = .ok (.iaload, 1) := dk_46 (dk_at dksX3_findWays_10 15 rfl rfl)
theorem dX3_findWays_250 : decode cX3_findWays 250 = .ok (.iload 6, 2) := dk_21 6 (dk_at dksX3_findWays_10 16 rfl rfl)
theorem dX3_findWays_252 : decode cX3_findWays 252 = .ok (.ifCond .eq 19, 3) := dk_153 0 19 (dk_at dksX3_findWays_10 18 rfl rfl)
theorem dX3_findWays_255 : decode cX3_findWays 255 = .ok (.iload 7, 2) := dk_21 7 (dk_at dksX3_findWays_10 21 rfl rfl)
theorem dX3_findWays_257 : decode cX3_findWays 257 = .ok (.ifCond .eq 14, 3) := dk_153 0 14 (dk_at dksX3_findWays_11 0 rfl rfl)
theorem dX3_findWays_260 : decode cX3_findWays 260 = .ok (.aload_n 0, 1) := dk_42 (dk_at dksX3_findWays_11 3 rfl rfl)
theorem dX3_findWays_261 : decode cX3_findWays 261 = .ok (.iload_n 1, 1) := dk_27 (dk_at dksX3_findWays_11 4 rfl rfl)
theorem dX3_findWays_262 : decode cX3_findWays 262 = .ok (.iload 5, 2) := dk_21 5 (dk_at dksX3_findWays_11 5 rfl rfl)
theorem dX3_findWays_264 : decode cX3_findWays 264 = .ok (.iconst 3, 1) := dk_6 (dk_at dksX3_findWays_11 7 rfl rfl)
theorem dX3_findWays_265 : decode cX3_findWays 265 = .ok (.invokevirtual 229, 3) := dk_182 0 229 (dk_at dksX3_findWays_11 8 rfl rfl)
theorem dX3_findWays_268 : decode cX3_findWays 268 = .ok (.goto 4, 3) := dk_167 0 4 (dk_at dksX3_findWays_11 11 rfl rfl)
theorem dX3_findWays_271 : decode cX3_findWays 271 = .ok (.iconst 0, 1) := dk_3 (dk_at dksX3_findWays_11 14 rfl rfl)
theorem dX3_findWays_272 : decode cX3_findWays 272 = .ok (.iadd, 1) := dk_96 (dk_at dksX3_findWays_11 15 rfl rfl)
theorem dX3_findWays_273 : decode cX3_findWays 273 = .ok (.iastore, 1) := dk_79 (dk_at dksX3_findWays_11 16 rfl rfl)
theorem dX3_findWays_274 : decode cX3_findWays 274 = .ok (.iinc 5 1, 3) := dk_132 5 1 (dk_at dksX3_findWays_11 17 rfl rfl)
theorem dX3_findWays_277 : decode cX3_findWays 277 = .ok (.goto (-109), 3) := dk_167 255 147 (dk_at dksX3_findWays_11 20 rfl rfl)
theorem dX3_findWays_280 : decode cX3_findWays 280 = .ok (.iinc 4 1, 3) := dk_132 4 1 (dk_at dksX3_findWays_12 0 rfl rfl)
theorem dX3_findWays_283 : decode cX3_findWays 283 = .ok (.goto (-149), 3) := dk_167 255 107 (dk_at dksX3_findWays_12 3 rfl rfl)
theorem dX3_findWays_286 : decode cX3_findWays 286 = .ok (.iinc 3 1, 3) := dk_132 3 1 (dk_at dksX3_findWays_12 6 rfl rfl)
theorem dX3_findWays_289 : decode cX3_findWays 289 = .ok (.goto (-226), 3) := dk_167 255 30 (dk_at dksX3_findWays_12 9 rfl rfl)
theorem dX3_findWays_292 : decode cX3_findWays 292 = .ok (.return_, 1) := dk_177 (dk_at dksX3_findWays_12 12 rfl rfl)
abbrev cX3_behind : ByteArray := prog_17_method_45_code
def yX3_behind : MethodName := ⟨RX3, "behind", "(III[J)J"⟩
def dkwX3_behind_4 : List UInt8 := [47, 97, 105, 97, 55, 8, 132, 10, 1, 167, 255, 193, 22, 8, 173]
abbrev dktX3_behind_4 : List UInt8 := dkwX3_behind_4 ++ []
def dkwX3_behind_3 : List UInt8 := [42, 180, 0, 70, 21, 10, 50, 29, 46, 133, 22, 6, 105, 25, 4, 42, 180, 0, 67, 21, 10, 50, 29, 46]
abbrev dktX3_behind_3 : List UInt8 := dkwX3_behind_3 ++ dktX3_behind_4
def dkwX3_behind_2 : List UInt8 := [162, 0, 60, 42, 180, 0, 64, 21, 10, 47, 9, 148, 158, 0, 42, 22, 8, 42, 180, 0, 64, 21, 10, 47]
abbrev dktX3_behind_2 : List UInt8 := dkwX3_behind_2 ++ dktX3_behind_3
def dkwX3_behind_1 : List UInt8 := [7, 21, 5, 184, 0, 102, 133, 105, 22, 6, 105, 55, 8, 3, 54, 10, 21, 10, 4, 21, 5, 120]
abbrev dktX3_behind_1 : List UInt8 := dkwX3_behind_1 ++ dktX3_behind_2
def dkwX3_behind_0 : List UInt8 := [42, 27, 182, 0, 98, 54, 5, 42, 27, 28, 4, 100, 182, 0, 242, 55, 6, 42, 180, 0, 79, 29, 46, 133]
abbrev dktX3_behind_0 : List UInt8 := dkwX3_behind_0 ++ dktX3_behind_1
theorem dksX3_behind_0 : cX3_behind.data.toList.drop 0 = dktX3_behind_0 := by decide +kernel
theorem dksX3_behind_1 : cX3_behind.data.toList.drop 24 = dktX3_behind_1 := dk_seg dksX3_behind_0 24 rfl rfl
theorem dksX3_behind_2 : cX3_behind.data.toList.drop 46 = dktX3_behind_2 := dk_seg dksX3_behind_1 22 rfl rfl
theorem dksX3_behind_3 : cX3_behind.data.toList.drop 70 = dktX3_behind_3 := dk_seg dksX3_behind_2 24 rfl rfl
theorem dksX3_behind_4 : cX3_behind.data.toList.drop 94 = dktX3_behind_4 := dk_seg dksX3_behind_3 24 rfl rfl
theorem dX3_behind_0 : decode cX3_behind 0 = .ok (.aload_n 0, 1) := dk_42 (dk_at dksX3_behind_0 0 rfl rfl)
theorem dX3_behind_1 : decode cX3_behind 1 = .ok (.iload_n 1, 1) := dk_27 (dk_at dksX3_behind_0 1 rfl rfl)
theorem dX3_behind_2 : decode cX3_behind 2 = .ok (.invokevirtual 98, 3) := dk_182 0 98 (dk_at dksX3_behind_0 2 rfl rfl)
theorem dX3_behind_5 : decode cX3_behind 5 = .ok (.istore 5, 2) := dk_54 5 (dk_at dksX3_behind_0 5 rfl rfl)
theorem dX3_behind_7 : decode cX3_behind 7 = .ok (.aload_n 0, 1) := dk_42 (dk_at dksX3_behind_0 7 rfl rfl)
theorem dX3_behind_8 : decode cX3_behind 8 = .ok (.iload_n 1, 1) := dk_27 (dk_at dksX3_behind_0 8 rfl rfl)
theorem dX3_behind_9 : decode cX3_behind 9 = .ok (.iload_n 2, 1) := dk_28 (dk_at dksX3_behind_0 9 rfl rfl)
theorem dX3_behind_10 : decode cX3_behind 10 = .ok (.iconst 1, 1) := dk_4 (dk_at dksX3_behind_0 10 rfl rfl)
theorem dX3_behind_11 : decode cX3_behind 11 = .ok (.isub, 1) := dk_100 (dk_at dksX3_behind_0 11 rfl rfl)
theorem dX3_behind_12 : decode cX3_behind 12 = .ok (.invokevirtual 242, 3) := dk_182 0 242 (dk_at dksX3_behind_0 12 rfl rfl)
theorem dX3_behind_15 : decode cX3_behind 15 = .ok (.lstore 6, 2) := dk_55 6 (dk_at dksX3_behind_0 15 rfl rfl)
theorem dX3_behind_17 : decode cX3_behind 17 = .ok (.aload_n 0, 1) := dk_42 (dk_at dksX3_behind_0 17 rfl rfl)
theorem dX3_behind_18 : decode cX3_behind 18 = .ok (.getfield 79, 3) := dk_180 0 79 (dk_at dksX3_behind_0 18 rfl rfl)
theorem dX3_behind_21 : decode cX3_behind 21 = .ok (.iload_n 3, 1) := dk_29 (dk_at dksX3_behind_0 21 rfl rfl)
theorem dX3_behind_22 : decode cX3_behind 22 = .ok (.iaload, 1) := dk_46 (dk_at dksX3_behind_0 22 rfl rfl)
theorem dX3_behind_23 : decode cX3_behind 23 = .ok (.i2l, 1) := dk_133 (dk_at dksX3_behind_0 23 rfl rfl)
theorem dX3_behind_24 : decode cX3_behind 24 = .ok (.iconst 4, 1) := dk_7 (dk_at dksX3_behind_1 0 rfl rfl)
theorem dX3_behind_25 : decode cX3_behind 25 = .ok (.iload 5, 2) := dk_21 5 (dk_at dksX3_behind_1 1 rfl rfl)
theorem dX3_behind_27 : decode cX3_behind 27 = .ok (.invokestatic 102, 3) := dk_184 0 102 (dk_at dksX3_behind_1 3 rfl rfl)
theorem dX3_behind_30 : decode cX3_behind 30 = .ok (.i2l, 1) := dk_133 (dk_at dksX3_behind_1 6 rfl rfl)
theorem dX3_behind_31 : decode cX3_behind 31 = .ok (.lmul, 1) := dk_105 (dk_at dksX3_behind_1 7 rfl rfl)
theorem dX3_behind_32 : decode cX3_behind 32 = .ok (.lload 6, 2) := dk_22 6 (dk_at dksX3_behind_1 8 rfl rfl)
theorem dX3_behind_34 : decode cX3_behind 34 = .ok (.lmul, 1) := dk_105 (dk_at dksX3_behind_1 10 rfl rfl)
theorem dX3_behind_35 : decode cX3_behind 35 = .ok (.lstore 8, 2) := dk_55 8 (dk_at dksX3_behind_1 11 rfl rfl)
theorem dX3_behind_37 : decode cX3_behind 37 = .ok (.iconst 0, 1) := dk_3 (dk_at dksX3_behind_1 13 rfl rfl)
theorem dX3_behind_38 : decode cX3_behind 38 = .ok (.istore 10, 2) := dk_54 10 (dk_at dksX3_behind_1 14 rfl rfl)
theorem dX3_behind_40 : decode cX3_behind 40 = .ok (.iload 10, 2) := dk_21 10 (dk_at dksX3_behind_1 16 rfl rfl)
theorem dX3_behind_42 : decode cX3_behind 42 = .ok (.iconst 1, 1) := dk_4 (dk_at dksX3_behind_1 18 rfl rfl)
theorem dX3_behind_43 : decode cX3_behind 43 = .ok (.iload 5, 2) := dk_21 5 (dk_at dksX3_behind_1 19 rfl rfl)
theorem dX3_behind_45 : decode cX3_behind 45 = .ok (.ishl, 1) := dk_120 (dk_at dksX3_behind_1 21 rfl rfl)
theorem dX3_behind_46 : decode cX3_behind 46 = .ok (.if_icmp .ge 60, 3) := dk_162 0 60 (dk_at dksX3_behind_2 0 rfl rfl)
theorem dX3_behind_49 : decode cX3_behind 49 = .ok (.aload_n 0, 1) := dk_42 (dk_at dksX3_behind_2 3 rfl rfl)
theorem dX3_behind_50 : decode cX3_behind 50 = .ok (.getfield 64, 3) := dk_180 0 64 (dk_at dksX3_behind_2 4 rfl rfl)
theorem dX3_behind_53 : decode cX3_behind 53 = .ok (.iload 10, 2) := dk_21 10 (dk_at dksX3_behind_2 7 rfl rfl)
theorem dX3_behind_55 : decode cX3_behind 55 = .ok (.laload, 1) := dk_47 (dk_at dksX3_behind_2 9 rfl rfl)
theorem dX3_behind_56 : decode cX3_behind 56 = .ok (.lconst 0, 1) := dk_9 (dk_at dksX3_behind_2 10 rfl rfl)
theorem dX3_behind_57 : decode cX3_behind 57 = .ok (.lcmp, 1) := dk_148 (dk_at dksX3_behind_2 11 rfl rfl)
theorem dX3_behind_58 : decode cX3_behind 58 = .ok (.ifCond .le 42, 3) := dk_158 0 42 (dk_at dksX3_behind_2 12 rfl rfl)
theorem dX3_behind_61 : decode cX3_behind 61 = .ok (.lload 8, 2) := dk_22 8 (dk_at dksX3_behind_2 15 rfl rfl)
theorem dX3_behind_63 : decode cX3_behind 63 = .ok (.aload_n 0, 1) := dk_42 (dk_at dksX3_behind_2 17 rfl rfl)
theorem dX3_behind_64 : decode cX3_behind 64 = .ok (.getfield 64, 3) := dk_180 0 64 (dk_at dksX3_behind_2 18 rfl rfl)
theorem dX3_behind_67 : decode cX3_behind 67 = .ok (.iload 10, 2) := dk_21 10 (dk_at dksX3_behind_2 21 rfl rfl)
theorem dX3_behind_69 : decode cX3_behind 69 = .ok (.laload, 1) := dk_47 (dk_at dksX3_behind_2 23 rfl rfl)
theorem dX3_behind_70 : decode cX3_behind 70 = .ok (.aload_n 0, 1) := dk_42 (dk_at dksX3_behind_3 0 rfl rfl)
theorem dX3_behind_71 : decode cX3_behind 71 = .ok (.getfield 70, 3) := dk_180 0 70 (dk_at dksX3_behind_3 1 rfl rfl)
theorem dX3_behind_74 : decode cX3_behind 74 = .ok (.iload 10, 2) := dk_21 10 (dk_at dksX3_behind_3 4 rfl rfl)
theorem dX3_behind_76 : decode cX3_behind 76 = .ok (.aaload, 1) := dk_50 (dk_at dksX3_behind_3 6 rfl rfl)
theorem dX3_behind_77 : decode cX3_behind 77 = .ok (.iload_n 3, 1) := dk_29 (dk_at dksX3_behind_3 7 rfl rfl)
theorem dX3_behind_78 : decode cX3_behind 78 = .ok (.iaload, 1) := dk_46 (dk_at dksX3_behind_3 8 rfl rfl)
theorem dX3_behind_79 : decode cX3_behind 79 = .ok (.i2l, 1) := dk_133 (dk_at dksX3_behind_3 9 rfl rfl)
theorem dX3_behind_80 : decode cX3_behind 80 = .ok (.lload 6, 2) := dk_22 6 (dk_at dksX3_behind_3 10 rfl rfl)
theorem dX3_behind_82 : decode cX3_behind 82 = .ok (.lmul, 1) := dk_105 (dk_at dksX3_behind_3 12 rfl rfl)
theorem dX3_behind_83 : decode cX3_behind 83 = .ok (.aload 4, 2) := dk_25 4 (dk_at dksX3_behind_3 13 rfl rfl)
theorem dX3_behind_85 : decode cX3_behind 85 = .ok (.aload_n 0, 1) := dk_42 (dk_at dksX3_behind_3 15 rfl rfl)
theorem dX3_behind_86 : decode cX3_behind 86 = .ok (.getfield 67, 3) := dk_180 0 67 (dk_at dksX3_behind_3 16 rfl rfl)
theorem dX3_behind_89 : decode cX3_behind 89 = .ok (.iload 10, 2) := dk_21 10 (dk_at dksX3_behind_3 19 rfl rfl)
theorem dX3_behind_91 : decode cX3_behind 91 = .ok (.aaload, 1) := dk_50 (dk_at dksX3_behind_3 21 rfl rfl)
theorem dX3_behind_92 : decode cX3_behind 92 = .ok (.iload_n 3, 1) := dk_29 (dk_at dksX3_behind_3 22 rfl rfl)
theorem dX3_behind_93 : decode cX3_behind 93 = .ok (.iaload, 1) := dk_46 (dk_at dksX3_behind_3 23 rfl rfl)
theorem dX3_behind_94 : decode cX3_behind 94 = .ok (.laload, 1) := dk_47 (dk_at dksX3_behind_4 0 rfl rfl)
theorem dX3_behind_95 : decode cX3_behind 95 = .ok (.ladd, 1) := dk_97 (dk_at dksX3_behind_4 1 rfl rfl)
theorem dX3_behind_96 : decode cX3_behind 96 = .ok (.lmul, 1) := dk_105 (dk_at dksX3_behind_4 2 rfl rfl)
theorem dX3_behind_97 : decode cX3_behind 97 = .ok (.ladd, 1) := dk_97 (dk_at dksX3_behind_4 3 rfl rfl)
theorem dX3_behind_98 : decode cX3_behind 98 = .ok (.lstore 8, 2) := dk_55 8 (dk_at dksX3_behind_4 4 rfl rfl)
theorem dX3_behind_100 : decode cX3_behind 100 = .ok (.iinc 10 1, 3) := dk_132 10 1 (dk_at dksX3_behind_4 6 rfl rfl)
theorem dX3_behind_103 : decode cX3_behind 103 = .ok (.goto (-63), 3) := dk_167 255 193 (dk_at dksX3_behind_4 9 rfl rfl)
theorem dX3_behind_106 : decode cX3_behind 106 = .ok (.lload 8, 2) := dk_22 8 (dk_at dksX3_behind_4 12 rfl rfl)
theorem dX3_behind_108 : decode cX3_behind 108 = .ok (.lreturn, 1) := dk_173 (dk_at dksX3_behind_4 14 rfl rfl)
abbrev cX3_isLoad : ByteArray := prog_17_method_41_code
def yX3_isLoad : MethodName := ⟨RX3, "isLoad", "(III)Z"⟩
def dkwX3_isLoad_2 : List UInt8 := [50, 5, 46, 163, 0, 7, 4, 167, 0, 4, 3, 172]
abbrev dktX3_isLoad_2 : List UInt8 := dkwX3_isLoad_2 ++ []
def dkwX3_isLoad_1 : List UInt8 := [16, 25, 108, 28, 16, 25, 108, 164, 0, 5, 3, 172, 42, 27, 29, 3, 182, 0, 236, 42, 180, 0, 45, 27]
abbrev dktX3_isLoad_1 : List UInt8 := dkwX3_isLoad_1 ++ dktX3_isLoad_2
def dkwX3_isLoad_0 : List UInt8 := [29, 8, 112, 28, 8, 112, 163, 0, 27, 29, 8, 108, 8, 112, 28, 8, 108, 8, 112, 163, 0, 14, 29]
abbrev dktX3_isLoad_0 : List UInt8 := dkwX3_isLoad_0 ++ dktX3_isLoad_1
theorem dksX3_isLoad_0 : cX3_isLoad.data.toList.drop 0 = dktX3_isLoad_0 := by decide +kernel
theorem dksX3_isLoad_1 : cX3_isLoad.data.toList.drop 23 = dktX3_isLoad_1 := dk_seg dksX3_isLoad_0 23 rfl rfl
theorem dksX3_isLoad_2 : cX3_isLoad.data.toList.drop 47 = dktX3_isLoad_2 := dk_seg dksX3_isLoad_1 24 rfl rfl
theorem dX3_isLoad_0 : decode cX3_isLoad 0 = .ok (.iload_n 3, 1) := dk_29 (dk_at dksX3_isLoad_0 0 rfl rfl)
theorem dX3_isLoad_1 : decode cX3_isLoad 1 = .ok (.iconst 5, 1) := dk_8 (dk_at dksX3_isLoad_0 1 rfl rfl)
theorem dX3_isLoad_2 : decode cX3_isLoad 2 = .ok (.irem, 1) := dk_112 (dk_at dksX3_isLoad_0 2 rfl rfl)
theorem dX3_isLoad_3 : decode cX3_isLoad 3 = .ok (.iload_n 2, 1) := dk_28 (dk_at dksX3_isLoad_0 3 rfl rfl)
theorem dX3_isLoad_4 : decode cX3_isLoad 4 = .ok (.iconst 5, 1) := dk_8 (dk_at dksX3_isLoad_0 4 rfl rfl)
theorem dX3_isLoad_5 : decode cX3_isLoad 5 = .ok (.irem, 1) := dk_112 (dk_at dksX3_isLoad_0 5 rfl rfl)
theorem dX3_isLoad_6 : decode cX3_isLoad 6 = .ok (.if_icmp .gt 27, 3) := dk_163 0 27 (dk_at dksX3_isLoad_0 6 rfl rfl)
theorem dX3_isLoad_9 : decode cX3_isLoad 9 = .ok (.iload_n 3, 1) := dk_29 (dk_at dksX3_isLoad_0 9 rfl rfl)
theorem dX3_isLoad_10 : decode cX3_isLoad 10 = .ok (.iconst 5, 1) := dk_8 (dk_at dksX3_isLoad_0 10 rfl rfl)
theorem dX3_isLoad_11 : decode cX3_isLoad 11 = .ok (.idiv, 1) := dk_108 (dk_at dksX3_isLoad_0 11 rfl rfl)
theorem dX3_isLoad_12 : decode cX3_isLoad 12 = .ok (.iconst 5, 1) := dk_8 (dk_at dksX3_isLoad_0 12 rfl rfl)
theorem dX3_isLoad_13 : decode cX3_isLoad 13 = .ok (.irem, 1) := dk_112 (dk_at dksX3_isLoad_0 13 rfl rfl)
theorem dX3_isLoad_14 : decode cX3_isLoad 14 = .ok (.iload_n 2, 1) := dk_28 (dk_at dksX3_isLoad_0 14 rfl rfl)
theorem dX3_isLoad_15 : decode cX3_isLoad 15 = .ok (.iconst 5, 1) := dk_8 (dk_at dksX3_isLoad_0 15 rfl rfl)
theorem dX3_isLoad_16 : decode cX3_isLoad 16 = .ok (.idiv, 1) := dk_108 (dk_at dksX3_isLoad_0 16 rfl rfl)
theorem dX3_isLoad_17 : decode cX3_isLoad 17 = .ok (.iconst 5, 1) := dk_8 (dk_at dksX3_isLoad_0 17 rfl rfl)
theorem dX3_isLoad_18 : decode cX3_isLoad 18 = .ok (.irem, 1) := dk_112 (dk_at dksX3_isLoad_0 18 rfl rfl)
theorem dX3_isLoad_19 : decode cX3_isLoad 19 = .ok (.if_icmp .gt 14, 3) := dk_163 0 14 (dk_at dksX3_isLoad_0 19 rfl rfl)
theorem dX3_isLoad_22 : decode cX3_isLoad 22 = .ok (.iload_n 3, 1) := dk_29 (dk_at dksX3_isLoad_0 22 rfl rfl)
theorem dX3_isLoad_23 : decode cX3_isLoad 23 = .ok (.bipush 25, 2) := dk_16 25 (dk_at dksX3_isLoad_1 0 rfl rfl)
theorem dX3_isLoad_25 : decode cX3_isLoad 25 = .ok (.idiv, 1) := dk_108 (dk_at dksX3_isLoad_1 2 rfl rfl)
theorem dX3_isLoad_26 : decode cX3_isLoad 26 = .ok (.iload_n 2, 1) := dk_28 (dk_at dksX3_isLoad_1 3 rfl rfl)
theorem dX3_isLoad_27 : decode cX3_isLoad 27 = .ok (.bipush 25, 2) := dk_16 25 (dk_at dksX3_isLoad_1 4 rfl rfl)
theorem dX3_isLoad_29 : decode cX3_isLoad 29 = .ok (.idiv, 1) := dk_108 (dk_at dksX3_isLoad_1 6 rfl rfl)
theorem dX3_isLoad_30 : decode cX3_isLoad 30 = .ok (.if_icmp .le 5, 3) := dk_164 0 5 (dk_at dksX3_isLoad_1 7 rfl rfl)
theorem dX3_isLoad_33 : decode cX3_isLoad 33 = .ok (.iconst 0, 1) := dk_3 (dk_at dksX3_isLoad_1 10 rfl rfl)
theorem dX3_isLoad_34 : decode cX3_isLoad 34 = .ok (.ireturn, 1) := dk_172 (dk_at dksX3_isLoad_1 11 rfl rfl)
theorem dX3_isLoad_35 : decode cX3_isLoad 35 = .ok (.aload_n 0, 1) := dk_42 (dk_at dksX3_isLoad_1 12 rfl rfl)
theorem dX3_isLoad_36 : decode cX3_isLoad 36 = .ok (.iload_n 1, 1) := dk_27 (dk_at dksX3_isLoad_1 13 rfl rfl)
theorem dX3_isLoad_37 : decode cX3_isLoad 37 = .ok (.iload_n 3, 1) := dk_29 (dk_at dksX3_isLoad_1 14 rfl rfl)
theorem dX3_isLoad_38 : decode cX3_isLoad 38 = .ok (.iconst 0, 1) := dk_3 (dk_at dksX3_isLoad_1 15 rfl rfl)
theorem dX3_isLoad_39 : decode cX3_isLoad 39 = .ok (.invokevirtual 236, 3) := dk_182 0 236 (dk_at dksX3_isLoad_1 16 rfl rfl)
theorem dX3_isLoad_42 : decode cX3_isLoad 42 = .ok (.aload_n 0, 1) := dk_42 (dk_at dksX3_isLoad_1 19 rfl rfl)
theorem dX3_isLoad_43 : decode cX3_isLoad 43 = .ok (.getfield 45, 3) := dk_180 0 45 (dk_at dksX3_isLoad_1 20 rfl rfl)
theorem dX3_isLoad_46 : decode cX3_isLoad 46 = .ok (.iload_n 1, 1) := dk_27 (dk_at dksX3_isLoad_1 23 rfl rfl)
theorem dX3_isLoad_47 : decode cX3_isLoad 47 = .ok (.aaload, 1) := dk_50 (dk_at dksX3_isLoad_2 0 rfl rfl)
theorem dX3_isLoad_48 : decode cX3_isLoad 48 = .ok (.iconst 2, 1) := dk_5 (dk_at dksX3_isLoad_2 1 rfl rfl)
theorem dX3_isLoad_49 : decode cX3_isLoad 49 = .ok (.iaload, 1) := dk_46 (dk_at dksX3_isLoad_2 2 rfl rfl)
theorem dX3_isLoad_50 : decode cX3_isLoad 50 = .ok (.if_icmp .gt 7, 3) := dk_163 0 7 (dk_at dksX3_isLoad_2 3 rfl rfl)
theorem dX3_isLoad_53 : decode cX3_isLoad 53 = .ok (.iconst 1, 1) := dk_4 (dk_at dksX3_isLoad_2 6 rfl rfl)
theorem dX3_isLoad_54 : decode cX3_isLoad 54 = .ok (.goto 4, 3) := dk_167 0 4 (dk_at dksX3_isLoad_2 7 rfl rfl)
theorem dX3_isLoad_57 : decode cX3_isLoad 57 = .ok (.iconst 0, 1) := dk_3 (dk_at dksX3_isLoad_2 10 rfl rfl)
theorem dX3_isLoad_58 : decode cX3_isLoad 58 = .ok (.ireturn, 1) := dk_172 (dk_at dksX3_isLoad_2 11 rfl rfl)
abbrev cX3_boxOf : ByteArray := prog_17_method_46_code
def yX3_boxOf : MethodName := ⟨RX3, "boxOf", "(II)J"⟩
def dkwX3_boxOf_1 : List UInt8 := [100, 182, 0, 242, 105, 173]
abbrev dktX3_boxOf_1 : List UInt8 := dkwX3_boxOf_1 ++ []
def dkwX3_boxOf_0 : List UInt8 := [42, 180, 0, 45, 27, 50, 4, 46, 133, 7, 42, 27, 182, 0, 98, 184, 0, 102, 133, 105, 42, 27, 28, 4]
abbrev dktX3_boxOf_0 : List UInt8 := dkwX3_boxOf_0 ++ dktX3_boxOf_1
theorem dksX3_boxOf_0 : cX3_boxOf.data.toList.drop 0 = dktX3_boxOf_0 := by decide +kernel
theorem dksX3_boxOf_1 : cX3_boxOf.data.toList.drop 24 = dktX3_boxOf_1 := dk_seg dksX3_boxOf_0 24 rfl rfl
theorem dX3_boxOf_0 : decode cX3_boxOf 0 = .ok (.aload_n 0, 1) := dk_42 (dk_at dksX3_boxOf_0 0 rfl rfl)
theorem dX3_boxOf_1 : decode cX3_boxOf 1 = .ok (.getfield 45, 3) := dk_180 0 45 (dk_at dksX3_boxOf_0 1 rfl rfl)
theorem dX3_boxOf_4 : decode cX3_boxOf 4 = .ok (.iload_n 1, 1) := dk_27 (dk_at dksX3_boxOf_0 4 rfl rfl)
theorem dX3_boxOf_5 : decode cX3_boxOf 5 = .ok (.aaload, 1) := dk_50 (dk_at dksX3_boxOf_0 5 rfl rfl)
theorem dX3_boxOf_6 : decode cX3_boxOf 6 = .ok (.iconst 1, 1) := dk_4 (dk_at dksX3_boxOf_0 6 rfl rfl)
theorem dX3_boxOf_7 : decode cX3_boxOf 7 = .ok (.iaload, 1) := dk_46 (dk_at dksX3_boxOf_0 7 rfl rfl)
theorem dX3_boxOf_8 : decode cX3_boxOf 8 = .ok (.i2l, 1) := dk_133 (dk_at dksX3_boxOf_0 8 rfl rfl)
theorem dX3_boxOf_9 : decode cX3_boxOf 9 = .ok (.iconst 4, 1) := dk_7 (dk_at dksX3_boxOf_0 9 rfl rfl)
theorem dX3_boxOf_10 : decode cX3_boxOf 10 = .ok (.aload_n 0, 1) := dk_42 (dk_at dksX3_boxOf_0 10 rfl rfl)
theorem dX3_boxOf_11 : decode cX3_boxOf 11 = .ok (.iload_n 1, 1) := dk_27 (dk_at dksX3_boxOf_0 11 rfl rfl)
theorem dX3_boxOf_12 : decode cX3_boxOf 12 = .ok (.invokevirtual 98, 3) := dk_182 0 98 (dk_at dksX3_boxOf_0 12 rfl rfl)
theorem dX3_boxOf_15 : decode cX3_boxOf 15 = .ok (.invokestatic 102, 3) := dk_184 0 102 (dk_at dksX3_boxOf_0 15 rfl rfl)
theorem dX3_boxOf_18 : decode cX3_boxOf 18 = .ok (.i2l, 1) := dk_133 (dk_at dksX3_boxOf_0 18 rfl rfl)
theorem dX3_boxOf_19 : decode cX3_boxOf 19 = .ok (.lmul, 1) := dk_105 (dk_at dksX3_boxOf_0 19 rfl rfl)
theorem dX3_boxOf_20 : decode cX3_boxOf 20 = .ok (.aload_n 0, 1) := dk_42 (dk_at dksX3_boxOf_0 20 rfl rfl)
theorem dX3_boxOf_21 : decode cX3_boxOf 21 = .ok (.iload_n 1, 1) := dk_27 (dk_at dksX3_boxOf_0 21 rfl rfl)
theorem dX3_boxOf_22 : decode cX3_boxOf 22 = .ok (.iload_n 2, 1) := dk_28 (dk_at dksX3_boxOf_0 22 rfl rfl)
theorem dX3_boxOf_23 : decode cX3_boxOf 23 = .ok (.iconst 1, 1) := dk_4 (dk_at dksX3_boxOf_0 23 rfl rfl)
theorem dX3_boxOf_24 : decode cX3_boxOf 24 = .ok (.isub, 1) := dk_100 (dk_at dksX3_boxOf_1 0 rfl rfl)
theorem dX3_boxOf_25 : decode cX3_boxOf 25 = .ok (.invokevirtual 242, 3) := dk_182 0 242 (dk_at dksX3_boxOf_1 1 rfl rfl)
theorem dX3_boxOf_28 : decode cX3_boxOf 28 = .ok (.lmul, 1) := dk_105 (dk_at dksX3_boxOf_1 4 rfl rfl)
theorem dX3_boxOf_29 : decode cX3_boxOf 29 = .ok (.lreturn, 1) := dk_173 (dk_at dksX3_boxOf_1 5 rfl rfl)
abbrev cX3_best : ByteArray := prog_17_method_50_code
def yX3_best : MethodName := ⟨RX3, "best", "(III)I"⟩
def dkwX3_best_1 : List UInt8 := [16, 254, 182, 0, 119, 172, 42, 27, 182, 1, 8, 42, 180, 0, 58, 28, 50, 29, 46, 172]
abbrev dktX3_best_1 : List UInt8 := dkwX3_best_1 ++ []
def dkwX3_best_0 : List UInt8 := [42, 27, 28, 182, 0, 239, 153, 0, 16, 28, 153, 0, 12, 42, 27, 29, 182, 0, 233, 154, 0, 10, 42]
abbrev dktX3_best_0 : List UInt8 := dkwX3_best_0 ++ dktX3_best_1
theorem dksX3_best_0 : cX3_best.data.toList.drop 0 = dktX3_best_0 := by decide +kernel
theorem dksX3_best_1 : cX3_best.data.toList.drop 23 = dktX3_best_1 := dk_seg dksX3_best_0 23 rfl rfl
theorem dX3_best_0 : decode cX3_best 0 = .ok (.aload_n 0, 1) := dk_42 (dk_at dksX3_best_0 0 rfl rfl)
theorem dX3_best_1 : decode cX3_best 1 = .ok (.iload_n 1, 1) := dk_27 (dk_at dksX3_best_0 1 rfl rfl)
theorem dX3_best_2 : decode cX3_best 2 = .ok (.iload_n 2, 1) := dk_28 (dk_at dksX3_best_0 2 rfl rfl)
theorem dX3_best_3 : decode cX3_best 3 = .ok (.invokevirtual 239, 3) := dk_182 0 239 (dk_at dksX3_best_0 3 rfl rfl)
theorem dX3_best_6 : decode cX3_best 6 = .ok (.ifCond .eq 16, 3) := dk_153 0 16 (dk_at dksX3_best_0 6 rfl rfl)
theorem dX3_best_9 : decode cX3_best 9 = .ok (.iload_n 2, 1) := dk_28 (dk_at dksX3_best_0 9 rfl rfl)
theorem dX3_best_10 : decode cX3_best 10 = .ok (.ifCond .eq 12, 3) := dk_153 0 12 (dk_at dksX3_best_0 10 rfl rfl)
theorem dX3_best_13 : decode cX3_best 13 = .ok (.aload_n 0, 1) := dk_42 (dk_at dksX3_best_0 13 rfl rfl)
theorem dX3_best_14 : decode cX3_best 14 = .ok (.iload_n 1, 1) := dk_27 (dk_at dksX3_best_0 14 rfl rfl)
theorem dX3_best_15 : decode cX3_best 15 = .ok (.iload_n 3, 1) := dk_29 (dk_at dksX3_best_0 15 rfl rfl)
theorem dX3_best_16 : decode cX3_best 16 = .ok (.invokevirtual 233, 3) := dk_182 0 233 (dk_at dksX3_best_0 16 rfl rfl)
theorem dX3_best_19 : decode cX3_best 19 = .ok (.ifCond .ne 10, 3) := dk_154 0 10 (dk_at dksX3_best_0 19 rfl rfl)
theorem dX3_best_22 : decode cX3_best 22 = .ok (.aload_n 0, 1) := dk_42 (dk_at dksX3_best_0 22 rfl rfl)
theorem dX3_best_23 : decode cX3_best 23 = .ok (.bipush (-2), 2) := dk_16 254 (dk_at dksX3_best_1 0 rfl rfl)
theorem dX3_best_25 : decode cX3_best 25 = .ok (.invokevirtual 119, 3) := dk_182 0 119 (dk_at dksX3_best_1 2 rfl rfl)
theorem dX3_best_28 : decode cX3_best 28 = .ok (.ireturn, 1) := dk_172 (dk_at dksX3_best_1 5 rfl rfl)
theorem dX3_best_29 : decode cX3_best 29 = .ok (.aload_n 0, 1) := dk_42 (dk_at dksX3_best_1 6 rfl rfl)
theorem dX3_best_30 : decode cX3_best 30 = .ok (.iload_n 1, 1) := dk_27 (dk_at dksX3_best_1 7 rfl rfl)
theorem dX3_best_31 : decode cX3_best 31 = .ok (.invokevirtual 264, 3) := dk_182 1 8 (dk_at dksX3_best_1 8 rfl rfl)
theorem dX3_best_34 : decode cX3_best 34 = .ok (.aload_n 0, 1) := dk_42 (dk_at dksX3_best_1 11 rfl rfl)
theorem dX3_best_35 : decode cX3_best 35 = .ok (.getfield 58, 3) := dk_180 0 58 (dk_at dksX3_best_1 12 rfl rfl)
theorem dX3_best_38 : decode cX3_best 38 = .ok (.iload_n 2, 1) := dk_28 (dk_at dksX3_best_1 15 rfl rfl)
theorem dX3_best_39 : decode cX3_best 39 = .ok (.aaload, 1) := dk_50 (dk_at dksX3_best_1 16 rfl rfl)
theorem dX3_best_40 : decode cX3_best 40 = .ok (.iload_n 3, 1) := dk_29 (dk_at dksX3_best_1 17 rfl rfl)
theorem dX3_best_41 : decode cX3_best 41 = .ok (.iaload, 1) := dk_46 (dk_at dksX3_best_1 18 rfl rfl)
theorem dX3_best_42 : decode cX3_best 42 = .ok (.ireturn, 1) := dk_172 (dk_at dksX3_best_1 19 rfl rfl)
abbrev cX3_load : ByteArray := prog_17_method_54_code
def yX3_load : MethodName := ⟨RX3, "load", "(IIII)I"⟩
def dkwX3_load_3 : List UInt8 := [172]
abbrev dktX3_load_3 : List UInt8 := dkwX3_load_3 ++ []
def dkwX3_load_2 : List UInt8 := [54, 5, 21, 5, 153, 0, 6, 21, 5, 172, 42, 27, 182, 1, 8, 42, 27, 28, 29, 21, 4, 182, 1, 18]
abbrev dktX3_load_2 : List UInt8 := dkwX3_load_2 ++ dktX3_load_3
def dkwX3_load_1 : List UInt8 := [133, 9, 20, 0, 113, 184, 0, 94, 154, 0, 10, 42, 16, 254, 182, 0, 119, 172, 42, 21, 4, 182, 1, 15]
abbrev dktX3_load_1 : List UInt8 := dkwX3_load_1 ++ dktX3_load_2
def dkwX3_load_0 : List UInt8 := [42, 27, 28, 182, 0, 239, 153, 0, 29, 28, 153, 0, 25, 42, 27, 29, 182, 0, 233, 153, 0, 16, 21, 4]
abbrev dktX3_load_0 : List UInt8 := dkwX3_load_0 ++ dktX3_load_1
theorem dksX3_load_0 : cX3_load.data.toList.drop 0 = dktX3_load_0 := by decide +kernel
theorem dksX3_load_1 : cX3_load.data.toList.drop 24 = dktX3_load_1 := dk_seg dksX3_load_0 24 rfl rfl
theorem dksX3_load_2 : cX3_load.data.toList.drop 48 = dktX3_load_2 := dk_seg dksX3_load_1 24 rfl rfl
theorem dksX3_load_3 : cX3_load.data.toList.drop 72 = dktX3_load_3 := dk_seg dksX3_load_2 24 rfl rfl
theorem dX3_load_0 : decode cX3_load 0 = .ok (.aload_n 0, 1) := dk_42 (dk_at dksX3_load_0 0 rfl rfl)
theorem dX3_load_1 : decode cX3_load 1 = .ok (.iload_n 1, 1) := dk_27 (dk_at dksX3_load_0 1 rfl rfl)
theorem dX3_load_2 : decode cX3_load 2 = .ok (.iload_n 2, 1) := dk_28 (dk_at dksX3_load_0 2 rfl rfl)
theorem dX3_load_3 : decode cX3_load 3 = .ok (.invokevirtual 239, 3) := dk_182 0 239 (dk_at dksX3_load_0 3 rfl rfl)
theorem dX3_load_6 : decode cX3_load 6 = .ok (.ifCond .eq 29, 3) := dk_153 0 29 (dk_at dksX3_load_0 6 rfl rfl)
theorem dX3_load_9 : decode cX3_load 9 = .ok (.iload_n 2, 1) := dk_28 (dk_at dksX3_load_0 9 rfl rfl)
theorem dX3_load_10 : decode cX3_load 10 = .ok (.ifCond .eq 25, 3) := dk_153 0 25 (dk_at dksX3_load_0 10 rfl rfl)
theorem dX3_load_13 : decode cX3_load 13 = .ok (.aload_n 0, 1) := dk_42 (dk_at dksX3_load_0 13 rfl rfl)
theorem dX3_load_14 : decode cX3_load 14 = .ok (.iload_n 1, 1) := dk_27 (dk_at dksX3_load_0 14 rfl rfl)
theorem dX3_load_15 : decode cX3_load 15 = .ok (.iload_n 3, 1) := dk_29 (dk_at dksX3_load_0 15 rfl rfl)
theorem dX3_load_16 : decode cX3_load 16 = .ok (.invokevirtual 233, 3) := dk_182 0 233 (dk_at dksX3_load_0 16 rfl rfl)
theorem dX3_load_19 : decode cX3_load 19 = .ok (.ifCond .eq 16, 3) := dk_153 0 16 (dk_at dksX3_load_0 19 rfl rfl)
theorem dX3_load_22 : decode cX3_load 22 = .ok (.iload 4, 2) := dk_21 4 (dk_at dksX3_load_0 22 rfl rfl)
theorem dX3_load_24 : decode cX3_load 24 = .ok (.i2l, 1) := dk_133 (dk_at dksX3_load_1 0 rfl rfl)
theorem dX3_load_25 : decode cX3_load 25 = .ok (.lconst 0, 1) := dk_9 (dk_at dksX3_load_1 1 rfl rfl)
theorem dX3_load_26 : decode cX3_load 26 = .ok (.ldc2_w 113, 3) := dk_20 0 113 (dk_at dksX3_load_1 2 rfl rfl)
theorem dX3_load_29 : decode cX3_load 29 = .ok (.invokestatic 94, 3) := dk_184 0 94 (dk_at dksX3_load_1 5 rfl rfl)
theorem dX3_load_32 : decode cX3_load 32 = .ok (.ifCond .ne 10, 3) := dk_154 0 10 (dk_at dksX3_load_1 8 rfl rfl)
theorem dX3_load_35 : decode cX3_load 35 = .ok (.aload_n 0, 1) := dk_42 (dk_at dksX3_load_1 11 rfl rfl)
theorem dX3_load_36 : decode cX3_load 36 = .ok (.bipush (-2), 2) := dk_16 254 (dk_at dksX3_load_1 12 rfl rfl)
theorem dX3_load_38 : decode cX3_load 38 = .ok (.invokevirtual 119, 3) := dk_182 0 119 (dk_at dksX3_load_1 14 rfl rfl)
theorem dX3_load_41 : decode cX3_load 41 = .ok (.ireturn, 1) := dk_172 (dk_at dksX3_load_1 17 rfl rfl)
theorem dX3_load_42 : decode cX3_load 42 = .ok (.aload_n 0, 1) := dk_42 (dk_at dksX3_load_1 18 rfl rfl)
theorem dX3_load_43 : decode cX3_load 43 = .ok (.iload 4, 2) := dk_21 4 (dk_at dksX3_load_1 19 rfl rfl)
theorem dX3_load_45 : decode cX3_load 45 = .ok (.invokevirtual 271, 3) := dk_182 1 15 (dk_at dksX3_load_1 21 rfl rfl)
theorem dX3_load_48 : decode cX3_load 48 = .ok (.istore 5, 2) := dk_54 5 (dk_at dksX3_load_2 0 rfl rfl)
theorem dX3_load_50 : decode cX3_load 50 = .ok (.iload 5, 2) := dk_21 5 (dk_at dksX3_load_2 2 rfl rfl)
theorem dX3_load_52 : decode cX3_load 52 = .ok (.ifCond .eq 6, 3) := dk_153 0 6 (dk_at dksX3_load_2 4 rfl rfl)
theorem dX3_load_55 : decode cX3_load 55 = .ok (.iload 5, 2) := dk_21 5 (dk_at dksX3_load_2 7 rfl rfl)
theorem dX3_load_57 : decode cX3_load 57 = .ok (.ireturn, 1) := dk_172 (dk_at dksX3_load_2 9 rfl rfl)
theorem dX3_load_58 : decode cX3_load 58 = .ok (.aload_n 0, 1) := dk_42 (dk_at dksX3_load_2 10 rfl rfl)
theorem dX3_load_59 : decode cX3_load 59 = .ok (.iload_n 1, 1) := dk_27 (dk_at dksX3_load_2 11 rfl rfl)
theorem dX3_load_60 : decode cX3_load 60 = .ok (.invokevirtual 264, 3) := dk_182 1 8 (dk_at dksX3_load_2 12 rfl rfl)
theorem dX3_load_63 : decode cX3_load 63 = .ok (.aload_n 0, 1) := dk_42 (dk_at dksX3_load_2 15 rfl rfl)
theorem dX3_load_64 : decode cX3_load 64 = .ok (.iload_n 1, 1) := dk_27 (dk_at dksX3_load_2 16 rfl rfl)
theorem dX3_load_65 : decode cX3_load 65 = .ok (.iload_n 2, 1) := dk_28 (dk_at dksX3_load_2 17 rfl rfl)
theorem dX3_load_66 : decode cX3_load 66 = .ok (.iload_n 3, 1) := dk_29 (dk_at dksX3_load_2 18 rfl rfl)
theorem dX3_load_67 : decode cX3_load 67 = .ok (.iload 4, 2) := dk_21 4 (dk_at dksX3_load_2 19 rfl rfl)
theorem dX3_load_69 : decode cX3_load 69 = .ok (.invokevirtual 274, 3) := dk_182 1 18 (dk_at dksX3_load_2 21 rfl rfl)
theorem dX3_load_72 : decode cX3_load 72 = .ok (.ireturn, 1) := dk_172 (dk_at dksX3_load_3 0 rfl rfl)
abbrev cX3_noRule : ByteArray := prog_17_method_53_code
def yX3_noRule : MethodName := ⟨RX3, "noRule", "(I)I"⟩
def dkwX3_noRule_1 : List UInt8 := [154, 0, 12, 42, 16, 252, 182, 0, 119, 167, 0, 4, 3, 172]
abbrev dktX3_noRule_1 : List UInt8 := dkwX3_noRule_1 ++ []
def dkwX3_noRule_0 : List UInt8 := [42, 180, 0, 7, 27, 46, 4, 160, 0, 10, 42, 16, 253, 182, 0, 119, 172, 42, 180, 0, 7, 27, 46]
abbrev dktX3_noRule_0 : List UInt8 := dkwX3_noRule_0 ++ dktX3_noRule_1
theorem dksX3_noRule_0 : cX3_noRule.data.toList.drop 0 = dktX3_noRule_0 := by decide +kernel
theorem dksX3_noRule_1 : cX3_noRule.data.toList.drop 23 = dktX3_noRule_1 := dk_seg dksX3_noRule_0 23 rfl rfl
theorem dX3_noRule_0 : decode cX3_noRule 0 = .ok (.aload_n 0, 1) := dk_42 (dk_at dksX3_noRule_0 0 rfl rfl)
theorem dX3_noRule_1 : decode cX3_noRule 1 = .ok (.getfield 7, 3) := dk_180 0 7 (dk_at dksX3_noRule_0 1 rfl rfl)
theorem dX3_noRule_4 : decode cX3_noRule 4 = .ok (.iload_n 1, 1) := dk_27 (dk_at dksX3_noRule_0 4 rfl rfl)
theorem dX3_noRule_5 : decode cX3_noRule 5 = .ok (.iaload, 1) := dk_46 (dk_at dksX3_noRule_0 5 rfl rfl)
theorem dX3_noRule_6 : decode cX3_noRule 6 = .ok (.iconst 1, 1) := dk_4 (dk_at dksX3_noRule_0 6 rfl rfl)
theorem dX3_noRule_7 : decode cX3_noRule 7 = .ok (.if_icmp .ne 10, 3) := dk_160 0 10 (dk_at dksX3_noRule_0 7 rfl rfl)
theorem dX3_noRule_10 : decode cX3_noRule 10 = .ok (.aload_n 0, 1) := dk_42 (dk_at dksX3_noRule_0 10 rfl rfl)
theorem dX3_noRule_11 : decode cX3_noRule 11 = .ok (.bipush (-3), 2) := dk_16 253 (dk_at dksX3_noRule_0 11 rfl rfl)
theorem dX3_noRule_13 : decode cX3_noRule 13 = .ok (.invokevirtual 119, 3) := dk_182 0 119 (dk_at dksX3_noRule_0 13 rfl rfl)
theorem dX3_noRule_16 : decode cX3_noRule 16 = .ok (.ireturn, 1) := dk_172 (dk_at dksX3_noRule_0 16 rfl rfl)
theorem dX3_noRule_17 : decode cX3_noRule 17 = .ok (.aload_n 0, 1) := dk_42 (dk_at dksX3_noRule_0 17 rfl rfl)
theorem dX3_noRule_18 : decode cX3_noRule 18 = .ok (.getfield 7, 3) := dk_180 0 7 (dk_at dksX3_noRule_0 18 rfl rfl)
theorem dX3_noRule_21 : decode cX3_noRule 21 = .ok (.iload_n 1, 1) := dk_27 (dk_at dksX3_noRule_0 21 rfl rfl)
theorem dX3_noRule_22 : decode cX3_noRule 22 = .ok (.iaload, 1) := dk_46 (dk_at dksX3_noRule_0 22 rfl rfl)
theorem dX3_noRule_23 : decode cX3_noRule 23 = .ok (.ifCond .ne 12, 3) := dk_154 0 12 (dk_at dksX3_noRule_1 0 rfl rfl)
theorem dX3_noRule_26 : decode cX3_noRule 26 = .ok (.aload_n 0, 1) := dk_42 (dk_at dksX3_noRule_1 3 rfl rfl)
theorem dX3_noRule_27 : decode cX3_noRule 27 = .ok (.bipush (-4), 2) := dk_16 252 (dk_at dksX3_noRule_1 4 rfl rfl)
theorem dX3_noRule_29 : decode cX3_noRule 29 = .ok (.invokevirtual 119, 3) := dk_182 0 119 (dk_at dksX3_noRule_1 6 rfl rfl)
theorem dX3_noRule_32 : decode cX3_noRule 32 = .ok (.goto 4, 3) := dk_167 0 4 (dk_at dksX3_noRule_1 9 rfl rfl)
theorem dX3_noRule_35 : decode cX3_noRule 35 = .ok (.iconst 0, 1) := dk_3 (dk_at dksX3_noRule_1 12 rfl rfl)
theorem dX3_noRule_36 : decode cX3_noRule 36 = .ok (.ireturn, 1) := dk_172 (dk_at dksX3_noRule_1 13 rfl rfl)
abbrev cX3_loadBy : ByteArray := prog_17_method_51_code
def yX3_loadBy : MethodName := ⟨RX3, "loadBy", "(IIII)I"⟩
def dkwX3_loadBy_2 : List UInt8 := [3, 172]
abbrev dktX3_loadBy_2 : List UInt8 := dkwX3_loadBy_2 ++ []
def dkwX3_loadBy_1 : List UInt8 := [21, 4, 42, 27, 29, 3, 182, 0, 236, 182, 1, 11, 153, 0, 12, 42, 27, 29, 182, 0, 246, 167, 0, 4]
abbrev dktX3_loadBy_1 : List UInt8 := dkwX3_loadBy_1 ++ dktX3_loadBy_2
def dkwX3_loadBy_0 : List UInt8 := [42, 180, 0, 28, 21, 4, 46, 7, 160, 0, 12, 42, 180, 0, 58, 28, 50, 29, 46, 172, 42, 28, 29]
abbrev dktX3_loadBy_0 : List UInt8 := dkwX3_loadBy_0 ++ dktX3_loadBy_1
theorem dksX3_loadBy_0 : cX3_loadBy.data.toList.drop 0 = dktX3_loadBy_0 := by decide +kernel
theorem dksX3_loadBy_1 : cX3_loadBy.data.toList.drop 23 = dktX3_loadBy_1 := dk_seg dksX3_loadBy_0 23 rfl rfl
theorem dksX3_loadBy_2 : cX3_loadBy.data.toList.drop 47 = dktX3_loadBy_2 := dk_seg dksX3_loadBy_1 24 rfl rfl
theorem dX3_loadBy_0 : decode cX3_loadBy 0 = .ok (.aload_n 0, 1) := dk_42 (dk_at dksX3_loadBy_0 0 rfl rfl)
theorem dX3_loadBy_1 : decode cX3_loadBy 1 = .ok (.getfield 28, 3) := dk_180 0 28 (dk_at dksX3_loadBy_0 1 rfl rfl)
theorem dX3_loadBy_4 : decode cX3_loadBy 4 = .ok (.iload 4, 2) := dk_21 4 (dk_at dksX3_loadBy_0 4 rfl rfl)
theorem dX3_loadBy_6 : decode cX3_loadBy 6 = .ok (.iaload, 1) := dk_46 (dk_at dksX3_loadBy_0 6 rfl rfl)
theorem dX3_loadBy_7 : decode cX3_loadBy 7 = .ok (.iconst 4, 1) := dk_7 (dk_at dksX3_loadBy_0 7 rfl rfl)
theorem dX3_loadBy_8 : decode cX3_loadBy 8 = .ok (.if_icmp .ne 12, 3) := dk_160 0 12 (dk_at dksX3_loadBy_0 8 rfl rfl)
theorem dX3_loadBy_11 : decode cX3_loadBy 11 = .ok (.aload_n 0, 1) := dk_42 (dk_at dksX3_loadBy_0 11 rfl rfl)
theorem dX3_loadBy_12 : decode cX3_loadBy 12 = .ok (.getfield 58, 3) := dk_180 0 58 (dk_at dksX3_loadBy_0 12 rfl rfl)
theorem dX3_loadBy_15 : decode cX3_loadBy 15 = .ok (.iload_n 2, 1) := dk_28 (dk_at dksX3_loadBy_0 15 rfl rfl)
theorem dX3_loadBy_16 : decode cX3_loadBy 16 = .ok (.aaload, 1) := dk_50 (dk_at dksX3_loadBy_0 16 rfl rfl)
theorem dX3_loadBy_17 : decode cX3_loadBy 17 = .ok (.iload_n 3, 1) := dk_29 (dk_at dksX3_loadBy_0 17 rfl rfl)
theorem dX3_loadBy_18 : decode cX3_loadBy 18 = .ok (.iaload, 1) := dk_46 (dk_at dksX3_loadBy_0 18 rfl rfl)
theorem dX3_loadBy_19 : decode cX3_loadBy 19 = .ok (.ireturn, 1) := dk_172 (dk_at dksX3_loadBy_0 19 rfl rfl)
theorem dX3_loadBy_20 : decode cX3_loadBy 20 = .ok (.aload_n 0, 1) := dk_42 (dk_at dksX3_loadBy_0 20 rfl rfl)
theorem dX3_loadBy_21 : decode cX3_loadBy 21 = .ok (.iload_n 2, 1) := dk_28 (dk_at dksX3_loadBy_0 21 rfl rfl)
theorem dX3_loadBy_22 : decode cX3_loadBy 22 = .ok (.iload_n 3, 1) := dk_29 (dk_at dksX3_loadBy_0 22 rfl rfl)
theorem dX3_loadBy_23 : decode cX3_loadBy 23 = .ok (.iload 4, 2) := dk_21 4 (dk_at dksX3_loadBy_1 0 rfl rfl)
theorem dX3_loadBy_25 : decode cX3_loadBy 25 = .ok (.aload_n 0, 1) := dk_42 (dk_at dksX3_loadBy_1 2 rfl rfl)
theorem dX3_loadBy_26 : decode cX3_loadBy 26 = .ok (.iload_n 1, 1) := dk_27 (dk_at dksX3_loadBy_1 3 rfl rfl)
theorem dX3_loadBy_27 : decode cX3_loadBy 27 = .ok (.iload_n 3, 1) := dk_29 (dk_at dksX3_loadBy_1 4 rfl rfl)
theorem dX3_loadBy_28 : decode cX3_loadBy 28 = .ok (.iconst 0, 1) := dk_3 (dk_at dksX3_loadBy_1 5 rfl rfl)
theorem dX3_loadBy_29 : decode cX3_loadBy 29 = .ok (.invokevirtual 236, 3) := dk_182 0 236 (dk_at dksX3_loadBy_1 6 rfl rfl)
theorem dX3_loadBy_32 : decode cX3_loadBy 32 = .ok (.invokevirtual 267, 3) := dk_182 1 11 (dk_at dksX3_loadBy_1 9 rfl rfl)
theorem dX3_loadBy_35 : decode cX3_loadBy 35 = .ok (.ifCond .eq 12, 3) := dk_153 0 12 (dk_at dksX3_loadBy_1 12 rfl rfl)
theorem dX3_loadBy_38 : decode cX3_loadBy 38 = .ok (.aload_n 0, 1) := dk_42 (dk_at dksX3_loadBy_1 15 rfl rfl)
theorem dX3_loadBy_39 : decode cX3_loadBy 39 = .ok (.iload_n 1, 1) := dk_27 (dk_at dksX3_loadBy_1 16 rfl rfl)
theorem dX3_loadBy_40 : decode cX3_loadBy 40 = .ok (.iload_n 3, 1) := dk_29 (dk_at dksX3_loadBy_1 17 rfl rfl)
theorem dX3_loadBy_41 : decode cX3_loadBy 41 = .ok (.invokevirtual 246, 3) := dk_182 0 246 (dk_at dksX3_loadBy_1 18 rfl rfl)
theorem dX3_loadBy_44 : decode cX3_loadBy 44 = .ok (.goto 4, 3) := dk_167 0 4 (dk_at dksX3_loadBy_1 21 rfl rfl)
theorem dX3_loadBy_47 : decode cX3_loadBy 47 = .ok (.iconst 0, 1) := dk_3 (dk_at dksX3_loadBy_2 0 rfl rfl)
theorem dX3_loadBy_48 : decode cX3_loadBy 48 = .ok (.ireturn, 1) := dk_172 (dk_at dksX3_loadBy_2 1 rfl rfl)
abbrev cX3_fillsBy : ByteArray := prog_17_method_52_code
def yX3_fillsBy : MethodName := ⟨RX3, "fillsBy", "(IIII)Z"⟩
def dkwX3_fillsBy_5 : List UInt8 := [29, 50, 28, 46, 4, 160, 0, 7, 4, 167, 0, 4, 3, 172]
abbrev dktX3_fillsBy_5 : List UInt8 := dkwX3_fillsBy_5 ++ []
def dkwX3_fillsBy_4 : List UInt8 := [27, 42, 180, 0, 31, 29, 46, 16, 10, 112, 112, 154, 0, 7, 4, 167, 0, 4, 3, 172, 42, 180, 0, 36]
abbrev dktX3_fillsBy_4 : List UInt8 := dkwX3_fillsBy_4 ++ dktX3_fillsBy_5
def dkwX3_fillsBy_3 : List UInt8 := [112, 154, 0, 7, 4, 167, 0, 4, 3, 172, 21, 4, 42, 180, 0, 31, 29, 46, 16, 10, 108, 162, 0, 17]
abbrev dktX3_fillsBy_3 : List UInt8 := dkwX3_fillsBy_3 ++ dktX3_fillsBy_4
def dkwX3_fillsBy_2 : List UInt8 := [21, 4, 42, 180, 0, 31, 29, 46, 161, 0, 7, 4, 167, 0, 4, 3, 172, 27, 42, 180, 0, 31, 29, 46]
abbrev dktX3_fillsBy_2 : List UInt8 := dkwX3_fillsBy_2 ++ dktX3_fillsBy_3
def dkwX3_fillsBy_1 : List UInt8 := [170, 0, 0, 0, 0, 94, 0, 0, 0, 1, 0, 0, 0, 3, 0, 0, 0, 26, 0, 0, 0, 43, 0, 0, 0, 60]
abbrev dktX3_fillsBy_1 : List UInt8 := dkwX3_fillsBy_1 ++ dktX3_fillsBy_2
def dkwX3_fillsBy_0 : List UInt8 := [42, 180, 0, 28, 29, 46]
abbrev dktX3_fillsBy_0 : List UInt8 := dkwX3_fillsBy_0 ++ dktX3_fillsBy_1
theorem dksX3_fillsBy_0 : cX3_fillsBy.data.toList.drop 0 = dktX3_fillsBy_0 := by decide +kernel
theorem dksX3_fillsBy_1 : cX3_fillsBy.data.toList.drop 6 = dktX3_fillsBy_1 := dk_seg dksX3_fillsBy_0 6 rfl rfl
theorem dksX3_fillsBy_2 : cX3_fillsBy.data.toList.drop 32 = dktX3_fillsBy_2 := dk_seg dksX3_fillsBy_1 26 rfl rfl
theorem dksX3_fillsBy_3 : cX3_fillsBy.data.toList.drop 56 = dktX3_fillsBy_3 := dk_seg dksX3_fillsBy_2 24 rfl rfl
theorem dksX3_fillsBy_4 : cX3_fillsBy.data.toList.drop 80 = dktX3_fillsBy_4 := dk_seg dksX3_fillsBy_3 24 rfl rfl
theorem dksX3_fillsBy_5 : cX3_fillsBy.data.toList.drop 104 = dktX3_fillsBy_5 := dk_seg dksX3_fillsBy_4 24 rfl rfl
theorem dX3_fillsBy_0 : decode cX3_fillsBy 0 = .ok (.aload_n 0, 1) := dk_42 (dk_at dksX3_fillsBy_0 0 rfl rfl)
theorem dX3_fillsBy_1 : decode cX3_fillsBy 1 = .ok (.getfield 28, 3) := dk_180 0 28 (dk_at dksX3_fillsBy_0 1 rfl rfl)
theorem dX3_fillsBy_4 : decode cX3_fillsBy 4 = .ok (.iload_n 3, 1) := dk_29 (dk_at dksX3_fillsBy_0 4 rfl rfl)
theorem dX3_fillsBy_5 : decode cX3_fillsBy 5 = .ok (.iaload, 1) := dk_46 (dk_at dksX3_fillsBy_0 5 rfl rfl)
theorem dX3_fillsBy_6 : decode cX3_fillsBy 6 = .ok (.tableswitch 94 1 3 #[26, 43, 60], 26) := by decide +kernel
theorem dX3_fillsBy_32 : decode cX3_fillsBy 32 = .ok (.iload 4, 2) := dk_21 4 (dk_at dksX3_fillsBy_2 0 rfl rfl)
theorem dX3_fillsBy_34 : decode cX3_fillsBy 34 = .ok (.aload_n 0, 1) := dk_42 (dk_at dksX3_fillsBy_2 2 rfl rfl)
theorem dX3_fillsBy_35 : decode cX3_fillsBy 35 = .ok (.getfield 31, 3) := dk_180 0 31 (dk_at dksX3_fillsBy_2 3 rfl rfl)
theorem dX3_fillsBy_38 : decode cX3_fillsBy 38 = .ok (.iload_n 3, 1) := dk_29 (dk_at dksX3_fillsBy_2 6 rfl rfl)
theorem dX3_fillsBy_39 : decode cX3_fillsBy 39 = .ok (.iaload, 1) := dk_46 (dk_at dksX3_fillsBy_2 7 rfl rfl)
theorem dX3_fillsBy_40 : decode cX3_fillsBy 40 = .ok (.if_icmp .lt 7, 3) := dk_161 0 7 (dk_at dksX3_fillsBy_2 8 rfl rfl)
theorem dX3_fillsBy_43 : decode cX3_fillsBy 43 = .ok (.iconst 1, 1) := dk_4 (dk_at dksX3_fillsBy_2 11 rfl rfl)
theorem dX3_fillsBy_44 : decode cX3_fillsBy 44 = .ok (.goto 4, 3) := dk_167 0 4 (dk_at dksX3_fillsBy_2 12 rfl rfl)
theorem dX3_fillsBy_47 : decode cX3_fillsBy 47 = .ok (.iconst 0, 1) := dk_3 (dk_at dksX3_fillsBy_2 15 rfl rfl)
theorem dX3_fillsBy_48 : decode cX3_fillsBy 48 = .ok (.ireturn, 1) := dk_172 (dk_at dksX3_fillsBy_2 16 rfl rfl)
theorem dX3_fillsBy_49 : decode cX3_fillsBy 49 = .ok (.iload_n 1, 1) := dk_27 (dk_at dksX3_fillsBy_2 17 rfl rfl)
theorem dX3_fillsBy_50 : decode cX3_fillsBy 50 = .ok (.aload_n 0, 1) := dk_42 (dk_at dksX3_fillsBy_2 18 rfl rfl)
theorem dX3_fillsBy_51 : decode cX3_fillsBy 51 = .ok (.getfield 31, 3) := dk_180 0 31 (dk_at dksX3_fillsBy_2 19 rfl rfl)
theorem dX3_fillsBy_54 : decode cX3_fillsBy 54 = .ok (.iload_n 3, 1) := dk_29 (dk_at dksX3_fillsBy_2 22 rfl rfl)
theorem dX3_fillsBy_55 : decode cX3_fillsBy 55 = .ok (.iaload, 1) := dk_46 (dk_at dksX3_fillsBy_2 23 rfl rfl)
theorem dX3_fillsBy_56 : decode cX3_fillsBy 56 = .ok (.irem, 1) := dk_112 (dk_at dksX3_fillsBy_3 0 rfl rfl)
theorem dX3_fillsBy_57 : decode cX3_fillsBy 57 = .ok (.ifCond .ne 7, 3) := dk_154 0 7 (dk_at dksX3_fillsBy_3 1 rfl rfl)
theorem dX3_fillsBy_60 : decode cX3_fillsBy 60 = .ok (.iconst 1, 1) := dk_4 (dk_at dksX3_fillsBy_3 4 rfl rfl)
theorem dX3_fillsBy_61 : decode cX3_fillsBy 61 = .ok (.goto 4, 3) := dk_167 0 4 (dk_at dksX3_fillsBy_3 5 rfl rfl)
theorem dX3_fillsBy_64 : decode cX3_fillsBy 64 = .ok (.iconst 0, 1) := dk_3 (dk_at dksX3_fillsBy_3 8 rfl rfl)
theorem dX3_fillsBy_65 : decode cX3_fillsBy 65 = .ok (.ireturn, 1) := dk_172 (dk_at dksX3_fillsBy_3 9 rfl rfl)
theorem dX3_fillsBy_66 : decode cX3_fillsBy 66 = .ok (.iload 4, 2) := dk_21 4 (dk_at dksX3_fillsBy_3 10 rfl rfl)
theorem dX3_fillsBy_68 : decode cX3_fillsBy 68 = .ok (.aload_n 0, 1) := dk_42 (dk_at dksX3_fillsBy_3 12 rfl rfl)
theorem dX3_fillsBy_69 : decode cX3_fillsBy 69 = .ok (.getfield 31, 3) := dk_180 0 31 (dk_at dksX3_fillsBy_3 13 rfl rfl)
theorem dX3_fillsBy_72 : decode cX3_fillsBy 72 = .ok (.iload_n 3, 1) := dk_29 (dk_at dksX3_fillsBy_3 16 rfl rfl)
theorem dX3_fillsBy_73 : decode cX3_fillsBy 73 = .ok (.iaload, 1) := dk_46 (dk_at dksX3_fillsBy_3 17 rfl rfl)
theorem dX3_fillsBy_74 : decode cX3_fillsBy 74 = .ok (.bipush 10, 2) := dk_16 10 (dk_at dksX3_fillsBy_3 18 rfl rfl)
theorem dX3_fillsBy_76 : decode cX3_fillsBy 76 = .ok (.idiv, 1) := dk_108 (dk_at dksX3_fillsBy_3 20 rfl rfl)
theorem dX3_fillsBy_77 : decode cX3_fillsBy 77 = .ok (.if_icmp .ge 17, 3) := dk_162 0 17 (dk_at dksX3_fillsBy_3 21 rfl rfl)
theorem dX3_fillsBy_80 : decode cX3_fillsBy 80 = .ok (.iload_n 1, 1) := dk_27 (dk_at dksX3_fillsBy_4 0 rfl rfl)
theorem dX3_fillsBy_81 : decode cX3_fillsBy 81 = .ok (.aload_n 0, 1) := dk_42 (dk_at dksX3_fillsBy_4 1 rfl rfl)
theorem dX3_fillsBy_82 : decode cX3_fillsBy 82 = .ok (.getfield 31, 3) := dk_180 0 31 (dk_at dksX3_fillsBy_4 2 rfl rfl)
theorem dX3_fillsBy_85 : decode cX3_fillsBy 85 = .ok (.iload_n 3, 1) := dk_29 (dk_at dksX3_fillsBy_4 5 rfl rfl)
theorem dX3_fillsBy_86 : decode cX3_fillsBy 86 = .ok (.iaload, 1) := dk_46 (dk_at dksX3_fillsBy_4 6 rfl rfl)
theorem dX3_fillsBy_87 : decode cX3_fillsBy 87 = .ok (.bipush 10, 2) := dk_16 10 (dk_at dksX3_fillsBy_4 7 rfl rfl)
theorem dX3_fillsBy_89 : decode cX3_fillsBy 89 = .ok (.irem, 1) := dk_112 (dk_at dksX3_fillsBy_4 9 rfl rfl)
theorem dX3_fillsBy_90 : decode cX3_fillsBy 90 = .ok (.irem, 1) := dk_112 (dk_at dksX3_fillsBy_4 10 rfl rfl)
theorem dX3_fillsBy_91 : decode cX3_fillsBy 91 = .ok (.ifCond .ne 7, 3) := dk_154 0 7 (dk_at dksX3_fillsBy_4 11 rfl rfl)
theorem dX3_fillsBy_94 : decode cX3_fillsBy 94 = .ok (.iconst 1, 1) := dk_4 (dk_at dksX3_fillsBy_4 14 rfl rfl)
theorem dX3_fillsBy_95 : decode cX3_fillsBy 95 = .ok (.goto 4, 3) := dk_167 0 4 (dk_at dksX3_fillsBy_4 15 rfl rfl)
theorem dX3_fillsBy_98 : decode cX3_fillsBy 98 = .ok (.iconst 0, 1) := dk_3 (dk_at dksX3_fillsBy_4 18 rfl rfl)
theorem dX3_fillsBy_99 : decode cX3_fillsBy 99 = .ok (.ireturn, 1) := dk_172 (dk_at dksX3_fillsBy_4 19 rfl rfl)
theorem dX3_fillsBy_100 : decode cX3_fillsBy 100 = .ok (.aload_n 0, 1) := dk_42 (dk_at dksX3_fillsBy_4 20 rfl rfl)
theorem dX3_fillsBy_101 : decode cX3_fillsBy 101 = .ok (.getfield 36, 3) := dk_180 0 36 (dk_at dksX3_fillsBy_4 21 rfl rfl)
theorem dX3_fillsBy_104 : decode cX3_fillsBy 104 = .ok (.iload_n 3, 1) := dk_29 (dk_at dksX3_fillsBy_5 0 rfl rfl)
theorem dX3_fillsBy_105 : decode cX3_fillsBy 105 = .ok (.aaload, 1) := dk_50 (dk_at dksX3_fillsBy_5 1 rfl rfl)
theorem dX3_fillsBy_106 : decode cX3_fillsBy 106 = .ok (.iload_n 2, 1) := dk_28 (dk_at dksX3_fillsBy_5 2 rfl rfl)
theorem dX3_fillsBy_107 : decode cX3_fillsBy 107 = .ok (.iaload, 1) := dk_46 (dk_at dksX3_fillsBy_5 3 rfl rfl)
theorem dX3_fillsBy_108 : decode cX3_fillsBy 108 = .ok (.iconst 1, 1) := dk_4 (dk_at dksX3_fillsBy_5 4 rfl rfl)
theorem dX3_fillsBy_109 : decode cX3_fillsBy 109 = .ok (.if_icmp .ne 7, 3) := dk_160 0 7 (dk_at dksX3_fillsBy_5 5 rfl rfl)
theorem dX3_fillsBy_112 : decode cX3_fillsBy 112 = .ok (.iconst 1, 1) := dk_4 (dk_at dksX3_fillsBy_5 8 rfl rfl)
theorem dX3_fillsBy_113 : decode cX3_fillsBy 113 = .ok (.goto 4, 3) := dk_167 0 4 (dk_at dksX3_fillsBy_5 9 rfl rfl)
theorem dX3_fillsBy_116 : decode cX3_fillsBy 116 = .ok (.iconst 0, 1) := dk_3 (dk_at dksX3_fillsBy_5 12 rfl rfl)
theorem dX3_fillsBy_117 : decode cX3_fillsBy 117 = .ok (.ireturn, 1) := dk_172 (dk_at dksX3_fillsBy_5 13 rfl rfl)
abbrev cX3_mean : ByteArray := prog_17_method_58_code
def yX3_mean : MethodName := ⟨RX3, "mean", "(IIII)J"⟩
def dkwX3_mean_0 : List UInt8 := [42, 27, 28, 29, 21, 4, 3, 182, 1, 29, 173]
abbrev dktX3_mean_0 : List UInt8 := dkwX3_mean_0 ++ []
theorem dksX3_mean_0 : cX3_mean.data.toList.drop 0 = dktX3_mean_0 := by decide +kernel
theorem dX3_mean_0 : decode cX3_mean 0 = .ok (.aload_n 0, 1) := dk_42 (dk_at dksX3_mean_0 0 rfl rfl)
theorem dX3_mean_1 : decode cX3_mean 1 = .ok (.iload_n 1, 1) := dk_27 (dk_at dksX3_mean_0 1 rfl rfl)
theorem dX3_mean_2 : decode cX3_mean 2 = .ok (.iload_n 2, 1) := dk_28 (dk_at dksX3_mean_0 2 rfl rfl)
theorem dX3_mean_3 : decode cX3_mean 3 = .ok (.iload_n 3, 1) := dk_29 (dk_at dksX3_mean_0 3 rfl rfl)
theorem dX3_mean_4 : decode cX3_mean 4 = .ok (.iload 4, 2) := dk_21 4 (dk_at dksX3_mean_0 4 rfl rfl)
theorem dX3_mean_6 : decode cX3_mean 6 = .ok (.iconst 0, 1) := dk_3 (dk_at dksX3_mean_0 6 rfl rfl)
theorem dX3_mean_7 : decode cX3_mean 7 = .ok (.invokevirtual 285, 3) := dk_182 1 29 (dk_at dksX3_mean_0 7 rfl rfl)
theorem dX3_mean_10 : decode cX3_mean 10 = .ok (.lreturn, 1) := dk_173 (dk_at dksX3_mean_0 10 rfl rfl)
abbrev cX3_byShelf : ByteArray := prog_17_method_57_code
def yX3_byShelf : MethodName := ⟨RX3, "byShelf", "(IIIIZ)J"⟩
def dkwX3_byShelf_3 : List UInt8 := [29, 47, 21, 5, 153, 0, 14, 42, 180, 0, 55, 28, 50, 29, 47, 167, 0, 4, 9, 101, 173]
abbrev dktX3_byShelf_3 : List UInt8 := dkwX3_byShelf_3 ++ []
def dkwX3_byShelf_2 : List UInt8 := [54, 6, 21, 6, 153, 0, 7, 21, 6, 133, 173, 42, 27, 21, 4, 182, 1, 26, 42, 180, 0, 61, 28, 50]
abbrev dktX3_byShelf_2 : List UInt8 := dkwX3_byShelf_2 ++ dktX3_byShelf_3
def dkwX3_byShelf_1 : List UInt8 := [20, 0, 113, 184, 0, 94, 154, 0, 11, 42, 16, 254, 182, 0, 119, 133, 173, 42, 21, 4, 182, 1, 15]
abbrev dktX3_byShelf_1 : List UInt8 := dkwX3_byShelf_1 ++ dktX3_byShelf_2
def dkwX3_byShelf_0 : List UInt8 := [42, 27, 28, 182, 0, 239, 153, 0, 25, 42, 27, 29, 182, 0, 233, 153, 0, 16, 21, 4, 133, 9]
abbrev dktX3_byShelf_0 : List UInt8 := dkwX3_byShelf_0 ++ dktX3_byShelf_1
theorem dksX3_byShelf_0 : cX3_byShelf.data.toList.drop 0 = dktX3_byShelf_0 := by decide +kernel
theorem dksX3_byShelf_1 : cX3_byShelf.data.toList.drop 22 = dktX3_byShelf_1 := dk_seg dksX3_byShelf_0 22 rfl rfl
theorem dksX3_byShelf_2 : cX3_byShelf.data.toList.drop 45 = dktX3_byShelf_2 := dk_seg dksX3_byShelf_1 23 rfl rfl
theorem dksX3_byShelf_3 : cX3_byShelf.data.toList.drop 69 = dktX3_byShelf_3 := dk_seg dksX3_byShelf_2 24 rfl rfl
theorem dX3_byShelf_0 : decode cX3_byShelf 0 = .ok (.aload_n 0, 1) := dk_42 (dk_at dksX3_byShelf_0 0 rfl rfl)
theorem dX3_byShelf_1 : decode cX3_byShelf 1 = .ok (.iload_n 1, 1) := dk_27 (dk_at dksX3_byShelf_0 1 rfl rfl)
theorem dX3_byShelf_2 : decode cX3_byShelf 2 = .ok (.iload_n 2, 1) := dk_28 (dk_at dksX3_byShelf_0 2 rfl rfl)
theorem dX3_byShelf_3 : decode cX3_byShelf 3 = .ok (.invokevirtual 239, 3) := dk_182 0 239 (dk_at dksX3_byShelf_0 3 rfl rfl)
theorem dX3_byShelf_6 : decode cX3_byShelf 6 = .ok (.ifCond .eq 25, 3) := dk_153 0 25 (dk_at dksX3_byShelf_0 6 rfl rfl)
theorem dX3_byShelf_9 : decode cX3_byShelf 9 = .ok (.aload_n 0, 1) := dk_42 (dk_at dksX3_byShelf_0 9 rfl rfl)
theorem dX3_byShelf_10 : decode cX3_byShelf 10 = .ok (.iload_n 1, 1) := dk_27 (dk_at dksX3_byShelf_0 10 rfl rfl)
theorem dX3_byShelf_11 : decode cX3_byShelf 11 = .ok (.iload_n 3, 1) := dk_29 (dk_at dksX3_byShelf_0 11 rfl rfl)
theorem dX3_byShelf_12 : decode cX3_byShelf 12 = .ok (.invokevirtual 233, 3) := dk_182 0 233 (dk_at dksX3_byShelf_0 12 rfl rfl)
theorem dX3_byShelf_15 : decode cX3_byShelf 15 = .ok (.ifCond .eq 16, 3) := dk_153 0 16 (dk_at dksX3_byShelf_0 15 rfl rfl)
theorem dX3_byShelf_18 : decode cX3_byShelf 18 = .ok (.iload 4, 2) := dk_21 4 (dk_at dksX3_byShelf_0 18 rfl rfl)
theorem dX3_byShelf_20 : decode cX3_byShelf 20 = .ok (.i2l, 1) := dk_133 (dk_at dksX3_byShelf_0 20 rfl rfl)
theorem dX3_byShelf_21 : decode cX3_byShelf 21 = .ok (.lconst 0, 1) := dk_9 (dk_at dksX3_byShelf_0 21 rfl rfl)
theorem dX3_byShelf_22 : decode cX3_byShelf 22 = .ok (.ldc2_w 113, 3) := dk_20 0 113 (dk_at dksX3_byShelf_1 0 rfl rfl)
theorem dX3_byShelf_25 : decode cX3_byShelf 25 = .ok (.invokestatic 94, 3) := dk_184 0 94 (dk_at dksX3_byShelf_1 3 rfl rfl)
theorem dX3_byShelf_28 : decode cX3_byShelf 28 = .ok (.ifCond .ne 11, 3) := dk_154 0 11 (dk_at dksX3_byShelf_1 6 rfl rfl)
theorem dX3_byShelf_31 : decode cX3_byShelf 31 = .ok (.aload_n 0, 1) := dk_42 (dk_at dksX3_byShelf_1 9 rfl rfl)
theorem dX3_byShelf_32 : decode cX3_byShelf 32 = .ok (.bipush (-2), 2) := dk_16 254 (dk_at dksX3_byShelf_1 10 rfl rfl)
theorem dX3_byShelf_34 : decode cX3_byShelf 34 = .ok (.invokevirtual 119, 3) := dk_182 0 119 (dk_at dksX3_byShelf_1 12 rfl rfl)
theorem dX3_byShelf_37 : decode cX3_byShelf 37 = .ok (.i2l, 1) := dk_133 (dk_at dksX3_byShelf_1 15 rfl rfl)
theorem dX3_byShelf_38 : decode cX3_byShelf 38 = .ok (.lreturn, 1) := dk_173 (dk_at dksX3_byShelf_1 16 rfl rfl)
theorem dX3_byShelf_39 : decode cX3_byShelf 39 = .ok (.aload_n 0, 1) := dk_42 (dk_at dksX3_byShelf_1 17 rfl rfl)
theorem dX3_byShelf_40 : decode cX3_byShelf 40 = .ok (.iload 4, 2) := dk_21 4 (dk_at dksX3_byShelf_1 18 rfl rfl)
theorem dX3_byShelf_42 : decode cX3_byShelf 42 = .ok (.invokevirtual 271, 3) := dk_182 1 15 (dk_at dksX3_byShelf_1 20 rfl rfl)
theorem dX3_byShelf_45 : decode cX3_byShelf 45 = .ok (.istore 6, 2) := dk_54 6 (dk_at dksX3_byShelf_2 0 rfl rfl)
theorem dX3_byShelf_47 : decode cX3_byShelf 47 = .ok (.iload 6, 2) := dk_21 6 (dk_at dksX3_byShelf_2 2 rfl rfl)
theorem dX3_byShelf_49 : decode cX3_byShelf 49 = .ok (.ifCond .eq 7, 3) := dk_153 0 7 (dk_at dksX3_byShelf_2 4 rfl rfl)
theorem dX3_byShelf_52 : decode cX3_byShelf 52 = .ok (.iload 6, 2) := dk_21 6 (dk_at dksX3_byShelf_2 7 rfl rfl)
theorem dX3_byShelf_54 : decode cX3_byShelf 54 = .ok (.i2l, 1) := dk_133 (dk_at dksX3_byShelf_2 9 rfl rfl)
theorem dX3_byShelf_55 : decode cX3_byShelf 55 = .ok (.lreturn, 1) := dk_173 (dk_at dksX3_byShelf_2 10 rfl rfl)
theorem dX3_byShelf_56 : decode cX3_byShelf 56 = .ok (.aload_n 0, 1) := dk_42 (dk_at dksX3_byShelf_2 11 rfl rfl)
theorem dX3_byShelf_57 : decode cX3_byShelf 57 = .ok (.iload_n 1, 1) := dk_27 (dk_at dksX3_byShelf_2 12 rfl rfl)
theorem dX3_byShelf_58 : decode cX3_byShelf 58 = .ok (.iload 4, 2) := dk_21 4 (dk_at dksX3_byShelf_2 13 rfl rfl)
theorem dX3_byShelf_60 : decode cX3_byShelf 60 = .ok (.invokevirtual 282, 3) := dk_182 1 26 (dk_at dksX3_byShelf_2 15 rfl rfl)
theorem dX3_byShelf_63 : decode cX3_byShelf 63 = .ok (.aload_n 0, 1) := dk_42 (dk_at dksX3_byShelf_2 18 rfl rfl)
theorem dX3_byShelf_64 : decode cX3_byShelf 64 = .ok (.getfield 61, 3) := dk_180 0 61 (dk_at dksX3_byShelf_2 19 rfl rfl)
theorem dX3_byShelf_67 : decode cX3_byShelf 67 = .ok (.iload_n 2, 1) := dk_28 (dk_at dksX3_byShelf_2 22 rfl rfl)
theorem dX3_byShelf_68 : decode cX3_byShelf 68 = .ok (.aaload, 1) := dk_50 (dk_at dksX3_byShelf_2 23 rfl rfl)
theorem dX3_byShelf_69 : decode cX3_byShelf 69 = .ok (.iload_n 3, 1) := dk_29 (dk_at dksX3_byShelf_3 0 rfl rfl)
theorem dX3_byShelf_70 : decode cX3_byShelf 70 = .ok (.laload, 1) := dk_47 (dk_at dksX3_byShelf_3 1 rfl rfl)
theorem dX3_byShelf_71 : decode cX3_byShelf 71 = .ok (.iload 5, 2) := dk_21 5 (dk_at dksX3_byShelf_3 2 rfl rfl)
theorem dX3_byShelf_73 : decode cX3_byShelf 73 = .ok (.ifCond .eq 14, 3) := dk_153 0 14 (dk_at dksX3_byShelf_3 4 rfl rfl)
theorem dX3_byShelf_76 : decode cX3_byShelf 76 = .ok (.aload_n 0, 1) := dk_42 (dk_at dksX3_byShelf_3 7 rfl rfl)
theorem dX3_byShelf_77 : decode cX3_byShelf 77 = .ok (.getfield 55, 3) := dk_180 0 55 (dk_at dksX3_byShelf_3 8 rfl rfl)
theorem dX3_byShelf_80 : decode cX3_byShelf 80 = .ok (.iload_n 2, 1) := dk_28 (dk_at dksX3_byShelf_3 11 rfl rfl)
theorem dX3_byShelf_81 : decode cX3_byShelf 81 = .ok (.aaload, 1) := dk_50 (dk_at dksX3_byShelf_3 12 rfl rfl)
theorem dX3_byShelf_82 : decode cX3_byShelf 82 = .ok (.iload_n 3, 1) := dk_29 (dk_at dksX3_byShelf_3 13 rfl rfl)
theorem dX3_byShelf_83 : decode cX3_byShelf 83 = .ok (.laload, 1) := dk_47 (dk_at dksX3_byShelf_3 14 rfl rfl)
theorem dX3_byShelf_84 : decode cX3_byShelf 84 = .ok (.goto 4, 3) := dk_167 0 4 (dk_at dksX3_byShelf_3 15 rfl rfl)
theorem dX3_byShelf_87 : decode cX3_byShelf 87 = .ok (.lconst 0, 1) := dk_9 (dk_at dksX3_byShelf_3 18 rfl rfl)
theorem dX3_byShelf_88 : decode cX3_byShelf 88 = .ok (.lsub, 1) := dk_101 (dk_at dksX3_byShelf_3 19 rfl rfl)
theorem dX3_byShelf_89 : decode cX3_byShelf 89 = .ok (.lreturn, 1) := dk_173 (dk_at dksX3_byShelf_3 20 rfl rfl)
abbrev cX3_findByRule : ByteArray := prog_17_method_55_code
def yX3_findByRule : MethodName := ⟨RX3, "findByRule", "(II)V"⟩
def dkwX3_findByRule_0 : List UInt8 := [42, 27, 182, 1, 8, 42, 27, 28, 182, 1, 22, 177]
abbrev dktX3_findByRule_0 : List UInt8 := dkwX3_findByRule_0 ++ []
theorem dksX3_findByRule_0 : cX3_findByRule.data.toList.drop 0 = dktX3_findByRule_0 := by decide +kernel
theorem dX3_findByRule_0 : decode cX3_findByRule 0 = .ok (.aload_n 0, 1) := dk_42 (dk_at dksX3_findByRule_0 0 rfl rfl)
theorem dX3_findByRule_1 : decode cX3_findByRule 1 = .ok (.iload_n 1, 1) := dk_27 (dk_at dksX3_findByRule_0 1 rfl rfl)
theorem dX3_findByRule_2 : decode cX3_findByRule 2 = .ok (.invokevirtual 264, 3) := dk_182 1 8 (dk_at dksX3_findByRule_0 2 rfl rfl)
theorem dX3_findByRule_5 : decode cX3_findByRule 5 = .ok (.aload_n 0, 1) := dk_42 (dk_at dksX3_findByRule_0 5 rfl rfl)
theorem dX3_findByRule_6 : decode cX3_findByRule 6 = .ok (.iload_n 1, 1) := dk_27 (dk_at dksX3_findByRule_0 6 rfl rfl)
theorem dX3_findByRule_7 : decode cX3_findByRule 7 = .ok (.iload_n 2, 1) := dk_28 (dk_at dksX3_findByRule_0 7 rfl rfl)
theorem dX3_findByRule_8 : decode cX3_findByRule 8 = .ok (.invokevirtual 278, 3) := dk_182 1 22 (dk_at dksX3_findByRule_0 8 rfl rfl)
theorem dX3_findByRule_11 : decode cX3_findByRule 11 = .ok (.return_, 1) := dk_177 (dk_at dksX3_findByRule_0 11 rfl rfl)
abbrev cX3_goesByRule : ByteArray := prog_17_method_56_code
def yX3_goesByRule : MethodName := ⟨RX3, "goesByRule", "(II)V"⟩
def dkwX3_goesByRule_10 : List UInt8 := [97, 80, 132, 6, 1, 167, 255, 119, 132, 3, 1, 167, 255, 48, 177]
abbrev dktX3_goesByRule_10 : List UInt8 := dkwX3_goesByRule_10 ++ []
def dkwX3_goesByRule_9 : List UInt8 := [46, 133, 42, 180, 0, 82, 21, 6, 47, 105, 7, 42, 180, 0, 45, 27, 50, 6, 46, 100, 133, 22, 8, 105]
abbrev dktX3_goesByRule_9 : List UInt8 := dkwX3_goesByRule_9 ++ dktX3_goesByRule_10
def dkwX3_goesByRule_8 : List UInt8 := [21, 6, 21, 7, 100, 47, 97, 55, 8, 42, 180, 0, 61, 29, 50, 21, 6, 42, 180, 0, 45, 27, 50, 6]
abbrev dktX3_goesByRule_8 : List UInt8 := dkwX3_goesByRule_8 ++ dktX3_goesByRule_9
def dkwX3_goesByRule_7 : List UInt8 := [54, 7, 21, 7, 154, 0, 13, 42, 180, 0, 82, 21, 6, 47, 167, 0, 16, 22, 4, 42, 180, 0, 82]
abbrev dktX3_goesByRule_7 : List UInt8 := dkwX3_goesByRule_7 ++ dktX3_goesByRule_8
def dkwX3_goesByRule_6 : List UInt8 := [180, 0, 76, 21, 6, 46, 182, 1, 11, 153, 0, 13, 42, 180, 0, 73, 21, 6, 46, 167, 0, 4, 3]
abbrev dktX3_goesByRule_6 : List UInt8 := dkwX3_goesByRule_6 ++ dktX3_goesByRule_7
def dkwX3_goesByRule_5 : List UInt8 := [7, 160, 0, 15, 42, 180, 0, 58, 29, 50, 21, 6, 46, 167, 0, 32, 42, 29, 21, 6, 28, 42]
abbrev dktX3_goesByRule_5 : List UInt8 := dkwX3_goesByRule_5 ++ dktX3_goesByRule_6
def dkwX3_goesByRule_4 : List UInt8 := [182, 1, 5, 55, 4, 3, 54, 6, 21, 6, 42, 27, 182, 0, 110, 162, 0, 133, 42, 180, 0, 28, 28, 46]
abbrev dktX3_goesByRule_4 : List UInt8 := dkwX3_goesByRule_4 ++ dktX3_goesByRule_5
def dkwX3_goesByRule_3 : List UInt8 := [29, 21, 4, 42, 180, 0, 61, 29, 4, 100, 50, 182, 0, 253, 80, 132, 4, 1, 167, 255, 220, 42, 27, 29]
abbrev dktX3_goesByRule_3 : List UInt8 := dkwX3_goesByRule_3 ++ dktX3_goesByRule_4
def dkwX3_goesByRule_2 : List UInt8 := [163, 0, 202, 3, 54, 4, 21, 4, 42, 27, 182, 0, 110, 162, 0, 32, 42, 180, 0, 82, 21, 4, 42, 27]
abbrev dktX3_goesByRule_2 : List UInt8 := dkwX3_goesByRule_2 ++ dktX3_goesByRule_3
def dkwX3_goesByRule_1 : List UInt8 := [182, 0, 236, 133, 80, 132, 3, 1, 167, 255, 228, 4, 62, 29, 42, 180, 0, 45, 27, 50, 3, 46]
abbrev dktX3_goesByRule_1 : List UInt8 := dkwX3_goesByRule_1 ++ dktX3_goesByRule_2
def dkwX3_goesByRule_0 : List UInt8 := [3, 62, 29, 42, 27, 182, 0, 110, 162, 0, 25, 42, 180, 0, 61, 3, 50, 29, 42, 27, 29, 7]
abbrev dktX3_goesByRule_0 : List UInt8 := dkwX3_goesByRule_0 ++ dktX3_goesByRule_1
theorem dksX3_goesByRule_0 : cX3_goesByRule.data.toList.drop 0 = dktX3_goesByRule_0 := by decide +kernel
theorem dksX3_goesByRule_1 : cX3_goesByRule.data.toList.drop 22 = dktX3_goesByRule_1 := dk_seg dksX3_goesByRule_0 22 rfl rfl
theorem dksX3_goesByRule_2 : cX3_goesByRule.data.toList.drop 44 = dktX3_goesByRule_2 := dk_seg dksX3_goesByRule_1 22 rfl rfl
theorem dksX3_goesByRule_3 : cX3_goesByRule.data.toList.drop 68 = dktX3_goesByRule_3 := dk_seg dksX3_goesByRule_2 24 rfl rfl
theorem dksX3_goesByRule_4 : cX3_goesByRule.data.toList.drop 92 = dktX3_goesByRule_4 := dk_seg dksX3_goesByRule_3 24 rfl rfl
theorem dksX3_goesByRule_5 : cX3_goesByRule.data.toList.drop 116 = dktX3_goesByRule_5 := dk_seg dksX3_goesByRule_4 24 rfl rfl
theorem dksX3_goesByRule_6 : cX3_goesByRule.data.toList.drop 138 = dktX3_goesByRule_6 := dk_seg dksX3_goesByRule_5 22 rfl rfl
theorem dksX3_goesByRule_7 : cX3_goesByRule.data.toList.drop 161 = dktX3_goesByRule_7 := dk_seg dksX3_goesByRule_6 23 rfl rfl
theorem dksX3_goesByRule_8 : cX3_goesByRule.data.toList.drop 184 = dktX3_goesByRule_8 := dk_seg dksX3_goesByRule_7 23 rfl rfl
theorem dksX3_goesByRule_9 : cX3_goesByRule.data.toList.drop 208 = dktX3_goesByRule_9 := dk_seg dksX3_goesByRule_8 24 rfl rfl
theorem dksX3_goesByRule_10 : cX3_goesByRule.data.toList.drop 232 = dktX3_goesByRule_10 := dk_seg dksX3_goesByRule_9 24 rfl rfl
theorem dX3_goesByRule_0 : decode cX3_goesByRule 0 = .ok (.iconst 0, 1) := dk_3 (dk_at dksX3_goesByRule_0 0 rfl rfl)
theorem dX3_goesByRule_1 : decode cX3_goesByRule 1 = .ok (.istore_n 3, 1) := dk_62 (dk_at dksX3_goesByRule_0 1 rfl rfl)
theorem dX3_goesByRule_2 : decode cX3_goesByRule 2 = .ok (.iload_n 3, 1) := dk_29 (dk_at dksX3_goesByRule_0 2 rfl rfl)
theorem dX3_goesByRule_3 : decode cX3_goesByRule 3 = .ok (.aload_n 0, 1) := dk_42 (dk_at dksX3_goesByRule_0 3 rfl rfl)
theorem dX3_goesByRule_4 : decode cX3_goesByRule 4 = .ok (.iload_n 1, 1) := dk_27 (dk_at dksX3_goesByRule_0 4 rfl rfl)
theorem dX3_goesByRule_5 : decode cX3_goesByRule 5 = .ok (.invokevirtual 110, 3) := dk_182 0 110 (dk_at dksX3_goesByRule_0 5 rfl rfl)
theorem dX3_goesByRule_8 : decode cX3_goesByRule 8 = .ok (.if_icmp .ge 25, 3) := dk_162 0 25 (dk_at dksX3_goesByRule_0 8 rfl rfl)
theorem dX3_goesByRule_11 : decode cX3_goesByRule 11 = .ok (.aload_n 0, 1) := dk_42 (dk_at dksX3_goesByRule_0 11 rfl rfl)
theorem dX3_goesByRule_12 : decode cX3_goesByRule 12 = .ok (.getfield 61, 3) := dk_180 0 61 (dk_at dksX3_goesByRule_0 12 rfl rfl)
theorem dX3_goesByRule_15 : decode cX3_goesByRule 15 = .ok (.iconst 0, 1) := dk_3 (dk_at dksX3_goesByRule_0 15 rfl rfl)
theorem dX3_goesByRule_16 : decode cX3_goesByRule 16 = .ok (.aaload, 1) := dk_50 (dk_at dksX3_goesByRule_0 16 rfl rfl)
theorem dX3_goesByRule_17 : decode cX3_goesByRule 17 = .ok (.iload_n 3, 1) := dk_29 (dk_at dksX3_goesByRule_0 17 rfl rfl)
theorem dX3_goesByRule_18 : decode cX3_goesByRule 18 = .ok (.aload_n 0, 1) := dk_42 (dk_at dksX3_goesByRule_0 18 rfl rfl)
theorem dX3_goesByRule_19 : decode cX3_goesByRule 19 = .ok (.iload_n 1, 1) := dk_27 (dk_at dksX3_goesByRule_0 19 rfl rfl)
theorem dX3_goesByRule_20 : decode cX3_goesByRule 20 = .ok (.iload_n 3, 1) := dk_29 (dk_at dksX3_goesByRule_0 20 rfl rfl)
theorem dX3_goesByRule_21 : decode cX3_goesByRule 21 = .ok (.iconst 4, 1) := dk_7 (dk_at dksX3_goesByRule_0 21 rfl rfl)
theorem dX3_goesByRule_22 : decode cX3_goesByRule 22 = .ok (.invokevirtual 236, 3) := dk_182 0 236 (dk_at dksX3_goesByRule_1 0 rfl rfl)
theorem dX3_goesByRule_25 : decode cX3_goesByRule 25 = .ok (.i2l, 1) := dk_133 (dk_at dksX3_goesByRule_1 3 rfl rfl)
theorem dX3_goesByRule_26 : decode cX3_goesByRule 26 = .ok (.lastore, 1) := dk_80 (dk_at dksX3_goesByRule_1 4 rfl rfl)
theorem dX3_goesByRule_27 : decode cX3_goesByRule 27 = .ok (.iinc 3 1, 3) := dk_132 3 1 (dk_at dksX3_goesByRule_1 5 rfl rfl)
theorem dX3_goesByRule_30 : decode cX3_goesByRule 30 = .ok (.goto (-28), 3) := dk_167 255 228 (dk_at dksX3_goesByRule_1 8 rfl rfl)
theorem dX3_goesByRule_33 : decode cX3_goesByRule 33 = .ok (.iconst 1, 1) := dk_4 (dk_at dksX3_goesByRule_1 11 rfl rfl)
theorem dX3_goesByRule_34 : decode cX3_goesByRule 34 = .ok (.istore_n 3, 1) := dk_62 (dk_at dksX3_goesByRule_1 12 rfl rfl)
theorem dX3_goesByRule_35 : decode cX3_goesByRule 35 = .ok (.iload_n 3, 1) := dk_29 (dk_at dksX3_goesByRule_1 13 rfl rfl)
theorem dX3_goesByRule_36 : decode cX3_goesByRule 36 = .ok (.aload_n 0, 1) := dk_42 (dk_at dksX3_goesByRule_1 14 rfl rfl)
theorem dX3_goesByRule_37 : decode cX3_goesByRule 37 = .ok (.getfield 45, 3) := dk_180 0 45 (dk_at dksX3_goesByRule_1 15 rfl rfl)
theorem dX3_goesByRule_40 : decode cX3_goesByRule 40 = .ok (.iload_n 1, 1) := dk_27 (dk_at dksX3_goesByRule_1 18 rfl rfl)
theorem dX3_goesByRule_41 : decode cX3_goesByRule 41 = .ok (.aaload, 1) := dk_50 (dk_at dksX3_goesByRule_1 19 rfl rfl)
theorem dX3_goesByRule_42 : decode cX3_goesByRule 42 = .ok (.iconst 0, 1) := dk_3 (dk_at dksX3_goesByRule_1 20 rfl rfl)
theorem dX3_goesByRule_43 : decode cX3_goesByRule 43 = .ok (.iaload, 1) := dk_46 (dk_at dksX3_goesByRule_1 21 rfl rfl)
theorem dX3_goesByRule_44 : decode cX3_goesByRule 44 = .ok (.if_icmp .gt 202, 3) := dk_163 0 202 (dk_at dksX3_goesByRule_2 0 rfl rfl)
theorem dX3_goesByRule_47 : decode cX3_goesByRule 47 = .ok (.iconst 0, 1) := dk_3 (dk_at dksX3_goesByRule_2 3 rfl rfl)
theorem dX3_goesByRule_48 : decode cX3_goesByRule 48 = .ok (.istore 4, 2) := dk_54 4 (dk_at dksX3_goesByRule_2 4 rfl rfl)
theorem dX3_goesByRule_50 : decode cX3_goesByRule 50 = .ok (.iload 4, 2) := dk_21 4 (dk_at dksX3_goesByRule_2 6 rfl rfl)
theorem dX3_goesByRule_52 : decode cX3_goesByRule 52 = .ok (.aload_n 0, 1) := dk_42 (dk_at dksX3_goesByRule_2 8 rfl rfl)
theorem dX3_goesByRule_53 : decode cX3_goesByRule 53 = .ok (.iload_n 1, 1) := dk_27 (dk_at dksX3_goesByRule_2 9 rfl rfl)
theorem dX3_goesByRule_54 : decode cX3_goesByRule 54 = .ok (.invokevirtual 110, 3) := dk_182 0 110 (dk_at dksX3_goesByRule_2 10 rfl rfl)
theorem dX3_goesByRule_57 : decode cX3_goesByRule 57 = .ok (.if_icmp .ge 32, 3) := dk_162 0 32 (dk_at dksX3_goesByRule_2 13 rfl rfl)
theorem dX3_goesByRule_60 : decode cX3_goesByRule 60 = .ok (.aload_n 0, 1) := dk_42 (dk_at dksX3_goesByRule_2 16 rfl rfl)
theorem dX3_goesByRule_61 : decode cX3_goesByRule 61 = .ok (.getfield 82, 3) := dk_180 0 82 (dk_at dksX3_goesByRule_2 17 rfl rfl)
theorem dX3_goesByRule_64 : decode cX3_goesByRule 64 = .ok (.iload 4, 2) := dk_21 4 (dk_at dksX3_goesByRule_2 20 rfl rfl)
theorem dX3_goesByRule_66 : decode cX3_goesByRule 66 = .ok (.aload_n 0, 1) := dk_42 (dk_at dksX3_goesByRule_2 22 rfl rfl)
theorem dX3_goesByRule_67 : decode cX3_goesByRule 67 = .ok (.iload_n 1, 1) := dk_27 (dk_at dksX3_goesByRule_2 23 rfl rfl)
theorem dX3_goesByRule_68 : decode cX3_goesByRule 68 = .ok (.iload_n 3, 1) := dk_29 (dk_at dksX3_goesByRule_3 0 rfl rfl)
theorem dX3_goesByRule_69 : decode cX3_goesByRule 69 = .ok (.iload 4, 2) := dk_21 4 (dk_at dksX3_goesByRule_3 1 rfl rfl)
theorem dX3_goesByRule_71 : decode cX3_goesByRule 71 = .ok (.aload_n 0, 1) := dk_42 (dk_at dksX3_goesByRule_3 3 rfl rfl)
theorem dX3_goesByRule_72 : decode cX3_goesByRule 72 = .ok (.getfield 61, 3) := dk_180 0 61 (dk_at dksX3_goesByRule_3 4 rfl rfl)
theorem dX3_goesByRule_75 : decode cX3_goesByRule 75 = .ok (.iload_n 3, 1) := dk_29 (dk_at dksX3_goesByRule_3 7 rfl rfl)
theorem dX3_goesByRule_76 : decode cX3_goesByRule 76 = .ok (.iconst 1, 1) := dk_4 (dk_at dksX3_goesByRule_3 8 rfl rfl)
theorem dX3_goesByRule_77 : decode cX3_goesByRule 77 = .ok (.isub, 1) := dk_100 (dk_at dksX3_goesByRule_3 9 rfl rfl)
theorem dX3_goesByRule_78 : decode cX3_goesByRule 78 = .ok (.aaload, 1) := dk_50 (dk_at dksX3_goesByRule_3 10 rfl rfl)
theorem dX3_goesByRule_79 : decode cX3_goesByRule 79 = .ok (.invokevirtual 253, 3) := dk_182 0 253 (dk_at dksX3_goesByRule_3 11 rfl rfl)
theorem dX3_goesByRule_82 : decode cX3_goesByRule 82 = .ok (.lastore, 1) := dk_80 (dk_at dksX3_goesByRule_3 14 rfl rfl)
theorem dX3_goesByRule_83 : decode cX3_goesByRule 83 = .ok (.iinc 4 1, 3) := dk_132 4 1 (dk_at dksX3_goesByRule_3 15 rfl rfl)
theorem dX3_goesByRule_86 : decode cX3_goesByRule 86 = .ok (.goto (-36), 3) := dk_167 255 220 (dk_at dksX3_goesByRule_3 18 rfl rfl)
theorem dX3_goesByRule_89 : decode cX3_goesByRule 89 = .ok (.aload_n 0, 1) := dk_42 (dk_at dksX3_goesByRule_3 21 rfl rfl)
theorem dX3_goesByRule_90 : decode cX3_goesByRule 90 = .ok (.iload_n 1, 1) := dk_27 (dk_at dksX3_goesByRule_3 22 rfl rfl)
theorem dX3_goesByRule_91 : decode cX3_goesByRule 91 = .ok (.iload_n 3, 1) := dk_29 (dk_at dksX3_goesByRule_3 23 rfl rfl)
theorem dX3_goesByRule_92 : decode cX3_goesByRule 92 = .ok (.invokevirtual 261, 3) := dk_182 1 5 (dk_at dksX3_goesByRule_4 0 rfl rfl)
theorem dX3_goesByRule_95 : decode cX3_goesByRule 95 = .ok (.lstore 4, 2) := dk_55 4 (dk_at dksX3_goesByRule_4 3 rfl rfl)
theorem dX3_goesByRule_97 : decode cX3_goesByRule 97 = .ok (.iconst 0, 1) := dk_3 (dk_at dksX3_goesByRule_4 5 rfl rfl)
theorem dX3_goesByRule_98 : decode cX3_goesByRule 98 = .ok (.istore 6, 2) := dk_54 6 (dk_at dksX3_goesByRule_4 6 rfl rfl)
theorem dX3_goesByRule_100 : decode cX3_goesByRule 100 = .ok (.iload 6, 2) := dk_21 6 (dk_at dksX3_goesByRule_4 8 rfl rfl)
theorem dX3_goesByRule_102 : decode cX3_goesByRule 102 = .ok (.aload_n 0, 1) := dk_42 (dk_at dksX3_goesByRule_4 10 rfl rfl)
theorem dX3_goesByRule_103 : decode cX3_goesByRule 103 = .ok (.iload_n 1, 1) := dk_27 (dk_at dksX3_goesByRule_4 11 rfl rfl)
theorem dX3_goesByRule_104 : decode cX3_goesByRule 104 = .ok (.invokevirtual 110, 3) := dk_182 0 110 (dk_at dksX3_goesByRule_4 12 rfl rfl)
theorem dX3_goesByRule_107 : decode cX3_goesByRule 107 = .ok (.if_icmp .ge 133, 3) := dk_162 0 133 (dk_at dksX3_goesByRule_4 15 rfl rfl)
theorem dX3_goesByRule_110 : decode cX3_goesByRule 110 = .ok (.aload_n 0, 1) := dk_42 (dk_at dksX3_goesByRule_4 18 rfl rfl)
theorem dX3_goesByRule_111 : decode cX3_goesByRule 111 = .ok (.getfield 28, 3) := dk_180 0 28 (dk_at dksX3_goesByRule_4 19 rfl rfl)
theorem dX3_goesByRule_114 : decode cX3_goesByRule 114 = .ok (.iload_n 2, 1) := dk_28 (dk_at dksX3_goesByRule_4 22 rfl rfl)
theorem dX3_goesByRule_115 : decode cX3_goesByRule 115 = .ok (.iaload, 1) := dk_46 (dk_at dksX3_goesByRule_4 23 rfl rfl)
theorem dX3_goesByRule_116 : decode cX3_goesByRule 116 = .ok (.iconst 4, 1) := dk_7 (dk_at dksX3_goesByRule_5 0 rfl rfl)
theorem dX3_goesByRule_117 : decode cX3_goesByRule 117 = .ok (.if_icmp .ne 15, 3) := dk_160 0 15 (dk_at dksX3_goesByRule_5 1 rfl rfl)
theorem dX3_goesByRule_120 : decode cX3_goesByRule 120 = .ok (.aload_n 0, 1) := dk_42 (dk_at dksX3_goesByRule_5 4 rfl rfl)
theorem dX3_goesByRule_121 : decode cX3_goesByRule 121 = .ok (.getfield 58, 3) := dk_180 0 58 (dk_at dksX3_goesByRule_5 5 rfl rfl)
theorem dX3_goesByRule_124 : decode cX3_goesByRule 124 = .ok (.iload_n 3, 1) := dk_29 (dk_at dksX3_goesByRule_5 8 rfl rfl)
theorem dX3_goesByRule_125 : decode cX3_goesByRule 125 = .ok (.aaload, 1) := dk_50 (dk_at dksX3_goesByRule_5 9 rfl rfl)
theorem dX3_goesByRule_126 : decode cX3_goesByRule 126 = .ok (.iload 6, 2) := dk_21 6 (dk_at dksX3_goesByRule_5 10 rfl rfl)
theorem dX3_goesByRule_128 : decode cX3_goesByRule 128 = .ok (.iaload, 1) := dk_46 (dk_at dksX3_goesByRule_5 12 rfl rfl)
theorem dX3_goesByRule_129 : decode cX3_goesByRule 129 = .ok (.goto 32, 3) := dk_167 0 32 (dk_at dksX3_goesByRule_5 13 rfl rfl)
theorem dX3_goesByRule_132 : decode cX3_goesByRule 132 = .ok (.aload_n 0, 1) := dk_42 (dk_at dksX3_goesByRule_5 16 rfl rfl)
theorem dX3_goesByRule_133 : decode cX3_goesByRule 133 = .ok (.iload_n 3, 1) := dk_29 (dk_at dksX3_goesByRule_5 17 rfl rfl)
theorem dX3_goesByRule_134 : decode cX3_goesByRule 134 = .ok (.iload 6, 2) := dk_21 6 (dk_at dksX3_goesByRule_5 18 rfl rfl)
theorem dX3_goesByRule_136 : decode cX3_goesByRule 136 = .ok (.iload_n 2, 1) := dk_28 (dk_at dksX3_goesByRule_5 20 rfl rfl)
theorem dX3_goesByRule_137 : decode cX3_goesByRule 137 = .ok (.aload_n 0, 1) := dk_42 (dk_at dksX3_goesByRule_5 21 rfl rfl)
theorem dX3_goesByRule_138 : decode cX3_goesByRule 138 = .ok (.getfield 76, 3) := dk_180 0 76 (dk_at dksX3_goesByRule_6 0 rfl rfl)
theorem dX3_goesByRule_141 : decode cX3_goesByRule 141 = .ok (.iload 6, 2) := dk_21 6 (dk_at dksX3_goesByRule_6 3 rfl rfl)
theorem dX3_goesByRule_143 : decode cX3_goesByRule 143 = .ok (.iaload, 1) := dk_46 (dk_at dksX3_goesByRule_6 5 rfl rfl)
theorem dX3_goesByRule_144 : decode cX3_goesByRule 144 = .ok (.invokevirtual 267, 3) := dk_182 1 11 (dk_at dksX3_goesByRule_6 6 rfl rfl)
theorem dX3_goesByRule_147 : decode cX3_goesByRule 147 = .ok (.ifCond .eq 13, 3) := dk_153 0 13 (dk_at dksX3_goesByRule_6 9 rfl rfl)
theorem dX3_goesByRule_150 : decode cX3_goesByRule 150 = .ok (.aload_n 0, 1) := dk_42 (dk_at dksX3_goesByRule_6 12 rfl rfl)
theorem dX3_goesByRule_151 : decode cX3_goesByRule 151 = .ok (.getfield 73, 3) := dk_180 0 73 (dk_at dksX3_goesByRule_6 13 rfl rfl)
theorem dX3_goesByRule_154 : decode cX3_goesByRule 154 = .ok (.iload 6, 2) := dk_21 6 (dk_at dksX3_goesByRule_6 16 rfl rfl)
theorem dX3_goesByRule_156 : decode cX3_goesByRule 156 = .ok (.iaload, 1) := dk_46 (dk_at dksX3_goesByRule_6 18 rfl rfl)
theorem dX3_goesByRule_157 : decode cX3_goesByRule 157 = .ok (.goto 4, 3) := dk_167 0 4 (dk_at dksX3_goesByRule_6 19 rfl rfl)
theorem dX3_goesByRule_160 : decode cX3_goesByRule 160 = .ok (.iconst 0, 1) := dk_3 (dk_at dksX3_goesByRule_6 22 rfl rfl)
theorem dX3_goesByRule_161 : decode cX3_goesByRule 161 = .ok (.istore 7, 2) := dk_54 7 (dk_at dksX3_goesByRule_7 0 rfl rfl)
theorem dX3_goesByRule_163 : decode cX3_goesByRule 163 = .ok (.iload 7, 2) := dk_21 7 (dk_at dksX3_goesByRule_7 2 rfl rfl)
theorem dX3_goesByRule_165 : decode cX3_goesByRule 165 = .ok (.ifCond .ne 13, 3) := dk_154 0 13 (dk_at dksX3_goesByRule_7 4 rfl rfl)
theorem dX3_goesByRule_168 : decode cX3_goesByRule 168 = .ok (.aload_n 0, 1) := dk_42 (dk_at dksX3_goesByRule_7 7 rfl rfl)
theorem dX3_goesByRule_169 : decode cX3_goesByRule 169 = .ok (.getfield 82, 3) := dk_180 0 82 (dk_at dksX3_goesByRule_7 8 rfl rfl)
theorem dX3_goesByRule_172 : decode cX3_goesByRule 172 = .ok (.iload 6, 2) := dk_21 6 (dk_at dksX3_goesByRule_7 11 rfl rfl)
theorem dX3_goesByRule_174 : decode cX3_goesByRule 174 = .ok (.laload, 1) := dk_47 (dk_at dksX3_goesByRule_7 13 rfl rfl)
theorem dX3_goesByRule_175 : decode cX3_goesByRule 175 = .ok (.goto 16, 3) := dk_167 0 16 (dk_at dksX3_goesByRule_7 14 rfl rfl)
theorem dX3_goesByRule_178 : decode cX3_goesByRule 178 = .ok (.lload 4, 2) := dk_22 4 (dk_at dksX3_goesByRule_7 17 rfl rfl)
theorem dX3_goesByRule_180 : decode cX3_goesByRule 180 = .ok (.aload_n 0, 1) := dk_42 (dk_at dksX3_goesByRule_7 19 rfl rfl)
theorem dX3_goesByRule_181 : decode cX3_goesByRule 181 = .ok (.getfield 82, 3) := dk_180 0 82 (dk_at dksX3_goesByRule_7 20 rfl rfl)
theorem dX3_goesByRule_184 : decode cX3_goesByRule 184 = .ok (.iload 6, 2) := dk_21 6 (dk_at dksX3_goesByRule_8 0 rfl rfl)
theorem dX3_goesByRule_186 : decode cX3_goesByRule 186 = .ok (.iload 7, 2) := dk_21 7 (dk_at dksX3_goesByRule_8 2 rfl rfl)
theorem dX3_goesByRule_188 : decode cX3_goesByRule 188 = .ok (.isub, 1) := dk_100 (dk_at dksX3_goesByRule_8 4 rfl rfl)
theorem dX3_goesByRule_189 : decode cX3_goesByRule 189 = .ok (.laload, 1) := dk_47 (dk_at dksX3_goesByRule_8 5 rfl rfl)
theorem dX3_goesByRule_190 : decode cX3_goesByRule 190 = .ok (.ladd, 1) := dk_97 (dk_at dksX3_goesByRule_8 6 rfl rfl)
theorem dX3_goesByRule_191 : decode cX3_goesByRule 191 = .ok (.lstore 8, 2) := dk_55 8 (dk_at dksX3_goesByRule_8 7 rfl rfl)
theorem dX3_goesByRule_193 : decode cX3_goesByRule 193 = .ok (.aload_n 0, 1) := dk_42 (dk_at dksX3_goesByRule_8 9 rfl rfl)
theorem dX3_goesByRule_194 : decode cX3_goesByRule 194 = .ok (.getfield 61, 3) := dk_180 0 61 (dk_at dksX3_goesByRule_8 10 rfl rfl)
theorem dX3_goesByRule_197 : decode cX3_goesByRule 197 = .ok (.iload_n 3, 1) := dk_29 (dk_at dksX3_goesByRule_8 13 rfl rfl)
theorem dX3_goesByRule_198 : decode cX3_goesByRule 198 = .ok (.aaload, 1) := dk_50 (dk_at dksX3_goesByRule_8 14 rfl rfl)
theorem dX3_goesByRule_199 : decode cX3_goesByRule 199 = .ok (.iload 6, 2) := dk_21 6 (dk_at dksX3_goesByRule_8 15 rfl rfl)
theorem dX3_goesByRule_201 : decode cX3_goesByRule 201 = .ok (.aload_n 0, 1) := dk_42 (dk_at dksX3_goesByRule_8 17 rfl rfl)
theorem dX3_goesByRule_202 : decode cX3_goesByRule 202 = .ok (.getfield 45, 3) := dk_180 0 45 (dk_at dksX3_goesByRule_8 18 rfl rfl)
theorem dX3_goesByRule_205 : decode cX3_goesByRule 205 = .ok (.iload_n 1, 1) := dk_27 (dk_at dksX3_goesByRule_8 21 rfl rfl)
theorem dX3_goesByRule_206 : decode cX3_goesByRule 206 = .ok (.aaload, 1) := dk_50 (dk_at dksX3_goesByRule_8 22 rfl rfl)
theorem dX3_goesByRule_207 : decode cX3_goesByRule 207 = .ok (.iconst 3, 1) := dk_6 (dk_at dksX3_goesByRule_8 23 rfl rfl)
theorem dX3_goesByRule_208 : decode cX3_goesByRule 208 = .ok (.iaload, 1) := dk_46 (dk_at dksX3_goesByRule_9 0 rfl rfl)
theorem dX3_goesByRule_209 : decode cX3_goesByRule 209 = .ok (.i2l, 1) := dk_133 (dk_at dksX3_goesByRule_9 1 rfl rfl)
theorem dX3_goesByRule_210 : decode cX3_goesByRule 210 = .ok (.aload_n 0, 1) := dk_42 (dk_at dksX3_goesByRule_9 2 rfl rfl)
theorem dX3_goesByRule_211 : decode cX3_goesByRule 211 = .ok (.getfield 82, 3) := dk_180 0 82 (dk_at dksX3_goesByRule_9 3 rfl rfl)
theorem dX3_goesByRule_214 : decode cX3_goesByRule 214 = .ok (.iload 6, 2) := dk_21 6 (dk_at dksX3_goesByRule_9 6 rfl rfl)
theorem dX3_goesByRule_216 : decode cX3_goesByRule 216 = .ok (.laload, 1) := dk_47 (dk_at dksX3_goesByRule_9 8 rfl rfl)
theorem dX3_goesByRule_217 : decode cX3_goesByRule 217 = .ok (.lmul, 1) := dk_105 (dk_at dksX3_goesByRule_9 9 rfl rfl)
theorem dX3_goesByRule_218 : decode cX3_goesByRule 218 = .ok (.iconst 4, 1) := dk_7 (dk_at dksX3_goesByRule_9 10 rfl rfl)
theorem dX3_goesByRule_219 : decode cX3_goesByRule 219 = .ok (.aload_n 0, 1) := dk_42 (dk_at dksX3_goesByRule_9 11 rfl rfl)
theorem dX3_goesByRule_220 : decode cX3_goesByRule 220 = .ok (.getfield 45, 3) := dk_180 0 45 (dk_at dksX3_goesByRule_9 12 rfl rfl)
theorem dX3_goesByRule_223 : decode cX3_goesByRule 223 = .ok (.iload_n 1, 1) := dk_27 (dk_at dksX3_goesByRule_9 15 rfl rfl)
theorem dX3_goesByRule_224 : decode cX3_goesByRule 224 = .ok (.aaload, 1) := dk_50 (dk_at dksX3_goesByRule_9 16 rfl rfl)
theorem dX3_goesByRule_225 : decode cX3_goesByRule 225 = .ok (.iconst 3, 1) := dk_6 (dk_at dksX3_goesByRule_9 17 rfl rfl)
theorem dX3_goesByRule_226 : decode cX3_goesByRule 226 = .ok (.iaload, 1) := dk_46 (dk_at dksX3_goesByRule_9 18 rfl rfl)
theorem dX3_goesByRule_227 : decode cX3_goesByRule 227 = .ok (.isub, 1) := dk_100 (dk_at dksX3_goesByRule_9 19 rfl rfl)
theorem dX3_goesByRule_228 : decode cX3_goesByRule 228 = .ok (.i2l, 1) := dk_133 (dk_at dksX3_goesByRule_9 20 rfl rfl)
theorem dX3_goesByRule_229 : decode cX3_goesByRule 229 = .ok (.lload 8, 2) := dk_22 8 (dk_at dksX3_goesByRule_9 21 rfl rfl)
theorem dX3_goesByRule_231 : decode cX3_goesByRule 231 = .ok (.lmul, 1) := dk_105 (dk_at dksX3_goesByRule_9 23 rfl rfl)
theorem dX3_goesByRule_232 : decode cX3_goesByRule 232 = .ok (.ladd, 1) := dk_97 (dk_at dksX3_goesByRule_10 0 rfl rfl)
theorem dX3_goesByRule_233 : decode cX3_goesByRule 233 = .ok (.lastore, 1) := dk_80 (dk_at dksX3_goesByRule_10 1 rfl rfl)
theorem dX3_goesByRule_234 : decode cX3_goesByRule 234 = .ok (.iinc 6 1, 3) := dk_132 6 1 (dk_at dksX3_goesByRule_10 2 rfl rfl)
theorem dX3_goesByRule_237 : decode cX3_goesByRule 237 = .ok (.goto (-137), 3) := dk_167 255 119 (dk_at dksX3_goesByRule_10 5 rfl rfl)
theorem dX3_goesByRule_240 : decode cX3_goesByRule 240 = .ok (.iinc 3 1, 3) := dk_132 3 1 (dk_at dksX3_goesByRule_10 8 rfl rfl)
theorem dX3_goesByRule_243 : decode cX3_goesByRule 243 = .ok (.goto (-208), 3) := dk_167 255 48 (dk_at dksX3_goesByRule_10 11 rfl rfl)
theorem dX3_goesByRule_246 : decode cX3_goesByRule 246 = .ok (.return_, 1) := dk_177 (dk_at dksX3_goesByRule_10 14 rfl rfl)
abbrev cX3_lose : ByteArray := prog_17_method_59_code
def yX3_lose : MethodName := ⟨RX3, "lose", "(IIII)J"⟩
def dkwX3_lose_0 : List UInt8 := [42, 27, 28, 29, 21, 4, 4, 182, 1, 29, 173]
abbrev dktX3_lose_0 : List UInt8 := dkwX3_lose_0 ++ []
theorem dksX3_lose_0 : cX3_lose.data.toList.drop 0 = dktX3_lose_0 := by decide +kernel
theorem dX3_lose_0 : decode cX3_lose 0 = .ok (.aload_n 0, 1) := dk_42 (dk_at dksX3_lose_0 0 rfl rfl)
theorem dX3_lose_1 : decode cX3_lose 1 = .ok (.iload_n 1, 1) := dk_27 (dk_at dksX3_lose_0 1 rfl rfl)
theorem dX3_lose_2 : decode cX3_lose 2 = .ok (.iload_n 2, 1) := dk_28 (dk_at dksX3_lose_0 2 rfl rfl)
theorem dX3_lose_3 : decode cX3_lose 3 = .ok (.iload_n 3, 1) := dk_29 (dk_at dksX3_lose_0 3 rfl rfl)
theorem dX3_lose_4 : decode cX3_lose 4 = .ok (.iload 4, 2) := dk_21 4 (dk_at dksX3_lose_0 4 rfl rfl)
theorem dX3_lose_6 : decode cX3_lose 6 = .ok (.iconst 1, 1) := dk_4 (dk_at dksX3_lose_0 6 rfl rfl)
theorem dX3_lose_7 : decode cX3_lose 7 = .ok (.invokevirtual 285, 3) := dk_182 1 29 (dk_at dksX3_lose_0 7 rfl rfl)
theorem dX3_lose_10 : decode cX3_lose 10 = .ok (.lreturn, 1) := dk_173 (dk_at dksX3_lose_0 10 rfl rfl)
abbrev cX3_boy : ByteArray := prog_17_method_60_code
def yX3_boy : MethodName := ⟨RX3, "boy", "(I)I"⟩
def dkwX3_boy_4 : List UInt8 := [182, 0, 119, 167, 0, 4, 28, 172]
abbrev dktX3_boy_4 : List UInt8 := dkwX3_boy_4 ++ []
def dkwX3_boy_3 : List UInt8 := [148, 156, 0, 9, 21, 5, 61, 22, 6, 66, 132, 5, 1, 167, 255, 193, 28, 2, 160, 0, 12, 42, 16, 251]
abbrev dktX3_boy_3 : List UInt8 := dkwX3_boy_3 ++ dktX3_boy_4
def dkwX3_boy_2 : List UInt8 := [180, 0, 61, 42, 180, 0, 45, 27, 50, 3, 46, 50, 3, 47, 55, 6, 28, 2, 159, 0, 10, 22, 6, 33]
abbrev dktX3_boy_2 : List UInt8 := dkwX3_boy_2 ++ dktX3_boy_3
def dkwX3_boy_1 : List UInt8 := [16, 8, 162, 0, 62, 42, 180, 0, 7, 21, 5, 46, 5, 160, 0, 45, 42, 27, 21, 5, 182, 1, 26, 42]
abbrev dktX3_boy_1 : List UInt8 := dkwX3_boy_1 ++ dktX3_boy_2
def dkwX3_boy_0 : List UInt8 := [42, 27, 182, 0, 106, 154, 0, 10, 42, 16, 254, 182, 0, 119, 172, 2, 61, 9, 66, 3, 54, 5, 21, 5]
abbrev dktX3_boy_0 : List UInt8 := dkwX3_boy_0 ++ dktX3_boy_1
theorem dksX3_boy_0 : cX3_boy.data.toList.drop 0 = dktX3_boy_0 := by decide +kernel
theorem dksX3_boy_1 : cX3_boy.data.toList.drop 24 = dktX3_boy_1 := dk_seg dksX3_boy_0 24 rfl rfl
theorem dksX3_boy_2 : cX3_boy.data.toList.drop 48 = dktX3_boy_2 := dk_seg dksX3_boy_1 24 rfl rfl
theorem dksX3_boy_3 : cX3_boy.data.toList.drop 72 = dktX3_boy_3 := dk_seg dksX3_boy_2 24 rfl rfl
theorem dksX3_boy_4 : cX3_boy.data.toList.drop 96 = dktX3_boy_4 := dk_seg dksX3_boy_3 24 rfl rfl
theorem dX3_boy_0 : decode cX3_boy 0 = .ok (.aload_n 0, 1) := dk_42 (dk_at dksX3_boy_0 0 rfl rfl)
theorem dX3_boy_1 : decode cX3_boy 1 = .ok (.iload_n 1, 1) := dk_27 (dk_at dksX3_boy_0 1 rfl rfl)
theorem dX3_boy_2 : decode cX3_boy 2 = .ok (.invokevirtual 106, 3) := dk_182 0 106 (dk_at dksX3_boy_0 2 rfl rfl)
theorem dX3_boy_5 : decode cX3_boy 5 = .ok (.ifCond .ne 10, 3) := dk_154 0 10 (dk_at dksX3_boy_0 5 rfl rfl)
theorem dX3_boy_8 : decode cX3_boy 8 = .ok (.aload_n 0, 1) := dk_42 (dk_at dksX3_boy_0 8 rfl rfl)
theorem dX3_boy_9 : decode cX3_boy 9 = .ok (.bipush (-2), 2) := dk_16 254 (dk_at dksX3_boy_0 9 rfl rfl)
theorem dX3_boy_11 : decode cX3_boy 11 = .ok (.invokevirtual 119, 3) := dk_182 0 119 (dk_at dksX3_boy_0 11 rfl rfl)
theorem dX3_boy_14 : decode cX3_boy 14 = .ok (.ireturn, 1) := dk_172 (dk_at dksX3_boy_0 14 rfl rfl)
theorem dX3_boy_15 : decode cX3_boy 15 = .ok (.iconst (-1), 1) := dk_2 (dk_at dksX3_boy_0 15 rfl rfl)
theorem dX3_boy_16 : decode cX3_boy 16 = .ok (.istore_n 2, 1) := dk_61 (dk_at dksX3_boy_0 16 rfl rfl)
theorem dX3_boy_17 : decode cX3_boy 17 = .ok (.lconst 0, 1) := dk_9 (dk_at dksX3_boy_0 17 rfl rfl)
theorem dX3_boy_18 : decode cX3_boy 18 = .ok (.lstore_n 3, 1) := dk_66 (dk_at dksX3_boy_0 18 rfl rfl)
theorem dX3_boy_19 : decode cX3_boy 19 = .ok (.iconst 0, 1) := dk_3 (dk_at dksX3_boy_0 19 rfl rfl)
theorem dX3_boy_20 : decode cX3_boy 20 = .ok (.istore 5, 2) := dk_54 5 (dk_at dksX3_boy_0 20 rfl rfl)
theorem dX3_boy_22 : decode cX3_boy 22 = .ok (.iload 5, 2) := dk_21 5 (dk_at dksX3_boy_0 22 rfl rfl)
theorem dX3_boy_24 : decode cX3_boy 24 = .ok (.bipush 8, 2) := dk_16 8 (dk_at dksX3_boy_1 0 rfl rfl)
theorem dX3_boy_26 : decode cX3_boy 26 = .ok (.if_icmp .ge 62, 3) := dk_162 0 62 (dk_at dksX3_boy_1 2 rfl rfl)
theorem dX3_boy_29 : decode cX3_boy 29 = .ok (.aload_n 0, 1) := dk_42 (dk_at dksX3_boy_1 5 rfl rfl)
theorem dX3_boy_30 : decode cX3_boy 30 = .ok (.getfield 7, 3) := dk_180 0 7 (dk_at dksX3_boy_1 6 rfl rfl)
theorem dX3_boy_33 : decode cX3_boy 33 = .ok (.iload 5, 2) := dk_21 5 (dk_at dksX3_boy_1 9 rfl rfl)
theorem dX3_boy_35 : decode cX3_boy 35 = .ok (.iaload, 1) := dk_46 (dk_at dksX3_boy_1 11 rfl rfl)
theorem dX3_boy_36 : decode cX3_boy 36 = .ok (.iconst 2, 1) := dk_5 (dk_at dksX3_boy_1 12 rfl rfl)
theorem dX3_boy_37 : decode cX3_boy 37 = .ok (.if_icmp .ne 45, 3) := dk_160 0 45 (dk_at dksX3_boy_1 13 rfl rfl)
theorem dX3_boy_40 : decode cX3_boy 40 = .ok (.aload_n 0, 1) := dk_42 (dk_at dksX3_boy_1 16 rfl rfl)
theorem dX3_boy_41 : decode cX3_boy 41 = .ok (.iload_n 1, 1) := dk_27 (dk_at dksX3_boy_1 17 rfl rfl)
theorem dX3_boy_42 : decode cX3_boy 42 = .ok (.iload 5, 2) := dk_21 5 (dk_at dksX3_boy_1 18 rfl rfl)
theorem dX3_boy_44 : decode cX3_boy 44 = .ok (.invokevirtual 282, 3) := dk_182 1 26 (dk_at dksX3_boy_1 20 rfl rfl)
theorem dX3_boy_47 : decode cX3_boy 47 = .ok (.aload_n 0, 1) := dk_42 (dk_at dksX3_boy_1 23 rfl rfl)
theorem dX3_boy_48 : decode cX3_boy 48 = .ok (.getfield 61, 3) := dk_180 0 61 (dk_at dksX3_boy_2 0 rfl rfl)
theorem dX3_boy_51 : decode cX3_boy 51 = .ok (.aload_n 0, 1) := dk_42 (dk_at dksX3_boy_2 3 rfl rfl)
theorem dX3_boy_52 : decode cX3_boy 52 = .ok (.getfield 45, 3) := dk_180 0 45 (dk_at dksX3_boy_2 4 rfl rfl)
theorem dX3_boy_55 : decode cX3_boy 55 = .ok (.iload_n 1, 1) := dk_27 (dk_at dksX3_boy_2 7 rfl rfl)
theorem dX3_boy_56 : decode cX3_boy 56 = .ok (.aaload, 1) := dk_50 (dk_at dksX3_boy_2 8 rfl rfl)
theorem dX3_boy_57 : decode cX3_boy 57 = .ok (.iconst 0, 1) := dk_3 (dk_at dksX3_boy_2 9 rfl rfl)
theorem dX3_boy_58 : decode cX3_boy 58 = .ok (.iaload, 1) := dk_46 (dk_at dksX3_boy_2 10 rfl rfl)
theorem dX3_boy_59 : decode cX3_boy 59 = .ok (.aaload, 1) := dk_50 (dk_at dksX3_boy_2 11 rfl rfl)
theorem dX3_boy_60 : decode cX3_boy 60 = .ok (.iconst 0, 1) := dk_3 (dk_at dksX3_boy_2 12 rfl rfl)
theorem dX3_boy_61 : decode cX3_boy 61 = .ok (.laload, 1) := dk_47 (dk_at dksX3_boy_2 13 rfl rfl)
theorem dX3_boy_62 : decode cX3_boy 62 = .ok (.lstore 6, 2) := dk_55 6 (dk_at dksX3_boy_2 14 rfl rfl)
theorem dX3_boy_64 : decode cX3_boy 64 = .ok (.iload_n 2, 1) := dk_28 (dk_at dksX3_boy_2 16 rfl rfl)
theorem dX3_boy_65 : decode cX3_boy 65 = .ok (.iconst (-1), 1) := dk_2 (dk_at dksX3_boy_2 17 rfl rfl)
theorem dX3_boy_66 : decode cX3_boy 66 = .ok (.if_icmp .eq 10, 3) := dk_159 0 10 (dk_at dksX3_boy_2 18 rfl rfl)
theorem dX3_boy_69 : decode cX3_boy 69 = .ok (.lload 6, 2) := dk_22 6 (dk_at dksX3_boy_2 21 rfl rfl)
theorem dX3_boy_71 : decode cX3_boy 71 = .ok (.lload_n 3, 1) := dk_33 (dk_at dksX3_boy_2 23 rfl rfl)
theorem dX3_boy_72 : decode cX3_boy 72 = .ok (.lcmp, 1) := dk_148 (dk_at dksX3_boy_3 0 rfl rfl)
theorem dX3_boy_73 : decode cX3_boy 73 = .ok (.ifCond .ge 9, 3) := dk_156 0 9 (dk_at dksX3_boy_3 1 rfl rfl)
theorem dX3_boy_76 : decode cX3_boy 76 = .ok (.iload 5, 2) := dk_21 5 (dk_at dksX3_boy_3 4 rfl rfl)
theorem dX3_boy_78 : decode cX3_boy 78 = .ok (.istore_n 2, 1) := dk_61 (dk_at dksX3_boy_3 6 rfl rfl)
theorem dX3_boy_79 : decode cX3_boy 79 = .ok (.lload 6, 2) := dk_22 6 (dk_at dksX3_boy_3 7 rfl rfl)
theorem dX3_boy_81 : decode cX3_boy 81 = .ok (.lstore_n 3, 1) := dk_66 (dk_at dksX3_boy_3 9 rfl rfl)
theorem dX3_boy_82 : decode cX3_boy 82 = .ok (.iinc 5 1, 3) := dk_132 5 1 (dk_at dksX3_boy_3 10 rfl rfl)
theorem dX3_boy_85 : decode cX3_boy 85 = .ok (.goto (-63), 3) := dk_167 255 193 (dk_at dksX3_boy_3 13 rfl rfl)
theorem dX3_boy_88 : decode cX3_boy 88 = .ok (.iload_n 2, 1) := dk_28 (dk_at dksX3_boy_3 16 rfl rfl)
theorem dX3_boy_89 : decode cX3_boy 89 = .ok (.iconst (-1), 1) := dk_2 (dk_at dksX3_boy_3 17 rfl rfl)
theorem dX3_boy_90 : decode cX3_boy 90 = .ok (.if_icmp .ne 12, 3) := dk_160 0 12 (dk_at dksX3_boy_3 18 rfl rfl)
theorem dX3_boy_93 : decode cX3_boy 93 = .ok (.aload_n 0, 1) := dk_42 (dk_at dksX3_boy_3 21 rfl rfl)
theorem dX3_boy_94 : decode cX3_boy 94 = .ok (.bipush (-5), 2) := dk_16 251 (dk_at dksX3_boy_3 22 rfl rfl)
theorem dX3_boy_96 : decode cX3_boy 96 = .ok (.invokevirtual 119, 3) := dk_182 0 119 (dk_at dksX3_boy_4 0 rfl rfl)
theorem dX3_boy_99 : decode cX3_boy 99 = .ok (.goto 4, 3) := dk_167 0 4 (dk_at dksX3_boy_4 3 rfl rfl)
theorem dX3_boy_102 : decode cX3_boy 102 = .ok (.iload_n 2, 1) := dk_28 (dk_at dksX3_boy_4 6 rfl rfl)
theorem dX3_boy_103 : decode cX3_boy 103 = .ok (.ireturn, 1) := dk_172 (dk_at dksX3_boy_4 7 rfl rfl)
abbrev cX3_waits : ByteArray := prog_17_method_61_code
def yX3_waits : MethodName := ⟨RX3, "waits", "(III)J"⟩
def dkwX3_waits_2 : List UInt8 := [4, 100, 50, 182, 0, 253, 105, 42, 180, 0, 55, 28, 50, 29, 47, 101, 173]
abbrev dktX3_waits_2 : List UInt8 := dkwX3_waits_2 ++ []
def dkwX3_waits_1 : List UInt8 := [16, 254, 182, 0, 119, 133, 173, 42, 27, 182, 1, 8, 20, 0, 115, 42, 27, 28, 29, 42, 180, 0, 55, 28]
abbrev dktX3_waits_1 : List UInt8 := dkwX3_waits_1 ++ dktX3_waits_2
def dkwX3_waits_0 : List UInt8 := [42, 27, 28, 182, 0, 239, 153, 0, 16, 28, 153, 0, 12, 42, 27, 29, 182, 0, 233, 154, 0, 11, 42]
abbrev dktX3_waits_0 : List UInt8 := dkwX3_waits_0 ++ dktX3_waits_1
theorem dksX3_waits_0 : cX3_waits.data.toList.drop 0 = dktX3_waits_0 := by decide +kernel
theorem dksX3_waits_1 : cX3_waits.data.toList.drop 23 = dktX3_waits_1 := dk_seg dksX3_waits_0 23 rfl rfl
theorem dksX3_waits_2 : cX3_waits.data.toList.drop 47 = dktX3_waits_2 := dk_seg dksX3_waits_1 24 rfl rfl
theorem dX3_waits_0 : decode cX3_waits 0 = .ok (.aload_n 0, 1) := dk_42 (dk_at dksX3_waits_0 0 rfl rfl)
theorem dX3_waits_1 : decode cX3_waits 1 = .ok (.iload_n 1, 1) := dk_27 (dk_at dksX3_waits_0 1 rfl rfl)
theorem dX3_waits_2 : decode cX3_waits 2 = .ok (.iload_n 2, 1) := dk_28 (dk_at dksX3_waits_0 2 rfl rfl)
theorem dX3_waits_3 : decode cX3_waits 3 = .ok (.invokevirtual 239, 3) := dk_182 0 239 (dk_at dksX3_waits_0 3 rfl rfl)
theorem dX3_waits_6 : decode cX3_waits 6 = .ok (.ifCond .eq 16, 3) := dk_153 0 16 (dk_at dksX3_waits_0 6 rfl rfl)
theorem dX3_waits_9 : decode cX3_waits 9 = .ok (.iload_n 2, 1) := dk_28 (dk_at dksX3_waits_0 9 rfl rfl)
theorem dX3_waits_10 : decode cX3_waits 10 = .ok (.ifCond .eq 12, 3) := dk_153 0 12 (dk_at dksX3_waits_0 10 rfl rfl)
theorem dX3_waits_13 : decode cX3_waits 13 = .ok (.aload_n 0, 1) := dk_42 (dk_at dksX3_waits_0 13 rfl rfl)
theorem dX3_waits_14 : decode cX3_waits 14 = .ok (.iload_n 1, 1) := dk_27 (dk_at dksX3_waits_0 14 rfl rfl)
theorem dX3_waits_15 : decode cX3_waits 15 = .ok (.iload_n 3, 1) := dk_29 (dk_at dksX3_waits_0 15 rfl rfl)
theorem dX3_waits_16 : decode cX3_waits 16 = .ok (.invokevirtual 233, 3) := dk_182 0 233 (dk_at dksX3_waits_0 16 rfl rfl)
theorem dX3_waits_19 : decode cX3_waits 19 = .ok (.ifCond .ne 11, 3) := dk_154 0 11 (dk_at dksX3_waits_0 19 rfl rfl)
theorem dX3_waits_22 : decode cX3_waits 22 = .ok (.aload_n 0, 1) := dk_42 (dk_at dksX3_waits_0 22 rfl rfl)
theorem dX3_waits_23 : decode cX3_waits 23 = .ok (.bipush (-2), 2) := dk_16 254 (dk_at dksX3_waits_1 0 rfl rfl)
theorem dX3_waits_25 : decode cX3_waits 25 = .ok (.invokevirtual 119, 3) := dk_182 0 119 (dk_at dksX3_waits_1 2 rfl rfl)
theorem dX3_waits_28 : decode cX3_waits 28 = .ok (.i2l, 1) := dk_133 (dk_at dksX3_waits_1 5 rfl rfl)
theorem dX3_waits_29 : decode cX3_waits 29 = .ok (.lreturn, 1) := dk_173 (dk_at dksX3_waits_1 6 rfl rfl)
theorem dX3_waits_30 : decode cX3_waits 30 = .ok (.aload_n 0, 1) := dk_42 (dk_at dksX3_waits_1 7 rfl rfl)
theorem dX3_waits_31 : decode cX3_waits 31 = .ok (.iload_n 1, 1) := dk_27 (dk_at dksX3_waits_1 8 rfl rfl)
theorem dX3_waits_32 : decode cX3_waits 32 = .ok (.invokevirtual 264, 3) := dk_182 1 8 (dk_at dksX3_waits_1 9 rfl rfl)
theorem dX3_waits_35 : decode cX3_waits 35 = .ok (.ldc2_w 115, 3) := dk_20 0 115 (dk_at dksX3_waits_1 12 rfl rfl)
theorem dX3_waits_38 : decode cX3_waits 38 = .ok (.aload_n 0, 1) := dk_42 (dk_at dksX3_waits_1 15 rfl rfl)
theorem dX3_waits_39 : decode cX3_waits 39 = .ok (.iload_n 1, 1) := dk_27 (dk_at dksX3_waits_1 16 rfl rfl)
theorem dX3_waits_40 : decode cX3_waits 40 = .ok (.iload_n 2, 1) := dk_28 (dk_at dksX3_waits_1 17 rfl rfl)
theorem dX3_waits_41 : decode cX3_waits 41 = .ok (.iload_n 3, 1) := dk_29 (dk_at dksX3_waits_1 18 rfl rfl)
theorem dX3_waits_42 : decode cX3_waits 42 = .ok (.aload_n 0, 1) := dk_42 (dk_at dksX3_waits_1 19 rfl rfl)
theorem dX3_waits_43 : decode cX3_waits 43 = .ok (.getfield 55, 3) := dk_180 0 55 (dk_at dksX3_waits_1 20 rfl rfl)
theorem dX3_waits_46 : decode cX3_waits 46 = .ok (.iload_n 2, 1) := dk_28 (dk_at dksX3_waits_1 23 rfl rfl)
theorem dX3_waits_47 : decode cX3_waits 47 = .ok (.iconst 1, 1) := dk_4 (dk_at dksX3_waits_2 0 rfl rfl)
theorem dX3_waits_48 : decode cX3_waits 48 = .ok (.isub, 1) := dk_100 (dk_at dksX3_waits_2 1 rfl rfl)
theorem dX3_waits_49 : decode cX3_waits 49 = .ok (.aaload, 1) := dk_50 (dk_at dksX3_waits_2 2 rfl rfl)
theorem dX3_waits_50 : decode cX3_waits 50 = .ok (.invokevirtual 253, 3) := dk_182 0 253 (dk_at dksX3_waits_2 3 rfl rfl)
theorem dX3_waits_53 : decode cX3_waits 53 = .ok (.lmul, 1) := dk_105 (dk_at dksX3_waits_2 6 rfl rfl)
theorem dX3_waits_54 : decode cX3_waits 54 = .ok (.aload_n 0, 1) := dk_42 (dk_at dksX3_waits_2 7 rfl rfl)
theorem dX3_waits_55 : decode cX3_waits 55 = .ok (.getfield 55, 3) := dk_180 0 55 (dk_at dksX3_waits_2 8 rfl rfl)
theorem dX3_waits_58 : decode cX3_waits 58 = .ok (.iload_n 2, 1) := dk_28 (dk_at dksX3_waits_2 11 rfl rfl)
theorem dX3_waits_59 : decode cX3_waits 59 = .ok (.aaload, 1) := dk_50 (dk_at dksX3_waits_2 12 rfl rfl)
theorem dX3_waits_60 : decode cX3_waits 60 = .ok (.iload_n 3, 1) := dk_29 (dk_at dksX3_waits_2 13 rfl rfl)
theorem dX3_waits_61 : decode cX3_waits 61 = .ok (.laload, 1) := dk_47 (dk_at dksX3_waits_2 14 rfl rfl)
theorem dX3_waits_62 : decode cX3_waits 62 = .ok (.lsub, 1) := dk_101 (dk_at dksX3_waits_2 15 rfl rfl)
theorem dX3_waits_63 : decode cX3_waits 63 = .ok (.lreturn, 1) := dk_173 (dk_at dksX3_waits_2 16 rfl rfl)
abbrev cX3_once : ByteArray := prog_17_method_62_code
def yX3_once : MethodName := ⟨RX3, "once", "(III)J"⟩
def dkwX3_once_2 : List UInt8 := [180, 0, 55, 28, 4, 100, 50, 182, 1, 33, 42, 180, 0, 55, 28, 50, 29, 47, 101, 173]
abbrev dktX3_once_2 : List UInt8 := dkwX3_once_2 ++ []
def dkwX3_once_1 : List UInt8 := [16, 254, 182, 0, 119, 133, 173, 42, 27, 182, 1, 8, 42, 27, 28, 29, 42, 27, 29, 182, 0, 246, 42]
abbrev dktX3_once_1 : List UInt8 := dkwX3_once_1 ++ dktX3_once_2
def dkwX3_once_0 : List UInt8 := [42, 27, 28, 182, 0, 239, 153, 0, 16, 28, 153, 0, 12, 42, 27, 29, 182, 0, 233, 154, 0, 11, 42]
abbrev dktX3_once_0 : List UInt8 := dkwX3_once_0 ++ dktX3_once_1
theorem dksX3_once_0 : cX3_once.data.toList.drop 0 = dktX3_once_0 := by decide +kernel
theorem dksX3_once_1 : cX3_once.data.toList.drop 23 = dktX3_once_1 := dk_seg dksX3_once_0 23 rfl rfl
theorem dksX3_once_2 : cX3_once.data.toList.drop 46 = dktX3_once_2 := dk_seg dksX3_once_1 23 rfl rfl
theorem dX3_once_0 : decode cX3_once 0 = .ok (.aload_n 0, 1) := dk_42 (dk_at dksX3_once_0 0 rfl rfl)
theorem dX3_once_1 : decode cX3_once 1 = .ok (.iload_n 1, 1) := dk_27 (dk_at dksX3_once_0 1 rfl rfl)
theorem dX3_once_2 : decode cX3_once 2 = .ok (.iload_n 2, 1) := dk_28 (dk_at dksX3_once_0 2 rfl rfl)
theorem dX3_once_3 : decode cX3_once 3 = .ok (.invokevirtual 239, 3) := dk_182 0 239 (dk_at dksX3_once_0 3 rfl rfl)
theorem dX3_once_6 : decode cX3_once 6 = .ok (.ifCond .eq 16, 3) := dk_153 0 16 (dk_at dksX3_once_0 6 rfl rfl)
theorem dX3_once_9 : decode cX3_once 9 = .ok (.iload_n 2, 1) := dk_28 (dk_at dksX3_once_0 9 rfl rfl)
theorem dX3_once_10 : decode cX3_once 10 = .ok (.ifCond .eq 12, 3) := dk_153 0 12 (dk_at dksX3_once_0 10 rfl rfl)
theorem dX3_once_13 : decode cX3_once 13 = .ok (.aload_n 0, 1) := dk_42 (dk_at dksX3_once_0 13 rfl rfl)
theorem dX3_once_14 : decode cX3_once 14 = .ok (.iload_n 1, 1) := dk_27 (dk_at dksX3_once_0 14 rfl rfl)
theorem dX3_once_15 : decode cX3_once 15 = .ok (.iload_n 3, 1) := dk_29 (dk_at dksX3_once_0 15 rfl rfl)
theorem dX3_once_16 : decode cX3_once 16 = .ok (.invokevirtual 233, 3) := dk_182 0 233 (dk_at dksX3_once_0 16 rfl rfl)
theorem dX3_once_19 : decode cX3_once 19 = .ok (.ifCond .ne 11, 3) := dk_154 0 11 (dk_at dksX3_once_0 19 rfl rfl)
theorem dX3_once_22 : decode cX3_once 22 = .ok (.aload_n 0, 1) := dk_42 (dk_at dksX3_once_0 22 rfl rfl)
theorem dX3_once_23 : decode cX3_once 23 = .ok (.bipush (-2), 2) := dk_16 254 (dk_at dksX3_once_1 0 rfl rfl)
theorem dX3_once_25 : decode cX3_once 25 = .ok (.invokevirtual 119, 3) := dk_182 0 119 (dk_at dksX3_once_1 2 rfl rfl)
theorem dX3_once_28 : decode cX3_once 28 = .ok (.i2l, 1) := dk_133 (dk_at dksX3_once_1 5 rfl rfl)
theorem dX3_once_29 : decode cX3_once 29 = .ok (.lreturn, 1) := dk_173 (dk_at dksX3_once_1 6 rfl rfl)
theorem dX3_once_30 : decode cX3_once 30 = .ok (.aload_n 0, 1) := dk_42 (dk_at dksX3_once_1 7 rfl rfl)
theorem dX3_once_31 : decode cX3_once 31 = .ok (.iload_n 1, 1) := dk_27 (dk_at dksX3_once_1 8 rfl rfl)
theorem dX3_once_32 : decode cX3_once 32 = .ok (.invokevirtual 264, 3) := dk_182 1 8 (dk_at dksX3_once_1 9 rfl rfl)
theorem dX3_once_35 : decode cX3_once 35 = .ok (.aload_n 0, 1) := dk_42 (dk_at dksX3_once_1 12 rfl rfl)
theorem dX3_once_36 : decode cX3_once 36 = .ok (.iload_n 1, 1) := dk_27 (dk_at dksX3_once_1 13 rfl rfl)
theorem dX3_once_37 : decode cX3_once 37 = .ok (.iload_n 2, 1) := dk_28 (dk_at dksX3_once_1 14 rfl rfl)
theorem dX3_once_38 : decode cX3_once 38 = .ok (.iload_n 3, 1) := dk_29 (dk_at dksX3_once_1 15 rfl rfl)
theorem dX3_once_39 : decode cX3_once 39 = .ok (.aload_n 0, 1) := dk_42 (dk_at dksX3_once_1 16 rfl rfl)
theorem dX3_once_40 : decode cX3_once 40 = .ok (.iload_n 1, 1) := dk_27 (dk_at dksX3_once_1 17 rfl rfl)
theorem dX3_once_41 : decode cX3_once 41 = .ok (.iload_n 3, 1) := dk_29 (dk_at dksX3_once_1 18 rfl rfl)
theorem dX3_once_42 : decode cX3_once 42 = .ok (.invokevirtual 246, 3) := dk_182 0 246 (dk_at dksX3_once_1 19 rfl rfl)
theorem dX3_once_45 : decode cX3_once 45 = .ok (.aload_n 0, 1) := dk_42 (dk_at dksX3_once_1 22 rfl rfl)
theorem dX3_once_46 : decode cX3_once 46 = .ok (.getfield 55, 3) := dk_180 0 55 (dk_at dksX3_once_2 0 rfl rfl)
theorem dX3_once_49 : decode cX3_once 49 = .ok (.iload_n 2, 1) := dk_28 (dk_at dksX3_once_2 3 rfl rfl)
theorem dX3_once_50 : decode cX3_once 50 = .ok (.iconst 1, 1) := dk_4 (dk_at dksX3_once_2 4 rfl rfl)
theorem dX3_once_51 : decode cX3_once 51 = .ok (.isub, 1) := dk_100 (dk_at dksX3_once_2 5 rfl rfl)
theorem dX3_once_52 : decode cX3_once 52 = .ok (.aaload, 1) := dk_50 (dk_at dksX3_once_2 6 rfl rfl)
theorem dX3_once_53 : decode cX3_once 53 = .ok (.invokevirtual 289, 3) := dk_182 1 33 (dk_at dksX3_once_2 7 rfl rfl)
theorem dX3_once_56 : decode cX3_once 56 = .ok (.aload_n 0, 1) := dk_42 (dk_at dksX3_once_2 10 rfl rfl)
theorem dX3_once_57 : decode cX3_once 57 = .ok (.getfield 55, 3) := dk_180 0 55 (dk_at dksX3_once_2 11 rfl rfl)
theorem dX3_once_60 : decode cX3_once 60 = .ok (.iload_n 2, 1) := dk_28 (dk_at dksX3_once_2 14 rfl rfl)
theorem dX3_once_61 : decode cX3_once 61 = .ok (.aaload, 1) := dk_50 (dk_at dksX3_once_2 15 rfl rfl)
theorem dX3_once_62 : decode cX3_once 62 = .ok (.iload_n 3, 1) := dk_29 (dk_at dksX3_once_2 16 rfl rfl)
theorem dX3_once_63 : decode cX3_once 63 = .ok (.laload, 1) := dk_47 (dk_at dksX3_once_2 17 rfl rfl)
theorem dX3_once_64 : decode cX3_once 64 = .ok (.lsub, 1) := dk_101 (dk_at dksX3_once_2 18 rfl rfl)
theorem dX3_once_65 : decode cX3_once 65 = .ok (.lreturn, 1) := dk_173 (dk_at dksX3_once_2 19 rfl rfl)
abbrev cX3_withLoad : ByteArray := prog_17_method_48_code
def yX3_withLoad : MethodName := ⟨RX3, "withLoad", "(IIII[J)J"⟩
def dkwX3_withLoad_2 : List UInt8 := [6, 46, 133, 22, 6, 105, 7, 42, 180, 0, 45, 27, 50, 6, 46, 100, 133, 22, 8, 105, 97, 173]
abbrev dktX3_withLoad_2 : List UInt8 := dkwX3_withLoad_2 ++ []
def dkwX3_withLoad_1 : List UInt8 := [182, 1, 5, 42, 27, 28, 29, 21, 4, 100, 25, 5, 182, 0, 253, 97, 55, 8, 42, 180, 0, 45, 27, 50]
abbrev dktX3_withLoad_1 : List UInt8 := dkwX3_withLoad_1 ++ dktX3_withLoad_2
def dkwX3_withLoad_0 : List UInt8 := [42, 27, 28, 29, 25, 5, 182, 0, 253, 55, 6, 21, 4, 154, 0, 8, 22, 6, 167, 0, 22, 42, 27, 28]
abbrev dktX3_withLoad_0 : List UInt8 := dkwX3_withLoad_0 ++ dktX3_withLoad_1
theorem dksX3_withLoad_0 : cX3_withLoad.data.toList.drop 0 = dktX3_withLoad_0 := by decide +kernel
theorem dksX3_withLoad_1 : cX3_withLoad.data.toList.drop 24 = dktX3_withLoad_1 := dk_seg dksX3_withLoad_0 24 rfl rfl
theorem dksX3_withLoad_2 : cX3_withLoad.data.toList.drop 48 = dktX3_withLoad_2 := dk_seg dksX3_withLoad_1 24 rfl rfl
theorem dX3_withLoad_0 : decode cX3_withLoad 0 = .ok (.aload_n 0, 1) := dk_42 (dk_at dksX3_withLoad_0 0 rfl rfl)
theorem dX3_withLoad_1 : decode cX3_withLoad 1 = .ok (.iload_n 1, 1) := dk_27 (dk_at dksX3_withLoad_0 1 rfl rfl)
theorem dX3_withLoad_2 : decode cX3_withLoad 2 = .ok (.iload_n 2, 1) := dk_28 (dk_at dksX3_withLoad_0 2 rfl rfl)
theorem dX3_withLoad_3 : decode cX3_withLoad 3 = .ok (.iload_n 3, 1) := dk_29 (dk_at dksX3_withLoad_0 3 rfl rfl)
theorem dX3_withLoad_4 : decode cX3_withLoad 4 = .ok (.aload 5, 2) := dk_25 5 (dk_at dksX3_withLoad_0 4 rfl rfl)
theorem dX3_withLoad_6 : decode cX3_withLoad 6 = .ok (.invokevirtual 253, 3) := dk_182 0 253 (dk_at dksX3_withLoad_0 6 rfl rfl)
theorem dX3_withLoad_9 : decode cX3_withLoad 9 = .ok (.lstore 6, 2) := dk_55 6 (dk_at dksX3_withLoad_0 9 rfl rfl)
theorem dX3_withLoad_11 : decode cX3_withLoad 11 = .ok (.iload 4, 2) := dk_21 4 (dk_at dksX3_withLoad_0 11 rfl rfl)
theorem dX3_withLoad_13 : decode cX3_withLoad 13 = .ok (.ifCond .ne 8, 3) := dk_154 0 8 (dk_at dksX3_withLoad_0 13 rfl rfl)
theorem dX3_withLoad_16 : decode cX3_withLoad 16 = .ok (.lload 6, 2) := dk_22 6 (dk_at dksX3_withLoad_0 16 rfl rfl)
theorem dX3_withLoad_18 : decode cX3_withLoad 18 = .ok (.goto 22, 3) := dk_167 0 22 (dk_at dksX3_withLoad_0 18 rfl rfl)
theorem dX3_withLoad_21 : decode cX3_withLoad 21 = .ok (.aload_n 0, 1) := dk_42 (dk_at dksX3_withLoad_0 21 rfl rfl)
theorem dX3_withLoad_22 : decode cX3_withLoad 22 = .ok (.iload_n 1, 1) := dk_27 (dk_at dksX3_withLoad_0 22 rfl rfl)
theorem dX3_withLoad_23 : decode cX3_withLoad 23 = .ok (.iload_n 2, 1) := dk_28 (dk_at dksX3_withLoad_0 23 rfl rfl)
theorem dX3_withLoad_24 : decode cX3_withLoad 24 = .ok (.invokevirtual 261, 3) := dk_182 1 5 (dk_at dksX3_withLoad_1 0 rfl rfl)
theorem dX3_withLoad_27 : decode cX3_withLoad 27 = .ok (.aload_n 0, 1) := dk_42 (dk_at dksX3_withLoad_1 3 rfl rfl)
theorem dX3_withLoad_28 : decode cX3_withLoad 28 = .ok (.iload_n 1, 1) := dk_27 (dk_at dksX3_withLoad_1 4 rfl rfl)
theorem dX3_withLoad_29 : decode cX3_withLoad 29 = .ok (.iload_n 2, 1) := dk_28 (dk_at dksX3_withLoad_1 5 rfl rfl)
theorem dX3_withLoad_30 : decode cX3_withLoad 30 = .ok (.iload_n 3, 1) := dk_29 (dk_at dksX3_withLoad_1 6 rfl rfl)
theorem dX3_withLoad_31 : decode cX3_withLoad 31 = .ok (.iload 4, 2) := dk_21 4 (dk_at dksX3_withLoad_1 7 rfl rfl)
theorem dX3_withLoad_33 : decode cX3_withLoad 33 = .ok (.isub, 1) := dk_100 (dk_at dksX3_withLoad_1 9 rfl rfl)
theorem dX3_withLoad_34 : decode cX3_withLoad 34 = .ok (.aload 5, 2) := dk_25 5 (dk_at dksX3_withLoad_1 10 rfl rfl)
theorem dX3_withLoad_36 : decode cX3_withLoad 36 = .ok (.invokevirtual 253, 3) := dk_182 0 253 (dk_at dksX3_withLoad_1 12 rfl rfl)
theorem dX3_withLoad_39 : decode cX3_withLoad 39 = .ok (.ladd, 1) := dk_97 (dk_at dksX3_withLoad_1 15 rfl rfl)
theorem dX3_withLoad_40 : decode cX3_withLoad 40 = .ok (.lstore 8, 2) := dk_55 8 (dk_at dksX3_withLoad_1 16 rfl rfl)
theorem dX3_withLoad_42 : decode cX3_withLoad 42 = .ok (.aload_n 0, 1) := dk_42 (dk_at dksX3_withLoad_1 18 rfl rfl)
theorem dX3_withLoad_43 : decode cX3_withLoad 43 = .ok (.getfield 45, 3) := dk_180 0 45 (dk_at dksX3_withLoad_1 19 rfl rfl)
theorem dX3_withLoad_46 : decode cX3_withLoad 46 = .ok (.iload_n 1, 1) := dk_27 (dk_at dksX3_withLoad_1 22 rfl rfl)
theorem dX3_withLoad_47 : decode cX3_withLoad 47 = .ok (.aaload, 1) := dk_50 (dk_at dksX3_withLoad_1 23 rfl rfl)
theorem dX3_withLoad_48 : decode cX3_withLoad 48 = .ok (.iconst 3, 1) := dk_6 (dk_at dksX3_withLoad_2 0 rfl rfl)
theorem dX3_withLoad_49 : decode cX3_withLoad 49 = .ok (.iaload, 1) := dk_46 (dk_at dksX3_withLoad_2 1 rfl rfl)
theorem dX3_withLoad_50 : decode cX3_withLoad 50 = .ok (.i2l, 1) := dk_133 (dk_at dksX3_withLoad_2 2 rfl rfl)
theorem dX3_withLoad_51 : decode cX3_withLoad 51 = .ok (.lload 6, 2) := dk_22 6 (dk_at dksX3_withLoad_2 3 rfl rfl)
theorem dX3_withLoad_53 : decode cX3_withLoad 53 = .ok (.lmul, 1) := dk_105 (dk_at dksX3_withLoad_2 5 rfl rfl)
theorem dX3_withLoad_54 : decode cX3_withLoad 54 = .ok (.iconst 4, 1) := dk_7 (dk_at dksX3_withLoad_2 6 rfl rfl)
theorem dX3_withLoad_55 : decode cX3_withLoad 55 = .ok (.aload_n 0, 1) := dk_42 (dk_at dksX3_withLoad_2 7 rfl rfl)
theorem dX3_withLoad_56 : decode cX3_withLoad 56 = .ok (.getfield 45, 3) := dk_180 0 45 (dk_at dksX3_withLoad_2 8 rfl rfl)
theorem dX3_withLoad_59 : decode cX3_withLoad 59 = .ok (.iload_n 1, 1) := dk_27 (dk_at dksX3_withLoad_2 11 rfl rfl)
theorem dX3_withLoad_60 : decode cX3_withLoad 60 = .ok (.aaload, 1) := dk_50 (dk_at dksX3_withLoad_2 12 rfl rfl)
theorem dX3_withLoad_61 : decode cX3_withLoad 61 = .ok (.iconst 3, 1) := dk_6 (dk_at dksX3_withLoad_2 13 rfl rfl)
theorem dX3_withLoad_62 : decode cX3_withLoad 62 = .ok (.iaload, 1) := dk_46 (dk_at dksX3_withLoad_2 14 rfl rfl)
theorem dX3_withLoad_63 : decode cX3_withLoad 63 = .ok (.isub, 1) := dk_100 (dk_at dksX3_withLoad_2 15 rfl rfl)
theorem dX3_withLoad_64 : decode cX3_withLoad 64 = .ok (.i2l, 1) := dk_133 (dk_at dksX3_withLoad_2 16 rfl rfl)
theorem dX3_withLoad_65 : decode cX3_withLoad 65 = .ok (.lload 8, 2) := dk_22 8 (dk_at dksX3_withLoad_2 17 rfl rfl)
theorem dX3_withLoad_67 : decode cX3_withLoad 67 = .ok (.lmul, 1) := dk_105 (dk_at dksX3_withLoad_2 19 rfl rfl)
theorem dX3_withLoad_68 : decode cX3_withLoad 68 = .ok (.ladd, 1) := dk_97 (dk_at dksX3_withLoad_2 20 rfl rfl)
theorem dX3_withLoad_69 : decode cX3_withLoad 69 = .ok (.lreturn, 1) := dk_173 (dk_at dksX3_withLoad_2 21 rfl rfl)
abbrev cX3_chance : ByteArray := prog_17_method_65_code
def yX3_chance : MethodName := ⟨RX3, "chance", "(IIII)J"⟩
def dkwX3_chance_3 : List UInt8 := [29, 47, 173]
abbrev dktX3_chance_3 : List UInt8 := dkwX3_chance_3 ++ []
def dkwX3_chance_2 : List UInt8 := [54, 5, 21, 5, 153, 0, 7, 21, 5, 133, 173, 42, 27, 21, 4, 182, 1, 41, 42, 180, 0, 85, 28, 50]
abbrev dktX3_chance_2 : List UInt8 := dkwX3_chance_2 ++ dktX3_chance_3
def dkwX3_chance_1 : List UInt8 := [20, 0, 113, 184, 0, 94, 154, 0, 11, 42, 16, 254, 182, 0, 119, 133, 173, 42, 21, 4, 182, 1, 15]
abbrev dktX3_chance_1 : List UInt8 := dkwX3_chance_1 ++ dktX3_chance_2
def dkwX3_chance_0 : List UInt8 := [42, 27, 28, 182, 0, 239, 153, 0, 25, 42, 27, 29, 182, 0, 233, 153, 0, 16, 21, 4, 133, 9]
abbrev dktX3_chance_0 : List UInt8 := dkwX3_chance_0 ++ dktX3_chance_1
theorem dksX3_chance_0 : cX3_chance.data.toList.drop 0 = dktX3_chance_0 := by decide +kernel
theorem dksX3_chance_1 : cX3_chance.data.toList.drop 22 = dktX3_chance_1 := dk_seg dksX3_chance_0 22 rfl rfl
theorem dksX3_chance_2 : cX3_chance.data.toList.drop 45 = dktX3_chance_2 := dk_seg dksX3_chance_1 23 rfl rfl
theorem dksX3_chance_3 : cX3_chance.data.toList.drop 69 = dktX3_chance_3 := dk_seg dksX3_chance_2 24 rfl rfl
theorem dX3_chance_0 : decode cX3_chance 0 = .ok (.aload_n 0, 1) := dk_42 (dk_at dksX3_chance_0 0 rfl rfl)
theorem dX3_chance_1 : decode cX3_chance 1 = .ok (.iload_n 1, 1) := dk_27 (dk_at dksX3_chance_0 1 rfl rfl)
theorem dX3_chance_2 : decode cX3_chance 2 = .ok (.iload_n 2, 1) := dk_28 (dk_at dksX3_chance_0 2 rfl rfl)
theorem dX3_chance_3 : decode cX3_chance 3 = .ok (.invokevirtual 239, 3) := dk_182 0 239 (dk_at dksX3_chance_0 3 rfl rfl)
theorem dX3_chance_6 : decode cX3_chance 6 = .ok (.ifCond .eq 25, 3) := dk_153 0 25 (dk_at dksX3_chance_0 6 rfl rfl)
theorem dX3_chance_9 : decode cX3_chance 9 = .ok (.aload_n 0, 1) := dk_42 (dk_at dksX3_chance_0 9 rfl rfl)
theorem dX3_chance_10 : decode cX3_chance 10 = .ok (.iload_n 1, 1) := dk_27 (dk_at dksX3_chance_0 10 rfl rfl)
theorem dX3_chance_11 : decode cX3_chance 11 = .ok (.iload_n 3, 1) := dk_29 (dk_at dksX3_chance_0 11 rfl rfl)
theorem dX3_chance_12 : decode cX3_chance 12 = .ok (.invokevirtual 233, 3) := dk_182 0 233 (dk_at dksX3_chance_0 12 rfl rfl)
theorem dX3_chance_15 : decode cX3_chance 15 = .ok (.ifCond .eq 16, 3) := dk_153 0 16 (dk_at dksX3_chance_0 15 rfl rfl)
theorem dX3_chance_18 : decode cX3_chance 18 = .ok (.iload 4, 2) := dk_21 4 (dk_at dksX3_chance_0 18 rfl rfl)
theorem dX3_chance_20 : decode cX3_chance 20 = .ok (.i2l, 1) := dk_133 (dk_at dksX3_chance_0 20 rfl rfl)
theorem dX3_chance_21 : decode cX3_chance 21 = .ok (.lconst 0, 1) := dk_9 (dk_at dksX3_chance_0 21 rfl rfl)
theorem dX3_chance_22 : decode cX3_chance 22 = .ok (.ldc2_w 113, 3) := dk_20 0 113 (dk_at dksX3_chance_1 0 rfl rfl)
theorem dX3_chance_25 : decode cX3_chance 25 = .ok (.invokestatic 94, 3) := dk_184 0 94 (dk_at dksX3_chance_1 3 rfl rfl)
theorem dX3_chance_28 : decode cX3_chance 28 = .ok (.ifCond .ne 11, 3) := dk_154 0 11 (dk_at dksX3_chance_1 6 rfl rfl)
theorem dX3_chance_31 : decode cX3_chance 31 = .ok (.aload_n 0, 1) := dk_42 (dk_at dksX3_chance_1 9 rfl rfl)
theorem dX3_chance_32 : decode cX3_chance 32 = .ok (.bipush (-2), 2) := dk_16 254 (dk_at dksX3_chance_1 10 rfl rfl)
theorem dX3_chance_34 : decode cX3_chance 34 = .ok (.invokevirtual 119, 3) := dk_182 0 119 (dk_at dksX3_chance_1 12 rfl rfl)
theorem dX3_chance_37 : decode cX3_chance 37 = .ok (.i2l, 1) := dk_133 (dk_at dksX3_chance_1 15 rfl rfl)
theorem dX3_chance_38 : decode cX3_chance 38 = .ok (.lreturn, 1) := dk_173 (dk_at dksX3_chance_1 16 rfl rfl)
theorem dX3_chance_39 : decode cX3_chance 39 = .ok (.aload_n 0, 1) := dk_42 (dk_at dksX3_chance_1 17 rfl rfl)
theorem dX3_chance_40 : decode cX3_chance 40 = .ok (.iload 4, 2) := dk_21 4 (dk_at dksX3_chance_1 18 rfl rfl)
theorem dX3_chance_42 : decode cX3_chance 42 = .ok (.invokevirtual 271, 3) := dk_182 1 15 (dk_at dksX3_chance_1 20 rfl rfl)
theorem dX3_chance_45 : decode cX3_chance 45 = .ok (.istore 5, 2) := dk_54 5 (dk_at dksX3_chance_2 0 rfl rfl)
theorem dX3_chance_47 : decode cX3_chance 47 = .ok (.iload 5, 2) := dk_21 5 (dk_at dksX3_chance_2 2 rfl rfl)
theorem dX3_chance_49 : decode cX3_chance 49 = .ok (.ifCond .eq 7, 3) := dk_153 0 7 (dk_at dksX3_chance_2 4 rfl rfl)
theorem dX3_chance_52 : decode cX3_chance 52 = .ok (.iload 5, 2) := dk_21 5 (dk_at dksX3_chance_2 7 rfl rfl)
theorem dX3_chance_54 : decode cX3_chance 54 = .ok (.i2l, 1) := dk_133 (dk_at dksX3_chance_2 9 rfl rfl)
theorem dX3_chance_55 : decode cX3_chance 55 = .ok (.lreturn, 1) := dk_173 (dk_at dksX3_chance_2 10 rfl rfl)
theorem dX3_chance_56 : decode cX3_chance 56 = .ok (.aload_n 0, 1) := dk_42 (dk_at dksX3_chance_2 11 rfl rfl)
theorem dX3_chance_57 : decode cX3_chance 57 = .ok (.iload_n 1, 1) := dk_27 (dk_at dksX3_chance_2 12 rfl rfl)
theorem dX3_chance_58 : decode cX3_chance 58 = .ok (.iload 4, 2) := dk_21 4 (dk_at dksX3_chance_2 13 rfl rfl)
theorem dX3_chance_60 : decode cX3_chance 60 = .ok (.invokevirtual 297, 3) := dk_182 1 41 (dk_at dksX3_chance_2 15 rfl rfl)
theorem dX3_chance_63 : decode cX3_chance 63 = .ok (.aload_n 0, 1) := dk_42 (dk_at dksX3_chance_2 18 rfl rfl)
theorem dX3_chance_64 : decode cX3_chance 64 = .ok (.getfield 85, 3) := dk_180 0 85 (dk_at dksX3_chance_2 19 rfl rfl)
theorem dX3_chance_67 : decode cX3_chance 67 = .ok (.iload_n 2, 1) := dk_28 (dk_at dksX3_chance_2 22 rfl rfl)
theorem dX3_chance_68 : decode cX3_chance 68 = .ok (.aaload, 1) := dk_50 (dk_at dksX3_chance_2 23 rfl rfl)
theorem dX3_chance_69 : decode cX3_chance 69 = .ok (.iload_n 3, 1) := dk_29 (dk_at dksX3_chance_3 0 rfl rfl)
theorem dX3_chance_70 : decode cX3_chance 70 = .ok (.laload, 1) := dk_47 (dk_at dksX3_chance_3 1 rfl rfl)
theorem dX3_chance_71 : decode cX3_chance 71 = .ok (.lreturn, 1) := dk_173 (dk_at dksX3_chance_3 2 rfl rfl)
abbrev cX3_findChances : ByteArray := prog_17_method_64_code
def yX3_findChances : MethodName := ⟨RX3, "findChances", "(II)V"⟩
def dkwX3_findChances_7 : List UInt8 := [180, 0, 85, 21, 4, 4, 100, 50, 182, 1, 37, 132, 5, 1, 167, 255, 155, 132, 4, 255, 167, 255, 141, 177]
abbrev dktX3_findChances_7 : List UInt8 := dkwX3_findChances_7 ++ []
def dkwX3_findChances_6 : List UInt8 := [21, 5, 28, 182, 1, 18, 100, 22, 6, 7, 42, 180, 0, 45, 27, 50, 6, 46, 100, 133, 105, 42]
abbrev dktX3_findChances_6 : List UInt8 := dkwX3_findChances_6 ++ dktX3_findChances_7
def dkwX3_findChances_5 : List UInt8 := [6, 46, 133, 105, 42, 180, 0, 85, 21, 4, 4, 100, 50, 182, 1, 37, 42, 27, 21, 5, 42, 27, 21, 4]
abbrev dktX3_findChances_5 : List UInt8 := dkwX3_findChances_5 ++ dktX3_findChances_6
def dkwX3_findChances_4 : List UInt8 := [21, 5, 47, 55, 6, 22, 6, 9, 148, 158, 0, 72, 42, 27, 21, 5, 22, 6, 42, 180, 0, 45, 27, 50]
abbrev dktX3_findChances_4 : List UInt8 := dkwX3_findChances_4 ++ dktX3_findChances_5
def dkwX3_findChances_3 : List UInt8 := [158, 0, 116, 3, 54, 5, 21, 5, 42, 27, 182, 0, 110, 162, 0, 97, 42, 180, 0, 85, 21, 4, 50]
abbrev dktX3_findChances_3 : List UInt8 := dkwX3_findChances_3 ++ dktX3_findChances_4
def dkwX3_findChances_2 : List UInt8 := [167, 255, 235, 132, 4, 1, 167, 255, 220, 42, 180, 0, 85, 29, 50, 3, 10, 80, 29, 54, 4, 21, 4]
abbrev dktX3_findChances_2 : List UInt8 := dkwX3_findChances_2 ++ dktX3_findChances_3
def dkwX3_findChances_1 : List UInt8 := [54, 5, 21, 5, 16, 125, 162, 0, 20, 42, 180, 0, 85, 21, 4, 50, 21, 5, 9, 80, 132, 5, 1]
abbrev dktX3_findChances_1 : List UInt8 := dkwX3_findChances_1 ++ dktX3_findChances_2
def dkwX3_findChances_0 : List UInt8 := [42, 27, 182, 1, 8, 42, 180, 0, 45, 27, 50, 3, 46, 62, 3, 54, 4, 21, 4, 29, 163, 0, 36, 3]
abbrev dktX3_findChances_0 : List UInt8 := dkwX3_findChances_0 ++ dktX3_findChances_1
theorem dksX3_findChances_0 : cX3_findChances.data.toList.drop 0 = dktX3_findChances_0 := by decide +kernel
theorem dksX3_findChances_1 : cX3_findChances.data.toList.drop 24 = dktX3_findChances_1 := dk_seg dksX3_findChances_0 24 rfl rfl
theorem dksX3_findChances_2 : cX3_findChances.data.toList.drop 47 = dktX3_findChances_2 := dk_seg dksX3_findChances_1 23 rfl rfl
theorem dksX3_findChances_3 : cX3_findChances.data.toList.drop 70 = dktX3_findChances_3 := dk_seg dksX3_findChances_2 23 rfl rfl
theorem dksX3_findChances_4 : cX3_findChances.data.toList.drop 93 = dktX3_findChances_4 := dk_seg dksX3_findChances_3 23 rfl rfl
theorem dksX3_findChances_5 : cX3_findChances.data.toList.drop 117 = dktX3_findChances_5 := dk_seg dksX3_findChances_4 24 rfl rfl
theorem dksX3_findChances_6 : cX3_findChances.data.toList.drop 141 = dktX3_findChances_6 := dk_seg dksX3_findChances_5 24 rfl rfl
theorem dksX3_findChances_7 : cX3_findChances.data.toList.drop 163 = dktX3_findChances_7 := dk_seg dksX3_findChances_6 22 rfl rfl
theorem dX3_findChances_0 : decode cX3_findChances 0 = .ok (.aload_n 0, 1) := dk_42 (dk_at dksX3_findChances_0 0 rfl rfl)
theorem dX3_findChances_1 : decode cX3_findChances 1 = .ok (.iload_n 1, 1) := dk_27 (dk_at dksX3_findChances_0 1 rfl rfl)
theorem dX3_findChances_2 : decode cX3_findChances 2 = .ok (.invokevirtual 264, 3) := dk_182 1 8 (dk_at dksX3_findChances_0 2 rfl rfl)
theorem dX3_findChances_5 : decode cX3_findChances 5 = .ok (.aload_n 0, 1) := dk_42 (dk_at dksX3_findChances_0 5 rfl rfl)
theorem dX3_findChances_6 : decode cX3_findChances 6 = .ok (.getfield 45, 3) := dk_180 0 45 (dk_at dksX3_findChances_0 6 rfl rfl)
theorem dX3_findChances_9 : decode cX3_findChances 9 = .ok (.iload_n 1, 1) := dk_27 (dk_at dksX3_findChances_0 9 rfl rfl)
theorem dX3_findChances_10 : decode cX3_findChances 10 = .ok (.aaload, 1) := dk_50 (dk_at dksX3_findChances_0 10 rfl rfl)
theorem dX3_findChances_11 : decode cX3_findChances 11 = .ok (.iconst 0, 1) := dk_3 (dk_at dksX3_findChances_0 11 rfl rfl)
theorem dX3_findChances_12 : decode cX3_findChances 12 = .ok (.iaload, 1) := dk_46 (dk_at dksX3_findChances_0 12 rfl rfl)
theorem dX3_findChances_13 : decode cX3_findChances 13 = .ok (.istore_n 3, 1) := dk_62 (dk_at dksX3_findChances_0 13 rfl rfl)
theorem dX3_findChances_14 : decode cX3_findChances 14 = .ok (.iconst 0, 1) := dk_3 (dk_at dksX3_findChances_0 14 rfl rfl)
theorem dX3_findChances_15 : decode cX3_findChances 15 = .ok (.istore 4, 2) := dk_54 4 (dk_at dksX3_findChances_0 15 rfl rfl)
theorem dX3_findChances_17 : decode cX3_findChances 17 = .ok (.iload 4, 2) := dk_21 4 (dk_at dksX3_findChances_0 17 rfl rfl)
theorem dX3_findChances_19 : decode cX3_findChances 19 = .ok (.iload_n 3, 1) := dk_29 (dk_at dksX3_findChances_0 19 rfl rfl)
theorem dX3_findChances_20 : decode cX3_findChances 20 = .ok (.if_icmp .gt 36, 3) := dk_163 0 36 (dk_at dksX3_findChances_0 20 rfl rfl)
theorem dX3_findChances_23 : decode cX3_findChances 23 = .ok (.iconst 0, 1) := dk_3 (dk_at dksX3_findChances_0 23 rfl rfl)
theorem dX3_findChances_24 : decode cX3_findChances 24 = .ok (.istore 5, 2) := dk_54 5 (dk_at dksX3_findChances_1 0 rfl rfl)
theorem dX3_findChances_26 : decode cX3_findChances 26 = .ok (.iload 5, 2) := dk_21 5 (dk_at dksX3_findChances_1 2 rfl rfl)
theorem dX3_findChances_28 : decode cX3_findChances 28 = .ok (.bipush 125, 2) := dk_16 125 (dk_at dksX3_findChances_1 4 rfl rfl)
theorem dX3_findChances_30 : decode cX3_findChances 30 = .ok (.if_icmp .ge 20, 3) := dk_162 0 20 (dk_at dksX3_findChances_1 6 rfl rfl)
theorem dX3_findChances_33 : decode cX3_findChances 33 = .ok (.aload_n 0, 1) := dk_42 (dk_at dksX3_findChances_1 9 rfl rfl)
theorem dX3_findChances_34 : decode cX3_findChances 34 = .ok (.getfield 85, 3) := dk_180 0 85 (dk_at dksX3_findChances_1 10 rfl rfl)
theorem dX3_findChances_37 : decode cX3_findChances 37 = .ok (.iload 4, 2) := dk_21 4 (dk_at dksX3_findChances_1 13 rfl rfl)
theorem dX3_findChances_39 : decode cX3_findChances 39 = .ok (.aaload, 1) := dk_50 (dk_at dksX3_findChances_1 15 rfl rfl)
theorem dX3_findChances_40 : decode cX3_findChances 40 = .ok (.iload 5, 2) := dk_21 5 (dk_at dksX3_findChances_1 16 rfl rfl)
theorem dX3_findChances_42 : decode cX3_findChances 42 = .ok (.lconst 0, 1) := dk_9 (dk_at dksX3_findChances_1 18 rfl rfl)
theorem dX3_findChances_43 : decode cX3_findChances 43 = .ok (.lastore, 1) := dk_80 (dk_at dksX3_findChances_1 19 rfl rfl)
theorem dX3_findChances_44 : decode cX3_findChances 44 = .ok (.iinc 5 1, 3) := dk_132 5 1 (dk_at dksX3_findChances_1 20 rfl rfl)
theorem dX3_findChances_47 : decode cX3_findChances 47 = .ok (.goto (-21), 3) := dk_167 255 235 (dk_at dksX3_findChances_2 0 rfl rfl)
theorem dX3_findChances_50 : decode cX3_findChances 50 = .ok (.iinc 4 1, 3) := dk_132 4 1 (dk_at dksX3_findChances_2 3 rfl rfl)
theorem dX3_findChances_53 : decode cX3_findChances 53 = .ok (.goto (-36), 3) := dk_167 255 220 (dk_at dksX3_findChances_2 6 rfl rfl)
theorem dX3_findChances_56 : decode cX3_findChances 56 = .ok (.aload_n 0, 1) := dk_42 (dk_at dksX3_findChances_2 9 rfl rfl)
theorem dX3_findChances_57 : decode cX3_findChances 57 = .ok (.getfield 85, 3) := dk_180 0 85 (dk_at dksX3_findChances_2 10 rfl rfl)
theorem dX3_findChances_60 : decode cX3_findChances 60 = .ok (.iload_n 3, 1) := dk_29 (dk_at dksX3_findChances_2 13 rfl rfl)
theorem dX3_findChances_61 : decode cX3_findChances 61 = .ok (.aaload, 1) := dk_50 (dk_at dksX3_findChances_2 14 rfl rfl)
theorem dX3_findChances_62 : decode cX3_findChances 62 = .ok (.iconst 0, 1) := dk_3 (dk_at dksX3_findChances_2 15 rfl rfl)
theorem dX3_findChances_63 : decode cX3_findChances 63 = .ok (.lconst 1, 1) := dk_10 (dk_at dksX3_findChances_2 16 rfl rfl)
theorem dX3_findChances_64 : decode cX3_findChances 64 = .ok (.lastore, 1) := dk_80 (dk_at dksX3_findChances_2 17 rfl rfl)
theorem dX3_findChances_65 : decode cX3_findChances 65 = .ok (.iload_n 3, 1) := dk_29 (dk_at dksX3_findChances_2 18 rfl rfl)
theorem dX3_findChances_66 : decode cX3_findChances 66 = .ok (.istore 4, 2) := dk_54 4 (dk_at dksX3_findChances_2 19 rfl rfl)
theorem dX3_findChances_68 : decode cX3_findChances 68 = .ok (.iload 4, 2) := dk_21 4 (dk_at dksX3_findChances_2 21 rfl rfl)
theorem dX3_findChances_70 : decode cX3_findChances 70 = .ok (.ifCond .le 116, 3) := dk_158 0 116 (dk_at dksX3_findChances_3 0 rfl rfl)
theorem dX3_findChances_73 : decode cX3_findChances 73 = .ok (.iconst 0, 1) := dk_3 (dk_at dksX3_findChances_3 3 rfl rfl)
theorem dX3_findChances_74 : decode cX3_findChances 74 = .ok (.istore 5, 2) := dk_54 5 (dk_at dksX3_findChances_3 4 rfl rfl)
theorem dX3_findChances_76 : decode cX3_findChances 76 = .ok (.iload 5, 2) := dk_21 5 (dk_at dksX3_findChances_3 6 rfl rfl)
theorem dX3_findChances_78 : decode cX3_findChances 78 = .ok (.aload_n 0, 1) := dk_42 (dk_at dksX3_findChances_3 8 rfl rfl)
theorem dX3_findChances_79 : decode cX3_findChances 79 = .ok (.iload_n 1, 1) := dk_27 (dk_at dksX3_findChances_3 9 rfl rfl)
theorem dX3_findChances_80 : decode cX3_findChances 80 = .ok (.invokevirtual 110, 3) := dk_182 0 110 (dk_at dksX3_findChances_3 10 rfl rfl)
theorem dX3_findChances_83 : decode cX3_findChances 83 = .ok (.if_icmp .ge 97, 3) := dk_162 0 97 (dk_at dksX3_findChances_3 13 rfl rfl)
theorem dX3_findChances_86 : decode cX3_findChances 86 = .ok (.aload_n 0, 1) := dk_42 (dk_at dksX3_findChances_3 16 rfl rfl)
theorem dX3_findChances_87 : decode cX3_findChances 87 = .ok (.getfield 85, 3) := dk_180 0 85 (dk_at dksX3_findChances_3 17 rfl rfl)
theorem dX3_findChances_90 : decode cX3_findChances 90 = .ok (.iload 4, 2) := dk_21 4 (dk_at dksX3_findChances_3 20 rfl rfl)
theorem dX3_findChances_92 : decode cX3_findChances 92 = .ok (.aaload, 1) := dk_50 (dk_at dksX3_findChances_3 22 rfl rfl)
theorem dX3_findChances_93 : decode cX3_findChances 93 = .ok (.iload 5, 2) := dk_21 5 (dk_at dksX3_findChances_4 0 rfl rfl)
theorem dX3_findChances_95 : decode cX3_findChances 95 = .ok (.laload, 1) := dk_47 (dk_at dksX3_findChances_4 2 rfl rfl)
theorem dX3_findChances_96 : decode cX3_findChances 96 = .ok (.lstore 6, 2) := dk_55 6 (dk_at dksX3_findChances_4 3 rfl rfl)
theorem dX3_findChances_98 : decode cX3_findChances 98 = .ok (.lload 6, 2) := dk_22 6 (dk_at dksX3_findChances_4 5 rfl rfl)
theorem dX3_findChances_100 : decode cX3_findChances 100 = .ok (.lconst 0, 1) := dk_9 (dk_at dksX3_findChances_4 7 rfl rfl)
theorem dX3_findChances_101 : decode cX3_findChances 101 = .ok (.lcmp, 1) := dk_148 (dk_at dksX3_findChances_4 8 rfl rfl)
theorem dX3_findChances_102 : decode cX3_findChances 102 = .ok (.ifCond .le 72, 3) := dk_158 0 72 (dk_at dksX3_findChances_4 9 rfl rfl)
theorem dX3_findChances_105 : decode cX3_findChances 105 = .ok (.aload_n 0, 1) := dk_42 (dk_at dksX3_findChances_4 12 rfl rfl)
theorem dX3_findChances_106 : decode cX3_findChances 106 = .ok (.iload_n 1, 1) := dk_27 (dk_at dksX3_findChances_4 13 rfl rfl)
theorem dX3_findChances_107 : decode cX3_findChances 107 = .ok (.iload 5, 2) := dk_21 5 (dk_at dksX3_findChances_4 14 rfl rfl)
theorem dX3_findChances_109 : decode cX3_findChances 109 = .ok (.lload 6, 2) := dk_22 6 (dk_at dksX3_findChances_4 16 rfl rfl)
theorem dX3_findChances_111 : decode cX3_findChances 111 = .ok (.aload_n 0, 1) := dk_42 (dk_at dksX3_findChances_4 18 rfl rfl)
theorem dX3_findChances_112 : decode cX3_findChances 112 = .ok (.getfield 45, 3) := dk_180 0 45 (dk_at dksX3_findChances_4 19 rfl rfl)
theorem dX3_findChances_115 : decode cX3_findChances 115 = .ok (.iload_n 1, 1) := dk_27 (dk_at dksX3_findChances_4 22 rfl rfl)
theorem dX3_findChances_116 : decode cX3_findChances 116 = .ok (.aaload, 1) := dk_50 (dk_at dksX3_findChances_4 23 rfl rfl)
theorem dX3_findChances_117 : decode cX3_findChances 117 = .ok (.iconst 3, 1) := dk_6 (dk_at dksX3_findChances_5 0 rfl rfl)
theorem dX3_findChances_118 : decode cX3_findChances 118 = .ok (.iaload, 1) := dk_46 (dk_at dksX3_findChances_5 1 rfl rfl)
theorem dX3_findChances_119 : decode cX3_findChances 119 = .ok (.i2l, 1) := dk_133 (dk_at dksX3_findChances_5 2 rfl rfl)
theorem dX3_findChances_120 : decode cX3_findChances 120 = .ok (.lmul, 1) := dk_105 (dk_at dksX3_findChances_5 3 rfl rfl)
theorem dX3_findChances_121 : decode cX3_findChances 121 = .ok (.aload_n 0, 1) := dk_42 (dk_at dksX3_findChances_5 4 rfl rfl)
theorem dX3_findChances_122 : decode cX3_findChances 122 = .ok (.getfield 85, 3) := dk_180 0 85 (dk_at dksX3_findChances_5 5 rfl rfl)
theorem dX3_findChances_125 : decode cX3_findChances 125 = .ok (.iload 4, 2) := dk_21 4 (dk_at dksX3_findChances_5 8 rfl rfl)
theorem dX3_findChances_127 : decode cX3_findChances 127 = .ok (.iconst 1, 1) := dk_4 (dk_at dksX3_findChances_5 10 rfl rfl)
theorem dX3_findChances_128 : decode cX3_findChances 128 = .ok (.isub, 1) := dk_100 (dk_at dksX3_findChances_5 11 rfl rfl)
theorem dX3_findChances_129 : decode cX3_findChances 129 = .ok (.aaload, 1) := dk_50 (dk_at dksX3_findChances_5 12 rfl rfl)
theorem dX3_findChances_130 : decode cX3_findChances 130 = .ok (.invokevirtual 293, 3) := dk_182 1 37 (dk_at dksX3_findChances_5 13 rfl rfl)
theorem dX3_findChances_133 : decode cX3_findChances 133 = .ok (.aload_n 0, 1) := dk_42 (dk_at dksX3_findChances_5 16 rfl rfl)
theorem dX3_findChances_134 : decode cX3_findChances 134 = .ok (.iload_n 1, 1) := dk_27 (dk_at dksX3_findChances_5 17 rfl rfl)
theorem dX3_findChances_135 : decode cX3_findChances 135 = .ok (.iload 5, 2) := dk_21 5 (dk_at dksX3_findChances_5 18 rfl rfl)
theorem dX3_findChances_137 : decode cX3_findChances 137 = .ok (.aload_n 0, 1) := dk_42 (dk_at dksX3_findChances_5 20 rfl rfl)
theorem dX3_findChances_138 : decode cX3_findChances 138 = .ok (.iload_n 1, 1) := dk_27 (dk_at dksX3_findChances_5 21 rfl rfl)
theorem dX3_findChances_139 : decode cX3_findChances 139 = .ok (.iload 4, 2) := dk_21 4 (dk_at dksX3_findChances_5 22 rfl rfl)
theorem dX3_findChances_141 : decode cX3_findChances 141 = .ok (.iload 5, 2) := dk_21 5 (dk_at dksX3_findChances_6 0 rfl rfl)
theorem dX3_findChances_143 : decode cX3_findChances 143 = .ok (.iload_n 2, 1) := dk_28 (dk_at dksX3_findChances_6 2 rfl rfl)
theorem dX3_findChances_144 : decode cX3_findChances 144 = .ok (.invokevirtual 274, 3) := dk_182 1 18 (dk_at dksX3_findChances_6 3 rfl rfl)
theorem dX3_findChances_147 : decode cX3_findChances 147 = .ok (.isub, 1) := dk_100 (dk_at dksX3_findChances_6 6 rfl rfl)
theorem dX3_findChances_148 : decode cX3_findChances 148 = .ok (.lload 6, 2) := dk_22 6 (dk_at dksX3_findChances_6 7 rfl rfl)
theorem dX3_findChances_150 : decode cX3_findChances 150 = .ok (.iconst 4, 1) := dk_7 (dk_at dksX3_findChances_6 9 rfl rfl)
theorem dX3_findChances_151 : decode cX3_findChances 151 = .ok (.aload_n 0, 1) := dk_42 (dk_at dksX3_findChances_6 10 rfl rfl)
theorem dX3_findChances_152 : decode cX3_findChances 152 = .ok (.getfield 45, 3) := dk_180 0 45 (dk_at dksX3_findChances_6 11 rfl rfl)
theorem dX3_findChances_155 : decode cX3_findChances 155 = .ok (.iload_n 1, 1) := dk_27 (dk_at dksX3_findChances_6 14 rfl rfl)
theorem dX3_findChances_156 : decode cX3_findChances 156 = .ok (.aaload, 1) := dk_50 (dk_at dksX3_findChances_6 15 rfl rfl)
theorem dX3_findChances_157 : decode cX3_findChances 157 = .ok (.iconst 3, 1) := dk_6 (dk_at dksX3_findChances_6 16 rfl rfl)
theorem dX3_findChances_158 : decode cX3_findChances 158 = .ok (.iaload, 1) := dk_46 (dk_at dksX3_findChances_6 17 rfl rfl)
theorem dX3_findChances_159 : decode cX3_findChances 159 = .ok (.isub, 1) := dk_100 (dk_at dksX3_findChances_6 18 rfl rfl)
theorem dX3_findChances_160 : decode cX3_findChances 160 = .ok (.i2l, 1) := dk_133 (dk_at dksX3_findChances_6 19 rfl rfl)
theorem dX3_findChances_161 : decode cX3_findChances 161 = .ok (.lmul, 1) := dk_105 (dk_at dksX3_findChances_6 20 rfl rfl)
theorem dX3_findChances_162 : decode cX3_findChances 162 = .ok (.aload_n 0, 1) := dk_42 (dk_at dksX3_findChances_6 21 rfl rfl)
theorem dX3_findChances_163 : decode cX3_findChances 163 = .ok (.getfield 85, 3) := dk_180 0 85 (dk_at dksX3_findChances_7 0 rfl rfl)
theorem dX3_findChances_166 : decode cX3_findChances 166 = .ok (.iload 4, 2) := dk_21 4 (dk_at dksX3_findChances_7 3 rfl rfl)
theorem dX3_findChances_168 : decode cX3_findChances 168 = .ok (.iconst 1, 1) := dk_4 (dk_at dksX3_findChances_7 5 rfl rfl)
theorem dX3_findChances_169 : decode cX3_findChances 169 = .ok (.isub, 1) := dk_100 (dk_at dksX3_findChances_7 6 rfl rfl)
theorem dX3_findChances_170 : decode cX3_findChances 170 = .ok (.aaload, 1) := dk_50 (dk_at dksX3_findChances_7 7 rfl rfl)
theorem dX3_findChances_171 : decode cX3_findChances 171 = .ok (.invokevirtual 293, 3) := dk_182 1 37 (dk_at dksX3_findChances_7 8 rfl rfl)
theorem dX3_findChances_174 : decode cX3_findChances 174 = .ok (.iinc 5 1, 3) := dk_132 5 1 (dk_at dksX3_findChances_7 11 rfl rfl)
theorem dX3_findChances_177 : decode cX3_findChances 177 = .ok (.goto (-101), 3) := dk_167 255 155 (dk_at dksX3_findChances_7 14 rfl rfl)
theorem dX3_findChances_180 : decode cX3_findChances 180 = .ok (.iinc 4 (-1), 3) := dk_132 4 255 (dk_at dksX3_findChances_7 17 rfl rfl)
theorem dX3_findChances_183 : decode cX3_findChances 183 = .ok (.goto (-115), 3) := dk_167 255 141 (dk_at dksX3_findChances_7 20 rfl rfl)
theorem dX3_findChances_186 : decode cX3_findChances 186 = .ok (.return_, 1) := dk_177 (dk_at dksX3_findChances_7 23 rfl rfl)
abbrev cX3_goesOn : ByteArray := prog_17_method_63_code
def yX3_goesOn : MethodName := ⟨RX3, "goesOn", "(IIJ[J)V"⟩
def dkwX3_goesOn_6 : List UInt8 := [177]
abbrev dktX3_goesOn_6 : List UInt8 := dkwX3_goesOn_6 ++ []
def dkwX3_goesOn_5 : List UInt8 := [54, 10, 132, 11, 1, 167, 255, 168, 25, 5, 21, 10, 92, 47, 22, 8, 97, 80, 132, 7, 1, 167, 255, 128]
abbrev dktX3_goesOn_5 : List UInt8 := dkwX3_goesOn_5 ++ dktX3_goesOn_6
def dkwX3_goesOn_4 : List UInt8 := [153, 0, 22, 28, 21, 11, 184, 0, 226, 7, 162, 0, 12, 8, 21, 11, 184, 0, 102, 167, 0, 4, 3, 96]
abbrev dktX3_goesOn_4 : List UInt8 := dkwX3_goesOn_4 ++ dktX3_goesOn_5
def dkwX3_goesOn_3 : List UInt8 := [21, 12, 153, 0, 9, 21, 13, 133, 167, 0, 8, 7, 21, 13, 100, 133, 105, 55, 8, 21, 10, 21, 12]
abbrev dktX3_goesOn_3 : List UInt8 := dkwX3_goesOn_3 ++ dktX3_goesOn_4
def dkwX3_goesOn_2 : List UInt8 := [4, 126, 153, 0, 7, 4, 167, 0, 4, 3, 54, 12, 42, 27, 21, 11, 4, 182, 0, 229, 54, 13, 22, 8]
abbrev dktX3_goesOn_2 : List UInt8 := dkwX3_goesOn_2 ++ dktX3_goesOn_3
def dkwX3_goesOn_1 : List UInt8 := [158, 0, 119, 33, 55, 8, 28, 54, 10, 3, 54, 11, 21, 11, 21, 6, 162, 0, 87, 21, 7, 21, 11, 122]
abbrev dktX3_goesOn_1 : List UInt8 := dkwX3_goesOn_1 ++ dktX3_goesOn_2
def dkwX3_goesOn_0 : List UInt8 := [42, 27, 182, 0, 98, 54, 6, 3, 54, 7, 21, 7, 4, 21, 6, 120, 162, 0, 125, 33, 9, 148]
abbrev dktX3_goesOn_0 : List UInt8 := dkwX3_goesOn_0 ++ dktX3_goesOn_1
theorem dksX3_goesOn_0 : cX3_goesOn.data.toList.drop 0 = dktX3_goesOn_0 := by decide +kernel
theorem dksX3_goesOn_1 : cX3_goesOn.data.toList.drop 22 = dktX3_goesOn_1 := dk_seg dksX3_goesOn_0 22 rfl rfl
theorem dksX3_goesOn_2 : cX3_goesOn.data.toList.drop 46 = dktX3_goesOn_2 := dk_seg dksX3_goesOn_1 24 rfl rfl
theorem dksX3_goesOn_3 : cX3_goesOn.data.toList.drop 70 = dktX3_goesOn_3 := dk_seg dksX3_goesOn_2 24 rfl rfl
theorem dksX3_goesOn_4 : cX3_goesOn.data.toList.drop 93 = dktX3_goesOn_4 := dk_seg dksX3_goesOn_3 23 rfl rfl
theorem dksX3_goesOn_5 : cX3_goesOn.data.toList.drop 117 = dktX3_goesOn_5 := dk_seg dksX3_goesOn_4 24 rfl rfl
theorem dksX3_goesOn_6 : cX3_goesOn.data.toList.drop 141 = dktX3_goesOn_6 := dk_seg dksX3_goesOn_5 24 rfl rfl
theorem dX3_goesOn_0 : decode cX3_goesOn 0 = .ok (.aload_n 0, 1) := dk_42 (dk_at dksX3_goesOn_0 0 rfl rfl)
theorem dX3_goesOn_1 : decode cX3_goesOn 1 = .ok (.iload_n 1, 1) := dk_27 (dk_at dksX3_goesOn_0 1 rfl rfl)
theorem dX3_goesOn_2 : decode cX3_goesOn 2 = .ok (.invokevirtual 98, 3) := dk_182 0 98 (dk_at dksX3_goesOn_0 2 rfl rfl)
theorem dX3_goesOn_5 : decode cX3_goesOn 5 = .ok (.istore 6, 2) := dk_54 6 (dk_at dksX3_goesOn_0 5 rfl rfl)
theorem dX3_goesOn_7 : decode cX3_goesOn 7 = .ok (.iconst 0, 1) := dk_3 (dk_at dksX3_goesOn_0 7 rfl rfl)
theorem dX3_goesOn_8 : decode cX3_goesOn 8 = .ok (.istore 7, 2) := dk_54 7 (dk_at dksX3_goesOn_0 8 rfl rfl)
theorem dX3_goesOn_10 : decode cX3_goesOn 10 = .ok (.iload 7, 2) := dk_21 7 (dk_at dksX3_goesOn_0 10 rfl rfl)
theorem dX3_goesOn_12 : decode cX3_goesOn 12 = .ok (.iconst 1, 1) := dk_4 (dk_at dksX3_goesOn_0 12 rfl rfl)
theorem dX3_goesOn_13 : decode cX3_goesOn 13 = .ok (.iload 6, 2) := dk_21 6 (dk_at dksX3_goesOn_0 13 rfl rfl)
theorem dX3_goesOn_15 : decode cX3_goesOn 15 = .ok (.ishl, 1) := dk_120 (dk_at dksX3_goesOn_0 15 rfl rfl)
theorem dX3_goesOn_16 : decode cX3_goesOn 16 = .ok (.if_icmp .ge 125, 3) := dk_162 0 125 (dk_at dksX3_goesOn_0 16 rfl rfl)
theorem dX3_goesOn_19 : decode cX3_goesOn 19 = .ok (.lload_n 3, 1) := dk_33 (dk_at dksX3_goesOn_0 19 rfl rfl)
theorem dX3_goesOn_20 : decode cX3_goesOn 20 = .ok (.lconst 0, 1) := dk_9 (dk_at dksX3_goesOn_0 20 rfl rfl)
theorem dX3_goesOn_21 : decode cX3_goesOn 21 = .ok (.lcmp, 1) := dk_148 (dk_at dksX3_goesOn_0 21 rfl rfl)
theorem dX3_goesOn_22 : decode cX3_goesOn 22 = .ok (.ifCond .le 119, 3) := dk_158 0 119 (dk_at dksX3_goesOn_1 0 rfl rfl)
theorem dX3_goesOn_25 : decode cX3_goesOn 25 = .ok (.lload_n 3, 1) := dk_33 (dk_at dksX3_goesOn_1 3 rfl rfl)
theorem dX3_goesOn_26 : decode cX3_goesOn 26 = .ok (.lstore 8, 2) := dk_55 8 (dk_at dksX3_goesOn_1 4 rfl rfl)
theorem dX3_goesOn_28 : decode cX3_goesOn 28 = .ok (.iload_n 2, 1) := dk_28 (dk_at dksX3_goesOn_1 6 rfl rfl)
theorem dX3_goesOn_29 : decode cX3_goesOn 29 = .ok (.istore 10, 2) := dk_54 10 (dk_at dksX3_goesOn_1 7 rfl rfl)
theorem dX3_goesOn_31 : decode cX3_goesOn 31 = .ok (.iconst 0, 1) := dk_3 (dk_at dksX3_goesOn_1 9 rfl rfl)
theorem dX3_goesOn_32 : decode cX3_goesOn 32 = .ok (.istore 11, 2) := dk_54 11 (dk_at dksX3_goesOn_1 10 rfl rfl)
theorem dX3_goesOn_34 : decode cX3_goesOn 34 = .ok (.iload 11, 2) := dk_21 11 (dk_at dksX3_goesOn_1 12 rfl rfl)
theorem dX3_goesOn_36 : decode cX3_goesOn 36 = .ok (.iload 6, 2) := dk_21 6 (dk_at dksX3_goesOn_1 14 rfl rfl)
theorem dX3_goesOn_38 : decode cX3_goesOn 38 = .ok (.if_icmp .ge 87, 3) := dk_162 0 87 (dk_at dksX3_goesOn_1 16 rfl rfl)
theorem dX3_goesOn_41 : decode cX3_goesOn 41 = .ok (.iload 7, 2) := dk_21 7 (dk_at dksX3_goesOn_1 19 rfl rfl)
theorem dX3_goesOn_43 : decode cX3_goesOn 43 = .ok (.iload 11, 2) := dk_21 11 (dk_at dksX3_goesOn_1 21 rfl rfl)
theorem dX3_goesOn_45 : decode cX3_goesOn 45 = .ok (.ishr, 1) := dk_122 (dk_at dksX3_goesOn_1 23 rfl rfl)
theorem dX3_goesOn_46 : decode cX3_goesOn 46 = .ok (.iconst 1, 1) := dk_4 (dk_at dksX3_goesOn_2 0 rfl rfl)
theorem dX3_goesOn_47 : decode cX3_goesOn 47 = .ok (.iand, 1) := dk_126 (dk_at dksX3_goesOn_2 1 rfl rfl)
theorem dX3_goesOn_48 : decode cX3_goesOn 48 = .ok (.ifCond .eq 7, 3) := dk_153 0 7 (dk_at dksX3_goesOn_2 2 rfl rfl)
theorem dX3_goesOn_51 : decode cX3_goesOn 51 = .ok (.iconst 1, 1) := dk_4 (dk_at dksX3_goesOn_2 5 rfl rfl)
theorem dX3_goesOn_52 : decode cX3_goesOn 52 = .ok (.goto 4, 3) := dk_167 0 4 (dk_at dksX3_goesOn_2 6 rfl rfl)
theorem dX3_goesOn_55 : decode cX3_goesOn 55 = .ok (.iconst 0, 1) := dk_3 (dk_at dksX3_goesOn_2 9 rfl rfl)
theorem dX3_goesOn_56 : decode cX3_goesOn 56 = .ok (.istore 12, 2) := dk_54 12 (dk_at dksX3_goesOn_2 10 rfl rfl)
theorem dX3_goesOn_58 : decode cX3_goesOn 58 = .ok (.aload_n 0, 1) := dk_42 (dk_at dksX3_goesOn_2 12 rfl rfl)
theorem dX3_goesOn_59 : decode cX3_goesOn 59 = .ok (.iload_n 1, 1) := dk_27 (dk_at dksX3_goesOn_2 13 rfl rfl)
theorem dX3_goesOn_60 : decode cX3_goesOn 60 = .ok (.iload 11, 2) := dk_21 11 (dk_at dksX3_goesOn_2 14 rfl rfl)
theorem dX3_goesOn_62 : decode cX3_goesOn 62 = .ok (.iconst 1, 1) := dk_4 (dk_at dksX3_goesOn_2 16 rfl rfl)
theorem dX3_goesOn_63 : decode cX3_goesOn 63 = .ok (.invokevirtual 229, 3) := dk_182 0 229 (dk_at dksX3_goesOn_2 17 rfl rfl)
theorem dX3_goesOn_66 : decode cX3_goesOn 66 = .ok (.istore 13, 2) := dk_54 13 (dk_at dksX3_goesOn_2 20 rfl rfl)
theorem dX3_goesOn_68 : decode cX3_goesOn 68 = .ok (.lload 8, 2) := dk_22 8 (dk_at dksX3_goesOn_2 22 rfl rfl)
theorem dX3_goesOn_70 : decode cX3_goesOn 70 = .ok (.iload 12, 2) := dk_21 12 (dk_at dksX3_goesOn_3 0 rfl rfl)
theorem dX3_goesOn_72 : decode cX3_goesOn 72 = .ok (.ifCond .eq 9, 3) := dk_153 0 9 (dk_at dksX3_goesOn_3 2 rfl rfl)
theorem dX3_goesOn_75 : decode cX3_goesOn 75 = .ok (.iload 13, 2) := dk_21 13 (dk_at dksX3_goesOn_3 5 rfl rfl)
theorem dX3_goesOn_77 : decode cX3_goesOn 77 = .ok (.i2l, 1) := dk_133 (dk_at dksX3_goesOn_3 7 rfl rfl)
theorem dX3_goesOn_78 : decode cX3_goesOn 78 = .ok (.goto 8, 3) := dk_167 0 8 (dk_at dksX3_goesOn_3 8 rfl rfl)
theorem dX3_goesOn_81 : decode cX3_goesOn 81 = .ok (.iconst 4, 1) := dk_7 (dk_at dksX3_goesOn_3 11 rfl rfl)
theorem dX3_goesOn_82 : decode cX3_goesOn 82 = .ok (.iload 13, 2) := dk_21 13 (dk_at dksX3_goesOn_3 12 rfl rfl)
theorem dX3_goesOn_84 : decode cX3_goesOn 84 = .ok (.isub, 1) := dk_100 (dk_at dksX3_goesOn_3 14 rfl rfl)
theorem dX3_goesOn_85 : decode cX3_goesOn 85 = .ok (.i2l, 1) := dk_133 (dk_at dksX3_goesOn_3 15 rfl rfl)
theorem dX3_goesOn_86 : decode cX3_goesOn 86 = .ok (.lmul, 1) := dk_105 (dk_at dksX3_goesOn_3 16 rfl rfl)
theorem dX3_goesOn_87 : decode cX3_goesOn 87 = .ok (.lstore 8, 2) := dk_55 8 (dk_at dksX3_goesOn_3 17 rfl rfl)
theorem dX3_goesOn_89 : decode cX3_goesOn 89 = .ok (.iload 10, 2) := dk_21 10 (dk_at dksX3_goesOn_3 19 rfl rfl)
theorem dX3_goesOn_91 : decode cX3_goesOn 91 = .ok (.iload 12, 2) := dk_21 12 (dk_at dksX3_goesOn_3 21 rfl rfl)
theorem dX3_goesOn_93 : decode cX3_goesOn 93 = .ok (.ifCond .eq 22, 3) := dk_153 0 22 (dk_at dksX3_goesOn_4 0 rfl rfl)
theorem dX3_goesOn_96 : decode cX3_goesOn 96 = .ok (.iload_n 2, 1) := dk_28 (dk_at dksX3_goesOn_4 3 rfl rfl)
theorem dX3_goesOn_97 : decode cX3_goesOn 97 = .ok (.iload 11, 2) := dk_21 11 (dk_at dksX3_goesOn_4 4 rfl rfl)
theorem dX3_goesOn_99 : decode cX3_goesOn 99 = .ok (.invokestatic 226, 3) := dk_184 0 226 (dk_at dksX3_goesOn_4 6 rfl rfl)
theorem dX3_goesOn_102 : decode cX3_goesOn 102 = .ok (.iconst 4, 1) := dk_7 (dk_at dksX3_goesOn_4 9 rfl rfl)
theorem dX3_goesOn_103 : decode cX3_goesOn 103 = .ok (.if_icmp .ge 12, 3) := dk_162 0 12 (dk_at dksX3_goesOn_4 10 rfl rfl)
theorem dX3_goesOn_106 : decode cX3_goesOn 106 = .ok (.iconst 5, 1) := dk_8 (dk_at dksX3_goesOn_4 13 rfl rfl)
theorem dX3_goesOn_107 : decode cX3_goesOn 107 = .ok (.iload 11, 2) := dk_21 11 (dk_at dksX3_goesOn_4 14 rfl rfl)
theorem dX3_goesOn_109 : decode cX3_goesOn 109 = .ok (.invokestatic 102, 3) := dk_184 0 102 (dk_at dksX3_goesOn_4 16 rfl rfl)
theorem dX3_goesOn_112 : decode cX3_goesOn 112 = .ok (.goto 4, 3) := dk_167 0 4 (dk_at dksX3_goesOn_4 19 rfl rfl)
theorem dX3_goesOn_115 : decode cX3_goesOn 115 = .ok (.iconst 0, 1) := dk_3 (dk_at dksX3_goesOn_4 22 rfl rfl)
theorem dX3_goesOn_116 : decode cX3_goesOn 116 = .ok (.iadd, 1) := dk_96 (dk_at dksX3_goesOn_4 23 rfl rfl)
theorem dX3_goesOn_117 : decode cX3_goesOn 117 = .ok (.istore 10, 2) := dk_54 10 (dk_at dksX3_goesOn_5 0 rfl rfl)
theorem dX3_goesOn_119 : decode cX3_goesOn 119 = .ok (.iinc 11 1, 3) := dk_132 11 1 (dk_at dksX3_goesOn_5 2 rfl rfl)
theorem dX3_goesOn_122 : decode cX3_goesOn 122 = .ok (.goto (-88), 3) := dk_167 255 168 (dk_at dksX3_goesOn_5 5 rfl rfl)
theorem dX3_goesOn_125 : decode cX3_goesOn 125 = .ok (.aload 5, 2) := dk_25 5 (dk_at dksX3_goesOn_5 8 rfl rfl)
theorem dX3_goesOn_127 : decode cX3_goesOn 127 = .ok (.iload 10, 2) := dk_21 10 (dk_at dksX3_goesOn_5 10 rfl rfl)
theorem dX3_goesOn_129 : decode cX3_goesOn 129 = .ok (.dup2, 1) := dk_92 (dk_at dksX3_goesOn_5 12 rfl rfl)
theorem dX3_goesOn_130 : decode cX3_goesOn 130 = .ok (.laload, 1) := dk_47 (dk_at dksX3_goesOn_5 13 rfl rfl)
theorem dX3_goesOn_131 : decode cX3_goesOn 131 = .ok (.lload 8, 2) := dk_22 8 (dk_at dksX3_goesOn_5 14 rfl rfl)
theorem dX3_goesOn_133 : decode cX3_goesOn 133 = .ok (.ladd, 1) := dk_97 (dk_at dksX3_goesOn_5 16 rfl rfl)
theorem dX3_goesOn_134 : decode cX3_goesOn 134 = .ok (.lastore, 1) := dk_80 (dk_at dksX3_goesOn_5 17 rfl rfl)
theorem dX3_goesOn_135 : decode cX3_goesOn 135 = .ok (.iinc 7 1, 3) := dk_132 7 1 (dk_at dksX3_goesOn_5 18 rfl rfl)
theorem dX3_goesOn_138 : decode cX3_goesOn 138 = .ok (.goto (-128), 3) := dk_167 255 128 (dk_at dksX3_goesOn_5 21 rfl rfl)
theorem dX3_goesOn_141 : decode cX3_goesOn 141 = .ok (.return_, 1) := dk_177 (dk_at dksX3_goesOn_6 0 rfl rfl)
abbrev cX3_reach : ByteArray := prog_17_method_66_code
def yX3_reach : MethodName := ⟨RX3, "reach", "(III)I"⟩
def dkwX3_reach_4 : List UInt8 := [167, 255, 219, 21, 5, 172]
abbrev dktX3_reach_4 : List UInt8 := dkwX3_reach_4 ++ []
def dkwX3_reach_3 : List UInt8 := [180, 0, 85, 28, 50, 21, 6, 47, 9, 148, 158, 0, 7, 4, 167, 0, 4, 3, 96, 54, 5, 132, 6, 1]
abbrev dktX3_reach_3 : List UInt8 := dkwX3_reach_3 ++ dktX3_reach_4
def dkwX3_reach_2 : List UInt8 := [182, 1, 41, 3, 54, 5, 3, 54, 6, 21, 6, 42, 27, 182, 0, 110, 162, 0, 33, 21, 5, 42]
abbrev dktX3_reach_2 : List UInt8 := dkwX3_reach_2 ++ dktX3_reach_3
def dkwX3_reach_1 : List UInt8 := [182, 0, 119, 172, 42, 29, 182, 1, 15, 54, 4, 21, 4, 153, 0, 6, 21, 4, 172, 42, 27, 29]
abbrev dktX3_reach_1 : List UInt8 := dkwX3_reach_1 ++ dktX3_reach_2
def dkwX3_reach_0 : List UInt8 := [42, 27, 28, 182, 0, 239, 153, 0, 15, 29, 133, 9, 20, 0, 113, 184, 0, 94, 154, 0, 10, 42, 16, 254]
abbrev dktX3_reach_0 : List UInt8 := dkwX3_reach_0 ++ dktX3_reach_1
theorem dksX3_reach_0 : cX3_reach.data.toList.drop 0 = dktX3_reach_0 := by decide +kernel
theorem dksX3_reach_1 : cX3_reach.data.toList.drop 24 = dktX3_reach_1 := dk_seg dksX3_reach_0 24 rfl rfl
theorem dksX3_reach_2 : cX3_reach.data.toList.drop 46 = dktX3_reach_2 := dk_seg dksX3_reach_1 22 rfl rfl
theorem dksX3_reach_3 : cX3_reach.data.toList.drop 68 = dktX3_reach_3 := dk_seg dksX3_reach_2 22 rfl rfl
theorem dksX3_reach_4 : cX3_reach.data.toList.drop 92 = dktX3_reach_4 := dk_seg dksX3_reach_3 24 rfl rfl
theorem dX3_reach_0 : decode cX3_reach 0 = .ok (.aload_n 0, 1) := dk_42 (dk_at dksX3_reach_0 0 rfl rfl)
theorem dX3_reach_1 : decode cX3_reach 1 = .ok (.iload_n 1, 1) := dk_27 (dk_at dksX3_reach_0 1 rfl rfl)
theorem dX3_reach_2 : decode cX3_reach 2 = .ok (.iload_n 2, 1) := dk_28 (dk_at dksX3_reach_0 2 rfl rfl)
theorem dX3_reach_3 : decode cX3_reach 3 = .ok (.invokevirtual 239, 3) := dk_182 0 239 (dk_at dksX3_reach_0 3 rfl rfl)
theorem dX3_reach_6 : decode cX3_reach 6 = .ok (.ifCond .eq 15, 3) := dk_153 0 15 (dk_at dksX3_reach_0 6 rfl rfl)
theorem dX3_reach_9 : decode cX3_reach 9 = .ok (.iload_n 3, 1) := dk_29 (dk_at dksX3_reach_0 9 rfl rfl)
theorem dX3_reach_10 : decode cX3_reach 10 = .ok (.i2l, 1) := dk_133 (dk_at dksX3_reach_0 10 rfl rfl)
theorem dX3_reach_11 : decode cX3_reach 11 = .ok (.lconst 0, 1) := dk_9 (dk_at dksX3_reach_0 11 rfl rfl)
theorem dX3_reach_12 : decode cX3_reach 12 = .ok (.ldc2_w 113, 3) := dk_20 0 113 (dk_at dksX3_reach_0 12 rfl rfl)
theorem dX3_reach_15 : decode cX3_reach 15 = .ok (.invokestatic 94, 3) := dk_184 0 94 (dk_at dksX3_reach_0 15 rfl rfl)
theorem dX3_reach_18 : decode cX3_reach 18 = .ok (.ifCond .ne 10, 3) := dk_154 0 10 (dk_at dksX3_reach_0 18 rfl rfl)
theorem dX3_reach_21 : decode cX3_reach 21 = .ok (.aload_n 0, 1) := dk_42 (dk_at dksX3_reach_0 21 rfl rfl)
theorem dX3_reach_22 : decode cX3_reach 22 = .ok (.bipush (-2), 2) := dk_16 254 (dk_at dksX3_reach_0 22 rfl rfl)
theorem dX3_reach_24 : decode cX3_reach 24 = .ok (.invokevirtual 119, 3) := dk_182 0 119 (dk_at dksX3_reach_1 0 rfl rfl)
theorem dX3_reach_27 : decode cX3_reach 27 = .ok (.ireturn, 1) := dk_172 (dk_at dksX3_reach_1 3 rfl rfl)
theorem dX3_reach_28 : decode cX3_reach 28 = .ok (.aload_n 0, 1) := dk_42 (dk_at dksX3_reach_1 4 rfl rfl)
theorem dX3_reach_29 : decode cX3_reach 29 = .ok (.iload_n 3, 1) := dk_29 (dk_at dksX3_reach_1 5 rfl rfl)
theorem dX3_reach_30 : decode cX3_reach 30 = .ok (.invokevirtual 271, 3) := dk_182 1 15 (dk_at dksX3_reach_1 6 rfl rfl)
theorem dX3_reach_33 : decode cX3_reach 33 = .ok (.istore 4, 2) := dk_54 4 (dk_at dksX3_reach_1 9 rfl rfl)
theorem dX3_reach_35 : decode cX3_reach 35 = .ok (.iload 4, 2) := dk_21 4 (dk_at dksX3_reach_1 11 rfl rfl)
theorem dX3_reach_37 : decode cX3_reach 37 = .ok (.ifCond .eq 6, 3) := dk_153 0 6 (dk_at dksX3_reach_1 13 rfl rfl)
theorem dX3_reach_40 : decode cX3_reach 40 = .ok (.iload 4, 2) := dk_21 4 (dk_at dksX3_reach_1 16 rfl rfl)
theorem dX3_reach_42 : decode cX3_reach 42 = .ok (.ireturn, 1) := dk_172 (dk_at dksX3_reach_1 18 rfl rfl)
theorem dX3_reach_43 : decode cX3_reach 43 = .ok (.aload_n 0, 1) := dk_42 (dk_at dksX3_reach_1 19 rfl rfl)
theorem dX3_reach_44 : decode cX3_reach 44 = .ok (.iload_n 1, 1) := dk_27 (dk_at dksX3_reach_1 20 rfl rfl)
theorem dX3_reach_45 : decode cX3_reach 45 = .ok (.iload_n 3, 1) := dk_29 (dk_at dksX3_reach_1 21 rfl rfl)
theorem dX3_reach_46 : decode cX3_reach 46 = .ok (.invokevirtual 297, 3) := dk_182 1 41 (dk_at dksX3_reach_2 0 rfl rfl)
theorem dX3_reach_49 : decode cX3_reach 49 = .ok (.iconst 0, 1) := dk_3 (dk_at dksX3_reach_2 3 rfl rfl)
theorem dX3_reach_50 : decode cX3_reach 50 = .ok (.istore 5, 2) := dk_54 5 (dk_at dksX3_reach_2 4 rfl rfl)
theorem dX3_reach_52 : decode cX3_reach 52 = .ok (.iconst 0, 1) := dk_3 (dk_at dksX3_reach_2 6 rfl rfl)
theorem dX3_reach_53 : decode cX3_reach 53 = .ok (.istore 6, 2) := dk_54 6 (dk_at dksX3_reach_2 7 rfl rfl)
theorem dX3_reach_55 : decode cX3_reach 55 = .ok (.iload 6, 2) := dk_21 6 (dk_at dksX3_reach_2 9 rfl rfl)
theorem dX3_reach_57 : decode cX3_reach 57 = .ok (.aload_n 0, 1) := dk_42 (dk_at dksX3_reach_2 11 rfl rfl)
theorem dX3_reach_58 : decode cX3_reach 58 = .ok (.iload_n 1, 1) := dk_27 (dk_at dksX3_reach_2 12 rfl rfl)
theorem dX3_reach_59 : decode cX3_reach 59 = .ok (.invokevirtual 110, 3) := dk_182 0 110 (dk_at dksX3_reach_2 13 rfl rfl)
theorem dX3_reach_62 : decode cX3_reach 62 = .ok (.if_icmp .ge 33, 3) := dk_162 0 33 (dk_at dksX3_reach_2 16 rfl rfl)
theorem dX3_reach_65 : decode cX3_reach 65 = .ok (.iload 5, 2) := dk_21 5 (dk_at dksX3_reach_2 19 rfl rfl)
theorem dX3_reach_67 : decode cX3_reach 67 = .ok (.aload_n 0, 1) := dk_42 (dk_at dksX3_reach_2 21 rfl rfl)
theorem dX3_reach_68 : decode cX3_reach 68 = .ok (.getfield 85, 3) := dk_180 0 85 (dk_at dksX3_reach_3 0 rfl rfl)
theorem dX3_reach_71 : decode cX3_reach 71 = .ok (.iload_n 2, 1) := dk_28 (dk_at dksX3_reach_3 3 rfl rfl)
theorem dX3_reach_72 : decode cX3_reach 72 = .ok (.aaload, 1) := dk_50 (dk_at dksX3_reach_3 4 rfl rfl)
theorem dX3_reach_73 : decode cX3_reach 73 = .ok (.iload 6, 2) := dk_21 6 (dk_at dksX3_reach_3 5 rfl rfl)
theorem dX3_reach_75 : decode cX3_reach 75 = .ok (.laload, 1) := dk_47 (dk_at dksX3_reach_3 7 rfl rfl)
theorem dX3_reach_76 : decode cX3_reach 76 = .ok (.lconst 0, 1) := dk_9 (dk_at dksX3_reach_3 8 rfl rfl)
theorem dX3_reach_77 : decode cX3_reach 77 = .ok (.lcmp, 1) := dk_148 (dk_at dksX3_reach_3 9 rfl rfl)
theorem dX3_reach_78 : decode cX3_reach 78 = .ok (.ifCond .le 7, 3) := dk_158 0 7 (dk_at dksX3_reach_3 10 rfl rfl)
theorem dX3_reach_81 : decode cX3_reach 81 = .ok (.iconst 1, 1) := dk_4 (dk_at dksX3_reach_3 13 rfl rfl)
theorem dX3_reach_82 : decode cX3_reach 82 = .ok (.goto 4, 3) := dk_167 0 4 (dk_at dksX3_reach_3 14 rfl rfl)
theorem dX3_reach_85 : decode cX3_reach 85 = .ok (.iconst 0, 1) := dk_3 (dk_at dksX3_reach_3 17 rfl rfl)
theorem dX3_reach_86 : decode cX3_reach 86 = .ok (.iadd, 1) := dk_96 (dk_at dksX3_reach_3 18 rfl rfl)
theorem dX3_reach_87 : decode cX3_reach 87 = .ok (.istore 5, 2) := dk_54 5 (dk_at dksX3_reach_3 19 rfl rfl)
theorem dX3_reach_89 : decode cX3_reach 89 = .ok (.iinc 6 1, 3) := dk_132 6 1 (dk_at dksX3_reach_3 21 rfl rfl)
theorem dX3_reach_92 : decode cX3_reach 92 = .ok (.goto (-37), 3) := dk_167 255 219 (dk_at dksX3_reach_4 0 rfl rfl)
theorem dX3_reach_95 : decode cX3_reach 95 = .ok (.iload 5, 2) := dk_21 5 (dk_at dksX3_reach_4 3 rfl rfl)
theorem dX3_reach_97 : decode cX3_reach 97 = .ok (.ireturn, 1) := dk_172 (dk_at dksX3_reach_4 5 rfl rfl)
abbrev cX3_held : ByteArray := prog_17_method_68_code
def yX3_held : MethodName := ⟨RX3, "held", "(III)J"⟩
def dkwX3_held_3 : List UInt8 := [173]
abbrev dktX3_held_3 : List UInt8 := dkwX3_held_3 ++ []
def dkwX3_held_2 : List UInt8 := [29, 182, 1, 15, 54, 4, 21, 4, 153, 0, 9, 21, 4, 133, 167, 0, 10, 42, 27, 28, 29, 182, 1, 44]
abbrev dktX3_held_2 : List UInt8 := dkwX3_held_2 ++ dktX3_held_3
def dkwX3_held_1 : List UInt8 := [153, 0, 15, 29, 133, 9, 20, 0, 113, 184, 0, 94, 154, 0, 11, 42, 16, 254, 182, 0, 119, 133, 173, 42]
abbrev dktX3_held_1 : List UInt8 := dkwX3_held_1 ++ dktX3_held_2
def dkwX3_held_0 : List UInt8 := [42, 27, 182, 0, 106, 153, 0, 32, 28, 133, 9, 42, 27, 182, 0, 98, 4, 100, 133, 184, 0, 94]
abbrev dktX3_held_0 : List UInt8 := dkwX3_held_0 ++ dktX3_held_1
theorem dksX3_held_0 : cX3_held.data.toList.drop 0 = dktX3_held_0 := by decide +kernel
theorem dksX3_held_1 : cX3_held.data.toList.drop 22 = dktX3_held_1 := dk_seg dksX3_held_0 22 rfl rfl
theorem dksX3_held_2 : cX3_held.data.toList.drop 46 = dktX3_held_2 := dk_seg dksX3_held_1 24 rfl rfl
theorem dksX3_held_3 : cX3_held.data.toList.drop 70 = dktX3_held_3 := dk_seg dksX3_held_2 24 rfl rfl
theorem dX3_held_0 : decode cX3_held 0 = .ok (.aload_n 0, 1) := dk_42 (dk_at dksX3_held_0 0 rfl rfl)
theorem dX3_held_1 : decode cX3_held 1 = .ok (.iload_n 1, 1) := dk_27 (dk_at dksX3_held_0 1 rfl rfl)
theorem dX3_held_2 : decode cX3_held 2 = .ok (.invokevirtual 106, 3) := dk_182 0 106 (dk_at dksX3_held_0 2 rfl rfl)
theorem dX3_held_5 : decode cX3_held 5 = .ok (.ifCond .eq 32, 3) := dk_153 0 32 (dk_at dksX3_held_0 5 rfl rfl)
theorem dX3_held_8 : decode cX3_held 8 = .ok (.iload_n 2, 1) := dk_28 (dk_at dksX3_held_0 8 rfl rfl)
theorem dX3_held_9 : decode cX3_held 9 = .ok (.i2l, 1) := dk_133 (dk_at dksX3_held_0 9 rfl rfl)
theorem dX3_held_10 : decode cX3_held 10 = .ok (.lconst 0, 1) := dk_9 (dk_at dksX3_held_0 10 rfl rfl)
theorem dX3_held_11 : decode cX3_held 11 = .ok (.aload_n 0, 1) := dk_42 (dk_at dksX3_held_0 11 rfl rfl)
theorem dX3_held_12 : decode cX3_held 12 = .ok (.iload_n 1, 1) := dk_27 (dk_at dksX3_held_0 12 rfl rfl)
theorem dX3_held_13 : decode cX3_held 13 = .ok (.invokevirtual 98, 3) := dk_182 0 98 (dk_at dksX3_held_0 13 rfl rfl)
theorem dX3_held_16 : decode cX3_held 16 = .ok (.iconst 1, 1) := dk_4 (dk_at dksX3_held_0 16 rfl rfl)
theorem dX3_held_17 : decode cX3_held 17 = .ok (.isub, 1) := dk_100 (dk_at dksX3_held_0 17 rfl rfl)
theorem dX3_held_18 : decode cX3_held 18 = .ok (.i2l, 1) := dk_133 (dk_at dksX3_held_0 18 rfl rfl)
theorem dX3_held_19 : decode cX3_held 19 = .ok (.invokestatic 94, 3) := dk_184 0 94 (dk_at dksX3_held_0 19 rfl rfl)
theorem dX3_held_22 : decode cX3_held 22 = .ok (.ifCond .eq 15, 3) := dk_153 0 15 (dk_at dksX3_held_1 0 rfl rfl)
theorem dX3_held_25 : decode cX3_held 25 = .ok (.iload_n 3, 1) := dk_29 (dk_at dksX3_held_1 3 rfl rfl)
theorem dX3_held_26 : decode cX3_held 26 = .ok (.i2l, 1) := dk_133 (dk_at dksX3_held_1 4 rfl rfl)
theorem dX3_held_27 : decode cX3_held 27 = .ok (.lconst 0, 1) := dk_9 (dk_at dksX3_held_1 5 rfl rfl)
theorem dX3_held_28 : decode cX3_held 28 = .ok (.ldc2_w 113, 3) := dk_20 0 113 (dk_at dksX3_held_1 6 rfl rfl)
theorem dX3_held_31 : decode cX3_held 31 = .ok (.invokestatic 94, 3) := dk_184 0 94 (dk_at dksX3_held_1 9 rfl rfl)
theorem dX3_held_34 : decode cX3_held 34 = .ok (.ifCond .ne 11, 3) := dk_154 0 11 (dk_at dksX3_held_1 12 rfl rfl)
theorem dX3_held_37 : decode cX3_held 37 = .ok (.aload_n 0, 1) := dk_42 (dk_at dksX3_held_1 15 rfl rfl)
theorem dX3_held_38 : decode cX3_held 38 = .ok (.bipush (-2), 2) := dk_16 254 (dk_at dksX3_held_1 16 rfl rfl)
theorem dX3_held_40 : decode cX3_held 40 = .ok (.invokevirtual 119, 3) := dk_182 0 119 (dk_at dksX3_held_1 18 rfl rfl)
theorem dX3_held_43 : decode cX3_held 43 = .ok (.i2l, 1) := dk_133 (dk_at dksX3_held_1 21 rfl rfl)
theorem dX3_held_44 : decode cX3_held 44 = .ok (.lreturn, 1) := dk_173 (dk_at dksX3_held_1 22 rfl rfl)
theorem dX3_held_45 : decode cX3_held 45 = .ok (.aload_n 0, 1) := dk_42 (dk_at dksX3_held_1 23 rfl rfl)
theorem dX3_held_46 : decode cX3_held 46 = .ok (.iload_n 3, 1) := dk_29 (dk_at dksX3_held_2 0 rfl rfl)
theorem dX3_held_47 : decode cX3_held 47 = .ok (.invokevirtual 271, 3) := dk_182 1 15 (dk_at dksX3_held_2 1 rfl rfl)
theorem dX3_held_50 : decode cX3_held 50 = .ok (.istore 4, 2) := dk_54 4 (dk_at dksX3_held_2 4 rfl rfl)
theorem dX3_held_52 : decode cX3_held 52 = .ok (.iload 4, 2) := dk_21 4 (dk_at dksX3_held_2 6 rfl rfl)
theorem dX3_held_54 : decode cX3_held 54 = .ok (.ifCond .eq 9, 3) := dk_153 0 9 (dk_at dksX3_held_2 8 rfl rfl)
theorem dX3_held_57 : decode cX3_held 57 = .ok (.iload 4, 2) := dk_21 4 (dk_at dksX3_held_2 11 rfl rfl)
theorem dX3_held_59 : decode cX3_held 59 = .ok (.i2l, 1) := dk_133 (dk_at dksX3_held_2 13 rfl rfl)
theorem dX3_held_60 : decode cX3_held 60 = .ok (.goto 10, 3) := dk_167 0 10 (dk_at dksX3_held_2 14 rfl rfl)
theorem dX3_held_63 : decode cX3_held 63 = .ok (.aload_n 0, 1) := dk_42 (dk_at dksX3_held_2 17 rfl rfl)
theorem dX3_held_64 : decode cX3_held 64 = .ok (.iload_n 1, 1) := dk_27 (dk_at dksX3_held_2 18 rfl rfl)
theorem dX3_held_65 : decode cX3_held 65 = .ok (.iload_n 2, 1) := dk_28 (dk_at dksX3_held_2 19 rfl rfl)
theorem dX3_held_66 : decode cX3_held 66 = .ok (.iload_n 3, 1) := dk_29 (dk_at dksX3_held_2 20 rfl rfl)
theorem dX3_held_67 : decode cX3_held 67 = .ok (.invokevirtual 300, 3) := dk_182 1 44 (dk_at dksX3_held_2 21 rfl rfl)
theorem dX3_held_70 : decode cX3_held 70 = .ok (.lreturn, 1) := dk_173 (dk_at dksX3_held_3 0 rfl rfl)
abbrev cX3_meanOf : ByteArray := prog_17_method_67_code
def yX3_meanOf : MethodName := ⟨RX3, "meanOf", "(III)J"⟩
def dkwX3_meanOf_7 : List UInt8 := [27, 21, 7, 4, 100, 182, 0, 242, 105, 97, 55, 5, 132, 7, 255, 167, 255, 104, 22, 5, 173]
abbrev dktX3_meanOf_7 : List UInt8 := dkwX3_meanOf_7 ++ []
def dkwX3_meanOf_6 : List UInt8 := [55, 8, 132, 10, 1, 167, 255, 149, 22, 5, 22, 8, 7, 42, 27, 182, 0, 98, 184, 0, 102, 133, 105, 42]
abbrev dktX3_meanOf_6 : List UInt8 := dkwX3_meanOf_6 ++ dktX3_meanOf_7
def dkwX3_meanOf_5 : List UInt8 := [28, 184, 0, 226, 104, 7, 21, 4, 100, 21, 10, 21, 13, 100, 28, 184, 0, 226, 104, 96, 133, 105, 97]
abbrev dktX3_meanOf_5 : List UInt8 := dkwX3_meanOf_5 ++ dktX3_meanOf_6
def dkwX3_meanOf_4 : List UInt8 := [7, 21, 4, 100, 133, 105, 167, 0, 4, 9, 97, 55, 8, 167, 0, 36, 22, 8, 22, 11, 21, 4, 21, 10]
abbrev dktX3_meanOf_4 : List UInt8 := dkwX3_meanOf_4 ++ dktX3_meanOf_5
def dkwX3_meanOf_3 : List UInt8 := [21, 7, 21, 10, 29, 182, 1, 18, 54, 13, 28, 2, 160, 0, 28, 22, 8, 21, 13, 153, 0, 14, 22, 11]
abbrev dktX3_meanOf_3 : List UInt8 := dkwX3_meanOf_3 ++ dktX3_meanOf_4
def dkwX3_meanOf_2 : List UInt8 := [162, 0, 103, 42, 180, 0, 85, 21, 7, 50, 21, 10, 47, 55, 11, 22, 11, 9, 148, 158, 0, 78, 42, 27]
abbrev dktX3_meanOf_2 : List UInt8 := dkwX3_meanOf_2 ++ dktX3_meanOf_3
def dkwX3_meanOf_1 : List UInt8 := [50, 3, 46, 54, 7, 21, 7, 158, 0, 153, 9, 55, 8, 3, 54, 10, 21, 10, 42, 27, 182, 0, 110]
abbrev dktX3_meanOf_1 : List UInt8 := dkwX3_meanOf_1 ++ dktX3_meanOf_2
def dkwX3_meanOf_0 : List UInt8 := [42, 27, 29, 182, 1, 41, 42, 180, 0, 45, 27, 50, 6, 46, 54, 4, 9, 55, 5, 42, 180, 0, 45, 27]
abbrev dktX3_meanOf_0 : List UInt8 := dkwX3_meanOf_0 ++ dktX3_meanOf_1
theorem dksX3_meanOf_0 : cX3_meanOf.data.toList.drop 0 = dktX3_meanOf_0 := by decide +kernel
theorem dksX3_meanOf_1 : cX3_meanOf.data.toList.drop 24 = dktX3_meanOf_1 := dk_seg dksX3_meanOf_0 24 rfl rfl
theorem dksX3_meanOf_2 : cX3_meanOf.data.toList.drop 47 = dktX3_meanOf_2 := dk_seg dksX3_meanOf_1 23 rfl rfl
theorem dksX3_meanOf_3 : cX3_meanOf.data.toList.drop 71 = dktX3_meanOf_3 := dk_seg dksX3_meanOf_2 24 rfl rfl
theorem dksX3_meanOf_4 : cX3_meanOf.data.toList.drop 95 = dktX3_meanOf_4 := dk_seg dksX3_meanOf_3 24 rfl rfl
theorem dksX3_meanOf_5 : cX3_meanOf.data.toList.drop 119 = dktX3_meanOf_5 := dk_seg dksX3_meanOf_4 24 rfl rfl
theorem dksX3_meanOf_6 : cX3_meanOf.data.toList.drop 142 = dktX3_meanOf_6 := dk_seg dksX3_meanOf_5 23 rfl rfl
theorem dksX3_meanOf_7 : cX3_meanOf.data.toList.drop 166 = dktX3_meanOf_7 := dk_seg dksX3_meanOf_6 24 rfl rfl
theorem dX3_meanOf_0 : decode cX3_meanOf 0 = .ok (.aload_n 0, 1) := dk_42 (dk_at dksX3_meanOf_0 0 rfl rfl)
theorem dX3_meanOf_1 : decode cX3_meanOf 1 = .ok (.iload_n 1, 1) := dk_27 (dk_at dksX3_meanOf_0 1 rfl rfl)
theorem dX3_meanOf_2 : decode cX3_meanOf 2 = .ok (.iload_n 3, 1) := dk_29 (dk_at dksX3_meanOf_0 2 rfl rfl)
theorem dX3_meanOf_3 : decode cX3_meanOf 3 = .ok (.invokevirtual 297, 3) := dk_182 1 41 (dk_at dksX3_meanOf_0 3 rfl rfl)
theorem dX3_meanOf_6 : decode cX3_meanOf 6 = .ok (.aload_n 0, 1) := dk_42 (dk_at dksX3_meanOf_0 6 rfl rfl)
theorem dX3_meanOf_7 : decode cX3_meanOf 7 = .ok (.getfield 45, 3) := dk_180 0 45 (dk_at dksX3_meanOf_0 7 rfl rfl)
theorem dX3_meanOf_10 : decode cX3_meanOf 10 = .ok (.iload_n 1, 1) := dk_27 (dk_at dksX3_meanOf_0 10 rfl rfl)
theorem dX3_meanOf_11 : decode cX3_meanOf 11 = .ok (.aaload, 1) := dk_50 (dk_at dksX3_meanOf_0 11 rfl rfl)
theorem dX3_meanOf_12 : decode cX3_meanOf 12 = .ok (.iconst 3, 1) := dk_6 (dk_at dksX3_meanOf_0 12 rfl rfl)
theorem dX3_meanOf_13 : decode cX3_meanOf 13 = .ok (.iaload, 1) := dk_46 (dk_at dksX3_meanOf_0 13 rfl rfl)
theorem dX3_meanOf_14 : decode cX3_meanOf 14 = .ok (.istore 4, 2) := dk_54 4 (dk_at dksX3_meanOf_0 14 rfl rfl)
theorem dX3_meanOf_16 : decode cX3_meanOf 16 = .ok (.lconst 0, 1) := dk_9 (dk_at dksX3_meanOf_0 16 rfl rfl)
theorem dX3_meanOf_17 : decode cX3_meanOf 17 = .ok (.lstore 5, 2) := dk_55 5 (dk_at dksX3_meanOf_0 17 rfl rfl)
theorem dX3_meanOf_19 : decode cX3_meanOf 19 = .ok (.aload_n 0, 1) := dk_42 (dk_at dksX3_meanOf_0 19 rfl rfl)
theorem dX3_meanOf_20 : decode cX3_meanOf 20 = .ok (.getfield 45, 3) := dk_180 0 45 (dk_at dksX3_meanOf_0 20 rfl rfl)
theorem dX3_meanOf_23 : decode cX3_meanOf 23 = .ok (.iload_n 1, 1) := dk_27 (dk_at dksX3_meanOf_0 23 rfl rfl)
theorem dX3_meanOf_24 : decode cX3_meanOf 24 = .ok (.aaload, 1) := dk_50 (dk_at dksX3_meanOf_1 0 rfl rfl)
theorem dX3_meanOf_25 : decode cX3_meanOf 25 = .ok (.iconst 0, 1) := dk_3 (dk_at dksX3_meanOf_1 1 rfl rfl)
theorem dX3_meanOf_26 : decode cX3_meanOf 26 = .ok (.iaload, 1) := dk_46 (dk_at dksX3_meanOf_1 2 rfl rfl)
theorem dX3_meanOf_27 : decode cX3_meanOf 27 = .ok (.istore 7, 2) := dk_54 7 (dk_at dksX3_meanOf_1 3 rfl rfl)
theorem dX3_meanOf_29 : decode cX3_meanOf 29 = .ok (.iload 7, 2) := dk_21 7 (dk_at dksX3_meanOf_1 5 rfl rfl)
theorem dX3_meanOf_31 : decode cX3_meanOf 31 = .ok (.ifCond .le 153, 3) := dk_158 0 153 (dk_at dksX3_meanOf_1 7 rfl rfl)
theorem dX3_meanOf_34 : decode cX3_meanOf 34 = .ok (.lconst 0, 1) := dk_9 (dk_at dksX3_meanOf_1 10 rfl rfl)
theorem dX3_meanOf_35 : decode cX3_meanOf 35 = .ok (.lstore 8, 2) := dk_55 8 (dk_at dksX3_meanOf_1 11 rfl rfl)
theorem dX3_meanOf_37 : decode cX3_meanOf 37 = .ok (.iconst 0, 1) := dk_3 (dk_at dksX3_meanOf_1 13 rfl rfl)
theorem dX3_meanOf_38 : decode cX3_meanOf 38 = .ok (.istore 10, 2) := dk_54 10 (dk_at dksX3_meanOf_1 14 rfl rfl)
theorem dX3_meanOf_40 : decode cX3_meanOf 40 = .ok (.iload 10, 2) := dk_21 10 (dk_at dksX3_meanOf_1 16 rfl rfl)
theorem dX3_meanOf_42 : decode cX3_meanOf 42 = .ok (.aload_n 0, 1) := dk_42 (dk_at dksX3_meanOf_1 18 rfl rfl)
theorem dX3_meanOf_43 : decode cX3_meanOf 43 = .ok (.iload_n 1, 1) := dk_27 (dk_at dksX3_meanOf_1 19 rfl rfl)
theorem dX3_meanOf_44 : decode cX3_meanOf 44 = .ok (.invokevirtual 110, 3) := dk_182 0 110 (dk_at dksX3_meanOf_1 20 rfl rfl)
theorem dX3_meanOf_47 : decode cX3_meanOf 47 = .ok (.if_icmp .ge 103, 3) := dk_162 0 103 (dk_at dksX3_meanOf_2 0 rfl rfl)
theorem dX3_meanOf_50 : decode cX3_meanOf 50 = .ok (.aload_n 0, 1) := dk_42 (dk_at dksX3_meanOf_2 3 rfl rfl)
theorem dX3_meanOf_51 : decode cX3_meanOf 51 = .ok (.getfield 85, 3) := dk_180 0 85 (dk_at dksX3_meanOf_2 4 rfl rfl)
theorem dX3_meanOf_54 : decode cX3_meanOf 54 = .ok (.iload 7, 2) := dk_21 7 (dk_at dksX3_meanOf_2 7 rfl rfl)
theorem dX3_meanOf_56 : decode cX3_meanOf 56 = .ok (.aaload, 1) := dk_50 (dk_at dksX3_meanOf_2 9 rfl rfl)
theorem dX3_meanOf_57 : decode cX3_meanOf 57 = .ok (.iload 10, 2) := dk_21 10 (dk_at dksX3_meanOf_2 10 rfl rfl)
theorem dX3_meanOf_59 : decode cX3_meanOf 59 = .ok (.laload, 1) := dk_47 (dk_at dksX3_meanOf_2 12 rfl rfl)
theorem dX3_meanOf_60 : decode cX3_meanOf 60 = .ok (.lstore 11, 2) := dk_55 11 (dk_at dksX3_meanOf_2 13 rfl rfl)
theorem dX3_meanOf_62 : decode cX3_meanOf 62 = .ok (.lload 11, 2) := dk_22 11 (dk_at dksX3_meanOf_2 15 rfl rfl)
theorem dX3_meanOf_64 : decode cX3_meanOf 64 = .ok (.lconst 0, 1) := dk_9 (dk_at dksX3_meanOf_2 17 rfl rfl)
theorem dX3_meanOf_65 : decode cX3_meanOf 65 = .ok (.lcmp, 1) := dk_148 (dk_at dksX3_meanOf_2 18 rfl rfl)
theorem dX3_meanOf_66 : decode cX3_meanOf 66 = .ok (.ifCond .le 78, 3) := dk_158 0 78 (dk_at dksX3_meanOf_2 19 rfl rfl)
theorem dX3_meanOf_69 : decode cX3_meanOf 69 = .ok (.aload_n 0, 1) := dk_42 (dk_at dksX3_meanOf_2 22 rfl rfl)
theorem dX3_meanOf_70 : decode cX3_meanOf 70 = .ok (.iload_n 1, 1) := dk_27 (dk_at dksX3_meanOf_2 23 rfl rfl)
theorem dX3_meanOf_71 : decode cX3_meanOf 71 = .ok (.iload 7, 2) := dk_21 7 (dk_at dksX3_meanOf_3 0 rfl rfl)
theorem dX3_meanOf_73 : decode cX3_meanOf 73 = .ok (.iload 10, 2) := dk_21 10 (dk_at dksX3_meanOf_3 2 rfl rfl)
theorem dX3_meanOf_75 : decode cX3_meanOf 75 = .ok (.iload_n 3, 1) := dk_29 (dk_at dksX3_meanOf_3 4 rfl rfl)
theorem dX3_meanOf_76 : decode cX3_meanOf 76 = .ok (.invokevirtual 274, 3) := dk_182 1 18 (dk_at dksX3_meanOf_3 5 rfl rfl)
theorem dX3_meanOf_79 : decode cX3_meanOf 79 = .ok (.istore 13, 2) := dk_54 13 (dk_at dksX3_meanOf_3 8 rfl rfl)
theorem dX3_meanOf_81 : decode cX3_meanOf 81 = .ok (.iload_n 2, 1) := dk_28 (dk_at dksX3_meanOf_3 10 rfl rfl)
theorem dX3_meanOf_82 : decode cX3_meanOf 82 = .ok (.iconst (-1), 1) := dk_2 (dk_at dksX3_meanOf_3 11 rfl rfl)
theorem dX3_meanOf_83 : decode cX3_meanOf 83 = .ok (.if_icmp .ne 28, 3) := dk_160 0 28 (dk_at dksX3_meanOf_3 12 rfl rfl)
theorem dX3_meanOf_86 : decode cX3_meanOf 86 = .ok (.lload 8, 2) := dk_22 8 (dk_at dksX3_meanOf_3 15 rfl rfl)
theorem dX3_meanOf_88 : decode cX3_meanOf 88 = .ok (.iload 13, 2) := dk_21 13 (dk_at dksX3_meanOf_3 17 rfl rfl)
theorem dX3_meanOf_90 : decode cX3_meanOf 90 = .ok (.ifCond .eq 14, 3) := dk_153 0 14 (dk_at dksX3_meanOf_3 19 rfl rfl)
theorem dX3_meanOf_93 : decode cX3_meanOf 93 = .ok (.lload 11, 2) := dk_22 11 (dk_at dksX3_meanOf_3 22 rfl rfl)
theorem dX3_meanOf_95 : decode cX3_meanOf 95 = .ok (.iconst 4, 1) := dk_7 (dk_at dksX3_meanOf_4 0 rfl rfl)
theorem dX3_meanOf_96 : decode cX3_meanOf 96 = .ok (.iload 4, 2) := dk_21 4 (dk_at dksX3_meanOf_4 1 rfl rfl)
theorem dX3_meanOf_98 : decode cX3_meanOf 98 = .ok (.isub, 1) := dk_100 (dk_at dksX3_meanOf_4 3 rfl rfl)
theorem dX3_meanOf_99 : decode cX3_meanOf 99 = .ok (.i2l, 1) := dk_133 (dk_at dksX3_meanOf_4 4 rfl rfl)
theorem dX3_meanOf_100 : decode cX3_meanOf 100 = .ok (.lmul, 1) := dk_105 (dk_at dksX3_meanOf_4 5 rfl rfl)
theorem dX3_meanOf_101 : decode cX3_meanOf 101 = .ok (.goto 4, 3) := dk_167 0 4 (dk_at dksX3_meanOf_4 6 rfl rfl)
theorem dX3_meanOf_104 : decode cX3_meanOf 104 = .ok (.lconst 0, 1) := dk_9 (dk_at dksX3_meanOf_4 9 rfl rfl)
theorem dX3_meanOf_105 : decode cX3_meanOf 105 = .ok (.ladd, 1) := dk_97 (dk_at dksX3_meanOf_4 10 rfl rfl)
theorem dX3_meanOf_106 : decode cX3_meanOf 106 = .ok (.lstore 8, 2) := dk_55 8 (dk_at dksX3_meanOf_4 11 rfl rfl)
theorem dX3_meanOf_108 : decode cX3_meanOf 108 = .ok (.goto 36, 3) := dk_167 0 36 (dk_at dksX3_meanOf_4 13 rfl rfl)
theorem dX3_meanOf_111 : decode cX3_meanOf 111 = .ok (.lload 8, 2) := dk_22 8 (dk_at dksX3_meanOf_4 16 rfl rfl)
theorem dX3_meanOf_113 : decode cX3_meanOf 113 = .ok (.lload 11, 2) := dk_22 11 (dk_at dksX3_meanOf_4 18 rfl rfl)
theorem dX3_meanOf_115 : decode cX3_meanOf 115 = .ok (.iload 4, 2) := dk_21 4 (dk_at dksX3_meanOf_4 20 rfl rfl)
theorem dX3_meanOf_117 : decode cX3_meanOf 117 = .ok (.iload 10, 2) := dk_21 10 (dk_at dksX3_meanOf_4 22 rfl rfl)
theorem dX3_meanOf_119 : decode cX3_meanOf 119 = .ok (.iload_n 2, 1) := dk_28 (dk_at dksX3_meanOf_5 0 rfl rfl)
theorem dX3_meanOf_120 : decode cX3_meanOf 120 = .ok (.invokestatic 226, 3) := dk_184 0 226 (dk_at dksX3_meanOf_5 1 rfl rfl)
theorem dX3_meanOf_123 : decode cX3_meanOf 123 = .ok (.imul, 1) := dk_104 (dk_at dksX3_meanOf_5 4 rfl rfl)
theorem dX3_meanOf_124 : decode cX3_meanOf 124 = .ok (.iconst 4, 1) := dk_7 (dk_at dksX3_meanOf_5 5 rfl rfl)
theorem dX3_meanOf_125 : decode cX3_meanOf 125 = .ok (.iload 4, 2) := dk_21 4 (dk_at dksX3_meanOf_5 6 rfl rfl)
theorem dX3_meanOf_127 : decode cX3_meanOf 127 = .ok (.isub, 1) := dk_100 (dk_at dksX3_meanOf_5 8 rfl rfl)
theorem dX3_meanOf_128 : decode cX3_meanOf 128 = .ok (.iload 10, 2) := dk_21 10 (dk_at dksX3_meanOf_5 9 rfl rfl)
theorem dX3_meanOf_130 : decode cX3_meanOf 130 = .ok (.iload 13, 2) := dk_21 13 (dk_at dksX3_meanOf_5 11 rfl rfl)
theorem dX3_meanOf_132 : decode cX3_meanOf 132 = .ok (.isub, 1) := dk_100 (dk_at dksX3_meanOf_5 13 rfl rfl)
theorem dX3_meanOf_133 : decode cX3_meanOf 133 = .ok (.iload_n 2, 1) := dk_28 (dk_at dksX3_meanOf_5 14 rfl rfl)
theorem dX3_meanOf_134 : decode cX3_meanOf 134 = .ok (.invokestatic 226, 3) := dk_184 0 226 (dk_at dksX3_meanOf_5 15 rfl rfl)
theorem dX3_meanOf_137 : decode cX3_meanOf 137 = .ok (.imul, 1) := dk_104 (dk_at dksX3_meanOf_5 18 rfl rfl)
theorem dX3_meanOf_138 : decode cX3_meanOf 138 = .ok (.iadd, 1) := dk_96 (dk_at dksX3_meanOf_5 19 rfl rfl)
theorem dX3_meanOf_139 : decode cX3_meanOf 139 = .ok (.i2l, 1) := dk_133 (dk_at dksX3_meanOf_5 20 rfl rfl)
theorem dX3_meanOf_140 : decode cX3_meanOf 140 = .ok (.lmul, 1) := dk_105 (dk_at dksX3_meanOf_5 21 rfl rfl)
theorem dX3_meanOf_141 : decode cX3_meanOf 141 = .ok (.ladd, 1) := dk_97 (dk_at dksX3_meanOf_5 22 rfl rfl)
theorem dX3_meanOf_142 : decode cX3_meanOf 142 = .ok (.lstore 8, 2) := dk_55 8 (dk_at dksX3_meanOf_6 0 rfl rfl)
theorem dX3_meanOf_144 : decode cX3_meanOf 144 = .ok (.iinc 10 1, 3) := dk_132 10 1 (dk_at dksX3_meanOf_6 2 rfl rfl)
theorem dX3_meanOf_147 : decode cX3_meanOf 147 = .ok (.goto (-107), 3) := dk_167 255 149 (dk_at dksX3_meanOf_6 5 rfl rfl)
theorem dX3_meanOf_150 : decode cX3_meanOf 150 = .ok (.lload 5, 2) := dk_22 5 (dk_at dksX3_meanOf_6 8 rfl rfl)
theorem dX3_meanOf_152 : decode cX3_meanOf 152 = .ok (.lload 8, 2) := dk_22 8 (dk_at dksX3_meanOf_6 10 rfl rfl)
theorem dX3_meanOf_154 : decode cX3_meanOf 154 = .ok (.iconst 4, 1) := dk_7 (dk_at dksX3_meanOf_6 12 rfl rfl)
theorem dX3_meanOf_155 : decode cX3_meanOf 155 = .ok (.aload_n 0, 1) := dk_42 (dk_at dksX3_meanOf_6 13 rfl rfl)
theorem dX3_meanOf_156 : decode cX3_meanOf 156 = .ok (.iload_n 1, 1) := dk_27 (dk_at dksX3_meanOf_6 14 rfl rfl)
theorem dX3_meanOf_157 : decode cX3_meanOf 157 = .ok (.invokevirtual 98, 3) := dk_182 0 98 (dk_at dksX3_meanOf_6 15 rfl rfl)
theorem dX3_meanOf_160 : decode cX3_meanOf 160 = .ok (.invokestatic 102, 3) := dk_184 0 102 (dk_at dksX3_meanOf_6 18 rfl rfl)
theorem dX3_meanOf_163 : decode cX3_meanOf 163 = .ok (.i2l, 1) := dk_133 (dk_at dksX3_meanOf_6 21 rfl rfl)
theorem dX3_meanOf_164 : decode cX3_meanOf 164 = .ok (.lmul, 1) := dk_105 (dk_at dksX3_meanOf_6 22 rfl rfl)
theorem dX3_meanOf_165 : decode cX3_meanOf 165 = .ok (.aload_n 0, 1) := dk_42 (dk_at dksX3_meanOf_6 23 rfl rfl)
theorem dX3_meanOf_166 : decode cX3_meanOf 166 = .ok (.iload_n 1, 1) := dk_27 (dk_at dksX3_meanOf_7 0 rfl rfl)
theorem dX3_meanOf_167 : decode cX3_meanOf 167 = .ok (.iload 7, 2) := dk_21 7 (dk_at dksX3_meanOf_7 1 rfl rfl)
theorem dX3_meanOf_169 : decode cX3_meanOf 169 = .ok (.iconst 1, 1) := dk_4 (dk_at dksX3_meanOf_7 3 rfl rfl)
theorem dX3_meanOf_170 : decode cX3_meanOf 170 = .ok (.isub, 1) := dk_100 (dk_at dksX3_meanOf_7 4 rfl rfl)
theorem dX3_meanOf_171 : decode cX3_meanOf 171 = .ok (.invokevirtual 242, 3) := dk_182 0 242 (dk_at dksX3_meanOf_7 5 rfl rfl)
theorem dX3_meanOf_174 : decode cX3_meanOf 174 = .ok (.lmul, 1) := dk_105 (dk_at dksX3_meanOf_7 8 rfl rfl)
theorem dX3_meanOf_175 : decode cX3_meanOf 175 = .ok (.ladd, 1) := dk_97 (dk_at dksX3_meanOf_7 9 rfl rfl)
theorem dX3_meanOf_176 : decode cX3_meanOf 176 = .ok (.lstore 5, 2) := dk_55 5 (dk_at dksX3_meanOf_7 10 rfl rfl)
theorem dX3_meanOf_178 : decode cX3_meanOf 178 = .ok (.iinc 7 (-1), 3) := dk_132 7 255 (dk_at dksX3_meanOf_7 12 rfl rfl)
theorem dX3_meanOf_181 : decode cX3_meanOf 181 = .ok (.goto (-152), 3) := dk_167 255 104 (dk_at dksX3_meanOf_7 15 rfl rfl)
theorem dX3_meanOf_184 : decode cX3_meanOf 184 = .ok (.lload 5, 2) := dk_22 5 (dk_at dksX3_meanOf_7 18 rfl rfl)
theorem dX3_meanOf_186 : decode cX3_meanOf 186 = .ok (.lreturn, 1) := dk_173 (dk_at dksX3_meanOf_7 20 rfl rfl)
abbrev cX3_boxes : ByteArray := prog_17_method_69_code
def yX3_boxes : MethodName := ⟨RX3, "boxes", "(II)J"⟩
def dkwX3_boxes_2 : List UInt8 := [182, 1, 44, 173]
abbrev dktX3_boxes_2 : List UInt8 := dkwX3_boxes_2 ++ []
def dkwX3_boxes_1 : List UInt8 := [182, 0, 119, 133, 173, 42, 28, 182, 1, 15, 62, 29, 153, 0, 8, 29, 133, 167, 0, 10, 42, 27, 2, 28]
abbrev dktX3_boxes_1 : List UInt8 := dkwX3_boxes_1 ++ dktX3_boxes_2
def dkwX3_boxes_0 : List UInt8 := [42, 27, 182, 0, 106, 153, 0, 15, 28, 133, 9, 20, 0, 113, 184, 0, 94, 154, 0, 11, 42, 16, 254]
abbrev dktX3_boxes_0 : List UInt8 := dkwX3_boxes_0 ++ dktX3_boxes_1
theorem dksX3_boxes_0 : cX3_boxes.data.toList.drop 0 = dktX3_boxes_0 := by decide +kernel
theorem dksX3_boxes_1 : cX3_boxes.data.toList.drop 23 = dktX3_boxes_1 := dk_seg dksX3_boxes_0 23 rfl rfl
theorem dksX3_boxes_2 : cX3_boxes.data.toList.drop 47 = dktX3_boxes_2 := dk_seg dksX3_boxes_1 24 rfl rfl
theorem dX3_boxes_0 : decode cX3_boxes 0 = .ok (.aload_n 0, 1) := dk_42 (dk_at dksX3_boxes_0 0 rfl rfl)
theorem dX3_boxes_1 : decode cX3_boxes 1 = .ok (.iload_n 1, 1) := dk_27 (dk_at dksX3_boxes_0 1 rfl rfl)
theorem dX3_boxes_2 : decode cX3_boxes 2 = .ok (.invokevirtual 106, 3) := dk_182 0 106 (dk_at dksX3_boxes_0 2 rfl rfl)
theorem dX3_boxes_5 : decode cX3_boxes 5 = .ok (.ifCond .eq 15, 3) := dk_153 0 15 (dk_at dksX3_boxes_0 5 rfl rfl)
theorem dX3_boxes_8 : decode cX3_boxes 8 = .ok (.iload_n 2, 1) := dk_28 (dk_at dksX3_boxes_0 8 rfl rfl)
theorem dX3_boxes_9 : decode cX3_boxes 9 = .ok (.i2l, 1) := dk_133 (dk_at dksX3_boxes_0 9 rfl rfl)
theorem dX3_boxes_10 : decode cX3_boxes 10 = .ok (.lconst 0, 1) := dk_9 (dk_at dksX3_boxes_0 10 rfl rfl)
theorem dX3_boxes_11 : decode cX3_boxes 11 = .ok (.ldc2_w 113, 3) := dk_20 0 113 (dk_at dksX3_boxes_0 11 rfl rfl)
theorem dX3_boxes_14 : decode cX3_boxes 14 = .ok (.invokestatic 94, 3) := dk_184 0 94 (dk_at dksX3_boxes_0 14 rfl rfl)
theorem dX3_boxes_17 : decode cX3_boxes 17 = .ok (.ifCond .ne 11, 3) := dk_154 0 11 (dk_at dksX3_boxes_0 17 rfl rfl)
theorem dX3_boxes_20 : decode cX3_boxes 20 = .ok (.aload_n 0, 1) := dk_42 (dk_at dksX3_boxes_0 20 rfl rfl)
theorem dX3_boxes_21 : decode cX3_boxes 21 = .ok (.bipush (-2), 2) := dk_16 254 (dk_at dksX3_boxes_0 21 rfl rfl)
theorem dX3_boxes_23 : decode cX3_boxes 23 = .ok (.invokevirtual 119, 3) := dk_182 0 119 (dk_at dksX3_boxes_1 0 rfl rfl)
theorem dX3_boxes_26 : decode cX3_boxes 26 = .ok (.i2l, 1) := dk_133 (dk_at dksX3_boxes_1 3 rfl rfl)
theorem dX3_boxes_27 : decode cX3_boxes 27 = .ok (.lreturn, 1) := dk_173 (dk_at dksX3_boxes_1 4 rfl rfl)
theorem dX3_boxes_28 : decode cX3_boxes 28 = .ok (.aload_n 0, 1) := dk_42 (dk_at dksX3_boxes_1 5 rfl rfl)
theorem dX3_boxes_29 : decode cX3_boxes 29 = .ok (.iload_n 2, 1) := dk_28 (dk_at dksX3_boxes_1 6 rfl rfl)
theorem dX3_boxes_30 : decode cX3_boxes 30 = .ok (.invokevirtual 271, 3) := dk_182 1 15 (dk_at dksX3_boxes_1 7 rfl rfl)
theorem dX3_boxes_33 : decode cX3_boxes 33 = .ok (.istore_n 3, 1) := dk_62 (dk_at dksX3_boxes_1 10 rfl rfl)
theorem dX3_boxes_34 : decode cX3_boxes 34 = .ok (.iload_n 3, 1) := dk_29 (dk_at dksX3_boxes_1 11 rfl rfl)
theorem dX3_boxes_35 : decode cX3_boxes 35 = .ok (.ifCond .eq 8, 3) := dk_153 0 8 (dk_at dksX3_boxes_1 12 rfl rfl)
theorem dX3_boxes_38 : decode cX3_boxes 38 = .ok (.iload_n 3, 1) := dk_29 (dk_at dksX3_boxes_1 15 rfl rfl)
theorem dX3_boxes_39 : decode cX3_boxes 39 = .ok (.i2l, 1) := dk_133 (dk_at dksX3_boxes_1 16 rfl rfl)
theorem dX3_boxes_40 : decode cX3_boxes 40 = .ok (.goto 10, 3) := dk_167 0 10 (dk_at dksX3_boxes_1 17 rfl rfl)
theorem dX3_boxes_43 : decode cX3_boxes 43 = .ok (.aload_n 0, 1) := dk_42 (dk_at dksX3_boxes_1 20 rfl rfl)
theorem dX3_boxes_44 : decode cX3_boxes 44 = .ok (.iload_n 1, 1) := dk_27 (dk_at dksX3_boxes_1 21 rfl rfl)
theorem dX3_boxes_45 : decode cX3_boxes 45 = .ok (.iconst (-1), 1) := dk_2 (dk_at dksX3_boxes_1 22 rfl rfl)
theorem dX3_boxes_46 : decode cX3_boxes 46 = .ok (.iload_n 2, 1) := dk_28 (dk_at dksX3_boxes_1 23 rfl rfl)
theorem dX3_boxes_47 : decode cX3_boxes 47 = .ok (.invokevirtual 300, 3) := dk_182 1 44 (dk_at dksX3_boxes_2 0 rfl rfl)
theorem dX3_boxes_50 : decode cX3_boxes 50 = .ok (.lreturn, 1) := dk_173 (dk_at dksX3_boxes_2 3 rfl rfl)
abbrev cX3_plain : ByteArray := prog_17_method_72_code
def yX3_plain : MethodName := ⟨RX3, "plain", "(I)I"⟩
def dkwX3_plain_1 : List UInt8 := [182, 0, 119, 172]
abbrev dktX3_plain_1 : List UInt8 := dkwX3_plain_1 ++ []
def dkwX3_plain_0 : List UInt8 := [42, 27, 182, 0, 106, 153, 0, 15, 42, 27, 4, 3, 16, 99, 182, 1, 51, 167, 0, 9, 42, 16, 254]
abbrev dktX3_plain_0 : List UInt8 := dkwX3_plain_0 ++ dktX3_plain_1
theorem dksX3_plain_0 : cX3_plain.data.toList.drop 0 = dktX3_plain_0 := by decide +kernel
theorem dksX3_plain_1 : cX3_plain.data.toList.drop 23 = dktX3_plain_1 := dk_seg dksX3_plain_0 23 rfl rfl
theorem dX3_plain_0 : decode cX3_plain 0 = .ok (.aload_n 0, 1) := dk_42 (dk_at dksX3_plain_0 0 rfl rfl)
theorem dX3_plain_1 : decode cX3_plain 1 = .ok (.iload_n 1, 1) := dk_27 (dk_at dksX3_plain_0 1 rfl rfl)
theorem dX3_plain_2 : decode cX3_plain 2 = .ok (.invokevirtual 106, 3) := dk_182 0 106 (dk_at dksX3_plain_0 2 rfl rfl)
theorem dX3_plain_5 : decode cX3_plain 5 = .ok (.ifCond .eq 15, 3) := dk_153 0 15 (dk_at dksX3_plain_0 5 rfl rfl)
theorem dX3_plain_8 : decode cX3_plain 8 = .ok (.aload_n 0, 1) := dk_42 (dk_at dksX3_plain_0 8 rfl rfl)
theorem dX3_plain_9 : decode cX3_plain 9 = .ok (.iload_n 1, 1) := dk_27 (dk_at dksX3_plain_0 9 rfl rfl)
theorem dX3_plain_10 : decode cX3_plain 10 = .ok (.iconst 1, 1) := dk_4 (dk_at dksX3_plain_0 10 rfl rfl)
theorem dX3_plain_11 : decode cX3_plain 11 = .ok (.iconst 0, 1) := dk_3 (dk_at dksX3_plain_0 11 rfl rfl)
theorem dX3_plain_12 : decode cX3_plain 12 = .ok (.bipush 99, 2) := dk_16 99 (dk_at dksX3_plain_0 12 rfl rfl)
theorem dX3_plain_14 : decode cX3_plain 14 = .ok (.invokevirtual 307, 3) := dk_182 1 51 (dk_at dksX3_plain_0 14 rfl rfl)
theorem dX3_plain_17 : decode cX3_plain 17 = .ok (.goto 9, 3) := dk_167 0 9 (dk_at dksX3_plain_0 17 rfl rfl)
theorem dX3_plain_20 : decode cX3_plain 20 = .ok (.aload_n 0, 1) := dk_42 (dk_at dksX3_plain_0 20 rfl rfl)
theorem dX3_plain_21 : decode cX3_plain 21 = .ok (.bipush (-2), 2) := dk_16 254 (dk_at dksX3_plain_0 21 rfl rfl)
theorem dX3_plain_23 : decode cX3_plain 23 = .ok (.invokevirtual 119, 3) := dk_182 0 119 (dk_at dksX3_plain_1 0 rfl rfl)
theorem dX3_plain_26 : decode cX3_plain 26 = .ok (.ireturn, 1) := dk_172 (dk_at dksX3_plain_1 3 rfl rfl)
abbrev cX3_leastOf : ByteArray := prog_17_method_70_code
def yX3_leastOf : MethodName := ⟨RX3, "leastOf", "(IIII)I"⟩
def dkwX3_leastOf_4 : List UInt8 := [22, 6, 148, 156, 0, 11, 21, 8, 54, 5, 22, 9, 55, 6, 132, 8, 1, 167, 255, 160, 21, 5, 172]
abbrev dktX3_leastOf_4 : List UInt8 := dkwX3_leastOf_4 ++ []
def dkwX3_leastOf_3 : List UInt8 := [180, 0, 61, 42, 180, 0, 45, 27, 50, 3, 46, 50, 3, 47, 55, 9, 21, 5, 2, 159, 0, 11, 22, 9]
abbrev dktX3_leastOf_3 : List UInt8 := dkwX3_leastOf_3 ++ dktX3_leastOf_4
def dkwX3_leastOf_2 : List UInt8 := [180, 0, 28, 16, 9, 28, 79, 42, 180, 0, 31, 16, 9, 21, 8, 79, 42, 27, 16, 9, 182, 1, 22, 42]
abbrev dktX3_leastOf_2 : List UInt8 := dkwX3_leastOf_2 ++ dktX3_leastOf_3
def dkwX3_leastOf_1 : List UInt8 := [159, 0, 21, 21, 8, 29, 159, 0, 15, 42, 27, 21, 8, 4, 100, 182, 1, 48, 153, 0, 66, 42]
abbrev dktX3_leastOf_1 : List UInt8 := dkwX3_leastOf_1 ++ dktX3_leastOf_2
def dkwX3_leastOf_0 : List UInt8 := [2, 54, 5, 9, 55, 6, 42, 27, 182, 0, 249, 29, 54, 8, 21, 8, 21, 4, 163, 0, 95, 28, 5]
abbrev dktX3_leastOf_0 : List UInt8 := dkwX3_leastOf_0 ++ dktX3_leastOf_1
theorem dksX3_leastOf_0 : cX3_leastOf.data.toList.drop 0 = dktX3_leastOf_0 := by decide +kernel
theorem dksX3_leastOf_1 : cX3_leastOf.data.toList.drop 23 = dktX3_leastOf_1 := dk_seg dksX3_leastOf_0 23 rfl rfl
theorem dksX3_leastOf_2 : cX3_leastOf.data.toList.drop 45 = dktX3_leastOf_2 := dk_seg dksX3_leastOf_1 22 rfl rfl
theorem dksX3_leastOf_3 : cX3_leastOf.data.toList.drop 69 = dktX3_leastOf_3 := dk_seg dksX3_leastOf_2 24 rfl rfl
theorem dksX3_leastOf_4 : cX3_leastOf.data.toList.drop 93 = dktX3_leastOf_4 := dk_seg dksX3_leastOf_3 24 rfl rfl
theorem dX3_leastOf_0 : decode cX3_leastOf 0 = .ok (.iconst (-1), 1) := dk_2 (dk_at dksX3_leastOf_0 0 rfl rfl)
theorem dX3_leastOf_1 : decode cX3_leastOf 1 = .ok (.istore 5, 2) := dk_54 5 (dk_at dksX3_leastOf_0 1 rfl rfl)
theorem dX3_leastOf_3 : decode cX3_leastOf 3 = .ok (.lconst 0, 1) := dk_9 (dk_at dksX3_leastOf_0 3 rfl rfl)
theorem dX3_leastOf_4 : decode cX3_leastOf 4 = .ok (.lstore 6, 2) := dk_55 6 (dk_at dksX3_leastOf_0 4 rfl rfl)
theorem dX3_leastOf_6 : decode cX3_leastOf 6 = .ok (.aload_n 0, 1) := dk_42 (dk_at dksX3_leastOf_0 6 rfl rfl)
theorem dX3_leastOf_7 : decode cX3_leastOf 7 = .ok (.iload_n 1, 1) := dk_27 (dk_at dksX3_leastOf_0 7 rfl rfl)
theorem dX3_leastOf_8 : decode cX3_leastOf 8 = .ok (.invokevirtual 249, 3) := dk_182 0 249 (dk_at dksX3_leastOf_0 8 rfl rfl)
theorem dX3_leastOf_11 : decode cX3_leastOf 11 = .ok (.iload_n 3, 1) := dk_29 (dk_at dksX3_leastOf_0 11 rfl rfl)
theorem dX3_leastOf_12 : decode cX3_leastOf 12 = .ok (.istore 8, 2) := dk_54 8 (dk_at dksX3_leastOf_0 12 rfl rfl)
theorem dX3_leastOf_14 : decode cX3_leastOf 14 = .ok (.iload 8, 2) := dk_21 8 (dk_at dksX3_leastOf_0 14 rfl rfl)
theorem dX3_leastOf_16 : decode cX3_leastOf 16 = .ok (.iload 4, 2) := dk_21 4 (dk_at dksX3_leastOf_0 16 rfl rfl)
theorem dX3_leastOf_18 : decode cX3_leastOf 18 = .ok (.if_icmp .gt 95, 3) := dk_163 0 95 (dk_at dksX3_leastOf_0 18 rfl rfl)
theorem dX3_leastOf_21 : decode cX3_leastOf 21 = .ok (.iload_n 2, 1) := dk_28 (dk_at dksX3_leastOf_0 21 rfl rfl)
theorem dX3_leastOf_22 : decode cX3_leastOf 22 = .ok (.iconst 2, 1) := dk_5 (dk_at dksX3_leastOf_0 22 rfl rfl)
theorem dX3_leastOf_23 : decode cX3_leastOf 23 = .ok (.if_icmp .eq 21, 3) := dk_159 0 21 (dk_at dksX3_leastOf_1 0 rfl rfl)
theorem dX3_leastOf_26 : decode cX3_leastOf 26 = .ok (.iload 8, 2) := dk_21 8 (dk_at dksX3_leastOf_1 3 rfl rfl)
theorem dX3_leastOf_28 : decode cX3_leastOf 28 = .ok (.iload_n 3, 1) := dk_29 (dk_at dksX3_leastOf_1 5 rfl rfl)
theorem dX3_leastOf_29 : decode cX3_leastOf 29 = .ok (.if_icmp .eq 15, 3) := dk_159 0 15 (dk_at dksX3_leastOf_1 6 rfl rfl)
theorem dX3_leastOf_32 : decode cX3_leastOf 32 = .ok (.aload_n 0, 1) := dk_42 (dk_at dksX3_leastOf_1 9 rfl rfl)
theorem dX3_leastOf_33 : decode cX3_leastOf 33 = .ok (.iload_n 1, 1) := dk_27 (dk_at dksX3_leastOf_1 10 rfl rfl)
theorem dX3_leastOf_34 : decode cX3_leastOf 34 = .ok (.iload 8, 2) := dk_21 8 (dk_at dksX3_leastOf_1 11 rfl rfl)
theorem dX3_leastOf_36 : decode cX3_leastOf 36 = .ok (.iconst 1, 1) := dk_4 (dk_at dksX3_leastOf_1 13 rfl rfl)
theorem dX3_leastOf_37 : decode cX3_leastOf 37 = .ok (.isub, 1) := dk_100 (dk_at dksX3_leastOf_1 14 rfl rfl)
theorem dX3_leastOf_38 : decode cX3_leastOf 38 = .ok (.invokevirtual 304, 3) := dk_182 1 48 (dk_at dksX3_leastOf_1 15 rfl rfl)
theorem dX3_leastOf_41 : decode cX3_leastOf 41 = .ok (.ifCond .eq 66, 3) := dk_153 0 66 (dk_at dksX3_leastOf_1 18 rfl rfl)
theorem dX3_leastOf_44 : decode cX3_leastOf 44 = .ok (.aload_n 0, 1) := dk_42 (dk_at dksX3_leastOf_1 21 rfl rfl)
theorem dX3_leastOf_45 : decode cX3_leastOf 45 = .ok (.getfield 28, 3) := dk_180 0 28 (dk_at dksX3_leastOf_2 0 rfl rfl)
theorem dX3_leastOf_48 : decode cX3_leastOf 48 = .ok (.bipush 9, 2) := dk_16 9 (dk_at dksX3_leastOf_2 3 rfl rfl)
theorem dX3_leastOf_50 : decode cX3_leastOf 50 = .ok (.iload_n 2, 1) := dk_28 (dk_at dksX3_leastOf_2 5 rfl rfl)
theorem dX3_leastOf_51 : decode cX3_leastOf 51 = .ok (.iastore, 1) := dk_79 (dk_at dksX3_leastOf_2 6 rfl rfl)
theorem dX3_leastOf_52 : decode cX3_leastOf 52 = .ok (.aload_n 0, 1) := dk_42 (dk_at dksX3_leastOf_2 7 rfl rfl)
theorem dX3_leastOf_53 : decode cX3_leastOf 53 = .ok (.getfield 31, 3) := dk_180 0 31 (dk_at dksX3_leastOf_2 8 rfl rfl)
theorem dX3_leastOf_56 : decode cX3_leastOf 56 = .ok (.bipush 9, 2) := dk_16 9 (dk_at dksX3_leastOf_2 11 rfl rfl)
theorem dX3_leastOf_58 : decode cX3_leastOf 58 = .ok (.iload 8, 2) := dk_21 8 (dk_at dksX3_leastOf_2 13 rfl rfl)
theorem dX3_leastOf_60 : decode cX3_leastOf 60 = .ok (.iastore, 1) := dk_79 (dk_at dksX3_leastOf_2 15 rfl rfl)
theorem dX3_leastOf_61 : decode cX3_leastOf 61 = .ok (.aload_n 0, 1) := dk_42 (dk_at dksX3_leastOf_2 16 rfl rfl)
theorem dX3_leastOf_62 : decode cX3_leastOf 62 = .ok (.iload_n 1, 1) := dk_27 (dk_at dksX3_leastOf_2 17 rfl rfl)
theorem dX3_leastOf_63 : decode cX3_leastOf 63 = .ok (.bipush 9, 2) := dk_16 9 (dk_at dksX3_leastOf_2 18 rfl rfl)
theorem dX3_leastOf_65 : decode cX3_leastOf 65 = .ok (.invokevirtual 278, 3) := dk_182 1 22 (dk_at dksX3_leastOf_2 20 rfl rfl)
theorem dX3_leastOf_68 : decode cX3_leastOf 68 = .ok (.aload_n 0, 1) := dk_42 (dk_at dksX3_leastOf_2 23 rfl rfl)
theorem dX3_leastOf_69 : decode cX3_leastOf 69 = .ok (.getfield 61, 3) := dk_180 0 61 (dk_at dksX3_leastOf_3 0 rfl rfl)
theorem dX3_leastOf_72 : decode cX3_leastOf 72 = .ok (.aload_n 0, 1) := dk_42 (dk_at dksX3_leastOf_3 3 rfl rfl)
theorem dX3_leastOf_73 : decode cX3_leastOf 73 = .ok (.getfield 45, 3) := dk_180 0 45 (dk_at dksX3_leastOf_3 4 rfl rfl)
theorem dX3_leastOf_76 : decode cX3_leastOf 76 = .ok (.iload_n 1, 1) := dk_27 (dk_at dksX3_leastOf_3 7 rfl rfl)
theorem dX3_leastOf_77 : decode cX3_leastOf 77 = .ok (.aaload, 1) := dk_50 (dk_at dksX3_leastOf_3 8 rfl rfl)
theorem dX3_leastOf_78 : decode cX3_leastOf 78 = .ok (.iconst 0, 1) := dk_3 (dk_at dksX3_leastOf_3 9 rfl rfl)
theorem dX3_leastOf_79 : decode cX3_leastOf 79 = .ok (.iaload, 1) := dk_46 (dk_at dksX3_leastOf_3 10 rfl rfl)
theorem dX3_leastOf_80 : decode cX3_leastOf 80 = .ok (.aaload, 1) := dk_50 (dk_at dksX3_leastOf_3 11 rfl rfl)
theorem dX3_leastOf_81 : decode cX3_leastOf 81 = .ok (.iconst 0, 1) := dk_3 (dk_at dksX3_leastOf_3 12 rfl rfl)
theorem dX3_leastOf_82 : decode cX3_leastOf 82 = .ok (.laload, 1) := dk_47 (dk_at dksX3_leastOf_3 13 rfl rfl)
theorem dX3_leastOf_83 : decode cX3_leastOf 83 = .ok (.lstore 9, 2) := dk_55 9 (dk_at dksX3_leastOf_3 14 rfl rfl)
theorem dX3_leastOf_85 : decode cX3_leastOf 85 = .ok (.iload 5, 2) := dk_21 5 (dk_at dksX3_leastOf_3 16 rfl rfl)
theorem dX3_leastOf_87 : decode cX3_leastOf 87 = .ok (.iconst (-1), 1) := dk_2 (dk_at dksX3_leastOf_3 18 rfl rfl)
theorem dX3_leastOf_88 : decode cX3_leastOf 88 = .ok (.if_icmp .eq 11, 3) := dk_159 0 11 (dk_at dksX3_leastOf_3 19 rfl rfl)
theorem dX3_leastOf_91 : decode cX3_leastOf 91 = .ok (.lload 9, 2) := dk_22 9 (dk_at dksX3_leastOf_3 22 rfl rfl)
theorem dX3_leastOf_93 : decode cX3_leastOf 93 = .ok (.lload 6, 2) := dk_22 6 (dk_at dksX3_leastOf_4 0 rfl rfl)
theorem dX3_leastOf_95 : decode cX3_leastOf 95 = .ok (.lcmp, 1) := dk_148 (dk_at dksX3_leastOf_4 2 rfl rfl)
theorem dX3_leastOf_96 : decode cX3_leastOf 96 = .ok (.ifCond .ge 11, 3) := dk_156 0 11 (dk_at dksX3_leastOf_4 3 rfl rfl)
theorem dX3_leastOf_99 : decode cX3_leastOf 99 = .ok (.iload 8, 2) := dk_21 8 (dk_at dksX3_leastOf_4 6 rfl rfl)
theorem dX3_leastOf_101 : decode cX3_leastOf 101 = .ok (.istore 5, 2) := dk_54 5 (dk_at dksX3_leastOf_4 8 rfl rfl)
theorem dX3_leastOf_103 : decode cX3_leastOf 103 = .ok (.lload 9, 2) := dk_22 9 (dk_at dksX3_leastOf_4 10 rfl rfl)
theorem dX3_leastOf_105 : decode cX3_leastOf 105 = .ok (.lstore 6, 2) := dk_55 6 (dk_at dksX3_leastOf_4 12 rfl rfl)
theorem dX3_leastOf_107 : decode cX3_leastOf 107 = .ok (.iinc 8 1, 3) := dk_132 8 1 (dk_at dksX3_leastOf_4 14 rfl rfl)
theorem dX3_leastOf_110 : decode cX3_leastOf 110 = .ok (.goto (-96), 3) := dk_167 255 160 (dk_at dksX3_leastOf_4 17 rfl rfl)
theorem dX3_leastOf_113 : decode cX3_leastOf 113 = .ok (.iload 5, 2) := dk_21 5 (dk_at dksX3_leastOf_4 20 rfl rfl)
theorem dX3_leastOf_115 : decode cX3_leastOf 115 = .ok (.ireturn, 1) := dk_172 (dk_at dksX3_leastOf_4 22 rfl rfl)
abbrev cX3_hasRoom : ByteArray := prog_17_method_71_code
def yX3_hasRoom : MethodName := ⟨RX3, "hasRoom", "(II)Z"⟩
def dkwX3_hasRoom_1 : List UInt8 := [132, 3, 1, 167, 255, 232, 3, 172]
abbrev dktX3_hasRoom_1 : List UInt8 := dkwX3_hasRoom_1 ++ []
def dkwX3_hasRoom_0 : List UInt8 := [3, 62, 29, 42, 27, 182, 0, 110, 162, 0, 21, 42, 180, 0, 76, 29, 46, 28, 160, 0, 5, 4, 172]
abbrev dktX3_hasRoom_0 : List UInt8 := dkwX3_hasRoom_0 ++ dktX3_hasRoom_1
theorem dksX3_hasRoom_0 : cX3_hasRoom.data.toList.drop 0 = dktX3_hasRoom_0 := by decide +kernel
theorem dksX3_hasRoom_1 : cX3_hasRoom.data.toList.drop 23 = dktX3_hasRoom_1 := dk_seg dksX3_hasRoom_0 23 rfl rfl
theorem dX3_hasRoom_0 : decode cX3_hasRoom 0 = .ok (.iconst 0, 1) := dk_3 (dk_at dksX3_hasRoom_0 0 rfl rfl)
theorem dX3_hasRoom_1 : decode cX3_hasRoom 1 = .ok (.istore_n 3, 1) := dk_62 (dk_at dksX3_hasRoom_0 1 rfl rfl)
theorem dX3_hasRoom_2 : decode cX3_hasRoom 2 = .ok (.iload_n 3, 1) := dk_29 (dk_at dksX3_hasRoom_0 2 rfl rfl)
theorem dX3_hasRoom_3 : decode cX3_hasRoom 3 = .ok (.aload_n 0, 1) := dk_42 (dk_at dksX3_hasRoom_0 3 rfl rfl)
theorem dX3_hasRoom_4 : decode cX3_hasRoom 4 = .ok (.iload_n 1, 1) := dk_27 (dk_at dksX3_hasRoom_0 4 rfl rfl)
theorem dX3_hasRoom_5 : decode cX3_hasRoom 5 = .ok (.invokevirtual 110, 3) := dk_182 0 110 (dk_at dksX3_hasRoom_0 5 rfl rfl)
theorem dX3_hasRoom_8 : decode cX3_hasRoom 8 = .ok (.if_icmp .ge 21, 3) := dk_162 0 21 (dk_at dksX3_hasRoom_0 8 rfl rfl)
theorem dX3_hasRoom_11 : decode cX3_hasRoom 11 = .ok (.aload_n 0, 1) := dk_42 (dk_at dksX3_hasRoom_0 11 rfl rfl)
theorem dX3_hasRoom_12 : decode cX3_hasRoom 12 = .ok (.getfield 76, 3) := dk_180 0 76 (dk_at dksX3_hasRoom_0 12 rfl rfl)
theorem dX3_hasRoom_15 : decode cX3_hasRoom 15 = .ok (.iload_n 3, 1) := dk_29 (dk_at dksX3_hasRoom_0 15 rfl rfl)
theorem dX3_hasRoom_16 : decode cX3_hasRoom 16 = .ok (.iaload, 1) := dk_46 (dk_at dksX3_hasRoom_0 16 rfl rfl)
theorem dX3_hasRoom_17 : decode cX3_hasRoom 17 = .ok (.iload_n 2, 1) := dk_28 (dk_at dksX3_hasRoom_0 17 rfl rfl)
theorem dX3_hasRoom_18 : decode cX3_hasRoom 18 = .ok (.if_icmp .ne 5, 3) := dk_160 0 5 (dk_at dksX3_hasRoom_0 18 rfl rfl)
theorem dX3_hasRoom_21 : decode cX3_hasRoom 21 = .ok (.iconst 1, 1) := dk_4 (dk_at dksX3_hasRoom_0 21 rfl rfl)
theorem dX3_hasRoom_22 : decode cX3_hasRoom 22 = .ok (.ireturn, 1) := dk_172 (dk_at dksX3_hasRoom_0 22 rfl rfl)
theorem dX3_hasRoom_23 : decode cX3_hasRoom 23 = .ok (.iinc 3 1, 3) := dk_132 3 1 (dk_at dksX3_hasRoom_1 0 rfl rfl)
theorem dX3_hasRoom_26 : decode cX3_hasRoom 26 = .ok (.goto (-24), 3) := dk_167 255 232 (dk_at dksX3_hasRoom_1 3 rfl rfl)
theorem dX3_hasRoom_29 : decode cX3_hasRoom 29 = .ok (.iconst 0, 1) := dk_3 (dk_at dksX3_hasRoom_1 6 rfl rfl)
theorem dX3_hasRoom_30 : decode cX3_hasRoom 30 = .ok (.ireturn, 1) := dk_172 (dk_at dksX3_hasRoom_1 7 rfl rfl)
abbrev cX3_every : ByteArray := prog_17_method_73_code
def yX3_every : MethodName := ⟨RX3, "every", "(I)I"⟩
def dkwX3_every_1 : List UInt8 := [182, 0, 119, 172]
abbrev dktX3_every_1 : List UInt8 := dkwX3_every_1 ++ []
def dkwX3_every_0 : List UInt8 := [42, 27, 182, 0, 106, 153, 0, 15, 42, 27, 5, 4, 16, 6, 182, 1, 51, 167, 0, 9, 42, 16, 254]
abbrev dktX3_every_0 : List UInt8 := dkwX3_every_0 ++ dktX3_every_1
theorem dksX3_every_0 : cX3_every.data.toList.drop 0 = dktX3_every_0 := by decide +kernel
theorem dksX3_every_1 : cX3_every.data.toList.drop 23 = dktX3_every_1 := dk_seg dksX3_every_0 23 rfl rfl
theorem dX3_every_0 : decode cX3_every 0 = .ok (.aload_n 0, 1) := dk_42 (dk_at dksX3_every_0 0 rfl rfl)
theorem dX3_every_1 : decode cX3_every 1 = .ok (.iload_n 1, 1) := dk_27 (dk_at dksX3_every_0 1 rfl rfl)
theorem dX3_every_2 : decode cX3_every 2 = .ok (.invokevirtual 106, 3) := dk_182 0 106 (dk_at dksX3_every_0 2 rfl rfl)
theorem dX3_every_5 : decode cX3_every 5 = .ok (.ifCond .eq 15, 3) := dk_153 0 15 (dk_at dksX3_every_0 5 rfl rfl)
theorem dX3_every_8 : decode cX3_every 8 = .ok (.aload_n 0, 1) := dk_42 (dk_at dksX3_every_0 8 rfl rfl)
theorem dX3_every_9 : decode cX3_every 9 = .ok (.iload_n 1, 1) := dk_27 (dk_at dksX3_every_0 9 rfl rfl)
theorem dX3_every_10 : decode cX3_every 10 = .ok (.iconst 2, 1) := dk_5 (dk_at dksX3_every_0 10 rfl rfl)
theorem dX3_every_11 : decode cX3_every 11 = .ok (.iconst 1, 1) := dk_4 (dk_at dksX3_every_0 11 rfl rfl)
theorem dX3_every_12 : decode cX3_every 12 = .ok (.bipush 6, 2) := dk_16 6 (dk_at dksX3_every_0 12 rfl rfl)
theorem dX3_every_14 : decode cX3_every 14 = .ok (.invokevirtual 307, 3) := dk_182 1 51 (dk_at dksX3_every_0 14 rfl rfl)
theorem dX3_every_17 : decode cX3_every 17 = .ok (.goto 9, 3) := dk_167 0 9 (dk_at dksX3_every_0 17 rfl rfl)
theorem dX3_every_20 : decode cX3_every 20 = .ok (.aload_n 0, 1) := dk_42 (dk_at dksX3_every_0 20 rfl rfl)
theorem dX3_every_21 : decode cX3_every 21 = .ok (.bipush (-2), 2) := dk_16 254 (dk_at dksX3_every_0 21 rfl rfl)
theorem dX3_every_23 : decode cX3_every 23 = .ok (.invokevirtual 119, 3) := dk_182 0 119 (dk_at dksX3_every_1 0 rfl rfl)
theorem dX3_every_26 : decode cX3_every 26 = .ok (.ireturn, 1) := dk_172 (dk_at dksX3_every_1 3 rfl rfl)
abbrev cX3_promise : ByteArray := prog_17_method_74_code
def yX3_promise : MethodName := ⟨RX3, "promise", "(II)J"⟩
def dkwX3_promise_3 : List UInt8 := [3, 47, 101, 173]
abbrev dktX3_promise_3 : List UInt8 := dkwX3_promise_3 ++ []
def dkwX3_promise_2 : List UInt8 := [42, 2, 181, 0, 88, 42, 27, 182, 1, 8, 33, 42, 180, 0, 55, 42, 180, 0, 45, 27, 50, 3, 46, 50]
abbrev dktX3_promise_2 : List UInt8 := dkwX3_promise_2 ++ dktX3_promise_3
def dkwX3_promise_1 : List UInt8 := [181, 0, 88, 42, 27, 182, 1, 8, 42, 180, 0, 55, 42, 180, 0, 45, 27, 50, 3, 46, 50, 3, 47, 66]
abbrev dktX3_promise_1 : List UInt8 := dkwX3_promise_1 ++ dktX3_promise_2
def dkwX3_promise_0 : List UInt8 := [42, 27, 28, 182, 0, 239, 153, 0, 7, 28, 154, 0, 11, 42, 16, 254, 182, 0, 119, 133, 173, 42, 28]
abbrev dktX3_promise_0 : List UInt8 := dkwX3_promise_0 ++ dktX3_promise_1
theorem dksX3_promise_0 : cX3_promise.data.toList.drop 0 = dktX3_promise_0 := by decide +kernel
theorem dksX3_promise_1 : cX3_promise.data.toList.drop 23 = dktX3_promise_1 := dk_seg dksX3_promise_0 23 rfl rfl
theorem dksX3_promise_2 : cX3_promise.data.toList.drop 47 = dktX3_promise_2 := dk_seg dksX3_promise_1 24 rfl rfl
theorem dksX3_promise_3 : cX3_promise.data.toList.drop 71 = dktX3_promise_3 := dk_seg dksX3_promise_2 24 rfl rfl
theorem dX3_promise_0 : decode cX3_promise 0 = .ok (.aload_n 0, 1) := dk_42 (dk_at dksX3_promise_0 0 rfl rfl)
theorem dX3_promise_1 : decode cX3_promise 1 = .ok (.iload_n 1, 1) := dk_27 (dk_at dksX3_promise_0 1 rfl rfl)
theorem dX3_promise_2 : decode cX3_promise 2 = .ok (.iload_n 2, 1) := dk_28 (dk_at dksX3_promise_0 2 rfl rfl)
theorem dX3_promise_3 : decode cX3_promise 3 = .ok (.invokevirtual 239, 3) := dk_182 0 239 (dk_at dksX3_promise_0 3 rfl rfl)
theorem dX3_promise_6 : decode cX3_promise 6 = .ok (.ifCond .eq 7, 3) := dk_153 0 7 (dk_at dksX3_promise_0 6 rfl rfl)
theorem dX3_promise_9 : decode cX3_promise 9 = .ok (.iload_n 2, 1) := dk_28 (dk_at dksX3_promise_0 9 rfl rfl)
theorem dX3_promise_10 : decode cX3_promise 10 = .ok (.ifCond .ne 11, 3) := dk_154 0 11 (dk_at dksX3_promise_0 10 rfl rfl)
theorem dX3_promise_13 : decode cX3_promise 13 = .ok (.aload_n 0, 1) := dk_42 (dk_at dksX3_promise_0 13 rfl rfl)
theorem dX3_promise_14 : decode cX3_promise 14 = .ok (.bipush (-2), 2) := dk_16 254 (dk_at dksX3_promise_0 14 rfl rfl)
theorem dX3_promise_16 : decode cX3_promise 16 = .ok (.invokevirtual 119, 3) := dk_182 0 119 (dk_at dksX3_promise_0 16 rfl rfl)
theorem dX3_promise_19 : decode cX3_promise 19 = .ok (.i2l, 1) := dk_133 (dk_at dksX3_promise_0 19 rfl rfl)
theorem dX3_promise_20 : decode cX3_promise 20 = .ok (.lreturn, 1) := dk_173 (dk_at dksX3_promise_0 20 rfl rfl)
theorem dX3_promise_21 : decode cX3_promise 21 = .ok (.aload_n 0, 1) := dk_42 (dk_at dksX3_promise_0 21 rfl rfl)
theorem dX3_promise_22 : decode cX3_promise 22 = .ok (.iload_n 2, 1) := dk_28 (dk_at dksX3_promise_0 22 rfl rfl)
theorem dX3_promise_23 : decode cX3_promise 23 = .ok (.putfield 88, 3) := dk_181 0 88 (dk_at dksX3_promise_1 0 rfl rfl)
theorem dX3_promise_26 : decode cX3_promise 26 = .ok (.aload_n 0, 1) := dk_42 (dk_at dksX3_promise_1 3 rfl rfl)
theorem dX3_promise_27 : decode cX3_promise 27 = .ok (.iload_n 1, 1) := dk_27 (dk_at dksX3_promise_1 4 rfl rfl)
theorem dX3_promise_28 : decode cX3_promise 28 = .ok (.invokevirtual 264, 3) := dk_182 1 8 (dk_at dksX3_promise_1 5 rfl rfl)
theorem dX3_promise_31 : decode cX3_promise 31 = .ok (.aload_n 0, 1) := dk_42 (dk_at dksX3_promise_1 8 rfl rfl)
theorem dX3_promise_32 : decode cX3_promise 32 = .ok (.getfield 55, 3) := dk_180 0 55 (dk_at dksX3_promise_1 9 rfl rfl)
theorem dX3_promise_35 : decode cX3_promise 35 = .ok (.aload_n 0, 1) := dk_42 (dk_at dksX3_promise_1 12 rfl rfl)
theorem dX3_promise_36 : decode cX3_promise 36 = .ok (.getfield 45, 3) := dk_180 0 45 (dk_at dksX3_promise_1 13 rfl rfl)
theorem dX3_promise_39 : decode cX3_promise 39 = .ok (.iload_n 1, 1) := dk_27 (dk_at dksX3_promise_1 16 rfl rfl)
theorem dX3_promise_40 : decode cX3_promise 40 = .ok (.aaload, 1) := dk_50 (dk_at dksX3_promise_1 17 rfl rfl)
theorem dX3_promise_41 : decode cX3_promise 41 = .ok (.iconst 0, 1) := dk_3 (dk_at dksX3_promise_1 18 rfl rfl)
theorem dX3_promise_42 : decode cX3_promise 42 = .ok (.iaload, 1) := dk_46 (dk_at dksX3_promise_1 19 rfl rfl)
theorem dX3_promise_43 : decode cX3_promise 43 = .ok (.aaload, 1) := dk_50 (dk_at dksX3_promise_1 20 rfl rfl)
theorem dX3_promise_44 : decode cX3_promise 44 = .ok (.iconst 0, 1) := dk_3 (dk_at dksX3_promise_1 21 rfl rfl)
theorem dX3_promise_45 : decode cX3_promise 45 = .ok (.laload, 1) := dk_47 (dk_at dksX3_promise_1 22 rfl rfl)
theorem dX3_promise_46 : decode cX3_promise 46 = .ok (.lstore_n 3, 1) := dk_66 (dk_at dksX3_promise_1 23 rfl rfl)
theorem dX3_promise_47 : decode cX3_promise 47 = .ok (.aload_n 0, 1) := dk_42 (dk_at dksX3_promise_2 0 rfl rfl)
theorem dX3_promise_48 : decode cX3_promise 48 = .ok (.iconst (-1), 1) := dk_2 (dk_at dksX3_promise_2 1 rfl rfl)
theorem dX3_promise_49 : decode cX3_promise 49 = .ok (.putfield 88, 3) := dk_181 0 88 (dk_at dksX3_promise_2 2 rfl rfl)
theorem dX3_promise_52 : decode cX3_promise 52 = .ok (.aload_n 0, 1) := dk_42 (dk_at dksX3_promise_2 5 rfl rfl)
theorem dX3_promise_53 : decode cX3_promise 53 = .ok (.iload_n 1, 1) := dk_27 (dk_at dksX3_promise_2 6 rfl rfl)
theorem dX3_promise_54 : decode cX3_promise 54 = .ok (.invokevirtual 264, 3) := dk_182 1 8 (dk_at dksX3_promise_2 7 rfl rfl)
theorem dX3_promise_57 : decode cX3_promise 57 = .ok (.lload_n 3, 1) := dk_33 (dk_at dksX3_promise_2 10 rfl rfl)
theorem dX3_promise_58 : decode cX3_promise 58 = .ok (.aload_n 0, 1) := dk_42 (dk_at dksX3_promise_2 11 rfl rfl)
theorem dX3_promise_59 : decode cX3_promise 59 = .ok (.getfield 55, 3) := dk_180 0 55 (dk_at dksX3_promise_2 12 rfl rfl)
theorem dX3_promise_62 : decode cX3_promise 62 = .ok (.aload_n 0, 1) := dk_42 (dk_at dksX3_promise_2 15 rfl rfl)
theorem dX3_promise_63 : decode cX3_promise 63 = .ok (.getfield 45, 3) := dk_180 0 45 (dk_at dksX3_promise_2 16 rfl rfl)
theorem dX3_promise_66 : decode cX3_promise 66 = .ok (.iload_n 1, 1) := dk_27 (dk_at dksX3_promise_2 19 rfl rfl)
theorem dX3_promise_67 : decode cX3_promise 67 = .ok (.aaload, 1) := dk_50 (dk_at dksX3_promise_2 20 rfl rfl)
theorem dX3_promise_68 : decode cX3_promise 68 = .ok (.iconst 0, 1) := dk_3 (dk_at dksX3_promise_2 21 rfl rfl)
theorem dX3_promise_69 : decode cX3_promise 69 = .ok (.iaload, 1) := dk_46 (dk_at dksX3_promise_2 22 rfl rfl)
theorem dX3_promise_70 : decode cX3_promise 70 = .ok (.aaload, 1) := dk_50 (dk_at dksX3_promise_2 23 rfl rfl)
theorem dX3_promise_71 : decode cX3_promise 71 = .ok (.iconst 0, 1) := dk_3 (dk_at dksX3_promise_3 0 rfl rfl)
theorem dX3_promise_72 : decode cX3_promise 72 = .ok (.laload, 1) := dk_47 (dk_at dksX3_promise_3 1 rfl rfl)
theorem dX3_promise_73 : decode cX3_promise 73 = .ok (.lsub, 1) := dk_101 (dk_at dksX3_promise_3 2 rfl rfl)
theorem dX3_promise_74 : decode cX3_promise 74 = .ok (.lreturn, 1) := dk_173 (dk_at dksX3_promise_3 3 rfl rfl)
abbrev cX3_dear : ByteArray := prog_17_method_75_code
def yX3_dear : MethodName := ⟨RX3, "dear", "(IIII)J"⟩
def dkwX3_dear_3 : List UInt8 := [184, 0, 102, 96, 47, 42, 180, 0, 55, 28, 50, 29, 47, 101, 173]
abbrev dktX3_dear_3 : List UInt8 := dkwX3_dear_3 ++ []
def dkwX3_dear_2 : List UInt8 := [16, 254, 182, 0, 119, 133, 173, 42, 27, 182, 1, 8, 42, 180, 0, 55, 28, 50, 29, 8, 21, 4]
abbrev dktX3_dear_2 : List UInt8 := dkwX3_dear_2 ++ dktX3_dear_3
def dkwX3_dear_1 : List UInt8 := [182, 0, 98, 4, 100, 133, 184, 0, 94, 153, 0, 13, 29, 21, 4, 184, 0, 226, 7, 160, 0, 11, 42]
abbrev dktX3_dear_1 : List UInt8 := dkwX3_dear_1 ++ dktX3_dear_2
def dkwX3_dear_0 : List UInt8 := [42, 27, 28, 182, 0, 239, 153, 0, 40, 42, 27, 29, 182, 0, 233, 153, 0, 31, 21, 4, 133, 9, 42, 27]
abbrev dktX3_dear_0 : List UInt8 := dkwX3_dear_0 ++ dktX3_dear_1
theorem dksX3_dear_0 : cX3_dear.data.toList.drop 0 = dktX3_dear_0 := by decide +kernel
theorem dksX3_dear_1 : cX3_dear.data.toList.drop 24 = dktX3_dear_1 := dk_seg dksX3_dear_0 24 rfl rfl
theorem dksX3_dear_2 : cX3_dear.data.toList.drop 47 = dktX3_dear_2 := dk_seg dksX3_dear_1 23 rfl rfl
theorem dksX3_dear_3 : cX3_dear.data.toList.drop 69 = dktX3_dear_3 := dk_seg dksX3_dear_2 22 rfl rfl
theorem dX3_dear_0 : decode cX3_dear 0 = .ok (.aload_n 0, 1) := dk_42 (dk_at dksX3_dear_0 0 rfl rfl)
theorem dX3_dear_1 : decode cX3_dear 1 = .ok (.iload_n 1, 1) := dk_27 (dk_at dksX3_dear_0 1 rfl rfl)
theorem dX3_dear_2 : decode cX3_dear 2 = .ok (.iload_n 2, 1) := dk_28 (dk_at dksX3_dear_0 2 rfl rfl)
theorem dX3_dear_3 : decode cX3_dear 3 = .ok (.invokevirtual 239, 3) := dk_182 0 239 (dk_at dksX3_dear_0 3 rfl rfl)
theorem dX3_dear_6 : decode cX3_dear 6 = .ok (.ifCond .eq 40, 3) := dk_153 0 40 (dk_at dksX3_dear_0 6 rfl rfl)
theorem dX3_dear_9 : decode cX3_dear 9 = .ok (.aload_n 0, 1) := dk_42 (dk_at dksX3_dear_0 9 rfl rfl)
theorem dX3_dear_10 : decode cX3_dear 10 = .ok (.iload_n 1, 1) := dk_27 (dk_at dksX3_dear_0 10 rfl rfl)
theorem dX3_dear_11 : decode cX3_dear 11 = .ok (.iload_n 3, 1) := dk_29 (dk_at dksX3_dear_0 11 rfl rfl)
theorem dX3_dear_12 : decode cX3_dear 12 = .ok (.invokevirtual 233, 3) := dk_182 0 233 (dk_at dksX3_dear_0 12 rfl rfl)
theorem dX3_dear_15 : decode cX3_dear 15 = .ok (.ifCond .eq 31, 3) := dk_153 0 31 (dk_at dksX3_dear_0 15 rfl rfl)
theorem dX3_dear_18 : decode cX3_dear 18 = .ok (.iload 4, 2) := dk_21 4 (dk_at dksX3_dear_0 18 rfl rfl)
theorem dX3_dear_20 : decode cX3_dear 20 = .ok (.i2l, 1) := dk_133 (dk_at dksX3_dear_0 20 rfl rfl)
theorem dX3_dear_21 : decode cX3_dear 21 = .ok (.lconst 0, 1) := dk_9 (dk_at dksX3_dear_0 21 rfl rfl)
theorem dX3_dear_22 : decode cX3_dear 22 = .ok (.aload_n 0, 1) := dk_42 (dk_at dksX3_dear_0 22 rfl rfl)
theorem dX3_dear_23 : decode cX3_dear 23 = .ok (.iload_n 1, 1) := dk_27 (dk_at dksX3_dear_0 23 rfl rfl)
theorem dX3_dear_24 : decode cX3_dear 24 = .ok (.invokevirtual 98, 3) := dk_182 0 98 (dk_at dksX3_dear_1 0 rfl rfl)
theorem dX3_dear_27 : decode cX3_dear 27 = .ok (.iconst 1, 1) := dk_4 (dk_at dksX3_dear_1 3 rfl rfl)
theorem dX3_dear_28 : decode cX3_dear 28 = .ok (.isub, 1) := dk_100 (dk_at dksX3_dear_1 4 rfl rfl)
theorem dX3_dear_29 : decode cX3_dear 29 = .ok (.i2l, 1) := dk_133 (dk_at dksX3_dear_1 5 rfl rfl)
theorem dX3_dear_30 : decode cX3_dear 30 = .ok (.invokestatic 94, 3) := dk_184 0 94 (dk_at dksX3_dear_1 6 rfl rfl)
theorem dX3_dear_33 : decode cX3_dear 33 = .ok (.ifCond .eq 13, 3) := dk_153 0 13 (dk_at dksX3_dear_1 9 rfl rfl)
theorem dX3_dear_36 : decode cX3_dear 36 = .ok (.iload_n 3, 1) := dk_29 (dk_at dksX3_dear_1 12 rfl rfl)
theorem dX3_dear_37 : decode cX3_dear 37 = .ok (.iload 4, 2) := dk_21 4 (dk_at dksX3_dear_1 13 rfl rfl)
theorem dX3_dear_39 : decode cX3_dear 39 = .ok (.invokestatic 226, 3) := dk_184 0 226 (dk_at dksX3_dear_1 15 rfl rfl)
theorem dX3_dear_42 : decode cX3_dear 42 = .ok (.iconst 4, 1) := dk_7 (dk_at dksX3_dear_1 18 rfl rfl)
theorem dX3_dear_43 : decode cX3_dear 43 = .ok (.if_icmp .ne 11, 3) := dk_160 0 11 (dk_at dksX3_dear_1 19 rfl rfl)
theorem dX3_dear_46 : decode cX3_dear 46 = .ok (.aload_n 0, 1) := dk_42 (dk_at dksX3_dear_1 22 rfl rfl)
theorem dX3_dear_47 : decode cX3_dear 47 = .ok (.bipush (-2), 2) := dk_16 254 (dk_at dksX3_dear_2 0 rfl rfl)
theorem dX3_dear_49 : decode cX3_dear 49 = .ok (.invokevirtual 119, 3) := dk_182 0 119 (dk_at dksX3_dear_2 2 rfl rfl)
theorem dX3_dear_52 : decode cX3_dear 52 = .ok (.i2l, 1) := dk_133 (dk_at dksX3_dear_2 5 rfl rfl)
theorem dX3_dear_53 : decode cX3_dear 53 = .ok (.lreturn, 1) := dk_173 (dk_at dksX3_dear_2 6 rfl rfl)
theorem dX3_dear_54 : decode cX3_dear 54 = .ok (.aload_n 0, 1) := dk_42 (dk_at dksX3_dear_2 7 rfl rfl)
theorem dX3_dear_55 : decode cX3_dear 55 = .ok (.iload_n 1, 1) := dk_27 (dk_at dksX3_dear_2 8 rfl rfl)
theorem dX3_dear_56 : decode cX3_dear 56 = .ok (.invokevirtual 264, 3) := dk_182 1 8 (dk_at dksX3_dear_2 9 rfl rfl)
theorem dX3_dear_59 : decode cX3_dear 59 = .ok (.aload_n 0, 1) := dk_42 (dk_at dksX3_dear_2 12 rfl rfl)
theorem dX3_dear_60 : decode cX3_dear 60 = .ok (.getfield 55, 3) := dk_180 0 55 (dk_at dksX3_dear_2 13 rfl rfl)
theorem dX3_dear_63 : decode cX3_dear 63 = .ok (.iload_n 2, 1) := dk_28 (dk_at dksX3_dear_2 16 rfl rfl)
theorem dX3_dear_64 : decode cX3_dear 64 = .ok (.aaload, 1) := dk_50 (dk_at dksX3_dear_2 17 rfl rfl)
theorem dX3_dear_65 : decode cX3_dear 65 = .ok (.iload_n 3, 1) := dk_29 (dk_at dksX3_dear_2 18 rfl rfl)
theorem dX3_dear_66 : decode cX3_dear 66 = .ok (.iconst 5, 1) := dk_8 (dk_at dksX3_dear_2 19 rfl rfl)
theorem dX3_dear_67 : decode cX3_dear 67 = .ok (.iload 4, 2) := dk_21 4 (dk_at dksX3_dear_2 20 rfl rfl)
theorem dX3_dear_69 : decode cX3_dear 69 = .ok (.invokestatic 102, 3) := dk_184 0 102 (dk_at dksX3_dear_3 0 rfl rfl)
theorem dX3_dear_72 : decode cX3_dear 72 = .ok (.iadd, 1) := dk_96 (dk_at dksX3_dear_3 3 rfl rfl)
theorem dX3_dear_73 : decode cX3_dear 73 = .ok (.laload, 1) := dk_47 (dk_at dksX3_dear_3 4 rfl rfl)
theorem dX3_dear_74 : decode cX3_dear 74 = .ok (.aload_n 0, 1) := dk_42 (dk_at dksX3_dear_3 5 rfl rfl)
theorem dX3_dear_75 : decode cX3_dear 75 = .ok (.getfield 55, 3) := dk_180 0 55 (dk_at dksX3_dear_3 6 rfl rfl)
theorem dX3_dear_78 : decode cX3_dear 78 = .ok (.iload_n 2, 1) := dk_28 (dk_at dksX3_dear_3 9 rfl rfl)
theorem dX3_dear_79 : decode cX3_dear 79 = .ok (.aaload, 1) := dk_50 (dk_at dksX3_dear_3 10 rfl rfl)
theorem dX3_dear_80 : decode cX3_dear 80 = .ok (.iload_n 3, 1) := dk_29 (dk_at dksX3_dear_3 11 rfl rfl)
theorem dX3_dear_81 : decode cX3_dear 81 = .ok (.laload, 1) := dk_47 (dk_at dksX3_dear_3 12 rfl rfl)
theorem dX3_dear_82 : decode cX3_dear 82 = .ok (.lsub, 1) := dk_101 (dk_at dksX3_dear_3 13 rfl rfl)
theorem dX3_dear_83 : decode cX3_dear 83 = .ok (.lreturn, 1) := dk_173 (dk_at dksX3_dear_3 14 rfl rfl)
abbrev cX3_shape : ByteArray := prog_17_method_77_code
def yX3_shape : MethodName := ⟨RX3, "shape", "(II)I"⟩
def dkwX3_shape_2 : List UInt8 := [167, 0, 4, 2, 172]
abbrev dktX3_shape_2 : List UInt8 := dkwX3_shape_2 ++ []
def dkwX3_shape_1 : List UInt8 := [182, 1, 60, 153, 0, 23, 42, 180, 1, 57, 42, 180, 1, 54, 162, 0, 12, 42, 180, 1, 57, 4, 96]
abbrev dktX3_shape_1 : List UInt8 := dkwX3_shape_1 ++ dktX3_shape_2
def dkwX3_shape_0 : List UInt8 := [42, 27, 28, 182, 0, 239, 153, 0, 7, 28, 154, 0, 10, 42, 16, 254, 182, 0, 119, 172, 42, 27, 28]
abbrev dktX3_shape_0 : List UInt8 := dkwX3_shape_0 ++ dktX3_shape_1
theorem dksX3_shape_0 : cX3_shape.data.toList.drop 0 = dktX3_shape_0 := by decide +kernel
theorem dksX3_shape_1 : cX3_shape.data.toList.drop 23 = dktX3_shape_1 := dk_seg dksX3_shape_0 23 rfl rfl
theorem dksX3_shape_2 : cX3_shape.data.toList.drop 46 = dktX3_shape_2 := dk_seg dksX3_shape_1 23 rfl rfl
theorem dX3_shape_0 : decode cX3_shape 0 = .ok (.aload_n 0, 1) := dk_42 (dk_at dksX3_shape_0 0 rfl rfl)
theorem dX3_shape_1 : decode cX3_shape 1 = .ok (.iload_n 1, 1) := dk_27 (dk_at dksX3_shape_0 1 rfl rfl)
theorem dX3_shape_2 : decode cX3_shape 2 = .ok (.iload_n 2, 1) := dk_28 (dk_at dksX3_shape_0 2 rfl rfl)
theorem dX3_shape_3 : decode cX3_shape 3 = .ok (.invokevirtual 239, 3) := dk_182 0 239 (dk_at dksX3_shape_0 3 rfl rfl)
theorem dX3_shape_6 : decode cX3_shape 6 = .ok (.ifCond .eq 7, 3) := dk_153 0 7 (dk_at dksX3_shape_0 6 rfl rfl)
theorem dX3_shape_9 : decode cX3_shape 9 = .ok (.iload_n 2, 1) := dk_28 (dk_at dksX3_shape_0 9 rfl rfl)
theorem dX3_shape_10 : decode cX3_shape 10 = .ok (.ifCond .ne 10, 3) := dk_154 0 10 (dk_at dksX3_shape_0 10 rfl rfl)
theorem dX3_shape_13 : decode cX3_shape 13 = .ok (.aload_n 0, 1) := dk_42 (dk_at dksX3_shape_0 13 rfl rfl)
theorem dX3_shape_14 : decode cX3_shape 14 = .ok (.bipush (-2), 2) := dk_16 254 (dk_at dksX3_shape_0 14 rfl rfl)
theorem dX3_shape_16 : decode cX3_shape 16 = .ok (.invokevirtual 119, 3) := dk_182 0 119 (dk_at dksX3_shape_0 16 rfl rfl)
theorem dX3_shape_19 : decode cX3_shape 19 = .ok (.ireturn, 1) := dk_172 (dk_at dksX3_shape_0 19 rfl rfl)
theorem dX3_shape_20 : decode cX3_shape 20 = .ok (.aload_n 0, 1) := dk_42 (dk_at dksX3_shape_0 20 rfl rfl)
theorem dX3_shape_21 : decode cX3_shape 21 = .ok (.iload_n 1, 1) := dk_27 (dk_at dksX3_shape_0 21 rfl rfl)
theorem dX3_shape_22 : decode cX3_shape 22 = .ok (.iload_n 2, 1) := dk_28 (dk_at dksX3_shape_0 22 rfl rfl)
theorem dX3_shape_23 : decode cX3_shape 23 = .ok (.invokevirtual 316, 3) := dk_182 1 60 (dk_at dksX3_shape_1 0 rfl rfl)
theorem dX3_shape_26 : decode cX3_shape 26 = .ok (.ifCond .eq 23, 3) := dk_153 0 23 (dk_at dksX3_shape_1 3 rfl rfl)
theorem dX3_shape_29 : decode cX3_shape 29 = .ok (.aload_n 0, 1) := dk_42 (dk_at dksX3_shape_1 6 rfl rfl)
theorem dX3_shape_30 : decode cX3_shape 30 = .ok (.getfield 313, 3) := dk_180 1 57 (dk_at dksX3_shape_1 7 rfl rfl)
theorem dX3_shape_33 : decode cX3_shape 33 = .ok (.aload_n 0, 1) := dk_42 (dk_at dksX3_shape_1 10 rfl rfl)
theorem dX3_shape_34 : decode cX3_shape 34 = .ok (.getfield 310, 3) := dk_180 1 54 (dk_at dksX3_shape_1 11 rfl rfl)
theorem dX3_shape_37 : decode cX3_shape 37 = .ok (.if_icmp .ge 12, 3) := dk_162 0 12 (dk_at dksX3_shape_1 14 rfl rfl)
theorem dX3_shape_40 : decode cX3_shape 40 = .ok (.aload_n 0, 1) := dk_42 (dk_at dksX3_shape_1 17 rfl rfl)
theorem dX3_shape_41 : decode cX3_shape 41 = .ok (.getfield 313, 3) := dk_180 1 57 (dk_at dksX3_shape_1 18 rfl rfl)
theorem dX3_shape_44 : decode cX3_shape 44 = .ok (.iconst 1, 1) := dk_4 (dk_at dksX3_shape_1 21 rfl rfl)
theorem dX3_shape_45 : decode cX3_shape 45 = .ok (.iadd, 1) := dk_96 (dk_at dksX3_shape_1 22 rfl rfl)
theorem dX3_shape_46 : decode cX3_shape 46 = .ok (.goto 4, 3) := dk_167 0 4 (dk_at dksX3_shape_2 0 rfl rfl)
theorem dX3_shape_49 : decode cX3_shape 49 = .ok (.iconst (-1), 1) := dk_2 (dk_at dksX3_shape_2 3 rfl rfl)
theorem dX3_shape_50 : decode cX3_shape 50 = .ok (.ireturn, 1) := dk_172 (dk_at dksX3_shape_2 4 rfl rfl)
abbrev cX3_findRooms : ByteArray := prog_17_method_76_code
def yX3_findRooms : MethodName := ⟨RX3, "findRooms", "(II)Z"⟩
def dkwX3_findRooms_4 : List UInt8 := [132, 3, 1, 167, 255, 176, 42, 180, 1, 54, 2, 159, 0, 7, 4, 167, 0, 4, 3, 172]
abbrev dktX3_findRooms_4 : List UInt8 := dkwX3_findRooms_4 ++ []
def dkwX3_findRooms_3 : List UInt8 := [42, 180, 1, 54, 2, 159, 0, 12, 21, 4, 42, 180, 1, 54, 162, 0, 9, 42, 21, 4, 181, 1, 54]
abbrev dktX3_findRooms_3 : List UInt8 := dkwX3_findRooms_3 ++ dktX3_findRooms_4
def dkwX3_findRooms_2 : List UInt8 := [21, 4, 42, 180, 1, 57, 164, 0, 8, 21, 4, 167, 0, 7, 42, 180, 1, 57, 181, 1, 57, 167, 0, 26]
abbrev dktX3_findRooms_2 : List UInt8 := dkwX3_findRooms_2 ++ dktX3_findRooms_3
def dkwX3_findRooms_1 : List UInt8 := [162, 0, 77, 42, 27, 29, 3, 182, 0, 236, 54, 4, 42, 180, 0, 58, 28, 50, 29, 46, 154, 0, 28, 42]
abbrev dktX3_findRooms_1 : List UInt8 := dkwX3_findRooms_1 ++ dktX3_findRooms_2
def dkwX3_findRooms_0 : List UInt8 := [42, 27, 182, 1, 8, 42, 2, 181, 1, 54, 42, 3, 181, 1, 57, 3, 62, 29, 42, 27, 182, 0, 110]
abbrev dktX3_findRooms_0 : List UInt8 := dkwX3_findRooms_0 ++ dktX3_findRooms_1
theorem dksX3_findRooms_0 : cX3_findRooms.data.toList.drop 0 = dktX3_findRooms_0 := by decide +kernel
theorem dksX3_findRooms_1 : cX3_findRooms.data.toList.drop 23 = dktX3_findRooms_1 := dk_seg dksX3_findRooms_0 23 rfl rfl
theorem dksX3_findRooms_2 : cX3_findRooms.data.toList.drop 47 = dktX3_findRooms_2 := dk_seg dksX3_findRooms_1 24 rfl rfl
theorem dksX3_findRooms_3 : cX3_findRooms.data.toList.drop 71 = dktX3_findRooms_3 := dk_seg dksX3_findRooms_2 24 rfl rfl
theorem dksX3_findRooms_4 : cX3_findRooms.data.toList.drop 94 = dktX3_findRooms_4 := dk_seg dksX3_findRooms_3 23 rfl rfl
theorem dX3_findRooms_0 : decode cX3_findRooms 0 = .ok (.aload_n 0, 1) := dk_42 (dk_at dksX3_findRooms_0 0 rfl rfl)
theorem dX3_findRooms_1 : decode cX3_findRooms 1 = .ok (.iload_n 1, 1) := dk_27 (dk_at dksX3_findRooms_0 1 rfl rfl)
theorem dX3_findRooms_2 : decode cX3_findRooms 2 = .ok (.invokevirtual 264, 3) := dk_182 1 8 (dk_at dksX3_findRooms_0 2 rfl rfl)
theorem dX3_findRooms_5 : decode cX3_findRooms 5 = .ok (.aload_n 0, 1) := dk_42 (dk_at dksX3_findRooms_0 5 rfl rfl)
theorem dX3_findRooms_6 : decode cX3_findRooms 6 = .ok (.iconst (-1), 1) := dk_2 (dk_at dksX3_findRooms_0 6 rfl rfl)
theorem dX3_findRooms_7 : decode cX3_findRooms 7 = .ok (.putfield 310, 3) := dk_181 1 54 (dk_at dksX3_findRooms_0 7 rfl rfl)
theorem dX3_findRooms_10 : decode cX3_findRooms 10 = .ok (.aload_n 0, 1) := dk_42 (dk_at dksX3_findRooms_0 10 rfl rfl)
theorem dX3_findRooms_11 : decode cX3_findRooms 11 = .ok (.iconst 0, 1) := dk_3 (dk_at dksX3_findRooms_0 11 rfl rfl)
theorem dX3_findRooms_12 : decode cX3_findRooms 12 = .ok (.putfield 313, 3) := dk_181 1 57 (dk_at dksX3_findRooms_0 12 rfl rfl)
theorem dX3_findRooms_15 : decode cX3_findRooms 15 = .ok (.iconst 0, 1) := dk_3 (dk_at dksX3_findRooms_0 15 rfl rfl)
theorem dX3_findRooms_16 : decode cX3_findRooms 16 = .ok (.istore_n 3, 1) := dk_62 (dk_at dksX3_findRooms_0 16 rfl rfl)
theorem dX3_findRooms_17 : decode cX3_findRooms 17 = .ok (.iload_n 3, 1) := dk_29 (dk_at dksX3_findRooms_0 17 rfl rfl)
theorem dX3_findRooms_18 : decode cX3_findRooms 18 = .ok (.aload_n 0, 1) := dk_42 (dk_at dksX3_findRooms_0 18 rfl rfl)
theorem dX3_findRooms_19 : decode cX3_findRooms 19 = .ok (.iload_n 1, 1) := dk_27 (dk_at dksX3_findRooms_0 19 rfl rfl)
theorem dX3_findRooms_20 : decode cX3_findRooms 20 = .ok (.invokevirtual 110, 3) := dk_182 0 110 (dk_at dksX3_findRooms_0 20 rfl rfl)
theorem dX3_findRooms_23 : decode cX3_findRooms 23 = .ok (.if_icmp .ge 77, 3) := dk_162 0 77 (dk_at dksX3_findRooms_1 0 rfl rfl)
theorem dX3_findRooms_26 : decode cX3_findRooms 26 = .ok (.aload_n 0, 1) := dk_42 (dk_at dksX3_findRooms_1 3 rfl rfl)
theorem dX3_findRooms_27 : decode cX3_findRooms 27 = .ok (.iload_n 1, 1) := dk_27 (dk_at dksX3_findRooms_1 4 rfl rfl)
theorem dX3_findRooms_28 : decode cX3_findRooms 28 = .ok (.iload_n 3, 1) := dk_29 (dk_at dksX3_findRooms_1 5 rfl rfl)
theorem dX3_findRooms_29 : decode cX3_findRooms 29 = .ok (.iconst 0, 1) := dk_3 (dk_at dksX3_findRooms_1 6 rfl rfl)
theorem dX3_findRooms_30 : decode cX3_findRooms 30 = .ok (.invokevirtual 236, 3) := dk_182 0 236 (dk_at dksX3_findRooms_1 7 rfl rfl)
theorem dX3_findRooms_33 : decode cX3_findRooms 33 = .ok (.istore 4, 2) := dk_54 4 (dk_at dksX3_findRooms_1 10 rfl rfl)
theorem dX3_findRooms_35 : decode cX3_findRooms 35 = .ok (.aload_n 0, 1) := dk_42 (dk_at dksX3_findRooms_1 12 rfl rfl)
theorem dX3_findRooms_36 : decode cX3_findRooms 36 = .ok (.getfield 58, 3) := dk_180 0 58 (dk_at dksX3_findRooms_1 13 rfl rfl)
theorem dX3_findRooms_39 : decode cX3_findRooms 39 = .ok (.iload_n 2, 1) := dk_28 (dk_at dksX3_findRooms_1 16 rfl rfl)
theorem dX3_findRooms_40 : decode cX3_findRooms 40 = .ok (.aaload, 1) := dk_50 (dk_at dksX3_findRooms_1 17 rfl rfl)
theorem dX3_findRooms_41 : decode cX3_findRooms 41 = .ok (.iload_n 3, 1) := dk_29 (dk_at dksX3_findRooms_1 18 rfl rfl)
theorem dX3_findRooms_42 : decode cX3_findRooms 42 = .ok (.iaload, 1) := dk_46 (dk_at dksX3_findRooms_1 19 rfl rfl)
theorem dX3_findRooms_43 : decode cX3_findRooms 43 = .ok (.ifCond .ne 28, 3) := dk_154 0 28 (dk_at dksX3_findRooms_1 20 rfl rfl)
theorem dX3_findRooms_46 : decode cX3_findRooms 46 = .ok (.aload_n 0, 1) := dk_42 (dk_at dksX3_findRooms_1 23 rfl rfl)
theorem dX3_findRooms_47 : decode cX3_findRooms 47 = .ok (.iload 4, 2) := dk_21 4 (dk_at dksX3_findRooms_2 0 rfl rfl)
theorem dX3_findRooms_49 : decode cX3_findRooms 49 = .ok (.aload_n 0, 1) := dk_42 (dk_at dksX3_findRooms_2 2 rfl rfl)
theorem dX3_findRooms_50 : decode cX3_findRooms 50 = .ok (.getfield 313, 3) := dk_180 1 57 (dk_at dksX3_findRooms_2 3 rfl rfl)
theorem dX3_findRooms_53 : decode cX3_findRooms 53 = .ok (.if_icmp .le 8, 3) := dk_164 0 8 (dk_at dksX3_findRooms_2 6 rfl rfl)
theorem dX3_findRooms_56 : decode cX3_findRooms 56 = .ok (.iload 4, 2) := dk_21 4 (dk_at dksX3_findRooms_2 9 rfl rfl)
theorem dX3_findRooms_58 : decode cX3_findRooms 58 = .ok (.goto 7, 3) := dk_167 0 7 (dk_at dksX3_findRooms_2 11 rfl rfl)
theorem dX3_findRooms_61 : decode cX3_findRooms 61 = .ok (.aload_n 0, 1) := dk_42 (dk_at dksX3_findRooms_2 14 rfl rfl)
theorem dX3_findRooms_62 : decode cX3_findRooms 62 = .ok (.getfield 313, 3) := dk_180 1 57 (dk_at dksX3_findRooms_2 15 rfl rfl)
theorem dX3_findRooms_65 : decode cX3_findRooms 65 = .ok (.putfield 313, 3) := dk_181 1 57 (dk_at dksX3_findRooms_2 18 rfl rfl)
theorem dX3_findRooms_68 : decode cX3_findRooms 68 = .ok (.goto 26, 3) := dk_167 0 26 (dk_at dksX3_findRooms_2 21 rfl rfl)
theorem dX3_findRooms_71 : decode cX3_findRooms 71 = .ok (.aload_n 0, 1) := dk_42 (dk_at dksX3_findRooms_3 0 rfl rfl)
theorem dX3_findRooms_72 : decode cX3_findRooms 72 = .ok (.getfield 310, 3) := dk_180 1 54 (dk_at dksX3_findRooms_3 1 rfl rfl)
theorem dX3_findRooms_75 : decode cX3_findRooms 75 = .ok (.iconst (-1), 1) := dk_2 (dk_at dksX3_findRooms_3 4 rfl rfl)
theorem dX3_findRooms_76 : decode cX3_findRooms 76 = .ok (.if_icmp .eq 12, 3) := dk_159 0 12 (dk_at dksX3_findRooms_3 5 rfl rfl)
theorem dX3_findRooms_79 : decode cX3_findRooms 79 = .ok (.iload 4, 2) := dk_21 4 (dk_at dksX3_findRooms_3 8 rfl rfl)
theorem dX3_findRooms_81 : decode cX3_findRooms 81 = .ok (.aload_n 0, 1) := dk_42 (dk_at dksX3_findRooms_3 10 rfl rfl)
theorem dX3_findRooms_82 : decode cX3_findRooms 82 = .ok (.getfield 310, 3) := dk_180 1 54 (dk_at dksX3_findRooms_3 11 rfl rfl)
theorem dX3_findRooms_85 : decode cX3_findRooms 85 = .ok (.if_icmp .ge 9, 3) := dk_162 0 9 (dk_at dksX3_findRooms_3 14 rfl rfl)
theorem dX3_findRooms_88 : decode cX3_findRooms 88 = .ok (.aload_n 0, 1) := dk_42 (dk_at dksX3_findRooms_3 17 rfl rfl)
theorem dX3_findRooms_89 : decode cX3_findRooms 89 = .ok (.iload 4, 2) := dk_21 4 (dk_at dksX3_findRooms_3 18 rfl rfl)
theorem dX3_findRooms_91 : decode cX3_findRooms 91 = .ok (.putfield 310, 3) := dk_181 1 54 (dk_at dksX3_findRooms_3 20 rfl rfl)
theorem dX3_findRooms_94 : decode cX3_findRooms 94 = .ok (.iinc 3 1, 3) := dk_132 3 1 (dk_at dksX3_findRooms_4 0 rfl rfl)
theorem dX3_findRooms_97 : decode cX3_findRooms 97 = .ok (.goto (-80), 3) := dk_167 255 176 (dk_at dksX3_findRooms_4 3 rfl rfl)
theorem dX3_findRooms_100 : decode cX3_findRooms 100 = .ok (.aload_n 0, 1) := dk_42 (dk_at dksX3_findRooms_4 6 rfl rfl)
theorem dX3_findRooms_101 : decode cX3_findRooms 101 = .ok (.getfield 310, 3) := dk_180 1 54 (dk_at dksX3_findRooms_4 7 rfl rfl)
theorem dX3_findRooms_104 : decode cX3_findRooms 104 = .ok (.iconst (-1), 1) := dk_2 (dk_at dksX3_findRooms_4 10 rfl rfl)
theorem dX3_findRooms_105 : decode cX3_findRooms 105 = .ok (.if_icmp .eq 7, 3) := dk_159 0 7 (dk_at dksX3_findRooms_4 11 rfl rfl)
theorem dX3_findRooms_108 : decode cX3_findRooms 108 = .ok (.iconst 1, 1) := dk_4 (dk_at dksX3_findRooms_4 14 rfl rfl)
theorem dX3_findRooms_109 : decode cX3_findRooms 109 = .ok (.goto 4, 3) := dk_167 0 4 (dk_at dksX3_findRooms_4 15 rfl rfl)
theorem dX3_findRooms_112 : decode cX3_findRooms 112 = .ok (.iconst 0, 1) := dk_3 (dk_at dksX3_findRooms_4 18 rfl rfl)
theorem dX3_findRooms_113 : decode cX3_findRooms 113 = .ok (.ireturn, 1) := dk_172 (dk_at dksX3_findRooms_4 19 rfl rfl)
abbrev cX3_odd : ByteArray := prog_17_method_78_code
def yX3_odd : MethodName := ⟨RX3, "odd", "(II)I"⟩
def dkwX3_odd_3 : List UInt8 := [132, 3, 1, 167, 255, 217, 2, 172]
abbrev dktX3_odd_3 : List UInt8 := dkwX3_odd_3 ++ []
def dkwX3_odd_2 : List UInt8 := [50, 29, 46, 154, 0, 19, 42, 27, 29, 3, 182, 0, 236, 42, 180, 1, 54, 161, 0, 5, 29, 172]
abbrev dktX3_odd_2 : List UInt8 := dkwX3_odd_2 ++ dktX3_odd_3
def dkwX3_odd_1 : List UInt8 := [182, 1, 60, 154, 0, 5, 2, 172, 3, 62, 29, 42, 27, 182, 0, 110, 162, 0, 36, 42, 180, 0, 58, 28]
abbrev dktX3_odd_1 : List UInt8 := dkwX3_odd_1 ++ dktX3_odd_2
def dkwX3_odd_0 : List UInt8 := [42, 27, 28, 182, 0, 239, 153, 0, 7, 28, 154, 0, 10, 42, 16, 254, 182, 0, 119, 172, 42, 27, 28]
abbrev dktX3_odd_0 : List UInt8 := dkwX3_odd_0 ++ dktX3_odd_1
theorem dksX3_odd_0 : cX3_odd.data.toList.drop 0 = dktX3_odd_0 := by decide +kernel
theorem dksX3_odd_1 : cX3_odd.data.toList.drop 23 = dktX3_odd_1 := dk_seg dksX3_odd_0 23 rfl rfl
theorem dksX3_odd_2 : cX3_odd.data.toList.drop 47 = dktX3_odd_2 := dk_seg dksX3_odd_1 24 rfl rfl
theorem dksX3_odd_3 : cX3_odd.data.toList.drop 69 = dktX3_odd_3 := dk_seg dksX3_odd_2 22 rfl rfl
theorem dX3_odd_0 : decode cX3_odd 0 = .ok (.aload_n 0, 1) := dk_42 (dk_at dksX3_odd_0 0 rfl rfl)
theorem dX3_odd_1 : decode cX3_odd 1 = .ok (.iload_n 1, 1) := dk_27 (dk_at dksX3_odd_0 1 rfl rfl)
theorem dX3_odd_2 : decode cX3_odd 2 = .ok (.iload_n 2, 1) := dk_28 (dk_at dksX3_odd_0 2 rfl rfl)
theorem dX3_odd_3 : decode cX3_odd 3 = .ok (.invokevirtual 239, 3) := dk_182 0 239 (dk_at dksX3_odd_0 3 rfl rfl)
theorem dX3_odd_6 : decode cX3_odd 6 = .ok (.ifCond .eq 7, 3) := dk_153 0 7 (dk_at dksX3_odd_0 6 rfl rfl)
theorem dX3_odd_9 : decode cX3_odd 9 = .ok (.iload_n 2, 1) := dk_28 (dk_at dksX3_odd_0 9 rfl rfl)
theorem dX3_odd_10 : decode cX3_odd 10 = .ok (.ifCond .ne 10, 3) := dk_154 0 10 (dk_at dksX3_odd_0 10 rfl rfl)
theorem dX3_odd_13 : decode cX3_odd 13 = .ok (.aload_n 0, 1) := dk_42 (dk_at dksX3_odd_0 13 rfl rfl)
theorem dX3_odd_14 : decode cX3_odd 14 = .ok (.bipush (-2), 2) := dk_16 254 (dk_at dksX3_odd_0 14 rfl rfl)
theorem dX3_odd_16 : decode cX3_odd 16 = .ok (.invokevirtual 119, 3) := dk_182 0 119 (dk_at dksX3_odd_0 16 rfl rfl)
theorem dX3_odd_19 : decode cX3_odd 19 = .ok (.ireturn, 1) := dk_172 (dk_at dksX3_odd_0 19 rfl rfl)
theorem dX3_odd_20 : decode cX3_odd 20 = .ok (.aload_n 0, 1) := dk_42 (dk_at dksX3_odd_0 20 rfl rfl)
theorem dX3_odd_21 : decode cX3_odd 21 = .ok (.iload_n 1, 1) := dk_27 (dk_at dksX3_odd_0 21 rfl rfl)
theorem dX3_odd_22 : decode cX3_odd 22 = .ok (.iload_n 2, 1) := dk_28 (dk_at dksX3_odd_0 22 rfl rfl)
theorem dX3_odd_23 : decode cX3_odd 23 = .ok (.invokevirtual 316, 3) := dk_182 1 60 (dk_at dksX3_odd_1 0 rfl rfl)
theorem dX3_odd_26 : decode cX3_odd 26 = .ok (.ifCond .ne 5, 3) := dk_154 0 5 (dk_at dksX3_odd_1 3 rfl rfl)
theorem dX3_odd_29 : decode cX3_odd 29 = .ok (.iconst (-1), 1) := dk_2 (dk_at dksX3_odd_1 6 rfl rfl)
theorem dX3_odd_30 : decode cX3_odd 30 = .ok (.ireturn, 1) := dk_172 (dk_at dksX3_odd_1 7 rfl rfl)
theorem dX3_odd_31 : decode cX3_odd 31 = .ok (.iconst 0, 1) := dk_3 (dk_at dksX3_odd_1 8 rfl rfl)
theorem dX3_odd_32 : decode cX3_odd 32 = .ok (.istore_n 3, 1) := dk_62 (dk_at dksX3_odd_1 9 rfl rfl)
theorem dX3_odd_33 : decode cX3_odd 33 = .ok (.iload_n 3, 1) := dk_29 (dk_at dksX3_odd_1 10 rfl rfl)
theorem dX3_odd_34 : decode cX3_odd 34 = .ok (.aload_n 0, 1) := dk_42 (dk_at dksX3_odd_1 11 rfl rfl)
theorem dX3_odd_35 : decode cX3_odd 35 = .ok (.iload_n 1, 1) := dk_27 (dk_at dksX3_odd_1 12 rfl rfl)
theorem dX3_odd_36 : decode cX3_odd 36 = .ok (.invokevirtual 110, 3) := dk_182 0 110 (dk_at dksX3_odd_1 13 rfl rfl)
theorem dX3_odd_39 : decode cX3_odd 39 = .ok (.if_icmp .ge 36, 3) := dk_162 0 36 (dk_at dksX3_odd_1 16 rfl rfl)
theorem dX3_odd_42 : decode cX3_odd 42 = .ok (.aload_n 0, 1) := dk_42 (dk_at dksX3_odd_1 19 rfl rfl)
theorem dX3_odd_43 : decode cX3_odd 43 = .ok (.getfield 58, 3) := dk_180 0 58 (dk_at dksX3_odd_1 20 rfl rfl)
theorem dX3_odd_46 : decode cX3_odd 46 = .ok (.iload_n 2, 1) := dk_28 (dk_at dksX3_odd_1 23 rfl rfl)
theorem dX3_odd_47 : decode cX3_odd 47 = .ok (.aaload, 1) := dk_50 (dk_at dksX3_odd_2 0 rfl rfl)
theorem dX3_odd_48 : decode cX3_odd 48 = .ok (.iload_n 3, 1) := dk_29 (dk_at dksX3_odd_2 1 rfl rfl)
theorem dX3_odd_49 : decode cX3_odd 49 = .ok (.iaload, 1) := dk_46 (dk_at dksX3_odd_2 2 rfl rfl)
theorem dX3_odd_50 : decode cX3_odd 50 = .ok (.ifCond .ne 19, 3) := dk_154 0 19 (dk_at dksX3_odd_2 3 rfl rfl)
theorem dX3_odd_53 : decode cX3_odd 53 = .ok (.aload_n 0, 1) := dk_42 (dk_at dksX3_odd_2 6 rfl rfl)
theorem dX3_odd_54 : decode cX3_odd 54 = .ok (.iload_n 1, 1) := dk_27 (dk_at dksX3_odd_2 7 rfl rfl)
theorem dX3_odd_55 : decode cX3_odd 55 = .ok (.iload_n 3, 1) := dk_29 (dk_at dksX3_odd_2 8 rfl rfl)
theorem dX3_odd_56 : decode cX3_odd 56 = .ok (.iconst 0, 1) := dk_3 (dk_at dksX3_odd_2 9 rfl rfl)
theorem dX3_odd_57 : decode cX3_odd 57 = .ok (.invokevirtual 236, 3) := dk_182 0 236 (dk_at dksX3_odd_2 10 rfl rfl)
theorem dX3_odd_60 : decode cX3_odd 60 = .ok (.aload_n 0, 1) := dk_42 (dk_at dksX3_odd_2 13 rfl rfl)
theorem dX3_odd_61 : decode cX3_odd 61 = .ok (.getfield 310, 3) := dk_180 1 54 (dk_at dksX3_odd_2 14 rfl rfl)
theorem dX3_odd_64 : decode cX3_odd 64 = .ok (.if_icmp .lt 5, 3) := dk_161 0 5 (dk_at dksX3_odd_2 17 rfl rfl)
theorem dX3_odd_67 : decode cX3_odd 67 = .ok (.iload_n 3, 1) := dk_29 (dk_at dksX3_odd_2 20 rfl rfl)
theorem dX3_odd_68 : decode cX3_odd 68 = .ok (.ireturn, 1) := dk_172 (dk_at dksX3_odd_2 21 rfl rfl)
theorem dX3_odd_69 : decode cX3_odd 69 = .ok (.iinc 3 1, 3) := dk_132 3 1 (dk_at dksX3_odd_3 0 rfl rfl)
theorem dX3_odd_72 : decode cX3_odd 72 = .ok (.goto (-39), 3) := dk_167 255 217 (dk_at dksX3_odd_3 3 rfl rfl)
theorem dX3_odd_75 : decode cX3_odd 75 = .ok (.iconst (-1), 1) := dk_2 (dk_at dksX3_odd_3 6 rfl rfl)
theorem dX3_odd_76 : decode cX3_odd 76 = .ok (.ireturn, 1) := dk_172 (dk_at dksX3_odd_3 7 rfl rfl)
abbrev cX3_judge : ByteArray := prog_17_method_79_code
def yX3_judge : MethodName := ⟨RX3, "judge", "(III)I"⟩
def dkwX3_judge_7 : List UInt8 := [164, 0, 7, 5, 167, 0, 4, 3, 172]
abbrev dktX3_judge_7 : List UInt8 := dkwX3_judge_7 ++ []
def dkwX3_judge_6 : List UInt8 := [3, 182, 0, 229, 104, 96, 54, 4, 132, 5, 1, 167, 255, 194, 21, 4, 42, 180, 0, 45, 27, 50, 5, 46]
abbrev dktX3_judge_6 : List UInt8 := dkwX3_judge_6 ++ dktX3_judge_7
def dkwX3_judge_5 : List UInt8 := [184, 0, 94, 154, 0, 5, 4, 172, 21, 4, 42, 180, 0, 21, 29, 50, 21, 5, 47, 136, 42, 27, 21, 5]
abbrev dktX3_judge_5 : List UInt8 := dkwX3_judge_5 ++ dktX3_judge_6
def dkwX3_judge_4 : List UInt8 := [182, 0, 98, 162, 0, 58, 42, 180, 0, 21, 29, 50, 21, 5, 47, 9, 28, 21, 5, 184, 0, 226, 133]
abbrev dktX3_judge_4 : List UInt8 := dkwX3_judge_4 ++ dktX3_judge_5
def dkwX3_judge_3 : List UInt8 := [182, 0, 98, 162, 0, 10, 42, 16, 254, 182, 0, 119, 172, 3, 54, 4, 3, 54, 5, 21, 5, 42, 27]
abbrev dktX3_judge_3 : List UInt8 := dkwX3_judge_3 ++ dktX3_judge_4
def dkwX3_judge_2 : List UInt8 := [180, 0, 7, 29, 46, 154, 0, 10, 42, 16, 252, 182, 0, 119, 172, 42, 180, 0, 16, 29, 46, 42, 27]
abbrev dktX3_judge_2 : List UInt8 := dkwX3_judge_2 ++ dktX3_judge_3
def dkwX3_judge_1 : List UInt8 := [182, 0, 119, 172, 42, 180, 0, 7, 29, 46, 5, 160, 0, 10, 42, 16, 253, 182, 0, 119, 172, 42]
abbrev dktX3_judge_1 : List UInt8 := dkwX3_judge_1 ++ dktX3_judge_2
def dkwX3_judge_0 : List UInt8 := [42, 27, 28, 182, 0, 233, 153, 0, 15, 29, 133, 9, 20, 0, 113, 184, 0, 94, 154, 0, 10, 42, 16, 254]
abbrev dktX3_judge_0 : List UInt8 := dkwX3_judge_0 ++ dktX3_judge_1
theorem dksX3_judge_0 : cX3_judge.data.toList.drop 0 = dktX3_judge_0 := by decide +kernel
theorem dksX3_judge_1 : cX3_judge.data.toList.drop 24 = dktX3_judge_1 := dk_seg dksX3_judge_0 24 rfl rfl
theorem dksX3_judge_2 : cX3_judge.data.toList.drop 46 = dktX3_judge_2 := dk_seg dksX3_judge_1 22 rfl rfl
theorem dksX3_judge_3 : cX3_judge.data.toList.drop 69 = dktX3_judge_3 := dk_seg dksX3_judge_2 23 rfl rfl
theorem dksX3_judge_4 : cX3_judge.data.toList.drop 92 = dktX3_judge_4 := dk_seg dksX3_judge_3 23 rfl rfl
theorem dksX3_judge_5 : cX3_judge.data.toList.drop 115 = dktX3_judge_5 := dk_seg dksX3_judge_4 23 rfl rfl
theorem dksX3_judge_6 : cX3_judge.data.toList.drop 139 = dktX3_judge_6 := dk_seg dksX3_judge_5 24 rfl rfl
theorem dksX3_judge_7 : cX3_judge.data.toList.drop 163 = dktX3_judge_7 := dk_seg dksX3_judge_6 24 rfl rfl
theorem dX3_judge_0 : decode cX3_judge 0 = .ok (.aload_n 0, 1) := dk_42 (dk_at dksX3_judge_0 0 rfl rfl)
theorem dX3_judge_1 : decode cX3_judge 1 = .ok (.iload_n 1, 1) := dk_27 (dk_at dksX3_judge_0 1 rfl rfl)
theorem dX3_judge_2 : decode cX3_judge 2 = .ok (.iload_n 2, 1) := dk_28 (dk_at dksX3_judge_0 2 rfl rfl)
theorem dX3_judge_3 : decode cX3_judge 3 = .ok (.invokevirtual 233, 3) := dk_182 0 233 (dk_at dksX3_judge_0 3 rfl rfl)
theorem dX3_judge_6 : decode cX3_judge 6 = .ok (.ifCond .eq 15, 3) := dk_153 0 15 (dk_at dksX3_judge_0 6 rfl rfl)
theorem dX3_judge_9 : decode cX3_judge 9 = .ok (.iload_n 3, 1) := dk_29 (dk_at dksX3_judge_0 9 rfl rfl)
theorem dX3_judge_10 : decode cX3_judge 10 = .ok (.i2l, 1) := dk_133 (dk_at dksX3_judge_0 10 rfl rfl)
theorem dX3_judge_11 : decode cX3_judge 11 = .ok (.lconst 0, 1) := dk_9 (dk_at dksX3_judge_0 11 rfl rfl)
theorem dX3_judge_12 : decode cX3_judge 12 = .ok (.ldc2_w 113, 3) := dk_20 0 113 (dk_at dksX3_judge_0 12 rfl rfl)
theorem dX3_judge_15 : decode cX3_judge 15 = .ok (.invokestatic 94, 3) := dk_184 0 94 (dk_at dksX3_judge_0 15 rfl rfl)
theorem dX3_judge_18 : decode cX3_judge 18 = .ok (.ifCond .ne 10, 3) := dk_154 0 10 (dk_at dksX3_judge_0 18 rfl rfl)
theorem dX3_judge_21 : decode cX3_judge 21 = .ok (.aload_n 0, 1) := dk_42 (dk_at dksX3_judge_0 21 rfl rfl)
theorem dX3_judge_22 : decode cX3_judge 22 = .ok (.bipush (-2), 2) := dk_16 254 (dk_at dksX3_judge_0 22 rfl rfl)
theorem dX3_judge_24 : decode cX3_judge 24 = .ok (.invokevirtual 119, 3) := dk_182 0 119 (dk_at dksX3_judge_1 0 rfl rfl)
theorem dX3_judge_27 : decode cX3_judge 27 = .ok (.ireturn, 1) := dk_172 (dk_at dksX3_judge_1 3 rfl rfl)
theorem dX3_judge_28 : decode cX3_judge 28 = .ok (.aload_n 0, 1) := dk_42 (dk_at dksX3_judge_1 4 rfl rfl)
theorem dX3_judge_29 : decode cX3_judge 29 = .ok (.getfield 7, 3) := dk_180 0 7 (dk_at dksX3_judge_1 5 rfl rfl)
theorem dX3_judge_32 : decode cX3_judge 32 = .ok (.iload_n 3, 1) := dk_29 (dk_at dksX3_judge_1 8 rfl rfl)
theorem dX3_judge_33 : decode cX3_judge 33 = .ok (.iaload, 1) := dk_46 (dk_at dksX3_judge_1 9 rfl rfl)
theorem dX3_judge_34 : decode cX3_judge 34 = .ok (.iconst 2, 1) := dk_5 (dk_at dksX3_judge_1 10 rfl rfl)
theorem dX3_judge_35 : decode cX3_judge 35 = .ok (.if_icmp .ne 10, 3) := dk_160 0 10 (dk_at dksX3_judge_1 11 rfl rfl)
theorem dX3_judge_38 : decode cX3_judge 38 = .ok (.aload_n 0, 1) := dk_42 (dk_at dksX3_judge_1 14 rfl rfl)
theorem dX3_judge_39 : decode cX3_judge 39 = .ok (.bipush (-3), 2) := dk_16 253 (dk_at dksX3_judge_1 15 rfl rfl)
theorem dX3_judge_41 : decode cX3_judge 41 = .ok (.invokevirtual 119, 3) := dk_182 0 119 (dk_at dksX3_judge_1 17 rfl rfl)
theorem dX3_judge_44 : decode cX3_judge 44 = .ok (.ireturn, 1) := dk_172 (dk_at dksX3_judge_1 20 rfl rfl)
theorem dX3_judge_45 : decode cX3_judge 45 = .ok (.aload_n 0, 1) := dk_42 (dk_at dksX3_judge_1 21 rfl rfl)
theorem dX3_judge_46 : decode cX3_judge 46 = .ok (.getfield 7, 3) := dk_180 0 7 (dk_at dksX3_judge_2 0 rfl rfl)
theorem dX3_judge_49 : decode cX3_judge 49 = .ok (.iload_n 3, 1) := dk_29 (dk_at dksX3_judge_2 3 rfl rfl)
theorem dX3_judge_50 : decode cX3_judge 50 = .ok (.iaload, 1) := dk_46 (dk_at dksX3_judge_2 4 rfl rfl)
theorem dX3_judge_51 : decode cX3_judge 51 = .ok (.ifCond .ne 10, 3) := dk_154 0 10 (dk_at dksX3_judge_2 5 rfl rfl)
theorem dX3_judge_54 : decode cX3_judge 54 = .ok (.aload_n 0, 1) := dk_42 (dk_at dksX3_judge_2 8 rfl rfl)
theorem dX3_judge_55 : decode cX3_judge 55 = .ok (.bipush (-4), 2) := dk_16 252 (dk_at dksX3_judge_2 9 rfl rfl)
theorem dX3_judge_57 : decode cX3_judge 57 = .ok (.invokevirtual 119, 3) := dk_182 0 119 (dk_at dksX3_judge_2 11 rfl rfl)
theorem dX3_judge_60 : decode cX3_judge 60 = .ok (.ireturn, 1) := dk_172 (dk_at dksX3_judge_2 14 rfl rfl)
theorem dX3_judge_61 : decode cX3_judge 61 = .ok (.aload_n 0, 1) := dk_42 (dk_at dksX3_judge_2 15 rfl rfl)
theorem dX3_judge_62 : decode cX3_judge 62 = .ok (.getfield 16, 3) := dk_180 0 16 (dk_at dksX3_judge_2 16 rfl rfl)
theorem dX3_judge_65 : decode cX3_judge 65 = .ok (.iload_n 3, 1) := dk_29 (dk_at dksX3_judge_2 19 rfl rfl)
theorem dX3_judge_66 : decode cX3_judge 66 = .ok (.iaload, 1) := dk_46 (dk_at dksX3_judge_2 20 rfl rfl)
theorem dX3_judge_67 : decode cX3_judge 67 = .ok (.aload_n 0, 1) := dk_42 (dk_at dksX3_judge_2 21 rfl rfl)
theorem dX3_judge_68 : decode cX3_judge 68 = .ok (.iload_n 1, 1) := dk_27 (dk_at dksX3_judge_2 22 rfl rfl)
theorem dX3_judge_69 : decode cX3_judge 69 = .ok (.invokevirtual 98, 3) := dk_182 0 98 (dk_at dksX3_judge_3 0 rfl rfl)
theorem dX3_judge_72 : decode cX3_judge 72 = .ok (.if_icmp .ge 10, 3) := dk_162 0 10 (dk_at dksX3_judge_3 3 rfl rfl)
theorem dX3_judge_75 : decode cX3_judge 75 = .ok (.aload_n 0, 1) := dk_42 (dk_at dksX3_judge_3 6 rfl rfl)
theorem dX3_judge_76 : decode cX3_judge 76 = .ok (.bipush (-2), 2) := dk_16 254 (dk_at dksX3_judge_3 7 rfl rfl)
theorem dX3_judge_78 : decode cX3_judge 78 = .ok (.invokevirtual 119, 3) := dk_182 0 119 (dk_at dksX3_judge_3 9 rfl rfl)
theorem dX3_judge_81 : decode cX3_judge 81 = .ok (.ireturn, 1) := dk_172 (dk_at dksX3_judge_3 12 rfl rfl)
theorem dX3_judge_82 : decode cX3_judge 82 = .ok (.iconst 0, 1) := dk_3 (dk_at dksX3_judge_3 13 rfl rfl)
theorem dX3_judge_83 : decode cX3_judge 83 = .ok (.istore 4, 2) := dk_54 4 (dk_at dksX3_judge_3 14 rfl rfl)
theorem dX3_judge_85 : decode cX3_judge 85 = .ok (.iconst 0, 1) := dk_3 (dk_at dksX3_judge_3 16 rfl rfl)
theorem dX3_judge_86 : decode cX3_judge 86 = .ok (.istore 5, 2) := dk_54 5 (dk_at dksX3_judge_3 17 rfl rfl)
theorem dX3_judge_88 : decode cX3_judge 88 = .ok (.iload 5, 2) := dk_21 5 (dk_at dksX3_judge_3 19 rfl rfl)
theorem dX3_judge_90 : decode cX3_judge 90 = .ok (.aload_n 0, 1) := dk_42 (dk_at dksX3_judge_3 21 rfl rfl)
theorem dX3_judge_91 : decode cX3_judge 91 = .ok (.iload_n 1, 1) := dk_27 (dk_at dksX3_judge_3 22 rfl rfl)
theorem dX3_judge_92 : decode cX3_judge 92 = .ok (.invokevirtual 98, 3) := dk_182 0 98 (dk_at dksX3_judge_4 0 rfl rfl)
theorem dX3_judge_95 : decode cX3_judge 95 = .ok (.if_icmp .ge 58, 3) := dk_162 0 58 (dk_at dksX3_judge_4 3 rfl rfl)
theorem dX3_judge_98 : decode cX3_judge 98 = .ok (.aload_n 0, 1) := dk_42 (dk_at dksX3_judge_4 6 rfl rfl)
theorem dX3_judge_99 : decode cX3_judge 99 = .ok (.getfield 21, 3) := dk_180 0 21 (dk_at dksX3_judge_4 7 rfl rfl)
theorem dX3_judge_102 : decode cX3_judge 102 = .ok (.iload_n 3, 1) := dk_29 (dk_at dksX3_judge_4 10 rfl rfl)
theorem dX3_judge_103 : decode cX3_judge 103 = .ok (.aaload, 1) := dk_50 (dk_at dksX3_judge_4 11 rfl rfl)
theorem dX3_judge_104 : decode cX3_judge 104 = .ok (.iload 5, 2) := dk_21 5 (dk_at dksX3_judge_4 12 rfl rfl)
theorem dX3_judge_106 : decode cX3_judge 106 = .ok (.laload, 1) := dk_47 (dk_at dksX3_judge_4 14 rfl rfl)
theorem dX3_judge_107 : decode cX3_judge 107 = .ok (.lconst 0, 1) := dk_9 (dk_at dksX3_judge_4 15 rfl rfl)
theorem dX3_judge_108 : decode cX3_judge 108 = .ok (.iload_n 2, 1) := dk_28 (dk_at dksX3_judge_4 16 rfl rfl)
theorem dX3_judge_109 : decode cX3_judge 109 = .ok (.iload 5, 2) := dk_21 5 (dk_at dksX3_judge_4 17 rfl rfl)
theorem dX3_judge_111 : decode cX3_judge 111 = .ok (.invokestatic 226, 3) := dk_184 0 226 (dk_at dksX3_judge_4 19 rfl rfl)
theorem dX3_judge_114 : decode cX3_judge 114 = .ok (.i2l, 1) := dk_133 (dk_at dksX3_judge_4 22 rfl rfl)
theorem dX3_judge_115 : decode cX3_judge 115 = .ok (.invokestatic 94, 3) := dk_184 0 94 (dk_at dksX3_judge_5 0 rfl rfl)
theorem dX3_judge_118 : decode cX3_judge 118 = .ok (.ifCond .ne 5, 3) := dk_154 0 5 (dk_at dksX3_judge_5 3 rfl rfl)
theorem dX3_judge_121 : decode cX3_judge 121 = .ok (.iconst 1, 1) := dk_4 (dk_at dksX3_judge_5 6 rfl rfl)
theorem dX3_judge_122 : decode cX3_judge 122 = .ok (.ireturn, 1) := dk_172 (dk_at dksX3_judge_5 7 rfl rfl)
theorem dX3_judge_123 : decode cX3_judge 123 = .ok (.iload 4, 2) := dk_21 4 (dk_at dksX3_judge_5 8 rfl rfl)
theorem dX3_judge_125 : decode cX3_judge 125 = .ok (.aload_n 0, 1) := dk_42 (dk_at dksX3_judge_5 10 rfl rfl)
theorem dX3_judge_126 : decode cX3_judge 126 = .ok (.getfield 21, 3) := dk_180 0 21 (dk_at dksX3_judge_5 11 rfl rfl)
theorem dX3_judge_129 : decode cX3_judge 129 = .ok (.iload_n 3, 1) := dk_29 (dk_at dksX3_judge_5 14 rfl rfl)
theorem dX3_judge_130 : decode cX3_judge 130 = .ok (.aaload, 1) := dk_50 (dk_at dksX3_judge_5 15 rfl rfl)
theorem dX3_judge_131 : decode cX3_judge 131 = .ok (.iload 5, 2) := dk_21 5 (dk_at dksX3_judge_5 16 rfl rfl)
theorem dX3_judge_133 : decode cX3_judge 133 = .ok (.laload, 1) := dk_47 (dk_at dksX3_judge_5 18 rfl rfl)
theorem dX3_judge_134 : decode cX3_judge 134 = .ok (.l2i, 1) := dk_136 (dk_at dksX3_judge_5 19 rfl rfl)
theorem dX3_judge_135 : decode cX3_judge 135 = .ok (.aload_n 0, 1) := dk_42 (dk_at dksX3_judge_5 20 rfl rfl)
theorem dX3_judge_136 : decode cX3_judge 136 = .ok (.iload_n 1, 1) := dk_27 (dk_at dksX3_judge_5 21 rfl rfl)
theorem dX3_judge_137 : decode cX3_judge 137 = .ok (.iload 5, 2) := dk_21 5 (dk_at dksX3_judge_5 22 rfl rfl)
theorem dX3_judge_139 : decode cX3_judge 139 = .ok (.iconst 0, 1) := dk_3 (dk_at dksX3_judge_6 0 rfl rfl)
theorem dX3_judge_140 : decode cX3_judge 140 = .ok (.invokevirtual 229, 3) := dk_182 0 229 (dk_at dksX3_judge_6 1 rfl rfl)
theorem dX3_judge_143 : decode cX3_judge 143 = .ok (.imul, 1) := dk_104 (dk_at dksX3_judge_6 4 rfl rfl)
theorem dX3_judge_144 : decode cX3_judge 144 = .ok (.iadd, 1) := dk_96 (dk_at dksX3_judge_6 5 rfl rfl)
theorem dX3_judge_145 : decode cX3_judge 145 = .ok (.istore 4, 2) := dk_54 4 (dk_at dksX3_judge_6 6 rfl rfl)
theorem dX3_judge_147 : decode cX3_judge 147 = .ok (.iinc 5 1, 3) := dk_132 5 1 (dk_at dksX3_judge_6 8 rfl rfl)
theorem dX3_judge_150 : decode cX3_judge 150 = .ok (.goto (-62), 3) := dk_167 255 194 (dk_at dksX3_judge_6 11 rfl rfl)
theorem dX3_judge_153 : decode cX3_judge 153 = .ok (.iload 4, 2) := dk_21 4 (dk_at dksX3_judge_6 14 rfl rfl)
theorem dX3_judge_155 : decode cX3_judge 155 = .ok (.aload_n 0, 1) := dk_42 (dk_at dksX3_judge_6 16 rfl rfl)
theorem dX3_judge_156 : decode cX3_judge 156 = .ok (.getfield 45, 3) := dk_180 0 45 (dk_at dksX3_judge_6 17 rfl rfl)
theorem dX3_judge_159 : decode cX3_judge 159 = .ok (.iload_n 1, 1) := dk_27 (dk_at dksX3_judge_6 20 rfl rfl)
theorem dX3_judge_160 : decode cX3_judge 160 = .ok (.aaload, 1) := dk_50 (dk_at dksX3_judge_6 21 rfl rfl)
theorem dX3_judge_161 : decode cX3_judge 161 = .ok (.iconst 2, 1) := dk_5 (dk_at dksX3_judge_6 22 rfl rfl)
theorem dX3_judge_162 : decode cX3_judge 162 = .ok (.iaload, 1) := dk_46 (dk_at dksX3_judge_6 23 rfl rfl)
theorem dX3_judge_163 : decode cX3_judge 163 = .ok (.if_icmp .le 7, 3) := dk_164 0 7 (dk_at dksX3_judge_7 0 rfl rfl)
theorem dX3_judge_166 : decode cX3_judge 166 = .ok (.iconst 2, 1) := dk_5 (dk_at dksX3_judge_7 3 rfl rfl)
theorem dX3_judge_167 : decode cX3_judge 167 = .ok (.goto 4, 3) := dk_167 0 4 (dk_at dksX3_judge_7 4 rfl rfl)
theorem dX3_judge_170 : decode cX3_judge 170 = .ok (.iconst 0, 1) := dk_3 (dk_at dksX3_judge_7 7 rfl rfl)
theorem dX3_judge_171 : decode cX3_judge 171 = .ok (.ireturn, 1) := dk_172 (dk_at dksX3_judge_7 8 rfl rfl)
abbrev cX3_join : ByteArray := prog_17_method_82_code
def yX3_join : MethodName := ⟨RX3, "join", "(II)I"⟩
def dkwX3_join_3 : List UInt8 := [180, 0, 91, 90, 4, 96, 181, 0, 91, 172]
abbrev dktX3_join_3 : List UInt8 := dkwX3_join_3 ++ []
def dkwX3_join_2 : List UInt8 := [16, 6, 160, 0, 10, 42, 16, 250, 182, 0, 119, 172, 42, 27, 28, 42, 180, 0, 91, 182, 1, 66, 42, 89]
abbrev dktX3_join_2 : List UInt8 := dkwX3_join_2 ++ dktX3_join_3
def dkwX3_join_1 : List UInt8 := [182, 0, 119, 172, 42, 27, 28, 182, 1, 63, 154, 0, 10, 42, 16, 251, 182, 0, 119, 172, 42, 180, 0, 91]
abbrev dktX3_join_1 : List UInt8 := dkwX3_join_1 ++ dktX3_join_2
def dkwX3_join_0 : List UInt8 := [42, 27, 182, 0, 106, 153, 0, 16, 42, 28, 182, 0, 106, 153, 0, 8, 27, 28, 160, 0, 10, 42, 16, 254]
abbrev dktX3_join_0 : List UInt8 := dkwX3_join_0 ++ dktX3_join_1
theorem dksX3_join_0 : cX3_join.data.toList.drop 0 = dktX3_join_0 := by decide +kernel
theorem dksX3_join_1 : cX3_join.data.toList.drop 24 = dktX3_join_1 := dk_seg dksX3_join_0 24 rfl rfl
theorem dksX3_join_2 : cX3_join.data.toList.drop 48 = dktX3_join_2 := dk_seg dksX3_join_1 24 rfl rfl
theorem dksX3_join_3 : cX3_join.data.toList.drop 72 = dktX3_join_3 := dk_seg dksX3_join_2 24 rfl rfl
theorem dX3_join_0 : decode cX3_join 0 = .ok (.aload_n 0, 1) := dk_42 (dk_at dksX3_join_0 0 rfl rfl)
theorem dX3_join_1 : decode cX3_join 1 = .ok (.iload_n 1, 1) := dk_27 (dk_at dksX3_join_0 1 rfl rfl)
theorem dX3_join_2 : decode cX3_join 2 = .ok (.invokevirtual 106, 3) := dk_182 0 106 (dk_at dksX3_join_0 2 rfl rfl)
theorem dX3_join_5 : decode cX3_join 5 = .ok (.ifCond .eq 16, 3) := dk_153 0 16 (dk_at dksX3_join_0 5 rfl rfl)
theorem dX3_join_8 : decode cX3_join 8 = .ok (.aload_n 0, 1) := dk_42 (dk_at dksX3_join_0 8 rfl rfl)
theorem dX3_join_9 : decode cX3_join 9 = .ok (.iload_n 2, 1) := dk_28 (dk_at dksX3_join_0 9 rfl rfl)
theorem dX3_join_10 : decode cX3_join 10 = .ok (.invokevirtual 106, 3) := dk_182 0 106 (dk_at dksX3_join_0 10 rfl rfl)
theorem dX3_join_13 : decode cX3_join 13 = .ok (.ifCond .eq 8, 3) := dk_153 0 8 (dk_at dksX3_join_0 13 rfl rfl)
theorem dX3_join_16 : decode cX3_join 16 = .ok (.iload_n 1, 1) := dk_27 (dk_at dksX3_join_0 16 rfl rfl)
theorem dX3_join_17 : decode cX3_join 17 = .ok (.iload_n 2, 1) := dk_28 (dk_at dksX3_join_0 17 rfl rfl)
theorem dX3_join_18 : decode cX3_join 18 = .ok (.if_icmp .ne 10, 3) := dk_160 0 10 (dk_at dksX3_join_0 18 rfl rfl)
theorem dX3_join_21 : decode cX3_join 21 = .ok (.aload_n 0, 1) := dk_42 (dk_at dksX3_join_0 21 rfl rfl)
theorem dX3_join_22 : decode cX3_join 22 = .ok (.bipush (-2), 2) := dk_16 254 (dk_at dksX3_join_0 22 rfl rfl)
theorem dX3_join_24 : decode cX3_join 24 = .ok (.invokevirtual 119, 3) := dk_182 0 119 (dk_at dksX3_join_1 0 rfl rfl)
theorem dX3_join_27 : decode cX3_join 27 = .ok (.ireturn, 1) := dk_172 (dk_at dksX3_join_1 3 rfl rfl)
theorem dX3_join_28 : decode cX3_join 28 = .ok (.aload_n 0, 1) := dk_42 (dk_at dksX3_join_1 4 rfl rfl)
theorem dX3_join_29 : decode cX3_join 29 = .ok (.iload_n 1, 1) := dk_27 (dk_at dksX3_join_1 5 rfl rfl)
theorem dX3_join_30 : decode cX3_join 30 = .ok (.iload_n 2, 1) := dk_28 (dk_at dksX3_join_1 6 rfl rfl)
theorem dX3_join_31 : decode cX3_join 31 = .ok (.invokevirtual 319, 3) := dk_182 1 63 (dk_at dksX3_join_1 7 rfl rfl)
theorem dX3_join_34 : decode cX3_join 34 = .ok (.ifCond .ne 10, 3) := dk_154 0 10 (dk_at dksX3_join_1 10 rfl rfl)
theorem dX3_join_37 : decode cX3_join 37 = .ok (.aload_n 0, 1) := dk_42 (dk_at dksX3_join_1 13 rfl rfl)
theorem dX3_join_38 : decode cX3_join 38 = .ok (.bipush (-5), 2) := dk_16 251 (dk_at dksX3_join_1 14 rfl rfl)
theorem dX3_join_40 : decode cX3_join 40 = .ok (.invokevirtual 119, 3) := dk_182 0 119 (dk_at dksX3_join_1 16 rfl rfl)
theorem dX3_join_43 : decode cX3_join 43 = .ok (.ireturn, 1) := dk_172 (dk_at dksX3_join_1 19 rfl rfl)
theorem dX3_join_44 : decode cX3_join 44 = .ok (.aload_n 0, 1) := dk_42 (dk_at dksX3_join_1 20 rfl rfl)
theorem dX3_join_45 : decode cX3_join 45 = .ok (.getfield 91, 3) := dk_180 0 91 (dk_at dksX3_join_1 21 rfl rfl)
theorem dX3_join_48 : decode cX3_join 48 = .ok (.bipush 6, 2) := dk_16 6 (dk_at dksX3_join_2 0 rfl rfl)
theorem dX3_join_50 : decode cX3_join 50 = .ok (.if_icmp .ne 10, 3) := dk_160 0 10 (dk_at dksX3_join_2 2 rfl rfl)
theorem dX3_join_53 : decode cX3_join 53 = .ok (.aload_n 0, 1) := dk_42 (dk_at dksX3_join_2 5 rfl rfl)
theorem dX3_join_54 : decode cX3_join 54 = .ok (.bipush (-6), 2) := dk_16 250 (dk_at dksX3_join_2 6 rfl rfl)
theorem dX3_join_56 : decode cX3_join 56 = .ok (.invokevirtual 119, 3) := dk_182 0 119 (dk_at dksX3_join_2 8 rfl rfl)
theorem dX3_join_59 : decode cX3_join 59 = .ok (.ireturn, 1) := dk_172 (dk_at dksX3_join_2 11 rfl rfl)
theorem dX3_join_60 : decode cX3_join 60 = .ok (.aload_n 0, 1) := dk_42 (dk_at dksX3_join_2 12 rfl rfl)
theorem dX3_join_61 : decode cX3_join 61 = .ok (.iload_n 1, 1) := dk_27 (dk_at dksX3_join_2 13 rfl rfl)
theorem dX3_join_62 : decode cX3_join 62 = .ok (.iload_n 2, 1) := dk_28 (dk_at dksX3_join_2 14 rfl rfl)
theorem dX3_join_63 : decode cX3_join 63 = .ok (.aload_n 0, 1) := dk_42 (dk_at dksX3_join_2 15 rfl rfl)
theorem dX3_join_64 : decode cX3_join 64 = .ok (.getfield 91, 3) := dk_180 0 91 (dk_at dksX3_join_2 16 rfl rfl)
theorem dX3_join_67 : decode cX3_join 67 = .ok (.invokevirtual 322, 3) := dk_182 1 66 (dk_at dksX3_join_2 19 rfl rfl)
theorem dX3_join_70 : decode cX3_join 70 = .ok (.aload_n 0, 1) := dk_42 (dk_at dksX3_join_2 22 rfl rfl)
theorem dX3_join_71 : decode cX3_join 71 = .ok (.dup, 1) := dk_89 (dk_at dksX3_join_2 23 rfl rfl)
theorem dX3_join_72 : decode cX3_join 72 = .ok (.getfield 91, 3) := dk_180 0 91 (dk_at dksX3_join_3 0 rfl rfl)
theorem dX3_join_75 : decode cX3_join 75 = .ok (.dup_x1, 1) := dk_90 (dk_at dksX3_join_3 3 rfl rfl)
theorem dX3_join_76 : decode cX3_join 76 = .ok (.iconst 1, 1) := dk_4 (dk_at dksX3_join_3 4 rfl rfl)
theorem dX3_join_77 : decode cX3_join 77 = .ok (.iadd, 1) := dk_96 (dk_at dksX3_join_3 5 rfl rfl)
theorem dX3_join_78 : decode cX3_join 78 = .ok (.putfield 91, 3) := dk_181 0 91 (dk_at dksX3_join_3 6 rfl rfl)
theorem dX3_join_81 : decode cX3_join 81 = .ok (.ireturn, 1) := dk_172 (dk_at dksX3_join_3 9 rfl rfl)
abbrev cX3_mayJoin : ByteArray := prog_17_method_80_code
def yX3_mayJoin : MethodName := ⟨RX3, "mayJoin", "(II)Z"⟩
def dkwX3_mayJoin_1 : List UInt8 := [42, 28, 182, 0, 98, 96, 6, 163, 0, 7, 4, 167, 0, 4, 3, 172]
abbrev dktX3_mayJoin_1 : List UInt8 := dkwX3_mayJoin_1 ++ []
def dkwX3_mayJoin_0 : List UInt8 := [42, 180, 0, 45, 27, 50, 3, 46, 42, 180, 0, 45, 28, 50, 3, 46, 160, 0, 22, 42, 27, 182, 0, 98]
abbrev dktX3_mayJoin_0 : List UInt8 := dkwX3_mayJoin_0 ++ dktX3_mayJoin_1
theorem dksX3_mayJoin_0 : cX3_mayJoin.data.toList.drop 0 = dktX3_mayJoin_0 := by decide +kernel
theorem dksX3_mayJoin_1 : cX3_mayJoin.data.toList.drop 24 = dktX3_mayJoin_1 := dk_seg dksX3_mayJoin_0 24 rfl rfl
theorem dX3_mayJoin_0 : decode cX3_mayJoin 0 = .ok (.aload_n 0, 1) := dk_42 (dk_at dksX3_mayJoin_0 0 rfl rfl)
theorem dX3_mayJoin_1 : decode cX3_mayJoin 1 = .ok (.getfield 45, 3) := dk_180 0 45 (dk_at dksX3_mayJoin_0 1 rfl rfl)
theorem dX3_mayJoin_4 : decode cX3_mayJoin 4 = .ok (.iload_n 1, 1) := dk_27 (dk_at dksX3_mayJoin_0 4 rfl rfl)
theorem dX3_mayJoin_5 : decode cX3_mayJoin 5 = .ok (.aaload, 1) := dk_50 (dk_at dksX3_mayJoin_0 5 rfl rfl)
theorem dX3_mayJoin_6 : decode cX3_mayJoin 6 = .ok (.iconst 0, 1) := dk_3 (dk_at dksX3_mayJoin_0 6 rfl rfl)
theorem dX3_mayJoin_7 : decode cX3_mayJoin 7 = .ok (.iaload, 1) := dk_46 (dk_at dksX3_mayJoin_0 7 rfl rfl)
theorem dX3_mayJoin_8 : decode cX3_mayJoin 8 = .ok (.aload_n 0, 1) := dk_42 (dk_at dksX3_mayJoin_0 8 rfl rfl)
theorem dX3_mayJoin_9 : decode cX3_mayJoin 9 = .ok (.getfield 45, 3) := dk_180 0 45 (dk_at dksX3_mayJoin_0 9 rfl rfl)
theorem dX3_mayJoin_12 : decode cX3_mayJoin 12 = .ok (.iload_n 2, 1) := dk_28 (dk_at dksX3_mayJoin_0 12 rfl rfl)
theorem dX3_mayJoin_13 : decode cX3_mayJoin 13 = .ok (.aaload, 1) := dk_50 (dk_at dksX3_mayJoin_0 13 rfl rfl)
theorem dX3_mayJoin_14 : decode cX3_mayJoin 14 = .ok (.iconst 0, 1) := dk_3 (dk_at dksX3_mayJoin_0 14 rfl rfl)
theorem dX3_mayJoin_15 : decode cX3_mayJoin 15 = .ok (.iaload, 1) := dk_46 (dk_at dksX3_mayJoin_0 15 rfl rfl)
theorem dX3_mayJoin_16 : decode cX3_mayJoin 16 = .ok (.if_icmp .ne 22, 3) := dk_160 0 22 (dk_at dksX3_mayJoin_0 16 rfl rfl)
theorem dX3_mayJoin_19 : decode cX3_mayJoin 19 = .ok (.aload_n 0, 1) := dk_42 (dk_at dksX3_mayJoin_0 19 rfl rfl)
theorem dX3_mayJoin_20 : decode cX3_mayJoin 20 = .ok (.iload_n 1, 1) := dk_27 (dk_at dksX3_mayJoin_0 20 rfl rfl)
theorem dX3_mayJoin_21 : decode cX3_mayJoin 21 = .ok (.invokevirtual 98, 3) := dk_182 0 98 (dk_at dksX3_mayJoin_0 21 rfl rfl)
theorem dX3_mayJoin_24 : decode cX3_mayJoin 24 = .ok (.aload_n 0, 1) := dk_42 (dk_at dksX3_mayJoin_1 0 rfl rfl)
theorem dX3_mayJoin_25 : decode cX3_mayJoin 25 = .ok (.iload_n 2, 1) := dk_28 (dk_at dksX3_mayJoin_1 1 rfl rfl)
theorem dX3_mayJoin_26 : decode cX3_mayJoin 26 = .ok (.invokevirtual 98, 3) := dk_182 0 98 (dk_at dksX3_mayJoin_1 2 rfl rfl)
theorem dX3_mayJoin_29 : decode cX3_mayJoin 29 = .ok (.iadd, 1) := dk_96 (dk_at dksX3_mayJoin_1 5 rfl rfl)
theorem dX3_mayJoin_30 : decode cX3_mayJoin 30 = .ok (.iconst 3, 1) := dk_6 (dk_at dksX3_mayJoin_1 6 rfl rfl)
theorem dX3_mayJoin_31 : decode cX3_mayJoin 31 = .ok (.if_icmp .gt 7, 3) := dk_163 0 7 (dk_at dksX3_mayJoin_1 7 rfl rfl)
theorem dX3_mayJoin_34 : decode cX3_mayJoin 34 = .ok (.iconst 1, 1) := dk_4 (dk_at dksX3_mayJoin_1 10 rfl rfl)
theorem dX3_mayJoin_35 : decode cX3_mayJoin 35 = .ok (.goto 4, 3) := dk_167 0 4 (dk_at dksX3_mayJoin_1 11 rfl rfl)
theorem dX3_mayJoin_38 : decode cX3_mayJoin 38 = .ok (.iconst 0, 1) := dk_3 (dk_at dksX3_mayJoin_1 14 rfl rfl)
theorem dX3_mayJoin_39 : decode cX3_mayJoin 39 = .ok (.ireturn, 1) := dk_172 (dk_at dksX3_mayJoin_1 15 rfl rfl)
abbrev cX3_joinTo : ByteArray := prog_17_method_81_code
def yX3_joinTo : MethodName := ⟨RX3, "joinTo", "(III)V"⟩
def dkwX3_joinTo_4 : List UInt8 := [42, 27, 182, 0, 98, 42, 28, 182, 0, 98, 96, 79, 177]
abbrev dktX3_joinTo_4 : List UInt8 := dkwX3_joinTo_4 ++ []
def dkwX3_joinTo_3 : List UInt8 := [180, 0, 45, 28, 50, 8, 21, 4, 96, 46, 79, 132, 4, 1, 167, 255, 211, 42, 180, 0, 45, 29, 50, 7]
abbrev dktX3_joinTo_3 : List UInt8 := dkwX3_joinTo_3 ++ dktX3_joinTo_4
def dkwX3_joinTo_2 : List UInt8 := [162, 0, 39, 42, 180, 0, 45, 29, 50, 8, 8, 42, 27, 182, 0, 98, 104, 96, 21, 4, 96, 42]
abbrev dktX3_joinTo_2 : List UInt8 := dkwX3_joinTo_2 ++ dktX3_joinTo_3
def dkwX3_joinTo_1 : List UInt8 := [21, 4, 46, 79, 132, 4, 1, 167, 255, 228, 3, 54, 4, 21, 4, 8, 42, 28, 182, 0, 98, 104]
abbrev dktX3_joinTo_1 : List UInt8 := dkwX3_joinTo_1 ++ dktX3_joinTo_2
def dkwX3_joinTo_0 : List UInt8 := [3, 54, 4, 21, 4, 16, 20, 162, 0, 27, 42, 180, 0, 45, 29, 50, 21, 4, 42, 180, 0, 45, 27, 50]
abbrev dktX3_joinTo_0 : List UInt8 := dkwX3_joinTo_0 ++ dktX3_joinTo_1
theorem dksX3_joinTo_0 : cX3_joinTo.data.toList.drop 0 = dktX3_joinTo_0 := by decide +kernel
theorem dksX3_joinTo_1 : cX3_joinTo.data.toList.drop 24 = dktX3_joinTo_1 := dk_seg dksX3_joinTo_0 24 rfl rfl
theorem dksX3_joinTo_2 : cX3_joinTo.data.toList.drop 46 = dktX3_joinTo_2 := dk_seg dksX3_joinTo_1 22 rfl rfl
theorem dksX3_joinTo_3 : cX3_joinTo.data.toList.drop 68 = dktX3_joinTo_3 := dk_seg dksX3_joinTo_2 22 rfl rfl
theorem dksX3_joinTo_4 : cX3_joinTo.data.toList.drop 92 = dktX3_joinTo_4 := dk_seg dksX3_joinTo_3 24 rfl rfl
theorem dX3_joinTo_0 : decode cX3_joinTo 0 = .ok (.iconst 0, 1) := dk_3 (dk_at dksX3_joinTo_0 0 rfl rfl)
theorem dX3_joinTo_1 : decode cX3_joinTo 1 = .ok (.istore 4, 2) := dk_54 4 (dk_at dksX3_joinTo_0 1 rfl rfl)
theorem dX3_joinTo_3 : decode cX3_joinTo 3 = .ok (.iload 4, 2) := dk_21 4 (dk_at dksX3_joinTo_0 3 rfl rfl)
theorem dX3_joinTo_5 : decode cX3_joinTo 5 = .ok (.bipush 20, 2) := dk_16 20 (dk_at dksX3_joinTo_0 5 rfl rfl)
theorem dX3_joinTo_7 : decode cX3_joinTo 7 = .ok (.if_icmp .ge 27, 3) := dk_162 0 27 (dk_at dksX3_joinTo_0 7 rfl rfl)
theorem dX3_joinTo_10 : decode cX3_joinTo 10 = .ok (.aload_n 0, 1) := dk_42 (dk_at dksX3_joinTo_0 10 rfl rfl)
theorem dX3_joinTo_11 : decode cX3_joinTo 11 = .ok (.getfield 45, 3) := dk_180 0 45 (dk_at dksX3_joinTo_0 11 rfl rfl)
theorem dX3_joinTo_14 : decode cX3_joinTo 14 = .ok (.iload_n 3, 1) := dk_29 (dk_at dksX3_joinTo_0 14 rfl rfl)
theorem dX3_joinTo_15 : decode cX3_joinTo 15 = .ok (.aaload, 1) := dk_50 (dk_at dksX3_joinTo_0 15 rfl rfl)
theorem dX3_joinTo_16 : decode cX3_joinTo 16 = .ok (.iload 4, 2) := dk_21 4 (dk_at dksX3_joinTo_0 16 rfl rfl)
theorem dX3_joinTo_18 : decode cX3_joinTo 18 = .ok (.aload_n 0, 1) := dk_42 (dk_at dksX3_joinTo_0 18 rfl rfl)
theorem dX3_joinTo_19 : decode cX3_joinTo 19 = .ok (.getfield 45, 3) := dk_180 0 45 (dk_at dksX3_joinTo_0 19 rfl rfl)
theorem dX3_joinTo_22 : decode cX3_joinTo 22 = .ok (.iload_n 1, 1) := dk_27 (dk_at dksX3_joinTo_0 22 rfl rfl)
theorem dX3_joinTo_23 : decode cX3_joinTo 23 = .ok (.aaload, 1) := dk_50 (dk_at dksX3_joinTo_0 23 rfl rfl)
theorem dX3_joinTo_24 : decode cX3_joinTo 24 = .ok (.iload 4, 2) := dk_21 4 (dk_at dksX3_joinTo_1 0 rfl rfl)
theorem dX3_joinTo_26 : decode cX3_joinTo 26 = .ok (.iaload, 1) := dk_46 (dk_at dksX3_joinTo_1 2 rfl rfl)
theorem dX3_joinTo_27 : decode cX3_joinTo 27 = .ok (.iastore, 1) := dk_79 (dk_at dksX3_joinTo_1 3 rfl rfl)
theorem dX3_joinTo_28 : decode cX3_joinTo 28 = .ok (.iinc 4 1, 3) := dk_132 4 1 (dk_at dksX3_joinTo_1 4 rfl rfl)
theorem dX3_joinTo_31 : decode cX3_joinTo 31 = .ok (.goto (-28), 3) := dk_167 255 228 (dk_at dksX3_joinTo_1 7 rfl rfl)
theorem dX3_joinTo_34 : decode cX3_joinTo 34 = .ok (.iconst 0, 1) := dk_3 (dk_at dksX3_joinTo_1 10 rfl rfl)
theorem dX3_joinTo_35 : decode cX3_joinTo 35 = .ok (.istore 4, 2) := dk_54 4 (dk_at dksX3_joinTo_1 11 rfl rfl)
theorem dX3_joinTo_37 : decode cX3_joinTo 37 = .ok (.iload 4, 2) := dk_21 4 (dk_at dksX3_joinTo_1 13 rfl rfl)
theorem dX3_joinTo_39 : decode cX3_joinTo 39 = .ok (.iconst 5, 1) := dk_8 (dk_at dksX3_joinTo_1 15 rfl rfl)
theorem dX3_joinTo_40 : decode cX3_joinTo 40 = .ok (.aload_n 0, 1) := dk_42 (dk_at dksX3_joinTo_1 16 rfl rfl)
theorem dX3_joinTo_41 : decode cX3_joinTo 41 = .ok (.iload_n 2, 1) := dk_28 (dk_at dksX3_joinTo_1 17 rfl rfl)
theorem dX3_joinTo_42 : decode cX3_joinTo 42 = .ok (.invokevirtual 98, 3) := dk_182 0 98 (dk_at dksX3_joinTo_1 18 rfl rfl)
theorem dX3_joinTo_45 : decode cX3_joinTo 45 = .ok (.imul, 1) := dk_104 (dk_at dksX3_joinTo_1 21 rfl rfl)
theorem dX3_joinTo_46 : decode cX3_joinTo 46 = .ok (.if_icmp .ge 39, 3) := dk_162 0 39 (dk_at dksX3_joinTo_2 0 rfl rfl)
theorem dX3_joinTo_49 : decode cX3_joinTo 49 = .ok (.aload_n 0, 1) := dk_42 (dk_at dksX3_joinTo_2 3 rfl rfl)
theorem dX3_joinTo_50 : decode cX3_joinTo 50 = .ok (.getfield 45, 3) := dk_180 0 45 (dk_at dksX3_joinTo_2 4 rfl rfl)
theorem dX3_joinTo_53 : decode cX3_joinTo 53 = .ok (.iload_n 3, 1) := dk_29 (dk_at dksX3_joinTo_2 7 rfl rfl)
theorem dX3_joinTo_54 : decode cX3_joinTo 54 = .ok (.aaload, 1) := dk_50 (dk_at dksX3_joinTo_2 8 rfl rfl)
theorem dX3_joinTo_55 : decode cX3_joinTo 55 = .ok (.iconst 5, 1) := dk_8 (dk_at dksX3_joinTo_2 9 rfl rfl)
theorem dX3_joinTo_56 : decode cX3_joinTo 56 = .ok (.iconst 5, 1) := dk_8 (dk_at dksX3_joinTo_2 10 rfl rfl)
theorem dX3_joinTo_57 : decode cX3_joinTo 57 = .ok (.aload_n 0, 1) := dk_42 (dk_at dksX3_joinTo_2 11 rfl rfl)
theorem dX3_joinTo_58 : decode cX3_joinTo 58 = .ok (.iload_n 1, 1) := dk_27 (dk_at dksX3_joinTo_2 12 rfl rfl)
theorem dX3_joinTo_59 : decode cX3_joinTo 59 = .ok (.invokevirtual 98, 3) := dk_182 0 98 (dk_at dksX3_joinTo_2 13 rfl rfl)
theorem dX3_joinTo_62 : decode cX3_joinTo 62 = .ok (.imul, 1) := dk_104 (dk_at dksX3_joinTo_2 16 rfl rfl)
theorem dX3_joinTo_63 : decode cX3_joinTo 63 = .ok (.iadd, 1) := dk_96 (dk_at dksX3_joinTo_2 17 rfl rfl)
theorem dX3_joinTo_64 : decode cX3_joinTo 64 = .ok (.iload 4, 2) := dk_21 4 (dk_at dksX3_joinTo_2 18 rfl rfl)
theorem dX3_joinTo_66 : decode cX3_joinTo 66 = .ok (.iadd, 1) := dk_96 (dk_at dksX3_joinTo_2 20 rfl rfl)
theorem dX3_joinTo_67 : decode cX3_joinTo 67 = .ok (.aload_n 0, 1) := dk_42 (dk_at dksX3_joinTo_2 21 rfl rfl)
theorem dX3_joinTo_68 : decode cX3_joinTo 68 = .ok (.getfield 45, 3) := dk_180 0 45 (dk_at dksX3_joinTo_3 0 rfl rfl)
theorem dX3_joinTo_71 : decode cX3_joinTo 71 = .ok (.iload_n 2, 1) := dk_28 (dk_at dksX3_joinTo_3 3 rfl rfl)
theorem dX3_joinTo_72 : decode cX3_joinTo 72 = .ok (.aaload, 1) := dk_50 (dk_at dksX3_joinTo_3 4 rfl rfl)
theorem dX3_joinTo_73 : decode cX3_joinTo 73 = .ok (.iconst 5, 1) := dk_8 (dk_at dksX3_joinTo_3 5 rfl rfl)
theorem dX3_joinTo_74 : decode cX3_joinTo 74 = .ok (.iload 4, 2) := dk_21 4 (dk_at dksX3_joinTo_3 6 rfl rfl)
theorem dX3_joinTo_76 : decode cX3_joinTo 76 = .ok (.iadd, 1) := dk_96 (dk_at dksX3_joinTo_3 8 rfl rfl)
theorem dX3_joinTo_77 : decode cX3_joinTo 77 = .ok (.iaload, 1) := dk_46 (dk_at dksX3_joinTo_3 9 rfl rfl)
theorem dX3_joinTo_78 : decode cX3_joinTo 78 = .ok (.iastore, 1) := dk_79 (dk_at dksX3_joinTo_3 10 rfl rfl)
theorem dX3_joinTo_79 : decode cX3_joinTo 79 = .ok (.iinc 4 1, 3) := dk_132 4 1 (dk_at dksX3_joinTo_3 11 rfl rfl)
theorem dX3_joinTo_82 : decode cX3_joinTo 82 = .ok (.goto (-45), 3) := dk_167 255 211 (dk_at dksX3_joinTo_3 14 rfl rfl)
theorem dX3_joinTo_85 : decode cX3_joinTo 85 = .ok (.aload_n 0, 1) := dk_42 (dk_at dksX3_joinTo_3 17 rfl rfl)
theorem dX3_joinTo_86 : decode cX3_joinTo 86 = .ok (.getfield 45, 3) := dk_180 0 45 (dk_at dksX3_joinTo_3 18 rfl rfl)
theorem dX3_joinTo_89 : decode cX3_joinTo 89 = .ok (.iload_n 3, 1) := dk_29 (dk_at dksX3_joinTo_3 21 rfl rfl)
theorem dX3_joinTo_90 : decode cX3_joinTo 90 = .ok (.aaload, 1) := dk_50 (dk_at dksX3_joinTo_3 22 rfl rfl)
theorem dX3_joinTo_91 : decode cX3_joinTo 91 = .ok (.iconst 4, 1) := dk_7 (dk_at dksX3_joinTo_3 23 rfl rfl)
theorem dX3_joinTo_92 : decode cX3_joinTo 92 = .ok (.aload_n 0, 1) := dk_42 (dk_at dksX3_joinTo_4 0 rfl rfl)
theorem dX3_joinTo_93 : decode cX3_joinTo 93 = .ok (.iload_n 1, 1) := dk_27 (dk_at dksX3_joinTo_4 1 rfl rfl)
theorem dX3_joinTo_94 : decode cX3_joinTo 94 = .ok (.invokevirtual 98, 3) := dk_182 0 98 (dk_at dksX3_joinTo_4 2 rfl rfl)
theorem dX3_joinTo_97 : decode cX3_joinTo 97 = .ok (.aload_n 0, 1) := dk_42 (dk_at dksX3_joinTo_4 5 rfl rfl)
theorem dX3_joinTo_98 : decode cX3_joinTo 98 = .ok (.iload_n 2, 1) := dk_28 (dk_at dksX3_joinTo_4 6 rfl rfl)
theorem dX3_joinTo_99 : decode cX3_joinTo 99 = .ok (.invokevirtual 98, 3) := dk_182 0 98 (dk_at dksX3_joinTo_4 7 rfl rfl)
theorem dX3_joinTo_102 : decode cX3_joinTo 102 = .ok (.iadd, 1) := dk_96 (dk_at dksX3_joinTo_4 10 rfl rfl)
theorem dX3_joinTo_103 : decode cX3_joinTo 103 = .ok (.iastore, 1) := dk_79 (dk_at dksX3_joinTo_4 11 rfl rfl)
theorem dX3_joinTo_104 : decode cX3_joinTo 104 = .ok (.return_, 1) := dk_177 (dk_at dksX3_joinTo_4 12 rfl rfl)
abbrev cX3_saved : ByteArray := prog_17_method_84_code
def yX3_saved : MethodName := ⟨RX3, "saved", "(II)J"⟩
def dkwX3_saved_5 : List UInt8 := [22, 10, 9, 148, 156, 0, 7, 9, 167, 0, 5, 22, 10, 173]
abbrev dktX3_saved_5 : List UInt8 := dkwX3_saved_5 ++ []
def dkwX3_saved_4 : List UInt8 := [42, 28, 29, 182, 0, 242, 109, 105, 55, 8, 22, 6, 22, 8, 97, 42, 16, 6, 182, 1, 70, 101, 55, 10]
abbrev dktX3_saved_4 : List UInt8 := dkwX3_saved_4 ++ dktX3_saved_5
def dkwX3_saved_3 : List UInt8 := [42, 27, 182, 1, 70, 22, 4, 42, 27, 29, 182, 0, 242, 109, 105, 55, 6, 42, 28, 182, 1, 70, 22, 4]
abbrev dktX3_saved_3 : List UInt8 := dkwX3_saved_3 ++ dktX3_saved_4
def dkwX3_saved_2 : List UInt8 := [28, 16, 6, 182, 1, 66, 42, 180, 0, 45, 27, 50, 3, 46, 62, 42, 16, 6, 29, 182, 0, 242, 55, 4]
abbrev dktX3_saved_2 : List UInt8 := dkwX3_saved_2 ++ dktX3_saved_3
def dkwX3_saved_1 : List UInt8 := [182, 0, 119, 133, 173, 42, 27, 28, 182, 1, 63, 154, 0, 11, 42, 16, 251, 182, 0, 119, 133, 173, 42, 27]
abbrev dktX3_saved_1 : List UInt8 := dkwX3_saved_1 ++ dktX3_saved_2
def dkwX3_saved_0 : List UInt8 := [42, 27, 182, 0, 106, 153, 0, 16, 42, 28, 182, 0, 106, 153, 0, 8, 27, 28, 160, 0, 11, 42, 16, 254]
abbrev dktX3_saved_0 : List UInt8 := dkwX3_saved_0 ++ dktX3_saved_1
theorem dksX3_saved_0 : cX3_saved.data.toList.drop 0 = dktX3_saved_0 := by decide +kernel
theorem dksX3_saved_1 : cX3_saved.data.toList.drop 24 = dktX3_saved_1 := dk_seg dksX3_saved_0 24 rfl rfl
theorem dksX3_saved_2 : cX3_saved.data.toList.drop 48 = dktX3_saved_2 := dk_seg dksX3_saved_1 24 rfl rfl
theorem dksX3_saved_3 : cX3_saved.data.toList.drop 72 = dktX3_saved_3 := dk_seg dksX3_saved_2 24 rfl rfl
theorem dksX3_saved_4 : cX3_saved.data.toList.drop 96 = dktX3_saved_4 := dk_seg dksX3_saved_3 24 rfl rfl
theorem dksX3_saved_5 : cX3_saved.data.toList.drop 120 = dktX3_saved_5 := dk_seg dksX3_saved_4 24 rfl rfl
theorem dX3_saved_0 : decode cX3_saved 0 = .ok (.aload_n 0, 1) := dk_42 (dk_at dksX3_saved_0 0 rfl rfl)
theorem dX3_saved_1 : decode cX3_saved 1 = .ok (.iload_n 1, 1) := dk_27 (dk_at dksX3_saved_0 1 rfl rfl)
theorem dX3_saved_2 : decode cX3_saved 2 = .ok (.invokevirtual 106, 3) := dk_182 0 106 (dk_at dksX3_saved_0 2 rfl rfl)
theorem dX3_saved_5 : decode cX3_saved 5 = .ok (.ifCond .eq 16, 3) := dk_153 0 16 (dk_at dksX3_saved_0 5 rfl rfl)
theorem dX3_saved_8 : decode cX3_saved 8 = .ok (.aload_n 0, 1) := dk_42 (dk_at dksX3_saved_0 8 rfl rfl)
theorem dX3_saved_9 : decode cX3_saved 9 = .ok (.iload_n 2, 1) := dk_28 (dk_at dksX3_saved_0 9 rfl rfl)
theorem dX3_saved_10 : decode cX3_saved 10 = .ok (.invokevirtual 106, 3) := dk_182 0 106 (dk_at dksX3_saved_0 10 rfl rfl)
theorem dX3_saved_13 : decode cX3_saved 13 = .ok (.ifCond .eq 8, 3) := dk_153 0 8 (dk_at dksX3_saved_0 13 rfl rfl)
theorem dX3_saved_16 : decode cX3_saved 16 = .ok (.iload_n 1, 1) := dk_27 (dk_at dksX3_saved_0 16 rfl rfl)
theorem dX3_saved_17 : decode cX3_saved 17 = .ok (.iload_n 2, 1) := dk_28 (dk_at dksX3_saved_0 17 rfl rfl)
theorem dX3_saved_18 : decode cX3_saved 18 = .ok (.if_icmp .ne 11, 3) := dk_160 0 11 (dk_at dksX3_saved_0 18 rfl rfl)
theorem dX3_saved_21 : decode cX3_saved 21 = .ok (.aload_n 0, 1) := dk_42 (dk_at dksX3_saved_0 21 rfl rfl)
theorem dX3_saved_22 : decode cX3_saved 22 = .ok (.bipush (-2), 2) := dk_16 254 (dk_at dksX3_saved_0 22 rfl rfl)
theorem dX3_saved_24 : decode cX3_saved 24 = .ok (.invokevirtual 119, 3) := dk_182 0 119 (dk_at dksX3_saved_1 0 rfl rfl)
theorem dX3_saved_27 : decode cX3_saved 27 = .ok (.i2l, 1) := dk_133 (dk_at dksX3_saved_1 3 rfl rfl)
theorem dX3_saved_28 : decode cX3_saved 28 = .ok (.lreturn, 1) := dk_173 (dk_at dksX3_saved_1 4 rfl rfl)
theorem dX3_saved_29 : decode cX3_saved 29 = .ok (.aload_n 0, 1) := dk_42 (dk_at dksX3_saved_1 5 rfl rfl)
theorem dX3_saved_30 : decode cX3_saved 30 = .ok (.iload_n 1, 1) := dk_27 (dk_at dksX3_saved_1 6 rfl rfl)
theorem dX3_saved_31 : decode cX3_saved 31 = .ok (.iload_n 2, 1) := dk_28 (dk_at dksX3_saved_1 7 rfl rfl)
theorem dX3_saved_32 : decode cX3_saved 32 = .ok (.invokevirtual 319, 3) := dk_182 1 63 (dk_at dksX3_saved_1 8 rfl rfl)
theorem dX3_saved_35 : decode cX3_saved 35 = .ok (.ifCond .ne 11, 3) := dk_154 0 11 (dk_at dksX3_saved_1 11 rfl rfl)
theorem dX3_saved_38 : decode cX3_saved 38 = .ok (.aload_n 0, 1) := dk_42 (dk_at dksX3_saved_1 14 rfl rfl)
theorem dX3_saved_39 : decode cX3_saved 39 = .ok (.bipush (-5), 2) := dk_16 251 (dk_at dksX3_saved_1 15 rfl rfl)
theorem dX3_saved_41 : decode cX3_saved 41 = .ok (.invokevirtual 119, 3) := dk_182 0 119 (dk_at dksX3_saved_1 17 rfl rfl)
theorem dX3_saved_44 : decode cX3_saved 44 = .ok (.i2l, 1) := dk_133 (dk_at dksX3_saved_1 20 rfl rfl)
theorem dX3_saved_45 : decode cX3_saved 45 = .ok (.lreturn, 1) := dk_173 (dk_at dksX3_saved_1 21 rfl rfl)
theorem dX3_saved_46 : decode cX3_saved 46 = .ok (.aload_n 0, 1) := dk_42 (dk_at dksX3_saved_1 22 rfl rfl)
theorem dX3_saved_47 : decode cX3_saved 47 = .ok (.iload_n 1, 1) := dk_27 (dk_at dksX3_saved_1 23 rfl rfl)
theorem dX3_saved_48 : decode cX3_saved 48 = .ok (.iload_n 2, 1) := dk_28 (dk_at dksX3_saved_2 0 rfl rfl)
theorem dX3_saved_49 : decode cX3_saved 49 = .ok (.bipush 6, 2) := dk_16 6 (dk_at dksX3_saved_2 1 rfl rfl)
theorem dX3_saved_51 : decode cX3_saved 51 = .ok (.invokevirtual 322, 3) := dk_182 1 66 (dk_at dksX3_saved_2 3 rfl rfl)
theorem dX3_saved_54 : decode cX3_saved 54 = .ok (.aload_n 0, 1) := dk_42 (dk_at dksX3_saved_2 6 rfl rfl)
theorem dX3_saved_55 : decode cX3_saved 55 = .ok (.getfield 45, 3) := dk_180 0 45 (dk_at dksX3_saved_2 7 rfl rfl)
theorem dX3_saved_58 : decode cX3_saved 58 = .ok (.iload_n 1, 1) := dk_27 (dk_at dksX3_saved_2 10 rfl rfl)
theorem dX3_saved_59 : decode cX3_saved 59 = .ok (.aaload, 1) := dk_50 (dk_at dksX3_saved_2 11 rfl rfl)
theorem dX3_saved_60 : decode cX3_saved 60 = .ok (.iconst 0, 1) := dk_3 (dk_at dksX3_saved_2 12 rfl rfl)
theorem dX3_saved_61 : decode cX3_saved 61 = .ok (.iaload, 1) := dk_46 (dk_at dksX3_saved_2 13 rfl rfl)
theorem dX3_saved_62 : decode cX3_saved 62 = .ok (.istore_n 3, 1) := dk_62 (dk_at dksX3_saved_2 14 rfl rfl)
theorem dX3_saved_63 : decode cX3_saved 63 = .ok (.aload_n 0, 1) := dk_42 (dk_at dksX3_saved_2 15 rfl rfl)
theorem dX3_saved_64 : decode cX3_saved 64 = .ok (.bipush 6, 2) := dk_16 6 (dk_at dksX3_saved_2 16 rfl rfl)
theorem dX3_saved_66 : decode cX3_saved 66 = .ok (.iload_n 3, 1) := dk_29 (dk_at dksX3_saved_2 18 rfl rfl)
theorem dX3_saved_67 : decode cX3_saved 67 = .ok (.invokevirtual 242, 3) := dk_182 0 242 (dk_at dksX3_saved_2 19 rfl rfl)
theorem dX3_saved_70 : decode cX3_saved 70 = .ok (.lstore 4, 2) := dk_55 4 (dk_at dksX3_saved_2 22 rfl rfl)
theorem dX3_saved_72 : decode cX3_saved 72 = .ok (.aload_n 0, 1) := dk_42 (dk_at dksX3_saved_3 0 rfl rfl)
theorem dX3_saved_73 : decode cX3_saved 73 = .ok (.iload_n 1, 1) := dk_27 (dk_at dksX3_saved_3 1 rfl rfl)
theorem dX3_saved_74 : decode cX3_saved 74 = .ok (.invokevirtual 326, 3) := dk_182 1 70 (dk_at dksX3_saved_3 2 rfl rfl)
theorem dX3_saved_77 : decode cX3_saved 77 = .ok (.lload 4, 2) := dk_22 4 (dk_at dksX3_saved_3 5 rfl rfl)
theorem dX3_saved_79 : decode cX3_saved 79 = .ok (.aload_n 0, 1) := dk_42 (dk_at dksX3_saved_3 7 rfl rfl)
theorem dX3_saved_80 : decode cX3_saved 80 = .ok (.iload_n 1, 1) := dk_27 (dk_at dksX3_saved_3 8 rfl rfl)
theorem dX3_saved_81 : decode cX3_saved 81 = .ok (.iload_n 3, 1) := dk_29 (dk_at dksX3_saved_3 9 rfl rfl)
theorem dX3_saved_82 : decode cX3_saved 82 = .ok (.invokevirtual 242, 3) := dk_182 0 242 (dk_at dksX3_saved_3 10 rfl rfl)
theorem dX3_saved_85 : decode cX3_saved 85 = .ok (.ldiv, 1) := dk_109 (dk_at dksX3_saved_3 13 rfl rfl)
theorem dX3_saved_86 : decode cX3_saved 86 = .ok (.lmul, 1) := dk_105 (dk_at dksX3_saved_3 14 rfl rfl)
theorem dX3_saved_87 : decode cX3_saved 87 = .ok (.lstore 6, 2) := dk_55 6 (dk_at dksX3_saved_3 15 rfl rfl)
theorem dX3_saved_89 : decode cX3_saved 89 = .ok (.aload_n 0, 1) := dk_42 (dk_at dksX3_saved_3 17 rfl rfl)
theorem dX3_saved_90 : decode cX3_saved 90 = .ok (.iload_n 2, 1) := dk_28 (dk_at dksX3_saved_3 18 rfl rfl)
theorem dX3_saved_91 : decode cX3_saved 91 = .ok (.invokevirtual 326, 3) := dk_182 1 70 (dk_at dksX3_saved_3 19 rfl rfl)
theorem dX3_saved_94 : decode cX3_saved 94 = .ok (.lload 4, 2) := dk_22 4 (dk_at dksX3_saved_3 22 rfl rfl)
theorem dX3_saved_96 : decode cX3_saved 96 = .ok (.aload_n 0, 1) := dk_42 (dk_at dksX3_saved_4 0 rfl rfl)
theorem dX3_saved_97 : decode cX3_saved 97 = .ok (.iload_n 2, 1) := dk_28 (dk_at dksX3_saved_4 1 rfl rfl)
theorem dX3_saved_98 : decode cX3_saved 98 = .ok (.iload_n 3, 1) := dk_29 (dk_at dksX3_saved_4 2 rfl rfl)
theorem dX3_saved_99 : decode cX3_saved 99 = .ok (.invokevirtual 242, 3) := dk_182 0 242 (dk_at dksX3_saved_4 3 rfl rfl)
theorem dX3_saved_102 : decode cX3_saved 102 = .ok (.ldiv, 1) := dk_109 (dk_at dksX3_saved_4 6 rfl rfl)
theorem dX3_saved_103 : decode cX3_saved 103 = .ok (.lmul, 1) := dk_105 (dk_at dksX3_saved_4 7 rfl rfl)
theorem dX3_saved_104 : decode cX3_saved 104 = .ok (.lstore 8, 2) := dk_55 8 (dk_at dksX3_saved_4 8 rfl rfl)
theorem dX3_saved_106 : decode cX3_saved 106 = .ok (.lload 6, 2) := dk_22 6 (dk_at dksX3_saved_4 10 rfl rfl)
theorem dX3_saved_108 : decode cX3_saved 108 = .ok (.lload 8, 2) := dk_22 8 (dk_at dksX3_saved_4 12 rfl rfl)
theorem dX3_saved_110 : decode cX3_saved 110 = .ok (.ladd, 1) := dk_97 (dk_at dksX3_saved_4 14 rfl rfl)
theorem dX3_saved_111 : decode cX3_saved 111 = .ok (.aload_n 0, 1) := dk_42 (dk_at dksX3_saved_4 15 rfl rfl)
theorem dX3_saved_112 : decode cX3_saved 112 = .ok (.bipush 6, 2) := dk_16 6 (dk_at dksX3_saved_4 16 rfl rfl)
theorem dX3_saved_114 : decode cX3_saved 114 = .ok (.invokevirtual 326, 3) := dk_182 1 70 (dk_at dksX3_saved_4 18 rfl rfl)
theorem dX3_saved_117 : decode cX3_saved 117 = .ok (.lsub, 1) := dk_101 (dk_at dksX3_saved_4 21 rfl rfl)
theorem dX3_saved_118 : decode cX3_saved 118 = .ok (.lstore 10, 2) := dk_55 10 (dk_at dksX3_saved_4 22 rfl rfl)
theorem dX3_saved_120 : decode cX3_saved 120 = .ok (.lload 10, 2) := dk_22 10 (dk_at dksX3_saved_5 0 rfl rfl)
theorem dX3_saved_122 : decode cX3_saved 122 = .ok (.lconst 0, 1) := dk_9 (dk_at dksX3_saved_5 2 rfl rfl)
theorem dX3_saved_123 : decode cX3_saved 123 = .ok (.lcmp, 1) := dk_148 (dk_at dksX3_saved_5 3 rfl rfl)
theorem dX3_saved_124 : decode cX3_saved 124 = .ok (.ifCond .ge 7, 3) := dk_156 0 7 (dk_at dksX3_saved_5 4 rfl rfl)
theorem dX3_saved_127 : decode cX3_saved 127 = .ok (.lconst 0, 1) := dk_9 (dk_at dksX3_saved_5 7 rfl rfl)
theorem dX3_saved_128 : decode cX3_saved 128 = .ok (.goto 5, 3) := dk_167 0 5 (dk_at dksX3_saved_5 8 rfl rfl)
theorem dX3_saved_131 : decode cX3_saved 131 = .ok (.lload 10, 2) := dk_22 10 (dk_at dksX3_saved_5 11 rfl rfl)
theorem dX3_saved_133 : decode cX3_saved 133 = .ok (.lreturn, 1) := dk_173 (dk_at dksX3_saved_5 13 rfl rfl)
abbrev cX3_wholeCost : ByteArray := prog_17_method_83_code
def yX3_wholeCost : MethodName := ⟨RX3, "wholeCost", "(I)J"⟩
def dkwX3_wholeCost_0 : List UInt8 := [42, 27, 182, 1, 8, 42, 180, 0, 55, 42, 180, 0, 45, 27, 50, 3, 46, 50, 3, 47, 173]
abbrev dktX3_wholeCost_0 : List UInt8 := dkwX3_wholeCost_0 ++ []
theorem dksX3_wholeCost_0 : cX3_wholeCost.data.toList.drop 0 = dktX3_wholeCost_0 := by decide +kernel
theorem dX3_wholeCost_0 : decode cX3_wholeCost 0 = .ok (.aload_n 0, 1) := dk_42 (dk_at dksX3_wholeCost_0 0 rfl rfl)
theorem dX3_wholeCost_1 : decode cX3_wholeCost 1 = .ok (.iload_n 1, 1) := dk_27 (dk_at dksX3_wholeCost_0 1 rfl rfl)
theorem dX3_wholeCost_2 : decode cX3_wholeCost 2 = .ok (.invokevirtual 264, 3) := dk_182 1 8 (dk_at dksX3_wholeCost_0 2 rfl rfl)
theorem dX3_wholeCost_5 : decode cX3_wholeCost 5 = .ok (.aload_n 0, 1) := dk_42 (dk_at dksX3_wholeCost_0 5 rfl rfl)
theorem dX3_wholeCost_6 : decode cX3_wholeCost 6 = .ok (.getfield 55, 3) := dk_180 0 55 (dk_at dksX3_wholeCost_0 6 rfl rfl)
theorem dX3_wholeCost_9 : decode cX3_wholeCost 9 = .ok (.aload_n 0, 1) := dk_42 (dk_at dksX3_wholeCost_0 9 rfl rfl)
theorem dX3_wholeCost_10 : decode cX3_wholeCost 10 = .ok (.getfield 45, 3) := dk_180 0 45 (dk_at dksX3_wholeCost_0 10 rfl rfl)
theorem dX3_wholeCost_13 : decode cX3_wholeCost 13 = .ok (.iload_n 1, 1) := dk_27 (dk_at dksX3_wholeCost_0 13 rfl rfl)
theorem dX3_wholeCost_14 : decode cX3_wholeCost 14 = .ok (.aaload, 1) := dk_50 (dk_at dksX3_wholeCost_0 14 rfl rfl)
theorem dX3_wholeCost_15 : decode cX3_wholeCost 15 = .ok (.iconst 0, 1) := dk_3 (dk_at dksX3_wholeCost_0 15 rfl rfl)
theorem dX3_wholeCost_16 : decode cX3_wholeCost 16 = .ok (.iaload, 1) := dk_46 (dk_at dksX3_wholeCost_0 16 rfl rfl)
theorem dX3_wholeCost_17 : decode cX3_wholeCost 17 = .ok (.aaload, 1) := dk_50 (dk_at dksX3_wholeCost_0 17 rfl rfl)
theorem dX3_wholeCost_18 : decode cX3_wholeCost 18 = .ok (.iconst 0, 1) := dk_3 (dk_at dksX3_wholeCost_0 18 rfl rfl)
theorem dX3_wholeCost_19 : decode cX3_wholeCost 19 = .ok (.laload, 1) := dk_47 (dk_at dksX3_wholeCost_0 19 rfl rfl)
theorem dX3_wholeCost_20 : decode cX3_wholeCost 20 = .ok (.lreturn, 1) := dk_173 (dk_at dksX3_wholeCost_0 20 rfl rfl)
abbrev cX3_seed : ByteArray := prog_17_method_85_code
def yX3_seed : MethodName := ⟨RX3, "seed", "(I)I"⟩
def dkwX3_seed_0 : List UInt8 := [42, 180, 0, 48, 61, 42, 27, 181, 0, 48, 28, 172]
abbrev dktX3_seed_0 : List UInt8 := dkwX3_seed_0 ++ []
theorem dksX3_seed_0 : cX3_seed.data.toList.drop 0 = dktX3_seed_0 := by decide +kernel
theorem dX3_seed_0 : decode cX3_seed 0 = .ok (.aload_n 0, 1) := dk_42 (dk_at dksX3_seed_0 0 rfl rfl)
theorem dX3_seed_1 : decode cX3_seed 1 = .ok (.getfield 48, 3) := dk_180 0 48 (dk_at dksX3_seed_0 1 rfl rfl)
theorem dX3_seed_4 : decode cX3_seed 4 = .ok (.istore_n 2, 1) := dk_61 (dk_at dksX3_seed_0 4 rfl rfl)
theorem dX3_seed_5 : decode cX3_seed 5 = .ok (.aload_n 0, 1) := dk_42 (dk_at dksX3_seed_0 5 rfl rfl)
theorem dX3_seed_6 : decode cX3_seed 6 = .ok (.iload_n 1, 1) := dk_27 (dk_at dksX3_seed_0 6 rfl rfl)
theorem dX3_seed_7 : decode cX3_seed 7 = .ok (.putfield 48, 3) := dk_181 0 48 (dk_at dksX3_seed_0 7 rfl rfl)
theorem dX3_seed_10 : decode cX3_seed 10 = .ok (.iload_n 2, 1) := dk_28 (dk_at dksX3_seed_0 10 rfl rfl)
theorem dX3_seed_11 : decode cX3_seed 11 = .ok (.ireturn, 1) := dk_172 (dk_at dksX3_seed_0 11 rfl rfl)
abbrev cX3_begin : ByteArray := prog_17_method_88_code
def yX3_begin : MethodName := ⟨RX3, "begin", "(II)I"⟩
def dkwX3_begin_7 : List UInt8 := [181, 1, 99, 42, 3, 181, 1, 102, 42, 3, 181, 1, 105, 42, 3, 181, 1, 108, 42, 180, 1, 93, 172]
abbrev dktX3_begin_7 : List UInt8 := dkwX3_begin_7 ++ []
def dkwX3_begin_6 : List UInt8 := [181, 1, 90, 42, 42, 180, 0, 45, 27, 50, 3, 46, 181, 1, 93, 42, 3, 181, 1, 96, 42, 3]
abbrev dktX3_begin_6 : List UInt8 := dkwX3_begin_6 ++ dktX3_begin_7
def dkwX3_begin_5 : List UInt8 := [16, 8, 50, 21, 4, 42, 180, 0, 36, 28, 50, 21, 4, 46, 79, 132, 4, 1, 167, 255, 227, 42, 4]
abbrev dktX3_begin_5 : List UInt8 := dkwX3_begin_5 ++ dktX3_begin_6
def dkwX3_begin_4 : List UInt8 := [16, 8, 42, 180, 0, 31, 28, 46, 79, 3, 54, 4, 21, 4, 16, 125, 162, 0, 28, 42, 180, 0, 36]
abbrev dktX3_begin_4 : List UInt8 := dkwX3_begin_4 ++ dktX3_begin_5
def dkwX3_begin_3 : List UInt8 := [132, 4, 1, 167, 255, 227, 42, 180, 0, 28, 16, 8, 42, 180, 0, 28, 28, 46, 79, 42, 180, 0, 31]
abbrev dktX3_begin_3 : List UInt8 := dkwX3_begin_3 ++ dktX3_begin_4
def dkwX3_begin_2 : List UInt8 := [162, 0, 28, 42, 180, 0, 45, 16, 7, 50, 21, 4, 42, 180, 0, 45, 27, 50, 21, 4, 46, 79]
abbrev dktX3_begin_2 : List UInt8 := dkwX3_begin_2 ++ dktX3_begin_3
def dkwX3_begin_1 : List UInt8 := [182, 0, 119, 172, 42, 28, 182, 1, 15, 62, 29, 153, 0, 5, 29, 172, 3, 54, 4, 21, 4, 16, 20]
abbrev dktX3_begin_1 : List UInt8 := dkwX3_begin_1 ++ dktX3_begin_2
def dkwX3_begin_0 : List UInt8 := [42, 27, 182, 0, 106, 153, 0, 15, 28, 133, 9, 20, 0, 113, 184, 0, 94, 154, 0, 10, 42, 16, 254]
abbrev dktX3_begin_0 : List UInt8 := dkwX3_begin_0 ++ dktX3_begin_1
theorem dksX3_begin_0 : cX3_begin.data.toList.drop 0 = dktX3_begin_0 := by decide +kernel
theorem dksX3_begin_1 : cX3_begin.data.toList.drop 23 = dktX3_begin_1 := dk_seg dksX3_begin_0 23 rfl rfl
theorem dksX3_begin_2 : cX3_begin.data.toList.drop 46 = dktX3_begin_2 := dk_seg dksX3_begin_1 23 rfl rfl
theorem dksX3_begin_3 : cX3_begin.data.toList.drop 68 = dktX3_begin_3 := dk_seg dksX3_begin_2 22 rfl rfl
theorem dksX3_begin_4 : cX3_begin.data.toList.drop 91 = dktX3_begin_4 := dk_seg dksX3_begin_3 23 rfl rfl
theorem dksX3_begin_5 : cX3_begin.data.toList.drop 114 = dktX3_begin_5 := dk_seg dksX3_begin_4 23 rfl rfl
theorem dksX3_begin_6 : cX3_begin.data.toList.drop 137 = dktX3_begin_6 := dk_seg dksX3_begin_5 23 rfl rfl
theorem dksX3_begin_7 : cX3_begin.data.toList.drop 159 = dktX3_begin_7 := dk_seg dksX3_begin_6 22 rfl rfl
theorem dX3_begin_0 : decode cX3_begin 0 = .ok (.aload_n 0, 1) := dk_42 (dk_at dksX3_begin_0 0 rfl rfl)
theorem dX3_begin_1 : decode cX3_begin 1 = .ok (.iload_n 1, 1) := dk_27 (dk_at dksX3_begin_0 1 rfl rfl)
theorem dX3_begin_2 : decode cX3_begin 2 = .ok (.invokevirtual 106, 3) := dk_182 0 106 (dk_at dksX3_begin_0 2 rfl rfl)
theorem dX3_begin_5 : decode cX3_begin 5 = .ok (.ifCond .eq 15, 3) := dk_153 0 15 (dk_at dksX3_begin_0 5 rfl rfl)
theorem dX3_begin_8 : decode cX3_begin 8 = .ok (.iload_n 2, 1) := dk_28 (dk_at dksX3_begin_0 8 rfl rfl)
theorem dX3_begin_9 : decode cX3_begin 9 = .ok (.i2l, 1) := dk_133 (dk_at dksX3_begin_0 9 rfl rfl)
theorem dX3_begin_10 : decode cX3_begin 10 = .ok (.lconst 0, 1) := dk_9 (dk_at dksX3_begin_0 10 rfl rfl)
theorem dX3_begin_11 : decode cX3_begin 11 = .ok (.ldc2_w 113, 3) := dk_20 0 113 (dk_at dksX3_begin_0 11 rfl rfl)
theorem dX3_begin_14 : decode cX3_begin 14 = .ok (.invokestatic 94, 3) := dk_184 0 94 (dk_at dksX3_begin_0 14 rfl rfl)
theorem dX3_begin_17 : decode cX3_begin 17 = .ok (.ifCond .ne 10, 3) := dk_154 0 10 (dk_at dksX3_begin_0 17 rfl rfl)
theorem dX3_begin_20 : decode cX3_begin 20 = .ok (.aload_n 0, 1) := dk_42 (dk_at dksX3_begin_0 20 rfl rfl)
theorem dX3_begin_21 : decode cX3_begin 21 = .ok (.bipush (-2), 2) := dk_16 254 (dk_at dksX3_begin_0 21 rfl rfl)
theorem dX3_begin_23 : decode cX3_begin 23 = .ok (.invokevirtual 119, 3) := dk_182 0 119 (dk_at dksX3_begin_1 0 rfl rfl)
theorem dX3_begin_26 : decode cX3_begin 26 = .ok (.ireturn, 1) := dk_172 (dk_at dksX3_begin_1 3 rfl rfl)
theorem dX3_begin_27 : decode cX3_begin 27 = .ok (.aload_n 0, 1) := dk_42 (dk_at dksX3_begin_1 4 rfl rfl)
theorem dX3_begin_28 : decode cX3_begin 28 = .ok (.iload_n 2, 1) := dk_28 (dk_at dksX3_begin_1 5 rfl rfl)
theorem dX3_begin_29 : decode cX3_begin 29 = .ok (.invokevirtual 271, 3) := dk_182 1 15 (dk_at dksX3_begin_1 6 rfl rfl)
theorem dX3_begin_32 : decode cX3_begin 32 = .ok (.istore_n 3, 1) := dk_62 (dk_at dksX3_begin_1 9 rfl rfl)
theorem dX3_begin_33 : decode cX3_begin 33 = .ok (.iload_n 3, 1) := dk_29 (dk_at dksX3_begin_1 10 rfl rfl)
theorem dX3_begin_34 : decode cX3_begin 34 = .ok (.ifCond .eq 5, 3) := dk_153 0 5 (dk_at dksX3_begin_1 11 rfl rfl)
theorem dX3_begin_37 : decode cX3_begin 37 = .ok (.iload_n 3, 1) := dk_29 (dk_at dksX3_begin_1 14 rfl rfl)
theorem dX3_begin_38 : decode cX3_begin 38 = .ok (.ireturn, 1) := dk_172 (dk_at dksX3_begin_1 15 rfl rfl)
theorem dX3_begin_39 : decode cX3_begin 39 = .ok (.iconst 0, 1) := dk_3 (dk_at dksX3_begin_1 16 rfl rfl)
theorem dX3_begin_40 : decode cX3_begin 40 = .ok (.istore 4, 2) := dk_54 4 (dk_at dksX3_begin_1 17 rfl rfl)
theorem dX3_begin_42 : decode cX3_begin 42 = .ok (.iload 4, 2) := dk_21 4 (dk_at dksX3_begin_1 19 rfl rfl)
theorem dX3_begin_44 : decode cX3_begin 44 = .ok (.bipush 20, 2) := dk_16 20 (dk_at dksX3_begin_1 21 rfl rfl)
theorem dX3_begin_46 : decode cX3_begin 46 = .ok (.if_icmp .ge 28, 3) := dk_162 0 28 (dk_at dksX3_begin_2 0 rfl rfl)
theorem dX3_begin_49 : decode cX3_begin 49 = .ok (.aload_n 0, 1) := dk_42 (dk_at dksX3_begin_2 3 rfl rfl)
theorem dX3_begin_50 : decode cX3_begin 50 = .ok (.getfield 45, 3) := dk_180 0 45 (dk_at dksX3_begin_2 4 rfl rfl)
theorem dX3_begin_53 : decode cX3_begin 53 = .ok (.bipush 7, 2) := dk_16 7 (dk_at dksX3_begin_2 7 rfl rfl)
theorem dX3_begin_55 : decode cX3_begin 55 = .ok (.aaload, 1) := dk_50 (dk_at dksX3_begin_2 9 rfl rfl)
theorem dX3_begin_56 : decode cX3_begin 56 = .ok (.iload 4, 2) := dk_21 4 (dk_at dksX3_begin_2 10 rfl rfl)
theorem dX3_begin_58 : decode cX3_begin 58 = .ok (.aload_n 0, 1) := dk_42 (dk_at dksX3_begin_2 12 rfl rfl)
theorem dX3_begin_59 : decode cX3_begin 59 = .ok (.getfield 45, 3) := dk_180 0 45 (dk_at dksX3_begin_2 13 rfl rfl)
theorem dX3_begin_62 : decode cX3_begin 62 = .ok (.iload_n 1, 1) := dk_27 (dk_at dksX3_begin_2 16 rfl rfl)
theorem dX3_begin_63 : decode cX3_begin 63 = .ok (.aaload, 1) := dk_50 (dk_at dksX3_begin_2 17 rfl rfl)
theorem dX3_begin_64 : decode cX3_begin 64 = .ok (.iload 4, 2) := dk_21 4 (dk_at dksX3_begin_2 18 rfl rfl)
theorem dX3_begin_66 : decode cX3_begin 66 = .ok (.iaload, 1) := dk_46 (dk_at dksX3_begin_2 20 rfl rfl)
theorem dX3_begin_67 : decode cX3_begin 67 = .ok (.iastore, 1) := dk_79 (dk_at dksX3_begin_2 21 rfl rfl)
theorem dX3_begin_68 : decode cX3_begin 68 = .ok (.iinc 4 1, 3) := dk_132 4 1 (dk_at dksX3_begin_3 0 rfl rfl)
theorem dX3_begin_71 : decode cX3_begin 71 = .ok (.goto (-29), 3) := dk_167 255 227 (dk_at dksX3_begin_3 3 rfl rfl)
theorem dX3_begin_74 : decode cX3_begin 74 = .ok (.aload_n 0, 1) := dk_42 (dk_at dksX3_begin_3 6 rfl rfl)
theorem dX3_begin_75 : decode cX3_begin 75 = .ok (.getfield 28, 3) := dk_180 0 28 (dk_at dksX3_begin_3 7 rfl rfl)
theorem dX3_begin_78 : decode cX3_begin 78 = .ok (.bipush 8, 2) := dk_16 8 (dk_at dksX3_begin_3 10 rfl rfl)
theorem dX3_begin_80 : decode cX3_begin 80 = .ok (.aload_n 0, 1) := dk_42 (dk_at dksX3_begin_3 12 rfl rfl)
theorem dX3_begin_81 : decode cX3_begin 81 = .ok (.getfield 28, 3) := dk_180 0 28 (dk_at dksX3_begin_3 13 rfl rfl)
theorem dX3_begin_84 : decode cX3_begin 84 = .ok (.iload_n 2, 1) := dk_28 (dk_at dksX3_begin_3 16 rfl rfl)
theorem dX3_begin_85 : decode cX3_begin 85 = .ok (.iaload, 1) := dk_46 (dk_at dksX3_begin_3 17 rfl rfl)
theorem dX3_begin_86 : decode cX3_begin 86 = .ok (.iastore, 1) := dk_79 (dk_at dksX3_begin_3 18 rfl rfl)
theorem dX3_begin_87 : decode cX3_begin 87 = .ok (.aload_n 0, 1) := dk_42 (dk_at dksX3_begin_3 19 rfl rfl)
theorem dX3_begin_88 : decode cX3_begin 88 = .ok (.getfield 31, 3) := dk_180 0 31 (dk_at dksX3_begin_3 20 rfl rfl)
theorem dX3_begin_91 : decode cX3_begin 91 = .ok (.bipush 8, 2) := dk_16 8 (dk_at dksX3_begin_4 0 rfl rfl)
theorem dX3_begin_93 : decode cX3_begin 93 = .ok (.aload_n 0, 1) := dk_42 (dk_at dksX3_begin_4 2 rfl rfl)
theorem dX3_begin_94 : decode cX3_begin 94 = .ok (.getfield 31, 3) := dk_180 0 31 (dk_at dksX3_begin_4 3 rfl rfl)
theorem dX3_begin_97 : decode cX3_begin 97 = .ok (.iload_n 2, 1) := dk_28 (dk_at dksX3_begin_4 6 rfl rfl)
theorem dX3_begin_98 : decode cX3_begin 98 = .ok (.iaload, 1) := dk_46 (dk_at dksX3_begin_4 7 rfl rfl)
theorem dX3_begin_99 : decode cX3_begin 99 = .ok (.iastore, 1) := dk_79 (dk_at dksX3_begin_4 8 rfl rfl)
theorem dX3_begin_100 : decode cX3_begin 100 = .ok (.iconst 0, 1) := dk_3 (dk_at dksX3_begin_4 9 rfl rfl)
theorem dX3_begin_101 : decode cX3_begin 101 = .ok (.istore 4, 2) := dk_54 4 (dk_at dksX3_begin_4 10 rfl rfl)
theorem dX3_begin_103 : decode cX3_begin 103 = .ok (.iload 4, 2) := dk_21 4 (dk_at dksX3_begin_4 12 rfl rfl)
theorem dX3_begin_105 : decode cX3_begin 105 = .ok (.bipush 125, 2) := dk_16 125 (dk_at dksX3_begin_4 14 rfl rfl)
theorem dX3_begin_107 : decode cX3_begin 107 = .ok (.if_icmp .ge 28, 3) := dk_162 0 28 (dk_at dksX3_begin_4 16 rfl rfl)
theorem dX3_begin_110 : decode cX3_begin 110 = .ok (.aload_n 0, 1) := dk_42 (dk_at dksX3_begin_4 19 rfl rfl)
theorem dX3_begin_111 : decode cX3_begin 111 = .ok (.getfield 36, 3) := dk_180 0 36 (dk_at dksX3_begin_4 20 rfl rfl)
theorem dX3_begin_114 : decode cX3_begin 114 = .ok (.bipush 8, 2) := dk_16 8 (dk_at dksX3_begin_5 0 rfl rfl)
theorem dX3_begin_116 : decode cX3_begin 116 = .ok (.aaload, 1) := dk_50 (dk_at dksX3_begin_5 2 rfl rfl)
theorem dX3_begin_117 : decode cX3_begin 117 = .ok (.iload 4, 2) := dk_21 4 (dk_at dksX3_begin_5 3 rfl rfl)
theorem dX3_begin_119 : decode cX3_begin 119 = .ok (.aload_n 0, 1) := dk_42 (dk_at dksX3_begin_5 5 rfl rfl)
theorem dX3_begin_120 : decode cX3_begin 120 = .ok (.getfield 36, 3) := dk_180 0 36 (dk_at dksX3_begin_5 6 rfl rfl)
theorem dX3_begin_123 : decode cX3_begin 123 = .ok (.iload_n 2, 1) := dk_28 (dk_at dksX3_begin_5 9 rfl rfl)
theorem dX3_begin_124 : decode cX3_begin 124 = .ok (.aaload, 1) := dk_50 (dk_at dksX3_begin_5 10 rfl rfl)
theorem dX3_begin_125 : decode cX3_begin 125 = .ok (.iload 4, 2) := dk_21 4 (dk_at dksX3_begin_5 11 rfl rfl)
theorem dX3_begin_127 : decode cX3_begin 127 = .ok (.iaload, 1) := dk_46 (dk_at dksX3_begin_5 13 rfl rfl)
theorem dX3_begin_128 : decode cX3_begin 128 = .ok (.iastore, 1) := dk_79 (dk_at dksX3_begin_5 14 rfl rfl)
theorem dX3_begin_129 : decode cX3_begin 129 = .ok (.iinc 4 1, 3) := dk_132 4 1 (dk_at dksX3_begin_5 15 rfl rfl)
theorem dX3_begin_132 : decode cX3_begin 132 = .ok (.goto (-29), 3) := dk_167 255 227 (dk_at dksX3_begin_5 18 rfl rfl)
theorem dX3_begin_135 : decode cX3_begin 135 = .ok (.aload_n 0, 1) := dk_42 (dk_at dksX3_begin_5 21 rfl rfl)
theorem dX3_begin_136 : decode cX3_begin 136 = .ok (.iconst 1, 1) := dk_4 (dk_at dksX3_begin_5 22 rfl rfl)
theorem dX3_begin_137 : decode cX3_begin 137 = .ok (.putfield 346, 3) := dk_181 1 90 (dk_at dksX3_begin_6 0 rfl rfl)
theorem dX3_begin_140 : decode cX3_begin 140 = .ok (.aload_n 0, 1) := dk_42 (dk_at dksX3_begin_6 3 rfl rfl)
theorem dX3_begin_141 : decode cX3_begin 141 = .ok (.aload_n 0, 1) := dk_42 (dk_at dksX3_begin_6 4 rfl rfl)
theorem dX3_begin_142 : decode cX3_begin 142 = .ok (.getfield 45, 3) := dk_180 0 45 (dk_at dksX3_begin_6 5 rfl rfl)
theorem dX3_begin_145 : decode cX3_begin 145 = .ok (.iload_n 1, 1) := dk_27 (dk_at dksX3_begin_6 8 rfl rfl)
theorem dX3_begin_146 : decode cX3_begin 146 = .ok (.aaload, 1) := dk_50 (dk_at dksX3_begin_6 9 rfl rfl)
theorem dX3_begin_147 : decode cX3_begin 147 = .ok (.iconst 0, 1) := dk_3 (dk_at dksX3_begin_6 10 rfl rfl)
theorem dX3_begin_148 : decode cX3_begin 148 = .ok (.iaload, 1) := dk_46 (dk_at dksX3_begin_6 11 rfl rfl)
theorem dX3_begin_149 : decode cX3_begin 149 = .ok (.putfield 349, 3) := dk_181 1 93 (dk_at dksX3_begin_6 12 rfl rfl)
theorem dX3_begin_152 : decode cX3_begin 152 = .ok (.aload_n 0, 1) := dk_42 (dk_at dksX3_begin_6 15 rfl rfl)
theorem dX3_begin_153 : decode cX3_begin 153 = .ok (.iconst 0, 1) := dk_3 (dk_at dksX3_begin_6 16 rfl rfl)
theorem dX3_begin_154 : decode cX3_begin 154 = .ok (.putfield 352, 3) := dk_181 1 96 (dk_at dksX3_begin_6 17 rfl rfl)
theorem dX3_begin_157 : decode cX3_begin 157 = .ok (.aload_n 0, 1) := dk_42 (dk_at dksX3_begin_6 20 rfl rfl)
theorem dX3_begin_158 : decode cX3_begin 158 = .ok (.iconst 0, 1) := dk_3 (dk_at dksX3_begin_6 21 rfl rfl)
theorem dX3_begin_159 : decode cX3_begin 159 = .ok (.putfield 355, 3) := dk_181 1 99 (dk_at dksX3_begin_7 0 rfl rfl)
theorem dX3_begin_162 : decode cX3_begin 162 = .ok (.aload_n 0, 1) := dk_42 (dk_at dksX3_begin_7 3 rfl rfl)
theorem dX3_begin_163 : decode cX3_begin 163 = .ok (.iconst 0, 1) := dk_3 (dk_at dksX3_begin_7 4 rfl rfl)
theorem dX3_begin_164 : decode cX3_begin 164 = .ok (.putfield 358, 3) := dk_181 1 102 (dk_at dksX3_begin_7 5 rfl rfl)
theorem dX3_begin_167 : decode cX3_begin 167 = .ok (.aload_n 0, 1) := dk_42 (dk_at dksX3_begin_7 8 rfl rfl)
theorem dX3_begin_168 : decode cX3_begin 168 = .ok (.iconst 0, 1) := dk_3 (dk_at dksX3_begin_7 9 rfl rfl)
theorem dX3_begin_169 : decode cX3_begin 169 = .ok (.putfield 361, 3) := dk_181 1 105 (dk_at dksX3_begin_7 10 rfl rfl)
theorem dX3_begin_172 : decode cX3_begin 172 = .ok (.aload_n 0, 1) := dk_42 (dk_at dksX3_begin_7 13 rfl rfl)
theorem dX3_begin_173 : decode cX3_begin 173 = .ok (.iconst 0, 1) := dk_3 (dk_at dksX3_begin_7 14 rfl rfl)
theorem dX3_begin_174 : decode cX3_begin 174 = .ok (.putfield 364, 3) := dk_181 1 108 (dk_at dksX3_begin_7 15 rfl rfl)
theorem dX3_begin_177 : decode cX3_begin 177 = .ok (.aload_n 0, 1) := dk_42 (dk_at dksX3_begin_7 18 rfl rfl)
theorem dX3_begin_178 : decode cX3_begin 178 = .ok (.getfield 349, 3) := dk_180 1 93 (dk_at dksX3_begin_7 19 rfl rfl)
theorem dX3_begin_181 : decode cX3_begin 181 = .ok (.ireturn, 1) := dk_172 (dk_at dksX3_begin_7 22 rfl rfl)
abbrev cX3_step : ByteArray := prog_17_method_89_code
def yX3_step : MethodName := ⟨RX3, "step", "(I)I"⟩
def dkwX3_step_6 : List UInt8 := [167, 255, 165, 42, 89, 180, 1, 99, 28, 96, 181, 1, 99, 28, 172]
abbrev dktX3_step_6 : List UInt8 := dkwX3_step_6 ++ []
def dkwX3_step_5 : List UInt8 := [180, 1, 108, 42, 180, 1, 84, 96, 181, 1, 108, 42, 89, 180, 1, 93, 4, 100, 181, 1, 93, 132, 3, 1]
abbrev dktX3_step_5 : List UInt8 := dkwX3_step_5 ++ dktX3_step_6
def dkwX3_step_4 : List UInt8 := [180, 1, 78, 96, 181, 1, 102, 42, 89, 180, 1, 105, 42, 180, 1, 81, 96, 181, 1, 105, 42, 89]
abbrev dktX3_step_4 : List UInt8 := dkwX3_step_4 ++ dktX3_step_5
def dkwX3_step_3 : List UInt8 := [180, 1, 96, 16, 8, 182, 1, 111, 96, 61, 42, 42, 180, 1, 87, 181, 1, 96, 42, 89, 180, 1, 102, 42]
abbrev dktX3_step_3 : List UInt8 := dkwX3_step_3 ++ dktX3_step_4
def dkwX3_step_2 : List UInt8 := [61, 3, 62, 29, 27, 162, 0, 92, 42, 180, 1, 93, 158, 0, 85, 28, 42, 16, 7, 42, 180, 1, 93, 42]
abbrev dktX3_step_2 : List UInt8 := dkwX3_step_2 ++ dktX3_step_3
def dkwX3_step_1 : List UInt8 := [153, 0, 10, 42, 180, 1, 93, 154, 0, 10, 42, 16, 251, 182, 0, 119, 172, 42, 16, 7, 182, 1, 8, 3]
abbrev dktX3_step_1 : List UInt8 := dkwX3_step_1 ++ dktX3_step_2
def dkwX3_step_0 : List UInt8 := [27, 133, 10, 20, 0, 128, 184, 0, 94, 154, 0, 10, 42, 16, 254, 182, 0, 119, 172, 42, 180, 1, 90]
abbrev dktX3_step_0 : List UInt8 := dkwX3_step_0 ++ dktX3_step_1
theorem dksX3_step_0 : cX3_step.data.toList.drop 0 = dktX3_step_0 := by decide +kernel
theorem dksX3_step_1 : cX3_step.data.toList.drop 23 = dktX3_step_1 := dk_seg dksX3_step_0 23 rfl rfl
theorem dksX3_step_2 : cX3_step.data.toList.drop 47 = dktX3_step_2 := dk_seg dksX3_step_1 24 rfl rfl
theorem dksX3_step_3 : cX3_step.data.toList.drop 71 = dktX3_step_3 := dk_seg dksX3_step_2 24 rfl rfl
theorem dksX3_step_4 : cX3_step.data.toList.drop 95 = dktX3_step_4 := dk_seg dksX3_step_3 24 rfl rfl
theorem dksX3_step_5 : cX3_step.data.toList.drop 117 = dktX3_step_5 := dk_seg dksX3_step_4 22 rfl rfl
theorem dksX3_step_6 : cX3_step.data.toList.drop 141 = dktX3_step_6 := dk_seg dksX3_step_5 24 rfl rfl
theorem dX3_step_0 : decode cX3_step 0 = .ok (.iload_n 1, 1) := dk_27 (dk_at dksX3_step_0 0 rfl rfl)
theorem dX3_step_1 : decode cX3_step 1 = .ok (.i2l, 1) := dk_133 (dk_at dksX3_step_0 1 rfl rfl)
theorem dX3_step_2 : decode cX3_step 2 = .ok (.lconst 1, 1) := dk_10 (dk_at dksX3_step_0 2 rfl rfl)
theorem dX3_step_3 : decode cX3_step 3 = .ok (.ldc2_w 128, 3) := dk_20 0 128 (dk_at dksX3_step_0 3 rfl rfl)
theorem dX3_step_6 : decode cX3_step 6 = .ok (.invokestatic 94, 3) := dk_184 0 94 (dk_at dksX3_step_0 6 rfl rfl)
theorem dX3_step_9 : decode cX3_step 9 = .ok (.ifCond .ne 10, 3) := dk_154 0 10 (dk_at dksX3_step_0 9 rfl rfl)
theorem dX3_step_12 : decode cX3_step 12 = .ok (.aload_n 0, 1) := dk_42 (dk_at dksX3_step_0 12 rfl rfl)
theorem dX3_step_13 : decode cX3_step 13 = .ok (.bipush (-2), 2) := dk_16 254 (dk_at dksX3_step_0 13 rfl rfl)
theorem dX3_step_15 : decode cX3_step 15 = .ok (.invokevirtual 119, 3) := dk_182 0 119 (dk_at dksX3_step_0 15 rfl rfl)
theorem dX3_step_18 : decode cX3_step 18 = .ok (.ireturn, 1) := dk_172 (dk_at dksX3_step_0 18 rfl rfl)
theorem dX3_step_19 : decode cX3_step 19 = .ok (.aload_n 0, 1) := dk_42 (dk_at dksX3_step_0 19 rfl rfl)
theorem dX3_step_20 : decode cX3_step 20 = .ok (.getfield 346, 3) := dk_180 1 90 (dk_at dksX3_step_0 20 rfl rfl)
theorem dX3_step_23 : decode cX3_step 23 = .ok (.ifCond .eq 10, 3) := dk_153 0 10 (dk_at dksX3_step_1 0 rfl rfl)
theorem dX3_step_26 : decode cX3_step 26 = .ok (.aload_n 0, 1) := dk_42 (dk_at dksX3_step_1 3 rfl rfl)
theorem dX3_step_27 : decode cX3_step 27 = .ok (.getfield 349, 3) := dk_180 1 93 (dk_at dksX3_step_1 4 rfl rfl)
theorem dX3_step_30 : decode cX3_step 30 = .ok (.ifCond .ne 10, 3) := dk_154 0 10 (dk_at dksX3_step_1 7 rfl rfl)
theorem dX3_step_33 : decode cX3_step 33 = .ok (.aload_n 0, 1) := dk_42 (dk_at dksX3_step_1 10 rfl rfl)
theorem dX3_step_34 : decode cX3_step 34 = .ok (.bipush (-5), 2) := dk_16 251 (dk_at dksX3_step_1 11 rfl rfl)
theorem dX3_step_36 : decode cX3_step 36 = .ok (.invokevirtual 119, 3) := dk_182 0 119 (dk_at dksX3_step_1 13 rfl rfl)
theorem dX3_step_39 : decode cX3_step 39 = .ok (.ireturn, 1) := dk_172 (dk_at dksX3_step_1 16 rfl rfl)
theorem dX3_step_40 : decode cX3_step 40 = .ok (.aload_n 0, 1) := dk_42 (dk_at dksX3_step_1 17 rfl rfl)
theorem dX3_step_41 : decode cX3_step 41 = .ok (.bipush 7, 2) := dk_16 7 (dk_at dksX3_step_1 18 rfl rfl)
theorem dX3_step_43 : decode cX3_step 43 = .ok (.invokevirtual 264, 3) := dk_182 1 8 (dk_at dksX3_step_1 20 rfl rfl)
theorem dX3_step_46 : decode cX3_step 46 = .ok (.iconst 0, 1) := dk_3 (dk_at dksX3_step_1 23 rfl rfl)
theorem dX3_step_47 : decode cX3_step 47 = .ok (.istore_n 2, 1) := dk_61 (dk_at dksX3_step_2 0 rfl rfl)
theorem dX3_step_48 : decode cX3_step 48 = .ok (.iconst 0, 1) := dk_3 (dk_at dksX3_step_2 1 rfl rfl)
theorem dX3_step_49 : decode cX3_step 49 = .ok (.istore_n 3, 1) := dk_62 (dk_at dksX3_step_2 2 rfl rfl)
theorem dX3_step_50 : decode cX3_step 50 = .ok (.iload_n 3, 1) := dk_29 (dk_at dksX3_step_2 3 rfl rfl)
theorem dX3_step_51 : decode cX3_step 51 = .ok (.iload_n 1, 1) := dk_27 (dk_at dksX3_step_2 4 rfl rfl)
theorem dX3_step_52 : decode cX3_step 52 = .ok (.if_icmp .ge 92, 3) := dk_162 0 92 (dk_at dksX3_step_2 5 rfl rfl)
theorem dX3_step_55 : decode cX3_step 55 = .ok (.aload_n 0, 1) := dk_42 (dk_at dksX3_step_2 8 rfl rfl)
theorem dX3_step_56 : decode cX3_step 56 = .ok (.getfield 349, 3) := dk_180 1 93 (dk_at dksX3_step_2 9 rfl rfl)
theorem dX3_step_59 : decode cX3_step 59 = .ok (.ifCond .le 85, 3) := dk_158 0 85 (dk_at dksX3_step_2 12 rfl rfl)
theorem dX3_step_62 : decode cX3_step 62 = .ok (.iload_n 2, 1) := dk_28 (dk_at dksX3_step_2 15 rfl rfl)
theorem dX3_step_63 : decode cX3_step 63 = .ok (.aload_n 0, 1) := dk_42 (dk_at dksX3_step_2 16 rfl rfl)
theorem dX3_step_64 : decode cX3_step 64 = .ok (.bipush 7, 2) := dk_16 7 (dk_at dksX3_step_2 17 rfl rfl)
theorem dX3_step_66 : decode cX3_step 66 = .ok (.aload_n 0, 1) := dk_42 (dk_at dksX3_step_2 19 rfl rfl)
theorem dX3_step_67 : decode cX3_step 67 = .ok (.getfield 349, 3) := dk_180 1 93 (dk_at dksX3_step_2 20 rfl rfl)
theorem dX3_step_70 : decode cX3_step 70 = .ok (.aload_n 0, 1) := dk_42 (dk_at dksX3_step_2 23 rfl rfl)
theorem dX3_step_71 : decode cX3_step 71 = .ok (.getfield 352, 3) := dk_180 1 96 (dk_at dksX3_step_3 0 rfl rfl)
theorem dX3_step_74 : decode cX3_step 74 = .ok (.bipush 8, 2) := dk_16 8 (dk_at dksX3_step_3 3 rfl rfl)
theorem dX3_step_76 : decode cX3_step 76 = .ok (.invokevirtual 367, 3) := dk_182 1 111 (dk_at dksX3_step_3 5 rfl rfl)
theorem dX3_step_79 : decode cX3_step 79 = .ok (.iadd, 1) := dk_96 (dk_at dksX3_step_3 8 rfl rfl)
theorem dX3_step_80 : decode cX3_step 80 = .ok (.istore_n 2, 1) := dk_61 (dk_at dksX3_step_3 9 rfl rfl)
theorem dX3_step_81 : decode cX3_step 81 = .ok (.aload_n 0, 1) := dk_42 (dk_at dksX3_step_3 10 rfl rfl)
theorem dX3_step_82 : decode cX3_step 82 = .ok (.aload_n 0, 1) := dk_42 (dk_at dksX3_step_3 11 rfl rfl)
theorem dX3_step_83 : decode cX3_step 83 = .ok (.getfield 343, 3) := dk_180 1 87 (dk_at dksX3_step_3 12 rfl rfl)
theorem dX3_step_86 : decode cX3_step 86 = .ok (.putfield 352, 3) := dk_181 1 96 (dk_at dksX3_step_3 15 rfl rfl)
theorem dX3_step_89 : decode cX3_step 89 = .ok (.aload_n 0, 1) := dk_42 (dk_at dksX3_step_3 18 rfl rfl)
theorem dX3_step_90 : decode cX3_step 90 = .ok (.dup, 1) := dk_89 (dk_at dksX3_step_3 19 rfl rfl)
theorem dX3_step_91 : decode cX3_step 91 = .ok (.getfield 358, 3) := dk_180 1 102 (dk_at dksX3_step_3 20 rfl rfl)
theorem dX3_step_94 : decode cX3_step 94 = .ok (.aload_n 0, 1) := dk_42 (dk_at dksX3_step_3 23 rfl rfl)
theorem dX3_step_95 : decode cX3_step 95 = .ok (.getfield 334, 3) := dk_180 1 78 (dk_at dksX3_step_4 0 rfl rfl)
theorem dX3_step_98 : decode cX3_step 98 = .ok (.iadd, 1) := dk_96 (dk_at dksX3_step_4 3 rfl rfl)
theorem dX3_step_99 : decode cX3_step 99 = .ok (.putfield 358, 3) := dk_181 1 102 (dk_at dksX3_step_4 4 rfl rfl)
theorem dX3_step_102 : decode cX3_step 102 = .ok (.aload_n 0, 1) := dk_42 (dk_at dksX3_step_4 7 rfl rfl)
theorem dX3_step_103 : decode cX3_step 103 = .ok (.dup, 1) := dk_89 (dk_at dksX3_step_4 8 rfl rfl)
theorem dX3_step_104 : decode cX3_step 104 = .ok (.getfield 361, 3) := dk_180 1 105 (dk_at dksX3_step_4 9 rfl rfl)
theorem dX3_step_107 : decode cX3_step 107 = .ok (.aload_n 0, 1) := dk_42 (dk_at dksX3_step_4 12 rfl rfl)
theorem dX3_step_108 : decode cX3_step 108 = .ok (.getfield 337, 3) := dk_180 1 81 (dk_at dksX3_step_4 13 rfl rfl)
theorem dX3_step_111 : decode cX3_step 111 = .ok (.iadd, 1) := dk_96 (dk_at dksX3_step_4 16 rfl rfl)
theorem dX3_step_112 : decode cX3_step 112 = .ok (.putfield 361, 3) := dk_181 1 105 (dk_at dksX3_step_4 17 rfl rfl)
theorem dX3_step_115 : decode cX3_step 115 = .ok (.aload_n 0, 1) := dk_42 (dk_at dksX3_step_4 20 rfl rfl)
theorem dX3_step_116 : decode cX3_step 116 = .ok (.dup, 1) := dk_89 (dk_at dksX3_step_4 21 rfl rfl)
theorem dX3_step_117 : decode cX3_step 117 = .ok (.getfield 364, 3) := dk_180 1 108 (dk_at dksX3_step_5 0 rfl rfl)
theorem dX3_step_120 : decode cX3_step 120 = .ok (.aload_n 0, 1) := dk_42 (dk_at dksX3_step_5 3 rfl rfl)
theorem dX3_step_121 : decode cX3_step 121 = .ok (.getfield 340, 3) := dk_180 1 84 (dk_at dksX3_step_5 4 rfl rfl)
theorem dX3_step_124 : decode cX3_step 124 = .ok (.iadd, 1) := dk_96 (dk_at dksX3_step_5 7 rfl rfl)
theorem dX3_step_125 : decode cX3_step 125 = .ok (.putfield 364, 3) := dk_181 1 108 (dk_at dksX3_step_5 8 rfl rfl)
theorem dX3_step_128 : decode cX3_step 128 = .ok (.aload_n 0, 1) := dk_42 (dk_at dksX3_step_5 11 rfl rfl)
theorem dX3_step_129 : decode cX3_step 129 = .ok (.dup, 1) := dk_89 (dk_at dksX3_step_5 12 rfl rfl)
theorem dX3_step_130 : decode cX3_step 130 = .ok (.getfield 349, 3) := dk_180 1 93 (dk_at dksX3_step_5 13 rfl rfl)
theorem dX3_step_133 : decode cX3_step 133 = .ok (.iconst 1, 1) := dk_4 (dk_at dksX3_step_5 16 rfl rfl)
theorem dX3_step_134 : decode cX3_step 134 = .ok (.isub, 1) := dk_100 (dk_at dksX3_step_5 17 rfl rfl)
theorem dX3_step_135 : decode cX3_step 135 = .ok (.putfield 349, 3) := dk_181 1 93 (dk_at dksX3_step_5 18 rfl rfl)
theorem dX3_step_138 : decode cX3_step 138 = .ok (.iinc 3 1, 3) := dk_132 3 1 (dk_at dksX3_step_5 21 rfl rfl)
theorem dX3_step_141 : decode cX3_step 141 = .ok (.goto (-91), 3) := dk_167 255 165 (dk_at dksX3_step_6 0 rfl rfl)
theorem dX3_step_144 : decode cX3_step 144 = .ok (.aload_n 0, 1) := dk_42 (dk_at dksX3_step_6 3 rfl rfl)
theorem dX3_step_145 : decode cX3_step 145 = .ok (.dup, 1) := dk_89 (dk_at dksX3_step_6 4 rfl rfl)
theorem dX3_step_146 : decode cX3_step 146 = .ok (.getfield 355, 3) := dk_180 1 99 (dk_at dksX3_step_6 5 rfl rfl)
theorem dX3_step_149 : decode cX3_step 149 = .ok (.iload_n 2, 1) := dk_28 (dk_at dksX3_step_6 8 rfl rfl)
theorem dX3_step_150 : decode cX3_step 150 = .ok (.iadd, 1) := dk_96 (dk_at dksX3_step_6 9 rfl rfl)
theorem dX3_step_151 : decode cX3_step 151 = .ok (.putfield 355, 3) := dk_181 1 99 (dk_at dksX3_step_6 10 rfl rfl)
theorem dX3_step_154 : decode cX3_step 154 = .ok (.iload_n 2, 1) := dk_28 (dk_at dksX3_step_6 13 rfl rfl)
theorem dX3_step_155 : decode cX3_step 155 = .ok (.ireturn, 1) := dk_172 (dk_at dksX3_step_6 14 rfl rfl)
abbrev cX3_day : ByteArray := prog_17_method_87_code
def yX3_day : MethodName := ⟨RX3, "day", "(IIII)I"⟩
def dkwX3_day_10 : List UInt8 := [21, 6, 172]
abbrev dktX3_day_10 : List UInt8 := dkwX3_day_10 ++ []
def dkwX3_day_9 : List UInt8 := [21, 7, 181, 1, 87, 28, 4, 160, 0, 17, 21, 6, 42, 27, 21, 7, 7, 182, 0, 236, 96, 167, 0, 5]
abbrev dktX3_day_9 : List UInt8 := dkwX3_day_9 ++ dktX3_day_10
def dkwX3_day_8 : List UInt8 := [181, 1, 84, 167, 0, 14, 21, 7, 8, 21, 8, 184, 0, 102, 96, 54, 7, 132, 8, 1, 167, 255, 180, 42]
abbrev dktX3_day_8 : List UInt8 := dkwX3_day_8 ++ dktX3_day_9
def dkwX3_day_7 : List UInt8 := [160, 0, 29, 21, 6, 42, 27, 21, 8, 6, 182, 0, 229, 96, 54, 6, 42, 89, 180, 1, 84, 4, 96]
abbrev dktX3_day_7 : List UInt8 := dkwX3_day_7 ++ dktX3_day_8
def dkwX3_day_6 : List UInt8 := [182, 1, 75, 42, 27, 21, 8, 4, 182, 0, 229, 162, 0, 51, 21, 7, 21, 8, 184, 0, 226, 7]
abbrev dktX3_day_6 : List UInt8 := dkwX3_day_6 ++ dktX3_day_7
def dkwX3_day_5 : List UInt8 := [27, 21, 7, 5, 182, 0, 236, 96, 54, 6, 3, 54, 8, 21, 8, 42, 27, 182, 0, 98, 162, 0, 72, 42]
abbrev dktX3_day_5 : List UInt8 := dkwX3_day_5 ++ dktX3_day_6
def dkwX3_day_4 : List UInt8 := [21, 7, 184, 0, 226, 96, 181, 1, 81, 132, 7, 1, 167, 255, 227, 29, 21, 5, 100, 54, 7, 21, 6, 42]
abbrev dktX3_day_4 : List UInt8 := dkwX3_day_4 ++ dktX3_day_5
def dkwX3_day_3 : List UInt8 := [181, 1, 84, 3, 54, 7, 21, 7, 42, 27, 182, 0, 98, 162, 0, 25, 42, 89, 180, 1, 81, 21, 5]
abbrev dktX3_day_3 : List UInt8 := dkwX3_day_3 ++ dktX3_day_4
def dkwX3_day_2 : List UInt8 := [54, 6, 42, 21, 5, 153, 0, 7, 4, 167, 0, 4, 3, 181, 1, 78, 42, 3, 181, 1, 81, 42, 3]
abbrev dktX3_day_2 : List UInt8 := dkwX3_day_2 ++ dktX3_day_3
def dkwX3_day_1 : List UInt8 := [21, 4, 182, 1, 18, 54, 5, 21, 5, 153, 0, 14, 42, 180, 0, 45, 27, 50, 4, 46, 167, 0, 4, 3]
abbrev dktX3_day_1 : List UInt8 := dkwX3_day_1 ++ dktX3_day_2
def dkwX3_day_0 : List UInt8 := [42, 182, 1, 75, 42, 180, 0, 45, 27, 50, 6, 46, 162, 0, 7, 3, 167, 0, 12, 42, 27, 28, 29]
abbrev dktX3_day_0 : List UInt8 := dkwX3_day_0 ++ dktX3_day_1
theorem dksX3_day_0 : cX3_day.data.toList.drop 0 = dktX3_day_0 := by decide +kernel
theorem dksX3_day_1 : cX3_day.data.toList.drop 23 = dktX3_day_1 := dk_seg dksX3_day_0 23 rfl rfl
theorem dksX3_day_2 : cX3_day.data.toList.drop 47 = dktX3_day_2 := dk_seg dksX3_day_1 24 rfl rfl
theorem dksX3_day_3 : cX3_day.data.toList.drop 70 = dktX3_day_3 := dk_seg dksX3_day_2 23 rfl rfl
theorem dksX3_day_4 : cX3_day.data.toList.drop 93 = dktX3_day_4 := dk_seg dksX3_day_3 23 rfl rfl
theorem dksX3_day_5 : cX3_day.data.toList.drop 117 = dktX3_day_5 := dk_seg dksX3_day_4 24 rfl rfl
theorem dksX3_day_6 : cX3_day.data.toList.drop 141 = dktX3_day_6 := dk_seg dksX3_day_5 24 rfl rfl
theorem dksX3_day_7 : cX3_day.data.toList.drop 163 = dktX3_day_7 := dk_seg dksX3_day_6 22 rfl rfl
theorem dksX3_day_8 : cX3_day.data.toList.drop 186 = dktX3_day_8 := dk_seg dksX3_day_7 23 rfl rfl
theorem dksX3_day_9 : cX3_day.data.toList.drop 210 = dktX3_day_9 := dk_seg dksX3_day_8 24 rfl rfl
theorem dksX3_day_10 : cX3_day.data.toList.drop 234 = dktX3_day_10 := dk_seg dksX3_day_9 24 rfl rfl
theorem dX3_day_0 : decode cX3_day 0 = .ok (.aload_n 0, 1) := dk_42 (dk_at dksX3_day_0 0 rfl rfl)
theorem dX3_day_1 : decode cX3_day 1 = .ok (.invokevirtual 331, 3) := dk_182 1 75 (dk_at dksX3_day_0 1 rfl rfl)
theorem dX3_day_4 : decode cX3_day 4 = .ok (.aload_n 0, 1) := dk_42 (dk_at dksX3_day_0 4 rfl rfl)
theorem dX3_day_5 : decode cX3_day 5 = .ok (.getfield 45, 3) := dk_180 0 45 (dk_at dksX3_day_0 5 rfl rfl)
theorem dX3_day_8 : decode cX3_day 8 = .ok (.iload_n 1, 1) := dk_27 (dk_at dksX3_day_0 8 rfl rfl)
theorem dX3_day_9 : decode cX3_day 9 = .ok (.aaload, 1) := dk_50 (dk_at dksX3_day_0 9 rfl rfl)
theorem dX3_day_10 : decode cX3_day 10 = .ok (.iconst 3, 1) := dk_6 (dk_at dksX3_day_0 10 rfl rfl)
theorem dX3_day_11 : decode cX3_day 11 = .ok (.iaload, 1) := dk_46 (dk_at dksX3_day_0 11 rfl rfl)
theorem dX3_day_12 : decode cX3_day 12 = .ok (.if_icmp .ge 7, 3) := dk_162 0 7 (dk_at dksX3_day_0 12 rfl rfl)
theorem dX3_day_15 : decode cX3_day 15 = .ok (.iconst 0, 1) := dk_3 (dk_at dksX3_day_0 15 rfl rfl)
theorem dX3_day_16 : decode cX3_day 16 = .ok (.goto 12, 3) := dk_167 0 12 (dk_at dksX3_day_0 16 rfl rfl)
theorem dX3_day_19 : decode cX3_day 19 = .ok (.aload_n 0, 1) := dk_42 (dk_at dksX3_day_0 19 rfl rfl)
theorem dX3_day_20 : decode cX3_day 20 = .ok (.iload_n 1, 1) := dk_27 (dk_at dksX3_day_0 20 rfl rfl)
theorem dX3_day_21 : decode cX3_day 21 = .ok (.iload_n 2, 1) := dk_28 (dk_at dksX3_day_0 21 rfl rfl)
theorem dX3_day_22 : decode cX3_day 22 = .ok (.iload_n 3, 1) := dk_29 (dk_at dksX3_day_0 22 rfl rfl)
theorem dX3_day_23 : decode cX3_day 23 = .ok (.iload 4, 2) := dk_21 4 (dk_at dksX3_day_1 0 rfl rfl)
theorem dX3_day_25 : decode cX3_day 25 = .ok (.invokevirtual 274, 3) := dk_182 1 18 (dk_at dksX3_day_1 2 rfl rfl)
theorem dX3_day_28 : decode cX3_day 28 = .ok (.istore 5, 2) := dk_54 5 (dk_at dksX3_day_1 5 rfl rfl)
theorem dX3_day_30 : decode cX3_day 30 = .ok (.iload 5, 2) := dk_21 5 (dk_at dksX3_day_1 7 rfl rfl)
theorem dX3_day_32 : decode cX3_day 32 = .ok (.ifCond .eq 14, 3) := dk_153 0 14 (dk_at dksX3_day_1 9 rfl rfl)
theorem dX3_day_35 : decode cX3_day 35 = .ok (.aload_n 0, 1) := dk_42 (dk_at dksX3_day_1 12 rfl rfl)
theorem dX3_day_36 : decode cX3_day 36 = .ok (.getfield 45, 3) := dk_180 0 45 (dk_at dksX3_day_1 13 rfl rfl)
theorem dX3_day_39 : decode cX3_day 39 = .ok (.iload_n 1, 1) := dk_27 (dk_at dksX3_day_1 16 rfl rfl)
theorem dX3_day_40 : decode cX3_day 40 = .ok (.aaload, 1) := dk_50 (dk_at dksX3_day_1 17 rfl rfl)
theorem dX3_day_41 : decode cX3_day 41 = .ok (.iconst 1, 1) := dk_4 (dk_at dksX3_day_1 18 rfl rfl)
theorem dX3_day_42 : decode cX3_day 42 = .ok (.iaload, 1) := dk_46 (dk_at dksX3_day_1 19 rfl rfl)
theorem dX3_day_43 : decode cX3_day 43 = .ok (.goto 4, 3) := dk_167 0 4 (dk_at dksX3_day_1 20 rfl rfl)
theorem dX3_day_46 : decode cX3_day 46 = .ok (.iconst 0, 1) := dk_3 (dk_at dksX3_day_1 23 rfl rfl)
theorem dX3_day_47 : decode cX3_day 47 = .ok (.istore 6, 2) := dk_54 6 (dk_at dksX3_day_2 0 rfl rfl)
theorem dX3_day_49 : decode cX3_day 49 = .ok (.aload_n 0, 1) := dk_42 (dk_at dksX3_day_2 2 rfl rfl)
theorem dX3_day_50 : decode cX3_day 50 = .ok (.iload 5, 2) := dk_21 5 (dk_at dksX3_day_2 3 rfl rfl)
theorem dX3_day_52 : decode cX3_day 52 = .ok (.ifCond .eq 7, 3) := dk_153 0 7 (dk_at dksX3_day_2 5 rfl rfl)
theorem dX3_day_55 : decode cX3_day 55 = .ok (.iconst 1, 1) := dk_4 (dk_at dksX3_day_2 8 rfl rfl)
theorem dX3_day_56 : decode cX3_day 56 = .ok (.goto 4, 3) := dk_167 0 4 (dk_at dksX3_day_2 9 rfl rfl)
theorem dX3_day_59 : decode cX3_day 59 = .ok (.iconst 0, 1) := dk_3 (dk_at dksX3_day_2 12 rfl rfl)
theorem dX3_day_60 : decode cX3_day 60 = .ok (.putfield 334, 3) := dk_181 1 78 (dk_at dksX3_day_2 13 rfl rfl)
theorem dX3_day_63 : decode cX3_day 63 = .ok (.aload_n 0, 1) := dk_42 (dk_at dksX3_day_2 16 rfl rfl)
theorem dX3_day_64 : decode cX3_day 64 = .ok (.iconst 0, 1) := dk_3 (dk_at dksX3_day_2 17 rfl rfl)
theorem dX3_day_65 : decode cX3_day 65 = .ok (.putfield 337, 3) := dk_181 1 81 (dk_at dksX3_day_2 18 rfl rfl)
theorem dX3_day_68 : decode cX3_day 68 = .ok (.aload_n 0, 1) := dk_42 (dk_at dksX3_day_2 21 rfl rfl)
theorem dX3_day_69 : decode cX3_day 69 = .ok (.iconst 0, 1) := dk_3 (dk_at dksX3_day_2 22 rfl rfl)
theorem dX3_day_70 : decode cX3_day 70 = .ok (.putfield 340, 3) := dk_181 1 84 (dk_at dksX3_day_3 0 rfl rfl)
theorem dX3_day_73 : decode cX3_day 73 = .ok (.iconst 0, 1) := dk_3 (dk_at dksX3_day_3 3 rfl rfl)
theorem dX3_day_74 : decode cX3_day 74 = .ok (.istore 7, 2) := dk_54 7 (dk_at dksX3_day_3 4 rfl rfl)
theorem dX3_day_76 : decode cX3_day 76 = .ok (.iload 7, 2) := dk_21 7 (dk_at dksX3_day_3 6 rfl rfl)
theorem dX3_day_78 : decode cX3_day 78 = .ok (.aload_n 0, 1) := dk_42 (dk_at dksX3_day_3 8 rfl rfl)
theorem dX3_day_79 : decode cX3_day 79 = .ok (.iload_n 1, 1) := dk_27 (dk_at dksX3_day_3 9 rfl rfl)
theorem dX3_day_80 : decode cX3_day 80 = .ok (.invokevirtual 98, 3) := dk_182 0 98 (dk_at dksX3_day_3 10 rfl rfl)
theorem dX3_day_83 : decode cX3_day 83 = .ok (.if_icmp .ge 25, 3) := dk_162 0 25 (dk_at dksX3_day_3 13 rfl rfl)
theorem dX3_day_86 : decode cX3_day 86 = .ok (.aload_n 0, 1) := dk_42 (dk_at dksX3_day_3 16 rfl rfl)
theorem dX3_day_87 : decode cX3_day 87 = .ok (.dup, 1) := dk_89 (dk_at dksX3_day_3 17 rfl rfl)
theorem dX3_day_88 : decode cX3_day 88 = .ok (.getfield 337, 3) := dk_180 1 81 (dk_at dksX3_day_3 18 rfl rfl)
theorem dX3_day_91 : decode cX3_day 91 = .ok (.iload 5, 2) := dk_21 5 (dk_at dksX3_day_3 21 rfl rfl)
theorem dX3_day_93 : decode cX3_day 93 = .ok (.iload 7, 2) := dk_21 7 (dk_at dksX3_day_4 0 rfl rfl)
theorem dX3_day_95 : decode cX3_day 95 = .ok (.invokestatic 226, 3) := dk_184 0 226 (dk_at dksX3_day_4 2 rfl rfl)
theorem dX3_day_98 : decode cX3_day 98 = .ok (.iadd, 1) := dk_96 (dk_at dksX3_day_4 5 rfl rfl)
theorem dX3_day_99 : decode cX3_day 99 = .ok (.putfield 337, 3) := dk_181 1 81 (dk_at dksX3_day_4 6 rfl rfl)
theorem dX3_day_102 : decode cX3_day 102 = .ok (.iinc 7 1, 3) := dk_132 7 1 (dk_at dksX3_day_4 9 rfl rfl)
theorem dX3_day_105 : decode cX3_day 105 = .ok (.goto (-29), 3) := dk_167 255 227 (dk_at dksX3_day_4 12 rfl rfl)
theorem dX3_day_108 : decode cX3_day 108 = .ok (.iload_n 3, 1) := dk_29 (dk_at dksX3_day_4 15 rfl rfl)
theorem dX3_day_109 : decode cX3_day 109 = .ok (.iload 5, 2) := dk_21 5 (dk_at dksX3_day_4 16 rfl rfl)
theorem dX3_day_111 : decode cX3_day 111 = .ok (.isub, 1) := dk_100 (dk_at dksX3_day_4 18 rfl rfl)
theorem dX3_day_112 : decode cX3_day 112 = .ok (.istore 7, 2) := dk_54 7 (dk_at dksX3_day_4 19 rfl rfl)
theorem dX3_day_114 : decode cX3_day 114 = .ok (.iload 6, 2) := dk_21 6 (dk_at dksX3_day_4 21 rfl rfl)
theorem dX3_day_116 : decode cX3_day 116 = .ok (.aload_n 0, 1) := dk_42 (dk_at dksX3_day_4 23 rfl rfl)
theorem dX3_day_117 : decode cX3_day 117 = .ok (.iload_n 1, 1) := dk_27 (dk_at dksX3_day_5 0 rfl rfl)
theorem dX3_day_118 : decode cX3_day 118 = .ok (.iload 7, 2) := dk_21 7 (dk_at dksX3_day_5 1 rfl rfl)
theorem dX3_day_120 : decode cX3_day 120 = .ok (.iconst 2, 1) := dk_5 (dk_at dksX3_day_5 3 rfl rfl)
theorem dX3_day_121 : decode cX3_day 121 = .ok (.invokevirtual 236, 3) := dk_182 0 236 (dk_at dksX3_day_5 4 rfl rfl)
theorem dX3_day_124 : decode cX3_day 124 = .ok (.iadd, 1) := dk_96 (dk_at dksX3_day_5 7 rfl rfl)
theorem dX3_day_125 : decode cX3_day 125 = .ok (.istore 6, 2) := dk_54 6 (dk_at dksX3_day_5 8 rfl rfl)
theorem dX3_day_127 : decode cX3_day 127 = .ok (.iconst 0, 1) := dk_3 (dk_at dksX3_day_5 10 rfl rfl)
theorem dX3_day_128 : decode cX3_day 128 = .ok (.istore 8, 2) := dk_54 8 (dk_at dksX3_day_5 11 rfl rfl)
theorem dX3_day_130 : decode cX3_day 130 = .ok (.iload 8, 2) := dk_21 8 (dk_at dksX3_day_5 13 rfl rfl)
theorem dX3_day_132 : decode cX3_day 132 = .ok (.aload_n 0, 1) := dk_42 (dk_at dksX3_day_5 15 rfl rfl)
theorem dX3_day_133 : decode cX3_day 133 = .ok (.iload_n 1, 1) := dk_27 (dk_at dksX3_day_5 16 rfl rfl)
theorem dX3_day_134 : decode cX3_day 134 = .ok (.invokevirtual 98, 3) := dk_182 0 98 (dk_at dksX3_day_5 17 rfl rfl)
theorem dX3_day_137 : decode cX3_day 137 = .ok (.if_icmp .ge 72, 3) := dk_162 0 72 (dk_at dksX3_day_5 20 rfl rfl)
theorem dX3_day_140 : decode cX3_day 140 = .ok (.aload_n 0, 1) := dk_42 (dk_at dksX3_day_5 23 rfl rfl)
theorem dX3_day_141 : decode cX3_day 141 = .ok (.invokevirtual 331, 3) := dk_182 1 75 (dk_at dksX3_day_6 0 rfl rfl)
theorem dX3_day_144 : decode cX3_day 144 = .ok (.aload_n 0, 1) := dk_42 (dk_at dksX3_day_6 3 rfl rfl)
theorem dX3_day_145 : decode cX3_day 145 = .ok (.iload_n 1, 1) := dk_27 (dk_at dksX3_day_6 4 rfl rfl)
theorem dX3_day_146 : decode cX3_day 146 = .ok (.iload 8, 2) := dk_21 8 (dk_at dksX3_day_6 5 rfl rfl)
theorem dX3_day_148 : decode cX3_day 148 = .ok (.iconst 1, 1) := dk_4 (dk_at dksX3_day_6 7 rfl rfl)
theorem dX3_day_149 : decode cX3_day 149 = .ok (.invokevirtual 229, 3) := dk_182 0 229 (dk_at dksX3_day_6 8 rfl rfl)
theorem dX3_day_152 : decode cX3_day 152 = .ok (.if_icmp .ge 51, 3) := dk_162 0 51 (dk_at dksX3_day_6 11 rfl rfl)
theorem dX3_day_155 : decode cX3_day 155 = .ok (.iload 7, 2) := dk_21 7 (dk_at dksX3_day_6 14 rfl rfl)
theorem dX3_day_157 : decode cX3_day 157 = .ok (.iload 8, 2) := dk_21 8 (dk_at dksX3_day_6 16 rfl rfl)
theorem dX3_day_159 : decode cX3_day 159 = .ok (.invokestatic 226, 3) := dk_184 0 226 (dk_at dksX3_day_6 18 rfl rfl)
theorem dX3_day_162 : decode cX3_day 162 = .ok (.iconst 4, 1) := dk_7 (dk_at dksX3_day_6 21 rfl rfl)
theorem dX3_day_163 : decode cX3_day 163 = .ok (.if_icmp .ne 29, 3) := dk_160 0 29 (dk_at dksX3_day_7 0 rfl rfl)
theorem dX3_day_166 : decode cX3_day 166 = .ok (.iload 6, 2) := dk_21 6 (dk_at dksX3_day_7 3 rfl rfl)
theorem dX3_day_168 : decode cX3_day 168 = .ok (.aload_n 0, 1) := dk_42 (dk_at dksX3_day_7 5 rfl rfl)
theorem dX3_day_169 : decode cX3_day 169 = .ok (.iload_n 1, 1) := dk_27 (dk_at dksX3_day_7 6 rfl rfl)
theorem dX3_day_170 : decode cX3_day 170 = .ok (.iload 8, 2) := dk_21 8 (dk_at dksX3_day_7 7 rfl rfl)
theorem dX3_day_172 : decode cX3_day 172 = .ok (.iconst 3, 1) := dk_6 (dk_at dksX3_day_7 9 rfl rfl)
theorem dX3_day_173 : decode cX3_day 173 = .ok (.invokevirtual 229, 3) := dk_182 0 229 (dk_at dksX3_day_7 10 rfl rfl)
theorem dX3_day_176 : decode cX3_day 176 = .ok (.iadd, 1) := dk_96 (dk_at dksX3_day_7 13 rfl rfl)
theorem dX3_day_177 : decode cX3_day 177 = .ok (.istore 6, 2) := dk_54 6 (dk_at dksX3_day_7 14 rfl rfl)
theorem dX3_day_179 : decode cX3_day 179 = .ok (.aload_n 0, 1) := dk_42 (dk_at dksX3_day_7 16 rfl rfl)
theorem dX3_day_180 : decode cX3_day 180 = .ok (.dup, 1) := dk_89 (dk_at dksX3_day_7 17 rfl rfl)
theorem dX3_day_181 : decode cX3_day 181 = .ok (.getfield 340, 3) := dk_180 1 84 (dk_at dksX3_day_7 18 rfl rfl)
theorem dX3_day_184 : decode cX3_day 184 = .ok (.iconst 1, 1) := dk_4 (dk_at dksX3_day_7 21 rfl rfl)
theorem dX3_day_185 : decode cX3_day 185 = .ok (.iadd, 1) := dk_96 (dk_at dksX3_day_7 22 rfl rfl)
theorem dX3_day_186 : decode cX3_day 186 = .ok (.putfield 340, 3) := dk_181 1 84 (dk_at dksX3_day_8 0 rfl rfl)
theorem dX3_day_189 : decode cX3_day 189 = .ok (.goto 14, 3) := dk_167 0 14 (dk_at dksX3_day_8 3 rfl rfl)
theorem dX3_day_192 : decode cX3_day 192 = .ok (.iload 7, 2) := dk_21 7 (dk_at dksX3_day_8 6 rfl rfl)
theorem dX3_day_194 : decode cX3_day 194 = .ok (.iconst 5, 1) := dk_8 (dk_at dksX3_day_8 8 rfl rfl)
theorem dX3_day_195 : decode cX3_day 195 = .ok (.iload 8, 2) := dk_21 8 (dk_at dksX3_day_8 9 rfl rfl)
theorem dX3_day_197 : decode cX3_day 197 = .ok (.invokestatic 102, 3) := dk_184 0 102 (dk_at dksX3_day_8 11 rfl rfl)
theorem dX3_day_200 : decode cX3_day 200 = .ok (.iadd, 1) := dk_96 (dk_at dksX3_day_8 14 rfl rfl)
theorem dX3_day_201 : decode cX3_day 201 = .ok (.istore 7, 2) := dk_54 7 (dk_at dksX3_day_8 15 rfl rfl)
theorem dX3_day_203 : decode cX3_day 203 = .ok (.iinc 8 1, 3) := dk_132 8 1 (dk_at dksX3_day_8 17 rfl rfl)
theorem dX3_day_206 : decode cX3_day 206 = .ok (.goto (-76), 3) := dk_167 255 180 (dk_at dksX3_day_8 20 rfl rfl)
theorem dX3_day_209 : decode cX3_day 209 = .ok (.aload_n 0, 1) := dk_42 (dk_at dksX3_day_8 23 rfl rfl)
theorem dX3_day_210 : decode cX3_day 210 = .ok (.iload 7, 2) := dk_21 7 (dk_at dksX3_day_9 0 rfl rfl)
theorem dX3_day_212 : decode cX3_day 212 = .ok (.putfield 343, 3) := dk_181 1 87 (dk_at dksX3_day_9 2 rfl rfl)
theorem dX3_day_215 : decode cX3_day 215 = .ok (.iload_n 2, 1) := dk_28 (dk_at dksX3_day_9 5 rfl rfl)
theorem dX3_day_216 : decode cX3_day 216 = .ok (.iconst 1, 1) := dk_4 (dk_at dksX3_day_9 6 rfl rfl)
theorem dX3_day_217 : decode cX3_day 217 = .ok (.if_icmp .ne 17, 3) := dk_160 0 17 (dk_at dksX3_day_9 7 rfl rfl)
theorem dX3_day_220 : decode cX3_day 220 = .ok (.iload 6, 2) := dk_21 6 (dk_at dksX3_day_9 10 rfl rfl)
theorem dX3_day_222 : decode cX3_day 222 = .ok (.aload_n 0, 1) := dk_42 (dk_at dksX3_day_9 12 rfl rfl)
theorem dX3_day_223 : decode cX3_day 223 = .ok (.iload_n 1, 1) := dk_27 (dk_at dksX3_day_9 13 rfl rfl)
theorem dX3_day_224 : decode cX3_day 224 = .ok (.iload 7, 2) := dk_21 7 (dk_at dksX3_day_9 14 rfl rfl)
theorem dX3_day_226 : decode cX3_day 226 = .ok (.iconst 4, 1) := dk_7 (dk_at dksX3_day_9 16 rfl rfl)
theorem dX3_day_227 : decode cX3_day 227 = .ok (.invokevirtual 236, 3) := dk_182 0 236 (dk_at dksX3_day_9 17 rfl rfl)
theorem dX3_day_230 : decode cX3_day 230 = .ok (.iadd, 1) := dk_96 (dk_at dksX3_day_9 20 rfl rfl)
theorem dX3_day_231 : decode cX3_day 231 = .ok (.goto 5, 3) := dk_167 0 5 (dk_at dksX3_day_9 21 rfl rfl)
theorem dX3_day_234 : decode cX3_day 234 = .ok (.iload 6, 2) := dk_21 6 (dk_at dksX3_day_10 0 rfl rfl)
theorem dX3_day_236 : decode cX3_day 236 = .ok (.ireturn, 1) := dk_172 (dk_at dksX3_day_10 2 rfl rfl)
abbrev cX3_draw : ByteArray := prog_17_method_86_code
def yX3_draw : MethodName := ⟨RX3, "draw", "()I"⟩
def dkwX3_draw_1 : List UInt8 := [112, 172]
abbrev dktX3_draw_1 : List UInt8 := dkwX3_draw_1 ++ []
def dkwX3_draw_0 : List UInt8 := [42, 42, 180, 0, 48, 19, 1, 74, 104, 17, 48, 57, 96, 181, 0, 48, 42, 180, 0, 48, 16, 16, 124, 7]
abbrev dktX3_draw_0 : List UInt8 := dkwX3_draw_0 ++ dktX3_draw_1
theorem dksX3_draw_0 : cX3_draw.data.toList.drop 0 = dktX3_draw_0 := by decide +kernel
theorem dksX3_draw_1 : cX3_draw.data.toList.drop 24 = dktX3_draw_1 := dk_seg dksX3_draw_0 24 rfl rfl
theorem dX3_draw_0 : decode cX3_draw 0 = .ok (.aload_n 0, 1) := dk_42 (dk_at dksX3_draw_0 0 rfl rfl)
theorem dX3_draw_1 : decode cX3_draw 1 = .ok (.aload_n 0, 1) := dk_42 (dk_at dksX3_draw_0 1 rfl rfl)
theorem dX3_draw_2 : decode cX3_draw 2 = .ok (.getfield 48, 3) := dk_180 0 48 (dk_at dksX3_draw_0 2 rfl rfl)
theorem dX3_draw_5 : decode cX3_draw 5 = .ok (.ldc_w 330, 3) := dk_19 1 74 (dk_at dksX3_draw_0 5 rfl rfl)
theorem dX3_draw_8 : decode cX3_draw 8 = .ok (.imul, 1) := dk_104 (dk_at dksX3_draw_0 8 rfl rfl)
theorem dX3_draw_9 : decode cX3_draw 9 = .ok (.sipush 12345, 3) := dk_17 48 57 (dk_at dksX3_draw_0 9 rfl rfl)
theorem dX3_draw_12 : decode cX3_draw 12 = .ok (.iadd, 1) := dk_96 (dk_at dksX3_draw_0 12 rfl rfl)
theorem dX3_draw_13 : decode cX3_draw 13 = .ok (.putfield 48, 3) := dk_181 0 48 (dk_at dksX3_draw_0 13 rfl rfl)
theorem dX3_draw_16 : decode cX3_draw 16 = .ok (.aload_n 0, 1) := dk_42 (dk_at dksX3_draw_0 16 rfl rfl)
theorem dX3_draw_17 : decode cX3_draw 17 = .ok (.getfield 48, 3) := dk_180 0 48 (dk_at dksX3_draw_0 17 rfl rfl)
theorem dX3_draw_20 : decode cX3_draw 20 = .ok (.bipush 16, 2) := dk_16 16 (dk_at dksX3_draw_0 20 rfl rfl)
theorem dX3_draw_22 : decode cX3_draw 22 = .ok (.iushr, 1) := dk_124 (dk_at dksX3_draw_0 22 rfl rfl)
theorem dX3_draw_23 : decode cX3_draw 23 = .ok (.iconst 4, 1) := dk_7 (dk_at dksX3_draw_0 23 rfl rfl)
theorem dX3_draw_24 : decode cX3_draw 24 = .ok (.irem, 1) := dk_112 (dk_at dksX3_draw_1 0 rfl rfl)
theorem dX3_draw_25 : decode cX3_draw 25 = .ok (.ireturn, 1) := dk_172 (dk_at dksX3_draw_1 1 rfl rfl)
abbrev cX3_week : ByteArray := prog_17_method_90_code
def yX3_week : MethodName := ⟨RX3, "week", "(I)I"⟩
def dkwX3_week_4 : List UInt8 := [172, 42, 180, 1, 108, 172]
abbrev dktX3_week_4 : List UInt8 := dkwX3_week_4 ++ []
def dkwX3_week_3 : List UInt8 := [42, 180, 1, 93, 172, 42, 180, 1, 96, 172, 42, 180, 1, 99, 172, 42, 180, 1, 102, 172, 42, 180, 1, 105]
abbrev dktX3_week_3 : List UInt8 := dkwX3_week_3 ++ dktX3_week_4
def dkwX3_week_2 : List UInt8 := [170, 0, 0, 0, 0, 59, 0, 0, 0, 0, 0, 0, 0, 4, 0, 0, 0, 34, 0, 0, 0, 39, 0, 0, 0, 44, 0, 0, 0, 49, 0, 0, 0, 54]
abbrev dktX3_week_2 : List UInt8 := dkwX3_week_2 ++ dktX3_week_3
def dkwX3_week_1 : List UInt8 := [154, 0, 10, 42, 16, 251, 182, 0, 119, 172, 27]
abbrev dktX3_week_1 : List UInt8 := dkwX3_week_1 ++ dktX3_week_2
def dkwX3_week_0 : List UInt8 := [27, 133, 9, 20, 0, 130, 184, 0, 94, 154, 0, 10, 42, 16, 254, 182, 0, 119, 172, 42, 180, 1, 90]
abbrev dktX3_week_0 : List UInt8 := dkwX3_week_0 ++ dktX3_week_1
theorem dksX3_week_0 : cX3_week.data.toList.drop 0 = dktX3_week_0 := by decide +kernel
theorem dksX3_week_1 : cX3_week.data.toList.drop 23 = dktX3_week_1 := dk_seg dksX3_week_0 23 rfl rfl
theorem dksX3_week_2 : cX3_week.data.toList.drop 34 = dktX3_week_2 := dk_seg dksX3_week_1 11 rfl rfl
theorem dksX3_week_3 : cX3_week.data.toList.drop 68 = dktX3_week_3 := dk_seg dksX3_week_2 34 rfl rfl
theorem dksX3_week_4 : cX3_week.data.toList.drop 92 = dktX3_week_4 := dk_seg dksX3_week_3 24 rfl rfl
theorem dX3_week_0 : decode cX3_week 0 = .ok (.iload_n 1, 1) := dk_27 (dk_at dksX3_week_0 0 rfl rfl)
theorem dX3_week_1 : decode cX3_week 1 = .ok (.i2l, 1) := dk_133 (dk_at dksX3_week_0 1 rfl rfl)
theorem dX3_week_2 : decode cX3_week 2 = .ok (.lconst 0, 1) := dk_9 (dk_at dksX3_week_0 2 rfl rfl)
theorem dX3_week_3 : decode cX3_week 3 = .ok (.ldc2_w 130, 3) := dk_20 0 130 (dk_at dksX3_week_0 3 rfl rfl)
theorem dX3_week_6 : decode cX3_week 6 = .ok (.invokestatic 94, 3) := dk_184 0 94 (dk_at dksX3_week_0 6 rfl rfl)
theorem dX3_week_9 : decode cX3_week 9 = .ok (.ifCond .ne 10, 3) := dk_154 0 10 (dk_at dksX3_week_0 9 rfl rfl)
theorem dX3_week_12 : decode cX3_week 12 = .ok (.aload_n 0, 1) := dk_42 (dk_at dksX3_week_0 12 rfl rfl)
theorem dX3_week_13 : decode cX3_week 13 = .ok (.bipush (-2), 2) := dk_16 254 (dk_at dksX3_week_0 13 rfl rfl)
theorem dX3_week_15 : decode cX3_week 15 = .ok (.invokevirtual 119, 3) := dk_182 0 119 (dk_at dksX3_week_0 15 rfl rfl)
theorem dX3_week_18 : decode cX3_week 18 = .ok (.ireturn, 1) := dk_172 (dk_at dksX3_week_0 18 rfl rfl)
theorem dX3_week_19 : decode cX3_week 19 = .ok (.aload_n 0, 1) := dk_42 (dk_at dksX3_week_0 19 rfl rfl)
theorem dX3_week_20 : decode cX3_week 20 = .ok (.getfield 346, 3) := dk_180 1 90 (dk_at dksX3_week_0 20 rfl rfl)
theorem dX3_week_23 : decode cX3_week 23 = .ok (.ifCond .ne 10, 3) := dk_154 0 10 (dk_at dksX3_week_1 0 rfl rfl)
theorem dX3_week_26 : decode cX3_week 26 = .ok (.aload_n 0, 1) := dk_42 (dk_at dksX3_week_1 3 rfl rfl)
theorem dX3_week_27 : decode cX3_week 27 = .ok (.bipush (-5), 2) := dk_16 251 (dk_at dksX3_week_1 4 rfl rfl)
theorem dX3_week_29 : decode cX3_week 29 = .ok (.invokevirtual 119, 3) := dk_182 0 119 (dk_at dksX3_week_1 6 rfl rfl)
theorem dX3_week_32 : decode cX3_week 32 = .ok (.ireturn, 1) := dk_172 (dk_at dksX3_week_1 9 rfl rfl)
theorem dX3_week_33 : decode cX3_week 33 = .ok (.iload_n 1, 1) := dk_27 (dk_at dksX3_week_1 10 rfl rfl)
theorem dX3_week_34 : decode cX3_week 34 = .ok (.tableswitch 59 0 4 #[34, 39, 44, 49, 54], 34) := by decide +kernel
theorem dX3_week_68 : decode cX3_week 68 = .ok (.aload_n 0, 1) := dk_42 (dk_at dksX3_week_3 0 rfl rfl)
theorem dX3_week_69 : decode cX3_week 69 = .ok (.getfield 349, 3) := dk_180 1 93 (dk_at dksX3_week_3 1 rfl rfl)
theorem dX3_week_72 : decode cX3_week 72 = .ok (.ireturn, 1) := dk_172 (dk_at dksX3_week_3 4 rfl rfl)
theorem dX3_week_73 : decode cX3_week 73 = .ok (.aload_n 0, 1) := dk_42 (dk_at dksX3_week_3 5 rfl rfl)
theorem dX3_week_74 : decode cX3_week 74 = .ok (.getfield 352, 3) := dk_180 1 96 (dk_at dksX3_week_3 6 rfl rfl)
theorem dX3_week_77 : decode cX3_week 77 = .ok (.ireturn, 1) := dk_172 (dk_at dksX3_week_3 9 rfl rfl)
theorem dX3_week_78 : decode cX3_week 78 = .ok (.aload_n 0, 1) := dk_42 (dk_at dksX3_week_3 10 rfl rfl)
theorem dX3_week_79 : decode cX3_week 79 = .ok (.getfield 355, 3) := dk_180 1 99 (dk_at dksX3_week_3 11 rfl rfl)
theorem dX3_week_82 : decode cX3_week 82 = .ok (.ireturn, 1) := dk_172 (dk_at dksX3_week_3 14 rfl rfl)
theorem dX3_week_83 : decode cX3_week 83 = .ok (.aload_n 0, 1) := dk_42 (dk_at dksX3_week_3 15 rfl rfl)
theorem dX3_week_84 : decode cX3_week 84 = .ok (.getfield 358, 3) := dk_180 1 102 (dk_at dksX3_week_3 16 rfl rfl)
theorem dX3_week_87 : decode cX3_week 87 = .ok (.ireturn, 1) := dk_172 (dk_at dksX3_week_3 19 rfl rfl)
theorem dX3_week_88 : decode cX3_week 88 = .ok (.aload_n 0, 1) := dk_42 (dk_at dksX3_week_3 20 rfl rfl)
theorem dX3_week_89 : decode cX3_week 89 = .ok (.getfield 361, 3) := dk_180 1 105 (dk_at dksX3_week_3 21 rfl rfl)
theorem dX3_week_92 : decode cX3_week 92 = .ok (.ireturn, 1) := dk_172 (dk_at dksX3_week_4 0 rfl rfl)
theorem dX3_week_93 : decode cX3_week 93 = .ok (.aload_n 0, 1) := dk_42 (dk_at dksX3_week_4 1 rfl rfl)
theorem dX3_week_94 : decode cX3_week 94 = .ok (.getfield 364, 3) := dk_180 1 108 (dk_at dksX3_week_4 2 rfl rfl)
theorem dX3_week_97 : decode cX3_week 97 = .ok (.ireturn, 1) := dk_172 (dk_at dksX3_week_4 5 rfl rfl)
abbrev cX3_weeks : ByteArray := prog_17_method_91_code
def yX3_weeks : MethodName := ⟨RX3, "weeks", "(III)I"⟩
def dkwX3_weeks_5 : List UInt8 := [132, 6, 1, 167, 255, 202, 21, 5, 172]
abbrev dktX3_weeks_5 : List UInt8 := dkwX3_weeks_5 ++ []
def dkwX3_weeks_4 : List UInt8 := [27, 21, 8, 21, 7, 28, 182, 1, 111, 96, 54, 5, 42, 180, 1, 87, 54, 7, 132, 8, 255, 167, 255, 227]
abbrev dktX3_weeks_4 : List UInt8 := dkwX3_weeks_4 ++ dktX3_weeks_5
def dkwX3_weeks_3 : List UInt8 := [162, 0, 54, 3, 54, 7, 42, 180, 0, 45, 27, 50, 3, 46, 54, 8, 21, 8, 158, 0, 30, 21, 5, 42]
abbrev dktX3_weeks_3 : List UInt8 := dkwX3_weeks_3 ++ dktX3_weeks_4
def dkwX3_weeks_2 : List UInt8 := [21, 4, 153, 0, 6, 21, 4, 172, 42, 27, 182, 1, 8, 3, 54, 5, 3, 54, 6, 21, 6, 29]
abbrev dktX3_weeks_2 : List UInt8 := dkwX3_weeks_2 ++ dktX3_weeks_3
def dkwX3_weeks_1 : List UInt8 := [20, 1, 114, 184, 0, 94, 154, 0, 10, 42, 16, 254, 182, 0, 119, 172, 42, 28, 182, 1, 15, 54, 4]
abbrev dktX3_weeks_1 : List UInt8 := dkwX3_weeks_1 ++ dktX3_weeks_2
def dkwX3_weeks_0 : List UInt8 := [42, 27, 182, 0, 106, 153, 0, 27, 28, 133, 9, 20, 0, 113, 184, 0, 94, 153, 0, 15, 29, 133, 10]
abbrev dktX3_weeks_0 : List UInt8 := dkwX3_weeks_0 ++ dktX3_weeks_1
theorem dksX3_weeks_0 : cX3_weeks.data.toList.drop 0 = dktX3_weeks_0 := by decide +kernel
theorem dksX3_weeks_1 : cX3_weeks.data.toList.drop 23 = dktX3_weeks_1 := dk_seg dksX3_weeks_0 23 rfl rfl
theorem dksX3_weeks_2 : cX3_weeks.data.toList.drop 46 = dktX3_weeks_2 := dk_seg dksX3_weeks_1 23 rfl rfl
theorem dksX3_weeks_3 : cX3_weeks.data.toList.drop 68 = dktX3_weeks_3 := dk_seg dksX3_weeks_2 22 rfl rfl
theorem dksX3_weeks_4 : cX3_weeks.data.toList.drop 92 = dktX3_weeks_4 := dk_seg dksX3_weeks_3 24 rfl rfl
theorem dksX3_weeks_5 : cX3_weeks.data.toList.drop 116 = dktX3_weeks_5 := dk_seg dksX3_weeks_4 24 rfl rfl
theorem dX3_weeks_0 : decode cX3_weeks 0 = .ok (.aload_n 0, 1) := dk_42 (dk_at dksX3_weeks_0 0 rfl rfl)
theorem dX3_weeks_1 : decode cX3_weeks 1 = .ok (.iload_n 1, 1) := dk_27 (dk_at dksX3_weeks_0 1 rfl rfl)
theorem dX3_weeks_2 : decode cX3_weeks 2 = .ok (.invokevirtual 106, 3) := dk_182 0 106 (dk_at dksX3_weeks_0 2 rfl rfl)
theorem dX3_weeks_5 : decode cX3_weeks 5 = .ok (.ifCond .eq 27, 3) := dk_153 0 27 (dk_at dksX3_weeks_0 5 rfl rfl)
theorem dX3_weeks_8 : decode cX3_weeks 8 = .ok (.iload_n 2, 1) := dk_28 (dk_at dksX3_weeks_0 8 rfl rfl)
theorem dX3_weeks_9 : decode cX3_weeks 9 = .ok (.i2l, 1) := dk_133 (dk_at dksX3_weeks_0 9 rfl rfl)
theorem dX3_weeks_10 : decode cX3_weeks 10 = .ok (.lconst 0, 1) := dk_9 (dk_at dksX3_weeks_0 10 rfl rfl)
theorem dX3_weeks_11 : decode cX3_weeks 11 = .ok (.ldc2_w 113, 3) := dk_20 0 113 (dk_at dksX3_weeks_0 11 rfl rfl)
theorem dX3_weeks_14 : decode cX3_weeks 14 = .ok (.invokestatic 94, 3) := dk_184 0 94 (dk_at dksX3_weeks_0 14 rfl rfl)
theorem dX3_weeks_17 : decode cX3_weeks 17 = .ok (.ifCond .eq 15, 3) := dk_153 0 15 (dk_at dksX3_weeks_0 17 rfl rfl)
theorem dX3_weeks_20 : decode cX3_weeks 20 = .ok (.iload_n 3, 1) := dk_29 (dk_at dksX3_weeks_0 20 rfl rfl)
theorem dX3_weeks_21 : decode cX3_weeks 21 = .ok (.i2l, 1) := dk_133 (dk_at dksX3_weeks_0 21 rfl rfl)
theorem dX3_weeks_22 : decode cX3_weeks 22 = .ok (.lconst 1, 1) := dk_10 (dk_at dksX3_weeks_0 22 rfl rfl)
theorem dX3_weeks_23 : decode cX3_weeks 23 = .ok (.ldc2_w 370, 3) := dk_20 1 114 (dk_at dksX3_weeks_1 0 rfl rfl)
theorem dX3_weeks_26 : decode cX3_weeks 26 = .ok (.invokestatic 94, 3) := dk_184 0 94 (dk_at dksX3_weeks_1 3 rfl rfl)
theorem dX3_weeks_29 : decode cX3_weeks 29 = .ok (.ifCond .ne 10, 3) := dk_154 0 10 (dk_at dksX3_weeks_1 6 rfl rfl)
theorem dX3_weeks_32 : decode cX3_weeks 32 = .ok (.aload_n 0, 1) := dk_42 (dk_at dksX3_weeks_1 9 rfl rfl)
theorem dX3_weeks_33 : decode cX3_weeks 33 = .ok (.bipush (-2), 2) := dk_16 254 (dk_at dksX3_weeks_1 10 rfl rfl)
theorem dX3_weeks_35 : decode cX3_weeks 35 = .ok (.invokevirtual 119, 3) := dk_182 0 119 (dk_at dksX3_weeks_1 12 rfl rfl)
theorem dX3_weeks_38 : decode cX3_weeks 38 = .ok (.ireturn, 1) := dk_172 (dk_at dksX3_weeks_1 15 rfl rfl)
theorem dX3_weeks_39 : decode cX3_weeks 39 = .ok (.aload_n 0, 1) := dk_42 (dk_at dksX3_weeks_1 16 rfl rfl)
theorem dX3_weeks_40 : decode cX3_weeks 40 = .ok (.iload_n 2, 1) := dk_28 (dk_at dksX3_weeks_1 17 rfl rfl)
theorem dX3_weeks_41 : decode cX3_weeks 41 = .ok (.invokevirtual 271, 3) := dk_182 1 15 (dk_at dksX3_weeks_1 18 rfl rfl)
theorem dX3_weeks_44 : decode cX3_weeks 44 = .ok (.istore 4, 2) := dk_54 4 (dk_at dksX3_weeks_1 21 rfl rfl)
theorem dX3_weeks_46 : decode cX3_weeks 46 = .ok (.iload 4, 2) := dk_21 4 (dk_at dksX3_weeks_2 0 rfl rfl)
theorem dX3_weeks_48 : decode cX3_weeks 48 = .ok (.ifCond .eq 6, 3) := dk_153 0 6 (dk_at dksX3_weeks_2 2 rfl rfl)
theorem dX3_weeks_51 : decode cX3_weeks 51 = .ok (.iload 4, 2) := dk_21 4 (dk_at dksX3_weeks_2 5 rfl rfl)
theorem dX3_weeks_53 : decode cX3_weeks 53 = .ok (.ireturn, 1) := dk_172 (dk_at dksX3_weeks_2 7 rfl rfl)
theorem dX3_weeks_54 : decode cX3_weeks 54 = .ok (.aload_n 0, 1) := dk_42 (dk_at dksX3_weeks_2 8 rfl rfl)
theorem dX3_weeks_55 : decode cX3_weeks 55 = .ok (.iload_n 1, 1) := dk_27 (dk_at dksX3_weeks_2 9 rfl rfl)
theorem dX3_weeks_56 : decode cX3_weeks 56 = .ok (.invokevirtual 264, 3) := dk_182 1 8 (dk_at dksX3_weeks_2 10 rfl rfl)
theorem dX3_weeks_59 : decode cX3_weeks 59 = .ok (.iconst 0, 1) := dk_3 (dk_at dksX3_weeks_2 13 rfl rfl)
theorem dX3_weeks_60 : decode cX3_weeks 60 = .ok (.istore 5, 2) := dk_54 5 (dk_at dksX3_weeks_2 14 rfl rfl)
theorem dX3_weeks_62 : decode cX3_weeks 62 = .ok (.iconst 0, 1) := dk_3 (dk_at dksX3_weeks_2 16 rfl rfl)
theorem dX3_weeks_63 : decode cX3_weeks 63 = .ok (.istore 6, 2) := dk_54 6 (dk_at dksX3_weeks_2 17 rfl rfl)
theorem dX3_weeks_65 : decode cX3_weeks 65 = .ok (.iload 6, 2) := dk_21 6 (dk_at dksX3_weeks_2 19 rfl rfl)
theorem dX3_weeks_67 : decode cX3_weeks 67 = .ok (.iload_n 3, 1) := dk_29 (dk_at dksX3_weeks_2 21 rfl rfl)
theorem dX3_weeks_68 : decode cX3_weeks 68 = .ok (.if_icmp .ge 54, 3) := dk_162 0 54 (dk_at dksX3_weeks_3 0 rfl rfl)
theorem dX3_weeks_71 : decode cX3_weeks 71 = .ok (.iconst 0, 1) := dk_3 (dk_at dksX3_weeks_3 3 rfl rfl)
theorem dX3_weeks_72 : decode cX3_weeks 72 = .ok (.istore 7, 2) := dk_54 7 (dk_at dksX3_weeks_3 4 rfl rfl)
theorem dX3_weeks_74 : decode cX3_weeks 74 = .ok (.aload_n 0, 1) := dk_42 (dk_at dksX3_weeks_3 6 rfl rfl)
theorem dX3_weeks_75 : decode cX3_weeks 75 = .ok (.getfield 45, 3) := dk_180 0 45 (dk_at dksX3_weeks_3 7 rfl rfl)
theorem dX3_weeks_78 : decode cX3_weeks 78 = .ok (.iload_n 1, 1) := dk_27 (dk_at dksX3_weeks_3 10 rfl rfl)
theorem dX3_weeks_79 : decode cX3_weeks 79 = .ok (.aaload, 1) := dk_50 (dk_at dksX3_weeks_3 11 rfl rfl)
theorem dX3_weeks_80 : decode cX3_weeks 80 = .ok (.iconst 0, 1) := dk_3 (dk_at dksX3_weeks_3 12 rfl rfl)
theorem dX3_weeks_81 : decode cX3_weeks 81 = .ok (.iaload, 1) := dk_46 (dk_at dksX3_weeks_3 13 rfl rfl)
theorem dX3_weeks_82 : decode cX3_weeks 82 = .ok (.istore 8, 2) := dk_54 8 (dk_at dksX3_weeks_3 14 rfl rfl)
theorem dX3_weeks_84 : decode cX3_weeks 84 = .ok (.iload 8, 2) := dk_21 8 (dk_at dksX3_weeks_3 16 rfl rfl)
theorem dX3_weeks_86 : decode cX3_weeks 86 = .ok (.ifCond .le 30, 3) := dk_158 0 30 (dk_at dksX3_weeks_3 18 rfl rfl)
theorem dX3_weeks_89 : decode cX3_weeks 89 = .ok (.iload 5, 2) := dk_21 5 (dk_at dksX3_weeks_3 21 rfl rfl)
theorem dX3_weeks_91 : decode cX3_weeks 91 = .ok (.aload_n 0, 1) := dk_42 (dk_at dksX3_weeks_3 23 rfl rfl)
theorem dX3_weeks_92 : decode cX3_weeks 92 = .ok (.iload_n 1, 1) := dk_27 (dk_at dksX3_weeks_4 0 rfl rfl)
theorem dX3_weeks_93 : decode cX3_weeks 93 = .ok (.iload 8, 2) := dk_21 8 (dk_at dksX3_weeks_4 1 rfl rfl)
theorem dX3_weeks_95 : decode cX3_weeks 95 = .ok (.iload 7, 2) := dk_21 7 (dk_at dksX3_weeks_4 3 rfl rfl)
theorem dX3_weeks_97 : decode cX3_weeks 97 = .ok (.iload_n 2, 1) := dk_28 (dk_at dksX3_weeks_4 5 rfl rfl)
theorem dX3_weeks_98 : decode cX3_weeks 98 = .ok (.invokevirtual 367, 3) := dk_182 1 111 (dk_at dksX3_weeks_4 6 rfl rfl)
theorem dX3_weeks_101 : decode cX3_weeks 101 = .ok (.iadd, 1) := dk_96 (dk_at dksX3_weeks_4 9 rfl rfl)
theorem dX3_weeks_102 : decode cX3_weeks 102 = .ok (.istore 5, 2) := dk_54 5 (dk_at dksX3_weeks_4 10 rfl rfl)
theorem dX3_weeks_104 : decode cX3_weeks 104 = .ok (.aload_n 0, 1) := dk_42 (dk_at dksX3_weeks_4 12 rfl rfl)
theorem dX3_weeks_105 : decode cX3_weeks 105 = .ok (.getfield 343, 3) := dk_180 1 87 (dk_at dksX3_weeks_4 13 rfl rfl)
theorem dX3_weeks_108 : decode cX3_weeks 108 = .ok (.istore 7, 2) := dk_54 7 (dk_at dksX3_weeks_4 16 rfl rfl)
theorem dX3_weeks_110 : decode cX3_weeks 110 = .ok (.iinc 8 (-1), 3) := dk_132 8 255 (dk_at dksX3_weeks_4 18 rfl rfl)
theorem dX3_weeks_113 : decode cX3_weeks 113 = .ok (.goto (-29), 3) := dk_167 255 227 (dk_at dksX3_weeks_4 21 rfl rfl)
theorem dX3_weeks_116 : decode cX3_weeks 116 = .ok (.iinc 6 1, 3) := dk_132 6 1 (dk_at dksX3_weeks_5 0 rfl rfl)
theorem dX3_weeks_119 : decode cX3_weeks 119 = .ok (.goto (-54), 3) := dk_167 255 202 (dk_at dksX3_weeks_5 3 rfl rfl)
theorem dX3_weeks_122 : decode cX3_weeks 122 = .ok (.iload 5, 2) := dk_21 5 (dk_at dksX3_weeks_5 6 rfl rfl)
theorem dX3_weeks_124 : decode cX3_weeks 124 = .ok (.ireturn, 1) := dk_172 (dk_at dksX3_weeks_5 8 rfl rfl)
abbrev cX3_image : ByteArray := prog_17_method_93_code
def yX3_image : MethodName := ⟨RX3, "image", "()I"⟩
def dkwX3_image_1 : List UInt8 := [182, 1, 121, 4, 172]
abbrev dktX3_image_1 : List UInt8 := dkwX3_image_1 ++ []
def dkwX3_image_0 : List UInt8 := [42, 180, 1, 116, 199, 0, 14, 42, 187, 0, 8, 89, 183, 1, 120, 181, 1, 116, 42, 180, 1, 116, 42]
abbrev dktX3_image_0 : List UInt8 := dkwX3_image_0 ++ dktX3_image_1
theorem dksX3_image_0 : cX3_image.data.toList.drop 0 = dktX3_image_0 := by decide +kernel
theorem dksX3_image_1 : cX3_image.data.toList.drop 23 = dktX3_image_1 := dk_seg dksX3_image_0 23 rfl rfl
theorem dX3_image_0 : decode cX3_image 0 = .ok (.aload_n 0, 1) := dk_42 (dk_at dksX3_image_0 0 rfl rfl)
theorem dX3_image_1 : decode cX3_image 1 = .ok (.getfield 372, 3) := dk_180 1 116 (dk_at dksX3_image_0 1 rfl rfl)
theorem dX3_image_4 : decode cX3_image 4 = .ok (.ifnonnull 14, 3) := dk_199 0 14 (dk_at dksX3_image_0 4 rfl rfl)
theorem dX3_image_7 : decode cX3_image 7 = .ok (.aload_n 0, 1) := dk_42 (dk_at dksX3_image_0 7 rfl rfl)
theorem dX3_image_8 : decode cX3_image 8 = .ok (.new 8, 3) := dk_187 0 8 (dk_at dksX3_image_0 8 rfl rfl)
theorem dX3_image_11 : decode cX3_image 11 = .ok (.dup, 1) := dk_89 (dk_at dksX3_image_0 11 rfl rfl)
theorem dX3_image_12 : decode cX3_image 12 = .ok (.invokespecial 376, 3) := dk_183 1 120 (dk_at dksX3_image_0 12 rfl rfl)
theorem dX3_image_15 : decode cX3_image 15 = .ok (.putfield 372, 3) := dk_181 1 116 (dk_at dksX3_image_0 15 rfl rfl)
theorem dX3_image_18 : decode cX3_image 18 = .ok (.aload_n 0, 1) := dk_42 (dk_at dksX3_image_0 18 rfl rfl)
theorem dX3_image_19 : decode cX3_image 19 = .ok (.getfield 372, 3) := dk_180 1 116 (dk_at dksX3_image_0 19 rfl rfl)
theorem dX3_image_22 : decode cX3_image 22 = .ok (.aload_n 0, 1) := dk_42 (dk_at dksX3_image_0 22 rfl rfl)
theorem dX3_image_23 : decode cX3_image 23 = .ok (.invokevirtual 377, 3) := dk_182 1 121 (dk_at dksX3_image_1 0 rfl rfl)
theorem dX3_image_26 : decode cX3_image 26 = .ok (.iconst 1, 1) := dk_4 (dk_at dksX3_image_1 3 rfl rfl)
theorem dX3_image_27 : decode cX3_image 27 = .ok (.ireturn, 1) := dk_172 (dk_at dksX3_image_1 4 rfl rfl)
abbrev cX3_takeFrom : ByteArray := prog_17_method_92_code
def yX3_takeFrom : MethodName := ⟨RX3, "takeFrom", "(LSendTheBoxModel;)V"⟩
def dkwX3_takeFrom_7 : List UInt8 := [181, 1, 105, 42, 43, 180, 1, 108, 181, 1, 108, 177]
abbrev dktX3_takeFrom_7 : List UInt8 := dkwX3_takeFrom_7 ++ []
def dkwX3_takeFrom_6 : List UInt8 := [181, 1, 96, 42, 43, 180, 1, 99, 181, 1, 99, 42, 43, 180, 1, 102, 181, 1, 102, 42, 43, 180, 1, 105]
abbrev dktX3_takeFrom_6 : List UInt8 := dkwX3_takeFrom_6 ++ dktX3_takeFrom_7
def dkwX3_takeFrom_5 : List UInt8 := [181, 0, 48, 42, 43, 180, 1, 90, 181, 1, 90, 42, 43, 180, 1, 93, 181, 1, 93, 42, 43, 180, 1, 96]
abbrev dktX3_takeFrom_5 : List UInt8 := dkwX3_takeFrom_5 ++ dktX3_takeFrom_6
def dkwX3_takeFrom_4 : List UInt8 := [50, 28, 43, 180, 0, 36, 16, 8, 50, 28, 46, 79, 132, 2, 1, 167, 255, 229, 42, 43, 180, 0, 48]
abbrev dktX3_takeFrom_4 : List UInt8 := dkwX3_takeFrom_4 ++ dktX3_takeFrom_5
def dkwX3_takeFrom_3 : List UInt8 := [16, 8, 43, 180, 0, 31, 16, 8, 46, 79, 3, 61, 28, 16, 125, 162, 0, 27, 42, 180, 0, 36, 16, 8]
abbrev dktX3_takeFrom_3 : List UInt8 := dkwX3_takeFrom_3 ++ dktX3_takeFrom_4
def dkwX3_takeFrom_2 : List UInt8 := [132, 2, 1, 167, 255, 217, 42, 180, 0, 28, 16, 8, 43, 180, 0, 28, 16, 8, 46, 79, 42, 180, 0, 31]
abbrev dktX3_takeFrom_2 : List UInt8 := dkwX3_takeFrom_2 ++ dktX3_takeFrom_3
def dkwX3_takeFrom_1 : List UInt8 := [42, 180, 0, 45, 28, 50, 29, 43, 180, 0, 45, 28, 50, 29, 46, 79, 132, 3, 1, 167, 255, 231]
abbrev dktX3_takeFrom_1 : List UInt8 := dkwX3_takeFrom_1 ++ dktX3_takeFrom_2
def dkwX3_takeFrom_0 : List UInt8 := [42, 43, 180, 0, 91, 181, 0, 91, 3, 61, 28, 16, 8, 162, 0, 39, 3, 62, 29, 16, 20, 162, 0, 25]
abbrev dktX3_takeFrom_0 : List UInt8 := dkwX3_takeFrom_0 ++ dktX3_takeFrom_1
theorem dksX3_takeFrom_0 : cX3_takeFrom.data.toList.drop 0 = dktX3_takeFrom_0 := by decide +kernel
theorem dksX3_takeFrom_1 : cX3_takeFrom.data.toList.drop 24 = dktX3_takeFrom_1 := dk_seg dksX3_takeFrom_0 24 rfl rfl
theorem dksX3_takeFrom_2 : cX3_takeFrom.data.toList.drop 46 = dktX3_takeFrom_2 := dk_seg dksX3_takeFrom_1 22 rfl rfl
theorem dksX3_takeFrom_3 : cX3_takeFrom.data.toList.drop 70 = dktX3_takeFrom_3 := dk_seg dksX3_takeFrom_2 24 rfl rfl
theorem dksX3_takeFrom_4 : cX3_takeFrom.data.toList.drop 94 = dktX3_takeFrom_4 := dk_seg dksX3_takeFrom_3 24 rfl rfl
theorem dksX3_takeFrom_5 : cX3_takeFrom.data.toList.drop 117 = dktX3_takeFrom_5 := dk_seg dksX3_takeFrom_4 23 rfl rfl
theorem dksX3_takeFrom_6 : cX3_takeFrom.data.toList.drop 141 = dktX3_takeFrom_6 := dk_seg dksX3_takeFrom_5 24 rfl rfl
theorem dksX3_takeFrom_7 : cX3_takeFrom.data.toList.drop 165 = dktX3_takeFrom_7 := dk_seg dksX3_takeFrom_6 24 rfl rfl
theorem dX3_takeFrom_0 : decode cX3_takeFrom 0 = .ok (.aload_n 0, 1) := dk_42 (dk_at dksX3_takeFrom_0 0 rfl rfl)
theorem dX3_takeFrom_1 : decode cX3_takeFrom 1 = .ok (.aload_n 1, 1) := dk_43 (dk_at dksX3_takeFrom_0 1 rfl rfl)
theorem dX3_takeFrom_2 : decode cX3_takeFrom 2 = .ok (.getfield 91, 3) := dk_180 0 91 (dk_at dksX3_takeFrom_0 2 rfl rfl)
theorem dX3_takeFrom_5 : decode cX3_takeFrom 5 = .ok (.putfield 91, 3) := dk_181 0 91 (dk_at dksX3_takeFrom_0 5 rfl rfl)
theorem dX3_takeFrom_8 : decode cX3_takeFrom 8 = .ok (.iconst 0, 1) := dk_3 (dk_at dksX3_takeFrom_0 8 rfl rfl)
theorem dX3_takeFrom_9 : decode cX3_takeFrom 9 = .ok (.istore_n 2, 1) := dk_61 (dk_at dksX3_takeFrom_0 9 rfl rfl)
theorem dX3_takeFrom_10 : decode cX3_takeFrom 10 = .ok (.iload_n 2, 1) := dk_28 (dk_at dksX3_takeFrom_0 10 rfl rfl)
theorem dX3_takeFrom_11 : decode cX3_takeFrom 11 = .ok (.bipush 8, 2) := dk_16 8 (dk_at dksX3_takeFrom_0 11 rfl rfl)
theorem dX3_takeFrom_13 : decode cX3_takeFrom 13 = .ok (.if_icmp .ge 39, 3) := dk_162 0 39 (dk_at dksX3_takeFrom_0 13 rfl rfl)
theorem dX3_takeFrom_16 : decode cX3_takeFrom 16 = .ok (.iconst 0, 1) := dk_3 (dk_at dksX3_takeFrom_0 16 rfl rfl)
theorem dX3_takeFrom_17 : decode cX3_takeFrom 17 = .ok (.istore_n 3, 1) := dk_62 (dk_at dksX3_takeFrom_0 17 rfl rfl)
theorem dX3_takeFrom_18 : decode cX3_takeFrom 18 = .ok (.iload_n 3, 1) := dk_29 (dk_at dksX3_takeFrom_0 18 rfl rfl)
theorem dX3_takeFrom_19 : decode cX3_takeFrom 19 = .ok (.bipush 20, 2) := dk_16 20 (dk_at dksX3_takeFrom_0 19 rfl rfl)
theorem dX3_takeFrom_21 : decode cX3_takeFrom 21 = .ok (.if_icmp .ge 25, 3) := dk_162 0 25 (dk_at dksX3_takeFrom_0 21 rfl rfl)
theorem dX3_takeFrom_24 : decode cX3_takeFrom 24 = .ok (.aload_n 0, 1) := dk_42 (dk_at dksX3_takeFrom_1 0 rfl rfl)
theorem dX3_takeFrom_25 : decode cX3_takeFrom 25 = .ok (.getfield 45, 3) := dk_180 0 45 (dk_at dksX3_takeFrom_1 1 rfl rfl)
theorem dX3_takeFrom_28 : decode cX3_takeFrom 28 = .ok (.iload_n 2, 1) := dk_28 (dk_at dksX3_takeFrom_1 4 rfl rfl)
theorem dX3_takeFrom_29 : decode cX3_takeFrom 29 = .ok (.aaload, 1) := dk_50 (dk_at dksX3_takeFrom_1 5 rfl rfl)
theorem dX3_takeFrom_30 : decode cX3_takeFrom 30 = .ok (.iload_n 3, 1) := dk_29 (dk_at dksX3_takeFrom_1 6 rfl rfl)
theorem dX3_takeFrom_31 : decode cX3_takeFrom 31 = .ok (.aload_n 1, 1) := dk_43 (dk_at dksX3_takeFrom_1 7 rfl rfl)
theorem dX3_takeFrom_32 : decode cX3_takeFrom 32 = .ok (.getfield 45, 3) := dk_180 0 45 (dk_at dksX3_takeFrom_1 8 rfl rfl)
theorem dX3_takeFrom_35 : decode cX3_takeFrom 35 = .ok (.iload_n 2, 1) := dk_28 (dk_at dksX3_takeFrom_1 11 rfl rfl)
theorem dX3_takeFrom_36 : decode cX3_takeFrom 36 = .ok (.aaload, 1) := dk_50 (dk_at dksX3_takeFrom_1 12 rfl rfl)
theorem dX3_takeFrom_37 : decode cX3_takeFrom 37 = .ok (.iload_n 3, 1) := dk_29 (dk_at dksX3_takeFrom_1 13 rfl rfl)
theorem dX3_takeFrom_38 : decode cX3_takeFrom 38 = .ok (.iaload, 1) := dk_46 (dk_at dksX3_takeFrom_1 14 rfl rfl)
theorem dX3_takeFrom_39 : decode cX3_takeFrom 39 = .ok (.iastore, 1) := dk_79 (dk_at dksX3_takeFrom_1 15 rfl rfl)
theorem dX3_takeFrom_40 : decode cX3_takeFrom 40 = .ok (.iinc 3 1, 3) := dk_132 3 1 (dk_at dksX3_takeFrom_1 16 rfl rfl)
theorem dX3_takeFrom_43 : decode cX3_takeFrom 43 = .ok (.goto (-25), 3) := dk_167 255 231 (dk_at dksX3_takeFrom_1 19 rfl rfl)
theorem dX3_takeFrom_46 : decode cX3_takeFrom 46 = .ok (.iinc 2 1, 3) := dk_132 2 1 (dk_at dksX3_takeFrom_2 0 rfl rfl)
theorem dX3_takeFrom_49 : decode cX3_takeFrom 49 = .ok (.goto (-39), 3) := dk_167 255 217 (dk_at dksX3_takeFrom_2 3 rfl rfl)
theorem dX3_takeFrom_52 : decode cX3_takeFrom 52 = .ok (.aload_n 0, 1) := dk_42 (dk_at dksX3_takeFrom_2 6 rfl rfl)
theorem dX3_takeFrom_53 : decode cX3_takeFrom 53 = .ok (.getfield 28, 3) := dk_180 0 28 (dk_at dksX3_takeFrom_2 7 rfl rfl)
theorem dX3_takeFrom_56 : decode cX3_takeFrom 56 = .ok (.bipush 8, 2) := dk_16 8 (dk_at dksX3_takeFrom_2 10 rfl rfl)
theorem dX3_takeFrom_58 : decode cX3_takeFrom 58 = .ok (.aload_n 1, 1) := dk_43 (dk_at dksX3_takeFrom_2 12 rfl rfl)
theorem dX3_takeFrom_59 : decode cX3_takeFrom 59 = .ok (.getfield 28, 3) := dk_180 0 28 (dk_at dksX3_takeFrom_2 13 rfl rfl)
theorem dX3_takeFrom_62 : decode cX3_takeFrom 62 = .ok (.bipush 8, 2) := dk_16 8 (dk_at dksX3_takeFrom_2 16 rfl rfl)
theorem dX3_takeFrom_64 : decode cX3_takeFrom 64 = .ok (.iaload, 1) := dk_46 (dk_at dksX3_takeFrom_2 18 rfl rfl)
theorem dX3_takeFrom_65 : decode cX3_takeFrom 65 = .ok (.iastore, 1) := dk_79 (dk_at dksX3_takeFrom_2 19 rfl rfl)
theorem dX3_takeFrom_66 : decode cX3_takeFrom 66 = .ok (.aload_n 0, 1) := dk_42 (dk_at dksX3_takeFrom_2 20 rfl rfl)
theorem dX3_takeFrom_67 : decode cX3_takeFrom 67 = .ok (.getfield 31, 3) := dk_180 0 31 (dk_at dksX3_takeFrom_2 21 rfl rfl)
theorem dX3_takeFrom_70 : decode cX3_takeFrom 70 = .ok (.bipush 8, 2) := dk_16 8 (dk_at dksX3_takeFrom_3 0 rfl rfl)
theorem dX3_takeFrom_72 : decode cX3_takeFrom 72 = .ok (.aload_n 1, 1) := dk_43 (dk_at dksX3_takeFrom_3 2 rfl rfl)
theorem dX3_takeFrom_73 : decode cX3_takeFrom 73 = .ok (.getfield 31, 3) := dk_180 0 31 (dk_at dksX3_takeFrom_3 3 rfl rfl)
theorem dX3_takeFrom_76 : decode cX3_takeFrom 76 = .ok (.bipush 8, 2) := dk_16 8 (dk_at dksX3_takeFrom_3 6 rfl rfl)
theorem dX3_takeFrom_78 : decode cX3_takeFrom 78 = .ok (.iaload, 1) := dk_46 (dk_at dksX3_takeFrom_3 8 rfl rfl)
theorem dX3_takeFrom_79 : decode cX3_takeFrom 79 = .ok (.iastore, 1) := dk_79 (dk_at dksX3_takeFrom_3 9 rfl rfl)
theorem dX3_takeFrom_80 : decode cX3_takeFrom 80 = .ok (.iconst 0, 1) := dk_3 (dk_at dksX3_takeFrom_3 10 rfl rfl)
theorem dX3_takeFrom_81 : decode cX3_takeFrom 81 = .ok (.istore_n 2, 1) := dk_61 (dk_at dksX3_takeFrom_3 11 rfl rfl)
theorem dX3_takeFrom_82 : decode cX3_takeFrom 82 = .ok (.iload_n 2, 1) := dk_28 (dk_at dksX3_takeFrom_3 12 rfl rfl)
theorem dX3_takeFrom_83 : decode cX3_takeFrom 83 = .ok (.bipush 125, 2) := dk_16 125 (dk_at dksX3_takeFrom_3 13 rfl rfl)
theorem dX3_takeFrom_85 : decode cX3_takeFrom 85 = .ok (.if_icmp .ge 27, 3) := dk_162 0 27 (dk_at dksX3_takeFrom_3 15 rfl rfl)
theorem dX3_takeFrom_88 : decode cX3_takeFrom 88 = .ok (.aload_n 0, 1) := dk_42 (dk_at dksX3_takeFrom_3 18 rfl rfl)
theorem dX3_takeFrom_89 : decode cX3_takeFrom 89 = .ok (.getfield 36, 3) := dk_180 0 36 (dk_at dksX3_takeFrom_3 19 rfl rfl)
theorem dX3_takeFrom_92 : decode cX3_takeFrom 92 = .ok (.bipush 8, 2) := dk_16 8 (dk_at dksX3_takeFrom_3 22 rfl rfl)
theorem dX3_takeFrom_94 : decode cX3_takeFrom 94 = .ok (.aaload, 1) := dk_50 (dk_at dksX3_takeFrom_4 0 rfl rfl)
theorem dX3_takeFrom_95 : decode cX3_takeFrom 95 = .ok (.iload_n 2, 1) := dk_28 (dk_at dksX3_takeFrom_4 1 rfl rfl)
theorem dX3_takeFrom_96 : decode cX3_takeFrom 96 = .ok (.aload_n 1, 1) := dk_43 (dk_at dksX3_takeFrom_4 2 rfl rfl)
theorem dX3_takeFrom_97 : decode cX3_takeFrom 97 = .ok (.getfield 36, 3) := dk_180 0 36 (dk_at dksX3_takeFrom_4 3 rfl rfl)
theorem dX3_takeFrom_100 : decode cX3_takeFrom 100 = .ok (.bipush 8, 2) := dk_16 8 (dk_at dksX3_takeFrom_4 6 rfl rfl)
theorem dX3_takeFrom_102 : decode cX3_takeFrom 102 = .ok (.aaload, 1) := dk_50 (dk_at dksX3_takeFrom_4 8 rfl rfl)
theorem dX3_takeFrom_103 : decode cX3_takeFrom 103 = .ok (.iload_n 2, 1) := dk_28 (dk_at dksX3_takeFrom_4 9 rfl rfl)
theorem dX3_takeFrom_104 : decode cX3_takeFrom 104 = .ok (.iaload, 1) := dk_46 (dk_at dksX3_takeFrom_4 10 rfl rfl)
theorem dX3_takeFrom_105 : decode cX3_takeFrom 105 = .ok (.iastore, 1) := dk_79 (dk_at dksX3_takeFrom_4 11 rfl rfl)
theorem dX3_takeFrom_106 : decode cX3_takeFrom 106 = .ok (.iinc 2 1, 3) := dk_132 2 1 (dk_at dksX3_takeFrom_4 12 rfl rfl)
theorem dX3_takeFrom_109 : decode cX3_takeFrom 109 = .ok (.goto (-27), 3) := dk_167 255 229 (dk_at dksX3_takeFrom_4 15 rfl rfl)
theorem dX3_takeFrom_112 : decode cX3_takeFrom 112 = .ok (.aload_n 0, 1) := dk_42 (dk_at dksX3_takeFrom_4 18 rfl rfl)
theorem dX3_takeFrom_113 : decode cX3_takeFrom 113 = .ok (.aload_n 1, 1) := dk_43 (dk_at dksX3_takeFrom_4 19 rfl rfl)
theorem dX3_takeFrom_114 : decode cX3_takeFrom 114 = .ok (.getfield 48, 3) := dk_180 0 48 (dk_at dksX3_takeFrom_4 20 rfl rfl)
theorem dX3_takeFrom_117 : decode cX3_takeFrom 117 = .ok (.putfield 48, 3) := dk_181 0 48 (dk_at dksX3_takeFrom_5 0 rfl rfl)
theorem dX3_takeFrom_120 : decode cX3_takeFrom 120 = .ok (.aload_n 0, 1) := dk_42 (dk_at dksX3_takeFrom_5 3 rfl rfl)
theorem dX3_takeFrom_121 : decode cX3_takeFrom 121 = .ok (.aload_n 1, 1) := dk_43 (dk_at dksX3_takeFrom_5 4 rfl rfl)
theorem dX3_takeFrom_122 : decode cX3_takeFrom 122 = .ok (.getfield 346, 3) := dk_180 1 90 (dk_at dksX3_takeFrom_5 5 rfl rfl)
theorem dX3_takeFrom_125 : decode cX3_takeFrom 125 = .ok (.putfield 346, 3) := dk_181 1 90 (dk_at dksX3_takeFrom_5 8 rfl rfl)
theorem dX3_takeFrom_128 : decode cX3_takeFrom 128 = .ok (.aload_n 0, 1) := dk_42 (dk_at dksX3_takeFrom_5 11 rfl rfl)
theorem dX3_takeFrom_129 : decode cX3_takeFrom 129 = .ok (.aload_n 1, 1) := dk_43 (dk_at dksX3_takeFrom_5 12 rfl rfl)
theorem dX3_takeFrom_130 : decode cX3_takeFrom 130 = .ok (.getfield 349, 3) := dk_180 1 93 (dk_at dksX3_takeFrom_5 13 rfl rfl)
theorem dX3_takeFrom_133 : decode cX3_takeFrom 133 = .ok (.putfield 349, 3) := dk_181 1 93 (dk_at dksX3_takeFrom_5 16 rfl rfl)
theorem dX3_takeFrom_136 : decode cX3_takeFrom 136 = .ok (.aload_n 0, 1) := dk_42 (dk_at dksX3_takeFrom_5 19 rfl rfl)
theorem dX3_takeFrom_137 : decode cX3_takeFrom 137 = .ok (.aload_n 1, 1) := dk_43 (dk_at dksX3_takeFrom_5 20 rfl rfl)
theorem dX3_takeFrom_138 : decode cX3_takeFrom 138 = .ok (.getfield 352, 3) := dk_180 1 96 (dk_at dksX3_takeFrom_5 21 rfl rfl)
theorem dX3_takeFrom_141 : decode cX3_takeFrom 141 = .ok (.putfield 352, 3) := dk_181 1 96 (dk_at dksX3_takeFrom_6 0 rfl rfl)
theorem dX3_takeFrom_144 : decode cX3_takeFrom 144 = .ok (.aload_n 0, 1) := dk_42 (dk_at dksX3_takeFrom_6 3 rfl rfl)
theorem dX3_takeFrom_145 : decode cX3_takeFrom 145 = .ok (.aload_n 1, 1) := dk_43 (dk_at dksX3_takeFrom_6 4 rfl rfl)
theorem dX3_takeFrom_146 : decode cX3_takeFrom 146 = .ok (.getfield 355, 3) := dk_180 1 99 (dk_at dksX3_takeFrom_6 5 rfl rfl)
theorem dX3_takeFrom_149 : decode cX3_takeFrom 149 = .ok (.putfield 355, 3) := dk_181 1 99 (dk_at dksX3_takeFrom_6 8 rfl rfl)
theorem dX3_takeFrom_152 : decode cX3_takeFrom 152 = .ok (.aload_n 0, 1) := dk_42 (dk_at dksX3_takeFrom_6 11 rfl rfl)
theorem dX3_takeFrom_153 : decode cX3_takeFrom 153 = .ok (.aload_n 1, 1) := dk_43 (dk_at dksX3_takeFrom_6 12 rfl rfl)
theorem dX3_takeFrom_154 : decode cX3_takeFrom 154 = .ok (.getfield 358, 3) := dk_180 1 102 (dk_at dksX3_takeFrom_6 13 rfl rfl)
theorem dX3_takeFrom_157 : decode cX3_takeFrom 157 = .ok (.putfield 358, 3) := dk_181 1 102 (dk_at dksX3_takeFrom_6 16 rfl rfl)
theorem dX3_takeFrom_160 : decode cX3_takeFrom 160 = .ok (.aload_n 0, 1) := dk_42 (dk_at dksX3_takeFrom_6 19 rfl rfl)
theorem dX3_takeFrom_161 : decode cX3_takeFrom 161 = .ok (.aload_n 1, 1) := dk_43 (dk_at dksX3_takeFrom_6 20 rfl rfl)
theorem dX3_takeFrom_162 : decode cX3_takeFrom 162 = .ok (.getfield 361, 3) := dk_180 1 105 (dk_at dksX3_takeFrom_6 21 rfl rfl)
theorem dX3_takeFrom_165 : decode cX3_takeFrom 165 = .ok (.putfield 361, 3) := dk_181 1 105 (dk_at dksX3_takeFrom_7 0 rfl rfl)
theorem dX3_takeFrom_168 : decode cX3_takeFrom 168 = .ok (.aload_n 0, 1) := dk_42 (dk_at dksX3_takeFrom_7 3 rfl rfl)
theorem dX3_takeFrom_169 : decode cX3_takeFrom 169 = .ok (.aload_n 1, 1) := dk_43 (dk_at dksX3_takeFrom_7 4 rfl rfl)
theorem dX3_takeFrom_170 : decode cX3_takeFrom 170 = .ok (.getfield 364, 3) := dk_180 1 108 (dk_at dksX3_takeFrom_7 5 rfl rfl)
theorem dX3_takeFrom_173 : decode cX3_takeFrom 173 = .ok (.putfield 364, 3) := dk_181 1 108 (dk_at dksX3_takeFrom_7 8 rfl rfl)
theorem dX3_takeFrom_176 : decode cX3_takeFrom 176 = .ok (.return_, 1) := dk_177 (dk_at dksX3_takeFrom_7 11 rfl rfl)
abbrev cX3_back : ByteArray := prog_17_method_94_code
def yX3_back : MethodName := ⟨RX3, "back", "()I"⟩
def dkwX3_back_0 : List UInt8 := [42, 180, 1, 116, 199, 0, 10, 42, 16, 251, 182, 0, 119, 172, 42, 42, 180, 1, 116, 182, 1, 121, 4, 172]
abbrev dktX3_back_0 : List UInt8 := dkwX3_back_0 ++ []
theorem dksX3_back_0 : cX3_back.data.toList.drop 0 = dktX3_back_0 := by decide +kernel
theorem dX3_back_0 : decode cX3_back 0 = .ok (.aload_n 0, 1) := dk_42 (dk_at dksX3_back_0 0 rfl rfl)
theorem dX3_back_1 : decode cX3_back 1 = .ok (.getfield 372, 3) := dk_180 1 116 (dk_at dksX3_back_0 1 rfl rfl)
theorem dX3_back_4 : decode cX3_back 4 = .ok (.ifnonnull 10, 3) := dk_199 0 10 (dk_at dksX3_back_0 4 rfl rfl)
theorem dX3_back_7 : decode cX3_back 7 = .ok (.aload_n 0, 1) := dk_42 (dk_at dksX3_back_0 7 rfl rfl)
theorem dX3_back_8 : decode cX3_back 8 = .ok (.bipush (-5), 2) := dk_16 251 (dk_at dksX3_back_0 8 rfl rfl)
theorem dX3_back_10 : decode cX3_back 10 = .ok (.invokevirtual 119, 3) := dk_182 0 119 (dk_at dksX3_back_0 10 rfl rfl)
theorem dX3_back_13 : decode cX3_back 13 = .ok (.ireturn, 1) := dk_172 (dk_at dksX3_back_0 13 rfl rfl)
theorem dX3_back_14 : decode cX3_back 14 = .ok (.aload_n 0, 1) := dk_42 (dk_at dksX3_back_0 14 rfl rfl)
theorem dX3_back_15 : decode cX3_back 15 = .ok (.aload_n 0, 1) := dk_42 (dk_at dksX3_back_0 15 rfl rfl)
theorem dX3_back_16 : decode cX3_back 16 = .ok (.getfield 372, 3) := dk_180 1 116 (dk_at dksX3_back_0 16 rfl rfl)
theorem dX3_back_19 : decode cX3_back 19 = .ok (.invokevirtual 377, 3) := dk_182 1 121 (dk_at dksX3_back_0 19 rfl rfl)
theorem dX3_back_22 : decode cX3_back 22 = .ok (.iconst 1, 1) := dk_4 (dk_at dksX3_back_0 22 rfl rfl)
theorem dX3_back_23 : decode cX3_back 23 = .ok (.ireturn, 1) := dk_172 (dk_at dksX3_back_0 23 rfl rfl)
abbrev cX3_status : ByteArray := prog_17_method_95_code
def yX3_status : MethodName := ⟨RX3, "status", "(I)I"⟩
def dkwX3_status_5 : List UInt8 := [16, 10, 100, 46, 167, 0, 4, 2, 172]
abbrev dktX3_status_5 : List UInt8 := dkwX3_status_5 ++ []
def dkwX3_status_4 : List UInt8 := [167, 255, 230, 28, 172, 27, 133, 20, 1, 125, 20, 1, 127, 184, 0, 94, 153, 0, 15, 42, 180, 0, 42, 27]
abbrev dktX3_status_4 : List UInt8 := dkwX3_status_4 ++ dktX3_status_5
def dkwX3_status_3 : List UInt8 := [162, 0, 26, 28, 42, 180, 0, 7, 29, 46, 153, 0, 7, 4, 167, 0, 4, 3, 96, 61, 132, 3, 1]
abbrev dktX3_status_3 : List UInt8 := dkwX3_status_3 ++ dktX3_status_4
def dkwX3_status_2 : List UInt8 := [42, 180, 0, 91, 172, 42, 180, 0, 136, 172, 42, 180, 0, 48, 172, 3, 61, 3, 62, 29, 16, 8]
abbrev dktX3_status_2 : List UInt8 := dkwX3_status_2 ++ dktX3_status_3
def dkwX3_status_1 : List UInt8 := [170, 0, 0, 0, 0, 0, 81, 0, 0, 0, 0, 0, 0, 0, 3, 0, 0, 0, 31, 0, 0, 0, 36, 0, 0, 0, 41, 0, 0, 0, 46]
abbrev dktX3_status_1 : List UInt8 := dkwX3_status_1 ++ dktX3_status_2
def dkwX3_status_0 : List UInt8 := [27]
abbrev dktX3_status_0 : List UInt8 := dkwX3_status_0 ++ dktX3_status_1
theorem dksX3_status_0 : cX3_status.data.toList.drop 0 = dktX3_status_0 := by decide +kernel
theorem dksX3_status_1 : cX3_status.data.toList.drop 1 = dktX3_status_1 := dk_seg dksX3_status_0 1 rfl rfl
theorem dksX3_status_2 : cX3_status.data.toList.drop 32 = dktX3_status_2 := dk_seg dksX3_status_1 31 rfl rfl
theorem dksX3_status_3 : cX3_status.data.toList.drop 54 = dktX3_status_3 := dk_seg dksX3_status_2 22 rfl rfl
theorem dksX3_status_4 : cX3_status.data.toList.drop 77 = dktX3_status_4 := dk_seg dksX3_status_3 23 rfl rfl
theorem dksX3_status_5 : cX3_status.data.toList.drop 101 = dktX3_status_5 := dk_seg dksX3_status_4 24 rfl rfl
theorem dX3_status_0 : decode cX3_status 0 = .ok (.iload_n 1, 1) := dk_27 (dk_at dksX3_status_0 0 rfl rfl)
theorem dX3_status_1 : decode cX3_status 1 = .ok (.tableswitch 81 0 3 #[31, 36, 41, 46], 31) := by decide +kernel
theorem dX3_status_32 : decode cX3_status 32 = .ok (.aload_n 0, 1) := dk_42 (dk_at dksX3_status_2 0 rfl rfl)
theorem dX3_status_33 : decode cX3_status 33 = .ok (.getfield 91, 3) := dk_180 0 91 (dk_at dksX3_status_2 1 rfl rfl)
theorem dX3_status_36 : decode cX3_status 36 = .ok (.ireturn, 1) := dk_172 (dk_at dksX3_status_2 4 rfl rfl)
theorem dX3_status_37 : decode cX3_status 37 = .ok (.aload_n 0, 1) := dk_42 (dk_at dksX3_status_2 5 rfl rfl)
theorem dX3_status_38 : decode cX3_status 38 = .ok (.getfield 136, 3) := dk_180 0 136 (dk_at dksX3_status_2 6 rfl rfl)
theorem dX3_status_41 : decode cX3_status 41 = .ok (.ireturn, 1) := dk_172 (dk_at dksX3_status_2 9 rfl rfl)
theorem dX3_status_42 : decode cX3_status 42 = .ok (.aload_n 0, 1) := dk_42 (dk_at dksX3_status_2 10 rfl rfl)
theorem dX3_status_43 : decode cX3_status 43 = .ok (.getfield 48, 3) := dk_180 0 48 (dk_at dksX3_status_2 11 rfl rfl)
theorem dX3_status_46 : decode cX3_status 46 = .ok (.ireturn, 1) := dk_172 (dk_at dksX3_status_2 14 rfl rfl)
theorem dX3_status_47 : decode cX3_status 47 = .ok (.iconst 0, 1) := dk_3 (dk_at dksX3_status_2 15 rfl rfl)
theorem dX3_status_48 : decode cX3_status 48 = .ok (.istore_n 2, 1) := dk_61 (dk_at dksX3_status_2 16 rfl rfl)
theorem dX3_status_49 : decode cX3_status 49 = .ok (.iconst 0, 1) := dk_3 (dk_at dksX3_status_2 17 rfl rfl)
theorem dX3_status_50 : decode cX3_status 50 = .ok (.istore_n 3, 1) := dk_62 (dk_at dksX3_status_2 18 rfl rfl)
theorem dX3_status_51 : decode cX3_status 51 = .ok (.iload_n 3, 1) := dk_29 (dk_at dksX3_status_2 19 rfl rfl)
theorem dX3_status_52 : decode cX3_status 52 = .ok (.bipush 8, 2) := dk_16 8 (dk_at dksX3_status_2 20 rfl rfl)
theorem dX3_status_54 : decode cX3_status 54 = .ok (.if_icmp .ge 26, 3) := dk_162 0 26 (dk_at dksX3_status_3 0 rfl rfl)
theorem dX3_status_57 : decode cX3_status 57 = .ok (.iload_n 2, 1) := dk_28 (dk_at dksX3_status_3 3 rfl rfl)
theorem dX3_status_58 : decode cX3_status 58 = .ok (.aload_n 0, 1) := dk_42 (dk_at dksX3_status_3 4 rfl rfl)
theorem dX3_status_59 : decode cX3_status 59 = .ok (.getfield 7, 3) := dk_180 0 7 (dk_at dksX3_status_3 5 rfl rfl)
theorem dX3_status_62 : decode cX3_status 62 = .ok (.iload_n 3, 1) := dk_29 (dk_at dksX3_status_3 8 rfl rfl)
theorem dX3_status_63 : decode cX3_status 63 = .ok (.iaload, 1) := dk_46 (dk_at dksX3_status_3 9 rfl rfl)
theorem dX3_status_64 : decode cX3_status 64 = .ok (.ifCond .eq 7, 3) := dk_153 0 7 (dk_at dksX3_status_3 10 rfl rfl)
theorem dX3_status_67 : decode cX3_status 67 = .ok (.iconst 1, 1) := dk_4 (dk_at dksX3_status_3 13 rfl rfl)
theorem dX3_status_68 : decode cX3_status 68 = .ok (.goto 4, 3) := dk_167 0 4 (dk_at dksX3_status_3 14 rfl rfl)
theorem dX3_status_71 : decode cX3_status 71 = .ok (.iconst 0, 1) := dk_3 (dk_at dksX3_status_3 17 rfl rfl)
theorem dX3_status_72 : decode cX3_status 72 = .ok (.iadd, 1) := dk_96 (dk_at dksX3_status_3 18 rfl rfl)
theorem dX3_status_73 : decode cX3_status 73 = .ok (.istore_n 2, 1) := dk_61 (dk_at dksX3_status_3 19 rfl rfl)
theorem dX3_status_74 : decode cX3_status 74 = .ok (.iinc 3 1, 3) := dk_132 3 1 (dk_at dksX3_status_3 20 rfl rfl)
theorem dX3_status_77 : decode cX3_status 77 = .ok (.goto (-26), 3) := dk_167 255 230 (dk_at dksX3_status_4 0 rfl rfl)
theorem dX3_status_80 : decode cX3_status 80 = .ok (.iload_n 2, 1) := dk_28 (dk_at dksX3_status_4 3 rfl rfl)
theorem dX3_status_81 : decode cX3_status 81 = .ok (.ireturn, 1) := dk_172 (dk_at dksX3_status_4 4 rfl rfl)
theorem dX3_status_82 : decode cX3_status 82 = .ok (.iload_n 1, 1) := dk_27 (dk_at dksX3_status_4 5 rfl rfl)
theorem dX3_status_83 : decode cX3_status 83 = .ok (.i2l, 1) := dk_133 (dk_at dksX3_status_4 6 rfl rfl)
theorem dX3_status_84 : decode cX3_status 84 = .ok (.ldc2_w 381, 3) := dk_20 1 125 (dk_at dksX3_status_4 7 rfl rfl)
theorem dX3_status_87 : decode cX3_status 87 = .ok (.ldc2_w 383, 3) := dk_20 1 127 (dk_at dksX3_status_4 10 rfl rfl)
theorem dX3_status_90 : decode cX3_status 90 = .ok (.invokestatic 94, 3) := dk_184 0 94 (dk_at dksX3_status_4 13 rfl rfl)
theorem dX3_status_93 : decode cX3_status 93 = .ok (.ifCond .eq 15, 3) := dk_153 0 15 (dk_at dksX3_status_4 16 rfl rfl)
theorem dX3_status_96 : decode cX3_status 96 = .ok (.aload_n 0, 1) := dk_42 (dk_at dksX3_status_4 19 rfl rfl)
theorem dX3_status_97 : decode cX3_status 97 = .ok (.getfield 42, 3) := dk_180 0 42 (dk_at dksX3_status_4 20 rfl rfl)
theorem dX3_status_100 : decode cX3_status 100 = .ok (.iload_n 1, 1) := dk_27 (dk_at dksX3_status_4 23 rfl rfl)
theorem dX3_status_101 : decode cX3_status 101 = .ok (.bipush 10, 2) := dk_16 10 (dk_at dksX3_status_5 0 rfl rfl)
theorem dX3_status_103 : decode cX3_status 103 = .ok (.isub, 1) := dk_100 (dk_at dksX3_status_5 2 rfl rfl)
theorem dX3_status_104 : decode cX3_status 104 = .ok (.iaload, 1) := dk_46 (dk_at dksX3_status_5 3 rfl rfl)
theorem dX3_status_105 : decode cX3_status 105 = .ok (.goto 4, 3) := dk_167 0 4 (dk_at dksX3_status_5 4 rfl rfl)
theorem dX3_status_108 : decode cX3_status 108 = .ok (.iconst (-1), 1) := dk_2 (dk_at dksX3_status_5 7 rfl rfl)
theorem dX3_status_109 : decode cX3_status 109 = .ok (.ireturn, 1) := dk_172 (dk_at dksX3_status_5 8 rfl rfl)
theorem q72 : (Jvm.Cond.initialized "SendTheBoxModel") ∈ lw_all := lw_g (lw_at lw_m1 4 rfl) rfl
theorem q1378 : (Jvm.Cond.instantiable "SendTheBoxModel" (46 : Nat)) ∈ lw_all := lw_g (lw_at lw_m6 110 rfl) rfl
theorem q1380 : (Jvm.Cond.instanceMethod ({ cls := "SendTheBoxModel", name := "<init>", desc := "()V" } : Jvm.MethodName)) ∈ lw_all := lw_g (lw_at lw_m6 112 rfl) rfl
theorem q1381 : (Jvm.Cond.code ({ cls := "SendTheBoxModel", name := "<init>", desc := "()V" } : Jvm.MethodName) prog_17_method_1_code (1 : Nat) (Option.none : Option Jvm.ClassFile.FieldType)) ∈ lw_all := lw_g (lw_at lw_m6 113 rfl) rfl
theorem q1382 : (Jvm.Cond.methodLink "SendTheBoxModel" (1 : Nat) ({ cls := "java/lang/Object", name := "<init>", desc := "()V" } : Jvm.MethodName)) ∈ lw_all := lw_g (lw_at lw_m6 114 rfl) rfl
theorem q1383 : (Jvm.Cond.classLink "SendTheBoxModel" (19 : Nat) "[[J") ∈ lw_all := lw_g (lw_at lw_m6 115 rfl) rfl
theorem q1385 : (Jvm.Cond.classLink "SendTheBoxModel" (34 : Nat) "[[I") ∈ lw_all := lw_g (lw_at lw_m6 117 rfl) rfl
theorem q1387 : (Jvm.Cond.fieldLink "SendTheBoxModel" (7 : Nat) "SendTheBoxModel" "shelf" "[I") ∈ lw_all := lw_g (lw_at lw_m6 119 rfl) rfl
theorem q1388 : (Jvm.Cond.fieldLink "SendTheBoxModel" (13 : Nat) "SendTheBoxModel" "rowSort" "[I") ∈ lw_all := lw_g (lw_at lw_m6 120 rfl) rfl
theorem q1389 : (Jvm.Cond.fieldLink "SendTheBoxModel" (16 : Nat) "SendTheBoxModel" "rowSize" "[I") ∈ lw_all := lw_g (lw_at lw_m6 121 rfl) rfl
theorem q1390 : (Jvm.Cond.fieldLink "SendTheBoxModel" (21 : Nat) "SendTheBoxModel" "rows" "[[J") ∈ lw_all := lw_g (lw_at lw_m6 122 rfl) rfl
theorem q1391 : (Jvm.Cond.fieldLink "SendTheBoxModel" (24 : Nat) "SendTheBoxModel" "moved" "[J") ∈ lw_all := lw_g (lw_at lw_m6 123 rfl) rfl
theorem q1392 : (Jvm.Cond.fieldLink "SendTheBoxModel" (28 : Nat) "SendTheBoxModel" "ruleKind" "[I") ∈ lw_all := lw_g (lw_at lw_m6 124 rfl) rfl
theorem q1393 : (Jvm.Cond.fieldLink "SendTheBoxModel" (31 : Nat) "SendTheBoxModel" "ruleBy" "[I") ∈ lw_all := lw_g (lw_at lw_m6 125 rfl) rfl
theorem q1394 : (Jvm.Cond.fieldLink "SendTheBoxModel" (36 : Nat) "SendTheBoxModel" "ruleTold" "[[I") ∈ lw_all := lw_g (lw_at lw_m6 126 rfl) rfl
theorem q1395 : (Jvm.Cond.fieldLink "SendTheBoxModel" (39 : Nat) "SendTheBoxModel" "tape" "[I") ∈ lw_all := lw_g (lw_at lw_m6 127 rfl) rfl
theorem q1396 : (Jvm.Cond.fieldLink "SendTheBoxModel" (136 : Nat) "SendTheBoxModel" "tapeSize" "I") ∈ lw_all := lw_g (lw_at lw_m6 128 rfl) rfl
theorem q1397 : (Jvm.Cond.fieldLink "SendTheBoxModel" (42 : Nat) "SendTheBoxModel" "refused" "[I") ∈ lw_all := lw_g (lw_at lw_m6 129 rfl) rfl
theorem q1398 : (Jvm.Cond.fieldLink "SendTheBoxModel" (91 : Nat) "SendTheBoxModel" "houses" "I") ∈ lw_all := lw_g (lw_at lw_m6 130 rfl) rfl
theorem q1399 : (Jvm.Cond.fieldLink "SendTheBoxModel" (45 : Nat) "SendTheBoxModel" "house" "[[I") ∈ lw_all := lw_g (lw_at lw_m6 131 rfl) rfl
theorem q1400 : (Jvm.Cond.fieldLink "SendTheBoxModel" (48 : Nat) "SendTheBoxModel" "seed" "I") ∈ lw_all := lw_g (lw_at lw_m6 132 rfl) rfl
theorem q1401 : (Jvm.Cond.fieldLink "SendTheBoxModel" (346 : Nat) "SendTheBoxModel" "under" "I") ∈ lw_all := lw_g (lw_at lw_m6 133 rfl) rfl
theorem q1402 : (Jvm.Cond.fieldLink "SendTheBoxModel" (349 : Nat) "SendTheBoxModel" "underLeft" "I") ∈ lw_all := lw_g (lw_at lw_m6 134 rfl) rfl
theorem q1403 : (Jvm.Cond.fieldLink "SendTheBoxModel" (352 : Nat) "SendTheBoxModel" "underState" "I") ∈ lw_all := lw_g (lw_at lw_m6 135 rfl) rfl
theorem q1404 : (Jvm.Cond.fieldLink "SendTheBoxModel" (355 : Nat) "SendTheBoxModel" "underCoins" "I") ∈ lw_all := lw_g (lw_at lw_m6 136 rfl) rfl
theorem q1405 : (Jvm.Cond.fieldLink "SendTheBoxModel" (358 : Nat) "SendTheBoxModel" "underBoxes" "I") ∈ lw_all := lw_g (lw_at lw_m6 137 rfl) rfl
theorem q1406 : (Jvm.Cond.fieldLink "SendTheBoxModel" (361 : Nat) "SendTheBoxModel" "underSent" "I") ∈ lw_all := lw_g (lw_at lw_m6 138 rfl) rfl
theorem q1407 : (Jvm.Cond.fieldLink "SendTheBoxModel" (364 : Nat) "SendTheBoxModel" "underRefused" "I") ∈ lw_all := lw_g (lw_at lw_m6 139 rfl) rfl
theorem q1408 : (Jvm.Cond.fieldLink "SendTheBoxModel" (372 : Nat) "SendTheBoxModel" "kept" "LSendTheBoxModel;") ∈ lw_all := lw_g (lw_at lw_m6 140 rfl) rfl
theorem q1409 : (Jvm.Cond.fieldLink "SendTheBoxModel" (52 : Nat) "SendTheBoxModel" "ruleSize" "[I") ∈ lw_all := lw_g (lw_at lw_m6 141 rfl) rfl
theorem q1410 : (Jvm.Cond.fieldLink "SendTheBoxModel" (139 : Nat) "SendTheBoxModel" "at" "I") ∈ lw_all := lw_g (lw_at lw_m6 142 rfl) rfl
theorem q1411 : (Jvm.Cond.fieldLink "SendTheBoxModel" (149 : Nat) "SendTheBoxModel" "token" "I") ∈ lw_all := lw_g (lw_at lw_m6 143 rfl) rfl
theorem q1412 : (Jvm.Cond.fieldLink "SendTheBoxModel" (142 : Nat) "SendTheBoxModel" "from" "I") ∈ lw_all := lw_g (lw_at lw_m6 144 rfl) rfl
theorem q1413 : (Jvm.Cond.fieldLink "SendTheBoxModel" (145 : Nat) "SendTheBoxModel" "figures" "J") ∈ lw_all := lw_g (lw_at lw_m6 145 rfl) rfl
theorem q1414 : (Jvm.Cond.fieldLink "SendTheBoxModel" (164 : Nat) "SendTheBoxModel" "fault" "I") ∈ lw_all := lw_g (lw_at lw_m6 146 rfl) rfl
theorem q1415 : (Jvm.Cond.fieldLink "SendTheBoxModel" (55 : Nat) "SendTheBoxModel" "costs" "[[J") ∈ lw_all := lw_g (lw_at lw_m6 147 rfl) rfl
theorem q1416 : (Jvm.Cond.fieldLink "SendTheBoxModel" (58 : Nat) "SendTheBoxModel" "loads" "[[I") ∈ lw_all := lw_g (lw_at lw_m6 148 rfl) rfl
theorem q1417 : (Jvm.Cond.fieldLink "SendTheBoxModel" (61 : Nat) "SendTheBoxModel" "byRule" "[[J") ∈ lw_all := lw_g (lw_at lw_m6 149 rfl) rfl
theorem q1418 : (Jvm.Cond.fieldLink "SendTheBoxModel" (64 : Nat) "SendTheBoxModel" "weights" "[J") ∈ lw_all := lw_g (lw_at lw_m6 150 rfl) rfl
theorem q1419 : (Jvm.Cond.fieldLink "SendTheBoxModel" (67 : Nat) "SendTheBoxModel" "thens" "[[I") ∈ lw_all := lw_g (lw_at lw_m6 151 rfl) rfl
theorem q1420 : (Jvm.Cond.fieldLink "SendTheBoxModel" (70 : Nat) "SendTheBoxModel" "refusedBy" "[[I") ∈ lw_all := lw_g (lw_at lw_m6 152 rfl) rfl
theorem q1421 : (Jvm.Cond.fieldLink "SendTheBoxModel" (73 : Nat) "SendTheBoxModel" "filled" "[I") ∈ lw_all := lw_g (lw_at lw_m6 153 rfl) rfl
theorem q1422 : (Jvm.Cond.fieldLink "SendTheBoxModel" (76 : Nat) "SendTheBoxModel" "roomOf" "[I") ∈ lw_all := lw_g (lw_at lw_m6 154 rfl) rfl
theorem q1423 : (Jvm.Cond.fieldLink "SendTheBoxModel" (79 : Nat) "SendTheBoxModel" "holdOf" "[I") ∈ lw_all := lw_g (lw_at lw_m6 155 rfl) rfl
theorem q1424 : (Jvm.Cond.fieldLink "SendTheBoxModel" (82 : Nat) "SendTheBoxModel" "waited" "[J") ∈ lw_all := lw_g (lw_at lw_m6 156 rfl) rfl
theorem q1425 : (Jvm.Cond.fieldLink "SendTheBoxModel" (85 : Nat) "SendTheBoxModel" "chances" "[[J") ∈ lw_all := lw_g (lw_at lw_m6 157 rfl) rfl
theorem q1426 : (Jvm.Cond.fieldLink "SendTheBoxModel" (88 : Nat) "SendTheBoxModel" "must" "I") ∈ lw_all := lw_g (lw_at lw_m6 158 rfl) rfl
theorem q1427 : (Jvm.Cond.fieldLink "SendTheBoxModel" (310 : Nat) "SendTheBoxModel" "leastRoom" "I") ∈ lw_all := lw_g (lw_at lw_m6 159 rfl) rfl
theorem q1428 : (Jvm.Cond.fieldLink "SendTheBoxModel" (313 : Nat) "SendTheBoxModel" "mostRoom" "I") ∈ lw_all := lw_g (lw_at lw_m6 160 rfl) rfl
theorem q1429 : (Jvm.Cond.fieldLink "SendTheBoxModel" (334 : Nat) "SendTheBoxModel" "boxes" "I") ∈ lw_all := lw_g (lw_at lw_m6 161 rfl) rfl
theorem q1430 : (Jvm.Cond.fieldLink "SendTheBoxModel" (337 : Nat) "SendTheBoxModel" "sent" "I") ∈ lw_all := lw_g (lw_at lw_m6 162 rfl) rfl
theorem q1431 : (Jvm.Cond.fieldLink "SendTheBoxModel" (340 : Nat) "SendTheBoxModel" "notTaken" "I") ∈ lw_all := lw_g (lw_at lw_m6 163 rfl) rfl
theorem q1432 : (Jvm.Cond.fieldLink "SendTheBoxModel" (343 : Nat) "SendTheBoxModel" "stands" "I") ∈ lw_all := lw_g (lw_at lw_m6 164 rfl) rfl
theorem q1433 : (Jvm.Cond.laysFinal "SendTheBoxModel" "SendTheBoxModel" "shelf" "[I") ∈ lw_all := lw_g (lw_at lw_m6 165 rfl) rfl
theorem q1434 : (Jvm.Cond.soleField "SendTheBoxModel" "shelf") ∈ lw_all := lw_g (lw_at lw_m6 166 rfl) rfl
theorem q1435 : (Jvm.Cond.laysFinal "SendTheBoxModel" "SendTheBoxModel" "rowSort" "[I") ∈ lw_all := lw_g (lw_at lw_m6 167 rfl) rfl
theorem q1436 : (Jvm.Cond.soleField "SendTheBoxModel" "rowSort") ∈ lw_all := lw_g (lw_at lw_m6 168 rfl) rfl
theorem q1437 : (Jvm.Cond.laysFinal "SendTheBoxModel" "SendTheBoxModel" "rowSize" "[I") ∈ lw_all := lw_g (lw_at lw_m6 169 rfl) rfl
theorem q1438 : (Jvm.Cond.soleField "SendTheBoxModel" "rowSize") ∈ lw_all := lw_g (lw_at lw_m6 170 rfl) rfl
theorem q1439 : (Jvm.Cond.laysFinal "SendTheBoxModel" "SendTheBoxModel" "rows" "[[J") ∈ lw_all := lw_g (lw_at lw_m6 171 rfl) rfl
theorem q1440 : (Jvm.Cond.soleField "SendTheBoxModel" "rows") ∈ lw_all := lw_g (lw_at lw_m6 172 rfl) rfl
theorem q1441 : (Jvm.Cond.laysFinal "SendTheBoxModel" "SendTheBoxModel" "moved" "[J") ∈ lw_all := lw_g (lw_at lw_m6 173 rfl) rfl
theorem q1442 : (Jvm.Cond.soleField "SendTheBoxModel" "moved") ∈ lw_all := lw_g (lw_at lw_m6 174 rfl) rfl
theorem q1443 : (Jvm.Cond.laysFinal "SendTheBoxModel" "SendTheBoxModel" "ruleKind" "[I") ∈ lw_all := lw_g (lw_at lw_m6 175 rfl) rfl
theorem q1444 : (Jvm.Cond.soleField "SendTheBoxModel" "ruleKind") ∈ lw_all := lw_g (lw_at lw_m6 176 rfl) rfl
theorem q1445 : (Jvm.Cond.laysFinal "SendTheBoxModel" "SendTheBoxModel" "ruleBy" "[I") ∈ lw_all := lw_g (lw_at lw_m6 177 rfl) rfl
theorem q1446 : (Jvm.Cond.soleField "SendTheBoxModel" "ruleBy") ∈ lw_all := lw_g (lw_at lw_m6 178 rfl) rfl
theorem q1447 : (Jvm.Cond.laysFinal "SendTheBoxModel" "SendTheBoxModel" "ruleTold" "[[I") ∈ lw_all := lw_g (lw_at lw_m6 179 rfl) rfl
theorem q1448 : (Jvm.Cond.soleField "SendTheBoxModel" "ruleTold") ∈ lw_all := lw_g (lw_at lw_m6 180 rfl) rfl
theorem q1449 : (Jvm.Cond.laysFinal "SendTheBoxModel" "SendTheBoxModel" "tape" "[I") ∈ lw_all := lw_g (lw_at lw_m6 181 rfl) rfl
theorem q1450 : (Jvm.Cond.soleField "SendTheBoxModel" "tape") ∈ lw_all := lw_g (lw_at lw_m6 182 rfl) rfl
theorem q1451 : (Jvm.Cond.lays "SendTheBoxModel" "SendTheBoxModel" "tapeSize" "I") ∈ lw_all := lw_g (lw_at lw_m6 183 rfl) rfl
theorem q1452 : (Jvm.Cond.soleField "SendTheBoxModel" "tapeSize") ∈ lw_all := lw_g (lw_at lw_m6 184 rfl) rfl
theorem q1453 : (Jvm.Cond.laysFinal "SendTheBoxModel" "SendTheBoxModel" "refused" "[I") ∈ lw_all := lw_g (lw_at lw_m6 185 rfl) rfl
theorem q1454 : (Jvm.Cond.soleField "SendTheBoxModel" "refused") ∈ lw_all := lw_g (lw_at lw_m6 186 rfl) rfl
theorem q1455 : (Jvm.Cond.lays "SendTheBoxModel" "SendTheBoxModel" "houses" "I") ∈ lw_all := lw_g (lw_at lw_m6 187 rfl) rfl
theorem q1456 : (Jvm.Cond.soleField "SendTheBoxModel" "houses") ∈ lw_all := lw_g (lw_at lw_m6 188 rfl) rfl
theorem q1457 : (Jvm.Cond.laysFinal "SendTheBoxModel" "SendTheBoxModel" "house" "[[I") ∈ lw_all := lw_g (lw_at lw_m6 189 rfl) rfl
theorem q1458 : (Jvm.Cond.soleField "SendTheBoxModel" "house") ∈ lw_all := lw_g (lw_at lw_m6 190 rfl) rfl
theorem q1459 : (Jvm.Cond.lays "SendTheBoxModel" "SendTheBoxModel" "seed" "I") ∈ lw_all := lw_g (lw_at lw_m6 191 rfl) rfl
theorem q1460 : (Jvm.Cond.soleField "SendTheBoxModel" "seed") ∈ lw_all := lw_g (lw_at lw_m6 192 rfl) rfl
theorem q1461 : (Jvm.Cond.lays "SendTheBoxModel" "SendTheBoxModel" "under" "I") ∈ lw_all := lw_g (lw_at lw_m6 193 rfl) rfl
theorem q1462 : (Jvm.Cond.soleField "SendTheBoxModel" "under") ∈ lw_all := lw_g (lw_at lw_m6 194 rfl) rfl
theorem q1463 : (Jvm.Cond.lays "SendTheBoxModel" "SendTheBoxModel" "underLeft" "I") ∈ lw_all := lw_g (lw_at lw_m6 195 rfl) rfl
theorem q1464 : (Jvm.Cond.soleField "SendTheBoxModel" "underLeft") ∈ lw_all := lw_g (lw_at lw_m6 196 rfl) rfl
theorem q1465 : (Jvm.Cond.lays "SendTheBoxModel" "SendTheBoxModel" "underState" "I") ∈ lw_all := lw_g (lw_at lw_m6 197 rfl) rfl
theorem q1466 : (Jvm.Cond.soleField "SendTheBoxModel" "underState") ∈ lw_all := lw_g (lw_at lw_m6 198 rfl) rfl
theorem q1467 : (Jvm.Cond.lays "SendTheBoxModel" "SendTheBoxModel" "underCoins" "I") ∈ lw_all := lw_g (lw_at lw_m6 199 rfl) rfl
theorem q1468 : (Jvm.Cond.soleField "SendTheBoxModel" "underCoins") ∈ lw_all := lw_g (lw_at lw_m6 200 rfl) rfl
theorem q1469 : (Jvm.Cond.lays "SendTheBoxModel" "SendTheBoxModel" "underBoxes" "I") ∈ lw_all := lw_g (lw_at lw_m6 201 rfl) rfl
theorem q1470 : (Jvm.Cond.soleField "SendTheBoxModel" "underBoxes") ∈ lw_all := lw_g (lw_at lw_m6 202 rfl) rfl
theorem q1471 : (Jvm.Cond.lays "SendTheBoxModel" "SendTheBoxModel" "underSent" "I") ∈ lw_all := lw_g (lw_at lw_m6 203 rfl) rfl
theorem q1472 : (Jvm.Cond.soleField "SendTheBoxModel" "underSent") ∈ lw_all := lw_g (lw_at lw_m6 204 rfl) rfl
theorem q1473 : (Jvm.Cond.lays "SendTheBoxModel" "SendTheBoxModel" "underRefused" "I") ∈ lw_all := lw_g (lw_at lw_m6 205 rfl) rfl
theorem q1474 : (Jvm.Cond.soleField "SendTheBoxModel" "underRefused") ∈ lw_all := lw_g (lw_at lw_m6 206 rfl) rfl
theorem q1475 : (Jvm.Cond.lays "SendTheBoxModel" "SendTheBoxModel" "kept" "LSendTheBoxModel;") ∈ lw_all := lw_g (lw_at lw_m6 207 rfl) rfl
theorem q1476 : (Jvm.Cond.soleField "SendTheBoxModel" "kept") ∈ lw_all := lw_g (lw_at lw_m6 208 rfl) rfl
theorem q1477 : (Jvm.Cond.laysFinal "SendTheBoxModel" "SendTheBoxModel" "ruleSize" "[I") ∈ lw_all := lw_g (lw_at lw_m6 209 rfl) rfl
theorem q1478 : (Jvm.Cond.soleField "SendTheBoxModel" "ruleSize") ∈ lw_all := lw_g (lw_at lw_m6 210 rfl) rfl
theorem q1479 : (Jvm.Cond.lays "SendTheBoxModel" "SendTheBoxModel" "at" "I") ∈ lw_all := lw_g (lw_at lw_m6 211 rfl) rfl
theorem q1480 : (Jvm.Cond.soleField "SendTheBoxModel" "at") ∈ lw_all := lw_g (lw_at lw_m6 212 rfl) rfl
theorem q1481 : (Jvm.Cond.lays "SendTheBoxModel" "SendTheBoxModel" "token" "I") ∈ lw_all := lw_g (lw_at lw_m6 213 rfl) rfl
theorem q1482 : (Jvm.Cond.soleField "SendTheBoxModel" "token") ∈ lw_all := lw_g (lw_at lw_m6 214 rfl) rfl
theorem q1483 : (Jvm.Cond.lays "SendTheBoxModel" "SendTheBoxModel" "from" "I") ∈ lw_all := lw_g (lw_at lw_m6 215 rfl) rfl
theorem q1484 : (Jvm.Cond.soleField "SendTheBoxModel" "from") ∈ lw_all := lw_g (lw_at lw_m6 216 rfl) rfl
theorem q1485 : (Jvm.Cond.lays "SendTheBoxModel" "SendTheBoxModel" "figures" "J") ∈ lw_all := lw_g (lw_at lw_m6 217 rfl) rfl
theorem q1486 : (Jvm.Cond.soleField "SendTheBoxModel" "figures") ∈ lw_all := lw_g (lw_at lw_m6 218 rfl) rfl
theorem q1487 : (Jvm.Cond.lays "SendTheBoxModel" "SendTheBoxModel" "fault" "I") ∈ lw_all := lw_g (lw_at lw_m6 219 rfl) rfl
theorem q1488 : (Jvm.Cond.soleField "SendTheBoxModel" "fault") ∈ lw_all := lw_g (lw_at lw_m6 220 rfl) rfl
theorem q1489 : (Jvm.Cond.laysFinal "SendTheBoxModel" "SendTheBoxModel" "costs" "[[J") ∈ lw_all := lw_g (lw_at lw_m6 221 rfl) rfl
theorem q1490 : (Jvm.Cond.soleField "SendTheBoxModel" "costs") ∈ lw_all := lw_g (lw_at lw_m6 222 rfl) rfl
theorem q1491 : (Jvm.Cond.laysFinal "SendTheBoxModel" "SendTheBoxModel" "loads" "[[I") ∈ lw_all := lw_g (lw_at lw_m6 223 rfl) rfl
theorem q1492 : (Jvm.Cond.soleField "SendTheBoxModel" "loads") ∈ lw_all := lw_g (lw_at lw_m6 224 rfl) rfl
theorem q1493 : (Jvm.Cond.laysFinal "SendTheBoxModel" "SendTheBoxModel" "byRule" "[[J") ∈ lw_all := lw_g (lw_at lw_m6 225 rfl) rfl
theorem q1494 : (Jvm.Cond.soleField "SendTheBoxModel" "byRule") ∈ lw_all := lw_g (lw_at lw_m6 226 rfl) rfl
theorem q1495 : (Jvm.Cond.laysFinal "SendTheBoxModel" "SendTheBoxModel" "weights" "[J") ∈ lw_all := lw_g (lw_at lw_m6 227 rfl) rfl
theorem q1496 : (Jvm.Cond.soleField "SendTheBoxModel" "weights") ∈ lw_all := lw_g (lw_at lw_m6 228 rfl) rfl
theorem q1497 : (Jvm.Cond.laysFinal "SendTheBoxModel" "SendTheBoxModel" "thens" "[[I") ∈ lw_all := lw_g (lw_at lw_m6 229 rfl) rfl
theorem q1498 : (Jvm.Cond.soleField "SendTheBoxModel" "thens") ∈ lw_all := lw_g (lw_at lw_m6 230 rfl) rfl
theorem q1499 : (Jvm.Cond.laysFinal "SendTheBoxModel" "SendTheBoxModel" "refusedBy" "[[I") ∈ lw_all := lw_g (lw_at lw_m6 231 rfl) rfl
theorem q1500 : (Jvm.Cond.soleField "SendTheBoxModel" "refusedBy") ∈ lw_all := lw_g (lw_at lw_m6 232 rfl) rfl
theorem q1501 : (Jvm.Cond.laysFinal "SendTheBoxModel" "SendTheBoxModel" "filled" "[I") ∈ lw_all := lw_g (lw_at lw_m6 233 rfl) rfl
theorem q1502 : (Jvm.Cond.soleField "SendTheBoxModel" "filled") ∈ lw_all := lw_g (lw_at lw_m6 234 rfl) rfl
theorem q1503 : (Jvm.Cond.laysFinal "SendTheBoxModel" "SendTheBoxModel" "roomOf" "[I") ∈ lw_all := lw_g (lw_at lw_m6 235 rfl) rfl
theorem q1504 : (Jvm.Cond.soleField "SendTheBoxModel" "roomOf") ∈ lw_all := lw_g (lw_at lw_m6 236 rfl) rfl
theorem q1505 : (Jvm.Cond.laysFinal "SendTheBoxModel" "SendTheBoxModel" "holdOf" "[I") ∈ lw_all := lw_g (lw_at lw_m6 237 rfl) rfl
theorem q1506 : (Jvm.Cond.soleField "SendTheBoxModel" "holdOf") ∈ lw_all := lw_g (lw_at lw_m6 238 rfl) rfl
theorem q1507 : (Jvm.Cond.laysFinal "SendTheBoxModel" "SendTheBoxModel" "waited" "[J") ∈ lw_all := lw_g (lw_at lw_m6 239 rfl) rfl
theorem q1508 : (Jvm.Cond.soleField "SendTheBoxModel" "waited") ∈ lw_all := lw_g (lw_at lw_m7 0 rfl) rfl
theorem q1509 : (Jvm.Cond.laysFinal "SendTheBoxModel" "SendTheBoxModel" "chances" "[[J") ∈ lw_all := lw_g (lw_at lw_m7 1 rfl) rfl
theorem q1510 : (Jvm.Cond.soleField "SendTheBoxModel" "chances") ∈ lw_all := lw_g (lw_at lw_m7 2 rfl) rfl
theorem q1511 : (Jvm.Cond.lays "SendTheBoxModel" "SendTheBoxModel" "must" "I") ∈ lw_all := lw_g (lw_at lw_m7 3 rfl) rfl
theorem q1512 : (Jvm.Cond.soleField "SendTheBoxModel" "must") ∈ lw_all := lw_g (lw_at lw_m7 4 rfl) rfl
theorem q1513 : (Jvm.Cond.lays "SendTheBoxModel" "SendTheBoxModel" "leastRoom" "I") ∈ lw_all := lw_g (lw_at lw_m7 5 rfl) rfl
theorem q1514 : (Jvm.Cond.soleField "SendTheBoxModel" "leastRoom") ∈ lw_all := lw_g (lw_at lw_m7 6 rfl) rfl
theorem q1515 : (Jvm.Cond.lays "SendTheBoxModel" "SendTheBoxModel" "mostRoom" "I") ∈ lw_all := lw_g (lw_at lw_m7 7 rfl) rfl
theorem q1516 : (Jvm.Cond.soleField "SendTheBoxModel" "mostRoom") ∈ lw_all := lw_g (lw_at lw_m7 8 rfl) rfl
theorem q1517 : (Jvm.Cond.lays "SendTheBoxModel" "SendTheBoxModel" "boxes" "I") ∈ lw_all := lw_g (lw_at lw_m7 9 rfl) rfl
theorem q1518 : (Jvm.Cond.soleField "SendTheBoxModel" "boxes") ∈ lw_all := lw_g (lw_at lw_m7 10 rfl) rfl
theorem q1519 : (Jvm.Cond.lays "SendTheBoxModel" "SendTheBoxModel" "sent" "I") ∈ lw_all := lw_g (lw_at lw_m7 11 rfl) rfl
theorem q1520 : (Jvm.Cond.soleField "SendTheBoxModel" "sent") ∈ lw_all := lw_g (lw_at lw_m7 12 rfl) rfl
theorem q1521 : (Jvm.Cond.lays "SendTheBoxModel" "SendTheBoxModel" "notTaken" "I") ∈ lw_all := lw_g (lw_at lw_m7 13 rfl) rfl
theorem q1522 : (Jvm.Cond.soleField "SendTheBoxModel" "notTaken") ∈ lw_all := lw_g (lw_at lw_m7 14 rfl) rfl
theorem q1523 : (Jvm.Cond.lays "SendTheBoxModel" "SendTheBoxModel" "stands" "I") ∈ lw_all := lw_g (lw_at lw_m7 15 rfl) rfl
theorem q1524 : (Jvm.Cond.soleField "SendTheBoxModel" "stands") ∈ lw_all := lw_g (lw_at lw_m7 16 rfl) rfl
theorem q1525 : (Jvm.Cond.superclass "SendTheBoxModel" "java/lang/Object") ∈ lw_all := lw_g (lw_at lw_m7 17 rfl) rfl
theorem q1527 : (Jvm.Cond.instanceMethod ({ cls := "SendTheBoxModel", name := "row", desc := "(III)I" } : Jvm.MethodName)) ∈ lw_all := lw_g (lw_at lw_m7 19 rfl) rfl
theorem q1528 : (Jvm.Cond.selects "SendTheBoxModel" ({ cls := "SendTheBoxModel", name := "row", desc := "(III)I" } : Jvm.MethodName) ({ cls := "SendTheBoxModel", name := "row", desc := "(III)I" } : Jvm.MethodName)) ∈ lw_all := lw_g (lw_at lw_m7 20 rfl) rfl
theorem q1529 : (Jvm.Cond.code ({ cls := "SendTheBoxModel", name := "row", desc := "(III)I" } : Jvm.MethodName) prog_17_method_10_code (5 : Nat) (Option.some Jvm.ClassFile.FieldType.int)) ∈ lw_all := lw_g (lw_at lw_m7 21 rfl) rfl
theorem q1530 : (Jvm.Cond.constantLong "SendTheBoxModel" (113 : Nat) (7 : Int64)) ∈ lw_all := lw_g (lw_at lw_m7 22 rfl) rfl
theorem q1531 : (Jvm.Cond.methodLink "SendTheBoxModel" (94 : Nat) ({ cls := "SendTheBoxModel", name := "in", desc := "(JJJ)Z" } : Jvm.MethodName)) ∈ lw_all := lw_g (lw_at lw_m7 23 rfl) rfl
theorem q1532 : (Jvm.Cond.static ({ cls := "SendTheBoxModel", name := "in", desc := "(JJJ)Z" } : Jvm.MethodName)) ∈ lw_all := lw_g (lw_at lw_m7 24 rfl) rfl
theorem q1533 : (Jvm.Cond.code ({ cls := "SendTheBoxModel", name := "in", desc := "(JJJ)Z" } : Jvm.MethodName) prog_17_method_3_code (6 : Nat) (Option.some Jvm.ClassFile.FieldType.boolean)) ∈ lw_all := lw_g (lw_at lw_m7 25 rfl) rfl
theorem q1534 : (Jvm.Cond.constantLong "SendTheBoxModel" (115 : Nat) (4 : Int64)) ∈ lw_all := lw_g (lw_at lw_m7 26 rfl) rfl
theorem q1535 : (Jvm.Cond.constantLong "SendTheBoxModel" (117 : Nat) (125 : Int64)) ∈ lw_all := lw_g (lw_at lw_m7 27 rfl) rfl
theorem q1536 : (Jvm.Cond.methodLink "SendTheBoxModel" (119 : Nat) ({ cls := "SendTheBoxModel", name := "refuse", desc := "(I)I" } : Jvm.MethodName)) ∈ lw_all := lw_g (lw_at lw_m7 28 rfl) rfl
theorem q1537 : (Jvm.Cond.privateMethod ({ cls := "SendTheBoxModel", name := "refuse", desc := "(I)I" } : Jvm.MethodName)) ∈ lw_tbl := lw_at lw_m7 29 rfl
theorem q1538 : (Jvm.Cond.instanceMethod ({ cls := "SendTheBoxModel", name := "refuse", desc := "(I)I" } : Jvm.MethodName)) ∈ lw_all := lw_g (lw_at lw_m7 30 rfl) rfl
theorem q1539 : (Jvm.Cond.code ({ cls := "SendTheBoxModel", name := "refuse", desc := "(I)I" } : Jvm.MethodName) prog_17_method_2_code (2 : Nat) (Option.some Jvm.ClassFile.FieldType.int)) ∈ lw_all := lw_g (lw_at lw_m7 31 rfl) rfl
theorem q1541 : (Jvm.Cond.instanceMethod ({ cls := "SendTheBoxModel", name := "set", desc := "(IIJ)I" } : Jvm.MethodName)) ∈ lw_all := lw_g (lw_at lw_m7 33 rfl) rfl
theorem q1542 : (Jvm.Cond.selects "SendTheBoxModel" ({ cls := "SendTheBoxModel", name := "set", desc := "(IIJ)I" } : Jvm.MethodName) ({ cls := "SendTheBoxModel", name := "set", desc := "(IIJ)I" } : Jvm.MethodName)) ∈ lw_all := lw_g (lw_at lw_m7 34 rfl) rfl
theorem q1543 : (Jvm.Cond.code ({ cls := "SendTheBoxModel", name := "set", desc := "(IIJ)I" } : Jvm.MethodName) prog_17_method_12_code (5 : Nat) (Option.some Jvm.ClassFile.FieldType.int)) ∈ lw_all := lw_g (lw_at lw_m7 35 rfl) rfl
theorem q1544 : (Jvm.Cond.methodLink "SendTheBoxModel" (122 : Nat) ({ cls := "SendTheBoxModel", name := "fit", desc := "(IJ)J" } : Jvm.MethodName)) ∈ lw_all := lw_g (lw_at lw_m7 36 rfl) rfl
theorem q1545 : (Jvm.Cond.static ({ cls := "SendTheBoxModel", name := "fit", desc := "(IJ)J" } : Jvm.MethodName)) ∈ lw_all := lw_g (lw_at lw_m7 37 rfl) rfl
theorem q1546 : (Jvm.Cond.code ({ cls := "SendTheBoxModel", name := "fit", desc := "(IJ)J" } : Jvm.MethodName) prog_17_method_11_code (3 : Nat) (Option.some Jvm.ClassFile.FieldType.long)) ∈ lw_all := lw_g (lw_at lw_m7 38 rfl) rfl
theorem q1548 : (Jvm.Cond.instanceMethod ({ cls := "SendTheBoxModel", name := "copy", desc := "(IIIII)I" } : Jvm.MethodName)) ∈ lw_all := lw_g (lw_at lw_m7 40 rfl) rfl
theorem q1549 : (Jvm.Cond.selects "SendTheBoxModel" ({ cls := "SendTheBoxModel", name := "copy", desc := "(IIIII)I" } : Jvm.MethodName) ({ cls := "SendTheBoxModel", name := "copy", desc := "(IIIII)I" } : Jvm.MethodName)) ∈ lw_all := lw_g (lw_at lw_m7 41 rfl) rfl
theorem q1550 : (Jvm.Cond.code ({ cls := "SendTheBoxModel", name := "copy", desc := "(IIIII)I" } : Jvm.MethodName) prog_17_method_13_code (7 : Nat) (Option.some Jvm.ClassFile.FieldType.int)) ∈ lw_all := lw_g (lw_at lw_m7 42 rfl) rfl
theorem q1552 : (Jvm.Cond.instanceMethod ({ cls := "SendTheBoxModel", name := "element", desc := "(II)J" } : Jvm.MethodName)) ∈ lw_all := lw_g (lw_at lw_m7 44 rfl) rfl
theorem q1553 : (Jvm.Cond.selects "SendTheBoxModel" ({ cls := "SendTheBoxModel", name := "element", desc := "(II)J" } : Jvm.MethodName) ({ cls := "SendTheBoxModel", name := "element", desc := "(II)J" } : Jvm.MethodName)) ∈ lw_all := lw_g (lw_at lw_m7 45 rfl) rfl
theorem q1554 : (Jvm.Cond.code ({ cls := "SendTheBoxModel", name := "element", desc := "(II)J" } : Jvm.MethodName) prog_17_method_14_code (3 : Nat) (Option.some Jvm.ClassFile.FieldType.long)) ∈ lw_all := lw_g (lw_at lw_m7 46 rfl) rfl
theorem q1556 : (Jvm.Cond.instanceMethod ({ cls := "SendTheBoxModel", name := "holds", desc := "(I)I" } : Jvm.MethodName)) ∈ lw_all := lw_g (lw_at lw_m7 48 rfl) rfl
theorem q1557 : (Jvm.Cond.selects "SendTheBoxModel" ({ cls := "SendTheBoxModel", name := "holds", desc := "(I)I" } : Jvm.MethodName) ({ cls := "SendTheBoxModel", name := "holds", desc := "(I)I" } : Jvm.MethodName)) ∈ lw_all := lw_g (lw_at lw_m7 49 rfl) rfl
theorem q1558 : (Jvm.Cond.code ({ cls := "SendTheBoxModel", name := "holds", desc := "(I)I" } : Jvm.MethodName) prog_17_method_15_code (2 : Nat) (Option.some Jvm.ClassFile.FieldType.int)) ∈ lw_all := lw_g (lw_at lw_m7 50 rfl) rfl
theorem q1560 : (Jvm.Cond.instanceMethod ({ cls := "SendTheBoxModel", name := "rule", desc := "(III)I" } : Jvm.MethodName)) ∈ lw_all := lw_g (lw_at lw_m7 52 rfl) rfl
theorem q1561 : (Jvm.Cond.selects "SendTheBoxModel" ({ cls := "SendTheBoxModel", name := "rule", desc := "(III)I" } : Jvm.MethodName) ({ cls := "SendTheBoxModel", name := "rule", desc := "(III)I" } : Jvm.MethodName)) ∈ lw_all := lw_g (lw_at lw_m7 53 rfl) rfl
theorem q1562 : (Jvm.Cond.code ({ cls := "SendTheBoxModel", name := "rule", desc := "(III)I" } : Jvm.MethodName) prog_17_method_17_code (5 : Nat) (Option.some Jvm.ClassFile.FieldType.int)) ∈ lw_all := lw_g (lw_at lw_m7 54 rfl) rfl
theorem q1563 : (Jvm.Cond.constantLong "SendTheBoxModel" (130 : Nat) (5 : Int64)) ∈ lw_all := lw_g (lw_at lw_m7 55 rfl) rfl
theorem q1564 : (Jvm.Cond.methodLink "SendTheBoxModel" (132 : Nat) ({ cls := "SendTheBoxModel", name := "mayBy", desc := "(II)Z" } : Jvm.MethodName)) ∈ lw_all := lw_g (lw_at lw_m7 56 rfl) rfl
theorem q1565 : (Jvm.Cond.static ({ cls := "SendTheBoxModel", name := "mayBy", desc := "(II)Z" } : Jvm.MethodName)) ∈ lw_all := lw_g (lw_at lw_m7 57 rfl) rfl
theorem q1566 : (Jvm.Cond.code ({ cls := "SendTheBoxModel", name := "mayBy", desc := "(II)Z" } : Jvm.MethodName) prog_17_method_16_code (2 : Nat) (Option.some Jvm.ClassFile.FieldType.boolean)) ∈ lw_all := lw_g (lw_at lw_m7 58 rfl) rfl
theorem q1567 : (Jvm.Cond.constantLong "SendTheBoxModel" (126 : Nat) (99 : Int64)) ∈ lw_all := lw_g (lw_at lw_m7 59 rfl) rfl
theorem q1568 : (Jvm.Cond.constantLong "SendTheBoxModel" (128 : Nat) (6 : Int64)) ∈ lw_all := lw_g (lw_at lw_m7 60 rfl) rfl
theorem q1570 : (Jvm.Cond.instanceMethod ({ cls := "SendTheBoxModel", name := "says", desc := "(II)I" } : Jvm.MethodName)) ∈ lw_all := lw_g (lw_at lw_m7 62 rfl) rfl
theorem q1571 : (Jvm.Cond.selects "SendTheBoxModel" ({ cls := "SendTheBoxModel", name := "says", desc := "(II)I" } : Jvm.MethodName) ({ cls := "SendTheBoxModel", name := "says", desc := "(II)I" } : Jvm.MethodName)) ∈ lw_all := lw_g (lw_at lw_m7 63 rfl) rfl
theorem q1572 : (Jvm.Cond.code ({ cls := "SendTheBoxModel", name := "says", desc := "(II)I" } : Jvm.MethodName) prog_17_method_18_code (4 : Nat) (Option.some Jvm.ClassFile.FieldType.int)) ∈ lw_all := lw_g (lw_at lw_m7 64 rfl) rfl
theorem q1574 : (Jvm.Cond.instanceMethod ({ cls := "SendTheBoxModel", name := "feed", desc := "(II)I" } : Jvm.MethodName)) ∈ lw_all := lw_g (lw_at lw_m7 66 rfl) rfl
theorem q1575 : (Jvm.Cond.selects "SendTheBoxModel" ({ cls := "SendTheBoxModel", name := "feed", desc := "(II)I" } : Jvm.MethodName) ({ cls := "SendTheBoxModel", name := "feed", desc := "(II)I" } : Jvm.MethodName)) ∈ lw_all := lw_g (lw_at lw_m7 67 rfl) rfl
theorem q1576 : (Jvm.Cond.code ({ cls := "SendTheBoxModel", name := "feed", desc := "(II)I" } : Jvm.MethodName) prog_17_method_19_code (4 : Nat) (Option.some Jvm.ClassFile.FieldType.int)) ∈ lw_all := lw_g (lw_at lw_m7 68 rfl) rfl
theorem q1578 : (Jvm.Cond.instanceMethod ({ cls := "SendTheBoxModel", name := "wipe", desc := "()I" } : Jvm.MethodName)) ∈ lw_all := lw_g (lw_at lw_m7 70 rfl) rfl
theorem q1579 : (Jvm.Cond.selects "SendTheBoxModel" ({ cls := "SendTheBoxModel", name := "wipe", desc := "()I" } : Jvm.MethodName) ({ cls := "SendTheBoxModel", name := "wipe", desc := "()I" } : Jvm.MethodName)) ∈ lw_all := lw_g (lw_at lw_m7 71 rfl) rfl
theorem q1580 : (Jvm.Cond.code ({ cls := "SendTheBoxModel", name := "wipe", desc := "()I" } : Jvm.MethodName) prog_17_method_20_code (2 : Nat) (Option.some Jvm.ClassFile.FieldType.int)) ∈ lw_all := lw_g (lw_at lw_m7 72 rfl) rfl
theorem q1582 : (Jvm.Cond.instanceMethod ({ cls := "SendTheBoxModel", name := "house", desc := "()I" } : Jvm.MethodName)) ∈ lw_all := lw_g (lw_at lw_m7 74 rfl) rfl
theorem q1583 : (Jvm.Cond.selects "SendTheBoxModel" ({ cls := "SendTheBoxModel", name := "house", desc := "()I" } : Jvm.MethodName) ({ cls := "SendTheBoxModel", name := "house", desc := "()I" } : Jvm.MethodName)) ∈ lw_all := lw_g (lw_at lw_m7 75 rfl) rfl
theorem q1584 : (Jvm.Cond.code ({ cls := "SendTheBoxModel", name := "house", desc := "()I" } : Jvm.MethodName) prog_17_method_29_code (2 : Nat) (Option.some Jvm.ClassFile.FieldType.int)) ∈ lw_all := lw_g (lw_at lw_m7 76 rfl) rfl
theorem q1585 : (Jvm.Cond.methodLink "SendTheBoxModel" (213 : Nat) ({ cls := "SendTheBoxModel", name := "read", desc := "([I)Z" } : Jvm.MethodName)) ∈ lw_all := lw_g (lw_at lw_m7 77 rfl) rfl
theorem q1586 : (Jvm.Cond.privateMethod ({ cls := "SendTheBoxModel", name := "read", desc := "([I)Z" } : Jvm.MethodName)) ∈ lw_tbl := lw_at lw_m7 78 rfl
theorem q1587 : (Jvm.Cond.instanceMethod ({ cls := "SendTheBoxModel", name := "read", desc := "([I)Z" } : Jvm.MethodName)) ∈ lw_all := lw_g (lw_at lw_m7 79 rfl) rfl
theorem q1588 : (Jvm.Cond.code ({ cls := "SendTheBoxModel", name := "read", desc := "([I)Z" } : Jvm.MethodName) prog_17_method_28_code (2 : Nat) (Option.some Jvm.ClassFile.FieldType.boolean)) ∈ lw_all := lw_g (lw_at lw_m7 80 rfl) rfl
theorem q1589 : (Jvm.Cond.methodLink "SendTheBoxModel" (185 : Nat) ({ cls := "SendTheBoxModel", name := "look", desc := "()V" } : Jvm.MethodName)) ∈ lw_all := lw_g (lw_at lw_m7 81 rfl) rfl
theorem q1590 : (Jvm.Cond.privateMethod ({ cls := "SendTheBoxModel", name := "look", desc := "()V" } : Jvm.MethodName)) ∈ lw_tbl := lw_at lw_m7 82 rfl
theorem q1591 : (Jvm.Cond.instanceMethod ({ cls := "SendTheBoxModel", name := "look", desc := "()V" } : Jvm.MethodName)) ∈ lw_all := lw_g (lw_at lw_m7 83 rfl) rfl
theorem q1592 : (Jvm.Cond.code ({ cls := "SendTheBoxModel", name := "look", desc := "()V" } : Jvm.MethodName) prog_17_method_23_code (1 : Nat) (Option.none : Option Jvm.ClassFile.FieldType)) ∈ lw_all := lw_g (lw_at lw_m7 84 rfl) rfl
theorem q1593 : (Jvm.Cond.methodLink "SendTheBoxModel" (152 : Nat) ({ cls := "SendTheBoxModel", name := "isLetter", desc := "(I)Z" } : Jvm.MethodName)) ∈ lw_all := lw_g (lw_at lw_m7 85 rfl) rfl
theorem q1594 : (Jvm.Cond.static ({ cls := "SendTheBoxModel", name := "isLetter", desc := "(I)Z" } : Jvm.MethodName)) ∈ lw_all := lw_g (lw_at lw_m7 86 rfl) rfl
theorem q1595 : (Jvm.Cond.code ({ cls := "SendTheBoxModel", name := "isLetter", desc := "(I)Z" } : Jvm.MethodName) prog_17_method_21_code (1 : Nat) (Option.some Jvm.ClassFile.FieldType.boolean)) ∈ lw_all := lw_g (lw_at lw_m7 87 rfl) rfl
theorem q1596 : (Jvm.Cond.methodLink "SendTheBoxModel" (155 : Nat) ({ cls := "SendTheBoxModel", name := "isDigit", desc := "(I)Z" } : Jvm.MethodName)) ∈ lw_all := lw_g (lw_at lw_m7 88 rfl) rfl
theorem q1597 : (Jvm.Cond.static ({ cls := "SendTheBoxModel", name := "isDigit", desc := "(I)Z" } : Jvm.MethodName)) ∈ lw_all := lw_g (lw_at lw_m7 89 rfl) rfl
theorem q1598 : (Jvm.Cond.code ({ cls := "SendTheBoxModel", name := "isDigit", desc := "(I)Z" } : Jvm.MethodName) prog_17_method_22_code (1 : Nat) (Option.some Jvm.ClassFile.FieldType.boolean)) ∈ lw_all := lw_g (lw_at lw_m7 90 rfl) rfl
theorem q1599 : (Jvm.Cond.constantLong "SendTheBoxModel" (158 : Nat) (10 : Int64)) ∈ lw_all := lw_g (lw_at lw_m7 91 rfl) rfl
theorem q1600 : (Jvm.Cond.constantLong "SendTheBoxModel" (160 : Nat) (48 : Int64)) ∈ lw_all := lw_g (lw_at lw_m7 92 rfl) rfl
theorem q1601 : (Jvm.Cond.constantLong "SendTheBoxModel" (162 : Nat) (100000 : Int64)) ∈ lw_all := lw_g (lw_at lw_m7 93 rfl) rfl
theorem q1602 : (Jvm.Cond.methodLink "SendTheBoxModel" (209 : Nat) ({ cls := "SendTheBoxModel", name := "statement", desc := "([I)Z" } : Jvm.MethodName)) ∈ lw_all := lw_g (lw_at lw_m7 94 rfl) rfl
theorem q1603 : (Jvm.Cond.privateMethod ({ cls := "SendTheBoxModel", name := "statement", desc := "([I)Z" } : Jvm.MethodName)) ∈ lw_tbl := lw_at lw_m7 95 rfl
theorem q1604 : (Jvm.Cond.instanceMethod ({ cls := "SendTheBoxModel", name := "statement", desc := "([I)Z" } : Jvm.MethodName)) ∈ lw_all := lw_g (lw_at lw_m7 96 rfl) rfl
theorem q1605 : (Jvm.Cond.code ({ cls := "SendTheBoxModel", name := "statement", desc := "([I)Z" } : Jvm.MethodName) prog_17_method_27_code (3 : Nat) (Option.some Jvm.ClassFile.FieldType.boolean)) ∈ lw_all := lw_g (lw_at lw_m7 97 rfl) rfl
theorem q1606 : (Jvm.Cond.stringRef "SendTheBoxModel" (188 : Nat) "days") ∈ lw_tbl := lw_at lw_m7 98 rfl
theorem q1607 : (Jvm.Cond.methodLink "SendTheBoxModel" (177 : Nat) ({ cls := "SendTheBoxModel", name := "isWord", desc := "(Ljava/lang/String;)Z" } : Jvm.MethodName)) ∈ lw_all := lw_g (lw_at lw_m7 99 rfl) rfl
theorem q1608 : (Jvm.Cond.privateMethod ({ cls := "SendTheBoxModel", name := "isWord", desc := "(Ljava/lang/String;)Z" } : Jvm.MethodName)) ∈ lw_tbl := lw_at lw_m7 100 rfl
theorem q1609 : (Jvm.Cond.instanceMethod ({ cls := "SendTheBoxModel", name := "isWord", desc := "(Ljava/lang/String;)Z" } : Jvm.MethodName)) ∈ lw_all := lw_g (lw_at lw_m7 101 rfl) rfl
theorem q1610 : (Jvm.Cond.code ({ cls := "SendTheBoxModel", name := "isWord", desc := "(Ljava/lang/String;)Z" } : Jvm.MethodName) prog_17_method_25_code (3 : Nat) (Option.some Jvm.ClassFile.FieldType.boolean)) ∈ lw_all := lw_g (lw_at lw_m7 102 rfl) rfl
theorem q1611 : (Jvm.Cond.methodLink "SendTheBoxModel" (167 : Nat) ({ cls := "java/lang/String", name := "length", desc := "()I" } : Jvm.MethodName)) ∈ lw_all := lw_g (lw_at lw_m7 103 rfl) rfl
theorem q1619 : (Jvm.Cond.methodLink "SendTheBoxModel" (173 : Nat) ({ cls := "java/lang/String", name := "charAt", desc := "(I)C" } : Jvm.MethodName)) ∈ lw_all := lw_g (lw_at lw_m7 111 rfl) rfl
theorem q1634 : (Jvm.Cond.methodLink "SendTheBoxModel" (190 : Nat) ({ cls := "SendTheBoxModel", name := "told", desc := "(Ljava/lang/String;[IIII)Z" } : Jvm.MethodName)) ∈ lw_all := lw_g (lw_at lw_m7 126 rfl) rfl
theorem q1635 : (Jvm.Cond.privateMethod ({ cls := "SendTheBoxModel", name := "told", desc := "(Ljava/lang/String;[IIII)Z" } : Jvm.MethodName)) ∈ lw_tbl := lw_at lw_m7 127 rfl
theorem q1636 : (Jvm.Cond.instanceMethod ({ cls := "SendTheBoxModel", name := "told", desc := "(Ljava/lang/String;[IIII)Z" } : Jvm.MethodName)) ∈ lw_all := lw_g (lw_at lw_m7 128 rfl) rfl
theorem q1637 : (Jvm.Cond.code ({ cls := "SendTheBoxModel", name := "told", desc := "(Ljava/lang/String;[IIII)Z" } : Jvm.MethodName) prog_17_method_26_code (6 : Nat) (Option.some Jvm.ClassFile.FieldType.boolean)) ∈ lw_all := lw_g (lw_at lw_m7 129 rfl) rfl
theorem q1638 : (Jvm.Cond.methodLink "SendTheBoxModel" (181 : Nat) ({ cls := "SendTheBoxModel", name := "wrong", desc := "()Z" } : Jvm.MethodName)) ∈ lw_all := lw_g (lw_at lw_m7 130 rfl) rfl
theorem q1639 : (Jvm.Cond.privateMethod ({ cls := "SendTheBoxModel", name := "wrong", desc := "()Z" } : Jvm.MethodName)) ∈ lw_tbl := lw_at lw_m7 131 rfl
theorem q1640 : (Jvm.Cond.instanceMethod ({ cls := "SendTheBoxModel", name := "wrong", desc := "()Z" } : Jvm.MethodName)) ∈ lw_all := lw_g (lw_at lw_m7 132 rfl) rfl
theorem q1641 : (Jvm.Cond.code ({ cls := "SendTheBoxModel", name := "wrong", desc := "()Z" } : Jvm.MethodName) prog_17_method_24_code (1 : Nat) (Option.some Jvm.ClassFile.FieldType.boolean)) ∈ lw_all := lw_g (lw_at lw_m7 133 rfl) rfl
theorem q1642 : (Jvm.Cond.stringRef "SendTheBoxModel" (194 : Nat) "box") ∈ lw_tbl := lw_at lw_m7 134 rfl
theorem q1643 : (Jvm.Cond.stringRef "SendTheBoxModel" (196 : Nat) "room") ∈ lw_tbl := lw_at lw_m7 135 rfl
theorem q1644 : (Jvm.Cond.stringRef "SendTheBoxModel" (198 : Nat) "full") ∈ lw_tbl := lw_at lw_m7 136 rfl
theorem q1645 : (Jvm.Cond.stringRef "SendTheBoxModel" (200 : Nat) "sort") ∈ lw_tbl := lw_at lw_m7 137 rfl
theorem q1646 : (Jvm.Cond.stringRef "SendTheBoxModel" (202 : Nat) "comes") ∈ lw_tbl := lw_at lw_m7 138 rfl
theorem q1647 : (Jvm.Cond.stringRef "SendTheBoxModel" (204 : Nat) "hold") ∈ lw_tbl := lw_at lw_m7 139 rfl
theorem q1648 : (Jvm.Cond.stringRef "SendTheBoxModel" (206 : Nat) "refuse") ∈ lw_tbl := lw_at lw_m7 140 rfl
theorem q1649 : (Jvm.Cond.stringRef "SendTheBoxModel" (207 : Nat) "left") ∈ lw_tbl := lw_at lw_m7 141 rfl
theorem q1651 : (Jvm.Cond.instanceMethod ({ cls := "SendTheBoxModel", name := "houseOf", desc := "(II)I" } : Jvm.MethodName)) ∈ lw_all := lw_g (lw_at lw_m7 143 rfl) rfl
theorem q1652 : (Jvm.Cond.selects "SendTheBoxModel" ({ cls := "SendTheBoxModel", name := "houseOf", desc := "(II)I" } : Jvm.MethodName) ({ cls := "SendTheBoxModel", name := "houseOf", desc := "(II)I" } : Jvm.MethodName)) ∈ lw_all := lw_g (lw_at lw_m7 144 rfl) rfl
theorem q1653 : (Jvm.Cond.code ({ cls := "SendTheBoxModel", name := "houseOf", desc := "(II)I" } : Jvm.MethodName) prog_17_method_30_code (3 : Nat) (Option.some Jvm.ClassFile.FieldType.int)) ∈ lw_all := lw_g (lw_at lw_m7 145 rfl) rfl
theorem q1654 : (Jvm.Cond.methodLink "SendTheBoxModel" (106 : Nat) ({ cls := "SendTheBoxModel", name := "isHouse", desc := "(I)Z" } : Jvm.MethodName)) ∈ lw_all := lw_g (lw_at lw_m7 146 rfl) rfl
theorem q1655 : (Jvm.Cond.privateMethod ({ cls := "SendTheBoxModel", name := "isHouse", desc := "(I)Z" } : Jvm.MethodName)) ∈ lw_tbl := lw_at lw_m7 147 rfl
theorem q1656 : (Jvm.Cond.instanceMethod ({ cls := "SendTheBoxModel", name := "isHouse", desc := "(I)Z" } : Jvm.MethodName)) ∈ lw_all := lw_g (lw_at lw_m7 148 rfl) rfl
theorem q1657 : (Jvm.Cond.code ({ cls := "SendTheBoxModel", name := "isHouse", desc := "(I)Z" } : Jvm.MethodName) prog_17_method_4_code (2 : Nat) (Option.some Jvm.ClassFile.FieldType.boolean)) ∈ lw_all := lw_g (lw_at lw_m7 149 rfl) rfl
theorem q1659 : (Jvm.Cond.instanceMethod ({ cls := "SendTheBoxModel", name := "sortOf", desc := "(III)I" } : Jvm.MethodName)) ∈ lw_all := lw_g (lw_at lw_m7 151 rfl) rfl
theorem q1660 : (Jvm.Cond.selects "SendTheBoxModel" ({ cls := "SendTheBoxModel", name := "sortOf", desc := "(III)I" } : Jvm.MethodName) ({ cls := "SendTheBoxModel", name := "sortOf", desc := "(III)I" } : Jvm.MethodName)) ∈ lw_all := lw_g (lw_at lw_m7 152 rfl) rfl
theorem q1661 : (Jvm.Cond.code ({ cls := "SendTheBoxModel", name := "sortOf", desc := "(III)I" } : Jvm.MethodName) prog_17_method_31_code (4 : Nat) (Option.some Jvm.ClassFile.FieldType.int)) ∈ lw_all := lw_g (lw_at lw_m7 153 rfl) rfl
theorem q1662 : (Jvm.Cond.methodLink "SendTheBoxModel" (98 : Nat) ({ cls := "SendTheBoxModel", name := "sorts", desc := "(I)I" } : Jvm.MethodName)) ∈ lw_all := lw_g (lw_at lw_m7 154 rfl) rfl
theorem q1663 : (Jvm.Cond.privateMethod ({ cls := "SendTheBoxModel", name := "sorts", desc := "(I)I" } : Jvm.MethodName)) ∈ lw_tbl := lw_at lw_m7 155 rfl
theorem q1664 : (Jvm.Cond.instanceMethod ({ cls := "SendTheBoxModel", name := "sorts", desc := "(I)I" } : Jvm.MethodName)) ∈ lw_all := lw_g (lw_at lw_m7 156 rfl) rfl
theorem q1665 : (Jvm.Cond.code ({ cls := "SendTheBoxModel", name := "sorts", desc := "(I)I" } : Jvm.MethodName) prog_17_method_6_code (2 : Nat) (Option.some Jvm.ClassFile.FieldType.int)) ∈ lw_all := lw_g (lw_at lw_m7 157 rfl) rfl
theorem q1667 : (Jvm.Cond.instanceMethod ({ cls := "SendTheBoxModel", name := "alter", desc := "(III)I" } : Jvm.MethodName)) ∈ lw_all := lw_g (lw_at lw_m7 159 rfl) rfl
theorem q1668 : (Jvm.Cond.selects "SendTheBoxModel" ({ cls := "SendTheBoxModel", name := "alter", desc := "(III)I" } : Jvm.MethodName) ({ cls := "SendTheBoxModel", name := "alter", desc := "(III)I" } : Jvm.MethodName)) ∈ lw_all := lw_g (lw_at lw_m7 160 rfl) rfl
theorem q1669 : (Jvm.Cond.code ({ cls := "SendTheBoxModel", name := "alter", desc := "(III)I" } : Jvm.MethodName) prog_17_method_32_code (5 : Nat) (Option.some Jvm.ClassFile.FieldType.int)) ∈ lw_all := lw_g (lw_at lw_m7 161 rfl) rfl
theorem q1670 : (Jvm.Cond.constantLong "SendTheBoxModel" (216 : Nat) (2 : Int64)) ∈ lw_all := lw_g (lw_at lw_m7 162 rfl) rfl
theorem q1671 : (Jvm.Cond.constantLong "SendTheBoxModel" (218 : Nat) (40 : Int64)) ∈ lw_all := lw_g (lw_at lw_m7 163 rfl) rfl
theorem q1672 : (Jvm.Cond.constantLong "SendTheBoxModel" (220 : Nat) (3 : Int64)) ∈ lw_all := lw_g (lw_at lw_m7 164 rfl) rfl
theorem q1674 : (Jvm.Cond.instanceMethod ({ cls := "SendTheBoxModel", name := "change", desc := "(IIII)I" } : Jvm.MethodName)) ∈ lw_all := lw_g (lw_at lw_m7 166 rfl) rfl
theorem q1675 : (Jvm.Cond.selects "SendTheBoxModel" ({ cls := "SendTheBoxModel", name := "change", desc := "(IIII)I" } : Jvm.MethodName) ({ cls := "SendTheBoxModel", name := "change", desc := "(IIII)I" } : Jvm.MethodName)) ∈ lw_all := lw_g (lw_at lw_m7 167 rfl) rfl
theorem q1676 : (Jvm.Cond.code ({ cls := "SendTheBoxModel", name := "change", desc := "(IIII)I" } : Jvm.MethodName) prog_17_method_33_code (7 : Nat) (Option.some Jvm.ClassFile.FieldType.int)) ∈ lw_all := lw_g (lw_at lw_m7 168 rfl) rfl
theorem q1677 : (Jvm.Cond.constantLong "SendTheBoxModel" (222 : Nat) (9 : Int64)) ∈ lw_all := lw_g (lw_at lw_m7 169 rfl) rfl
theorem q1679 : (Jvm.Cond.instanceMethod ({ cls := "SendTheBoxModel", name := "of", desc := "(II)I" } : Jvm.MethodName)) ∈ lw_all := lw_g (lw_at lw_m7 171 rfl) rfl
theorem q1680 : (Jvm.Cond.selects "SendTheBoxModel" ({ cls := "SendTheBoxModel", name := "of", desc := "(II)I" } : Jvm.MethodName) ({ cls := "SendTheBoxModel", name := "of", desc := "(II)I" } : Jvm.MethodName)) ∈ lw_all := lw_g (lw_at lw_m7 172 rfl) rfl
theorem q1681 : (Jvm.Cond.code ({ cls := "SendTheBoxModel", name := "of", desc := "(II)I" } : Jvm.MethodName) prog_17_method_35_code (3 : Nat) (Option.some Jvm.ClassFile.FieldType.int)) ∈ lw_all := lw_g (lw_at lw_m7 173 rfl) rfl
theorem q1682 : (Jvm.Cond.constantLong "SendTheBoxModel" (224 : Nat) (124 : Int64)) ∈ lw_all := lw_g (lw_at lw_m7 174 rfl) rfl
theorem q1683 : (Jvm.Cond.methodLink "SendTheBoxModel" (226 : Nat) ({ cls := "SendTheBoxModel", name := "ofState", desc := "(II)I" } : Jvm.MethodName)) ∈ lw_all := lw_g (lw_at lw_m7 175 rfl) rfl
theorem q1684 : (Jvm.Cond.static ({ cls := "SendTheBoxModel", name := "ofState", desc := "(II)I" } : Jvm.MethodName)) ∈ lw_all := lw_g (lw_at lw_m7 176 rfl) rfl
theorem q1685 : (Jvm.Cond.code ({ cls := "SendTheBoxModel", name := "ofState", desc := "(II)I" } : Jvm.MethodName) prog_17_method_34_code (2 : Nat) (Option.some Jvm.ClassFile.FieldType.int)) ∈ lw_all := lw_g (lw_at lw_m7 177 rfl) rfl
theorem q1686 : (Jvm.Cond.methodLink "SendTheBoxModel" (102 : Nat) ({ cls := "SendTheBoxModel", name := "power", desc := "(II)I" } : Jvm.MethodName)) ∈ lw_all := lw_g (lw_at lw_m7 178 rfl) rfl
theorem q1687 : (Jvm.Cond.static ({ cls := "SendTheBoxModel", name := "power", desc := "(II)I" } : Jvm.MethodName)) ∈ lw_all := lw_g (lw_at lw_m7 179 rfl) rfl
theorem q1688 : (Jvm.Cond.code ({ cls := "SendTheBoxModel", name := "power", desc := "(II)I" } : Jvm.MethodName) prog_17_method_5_code (4 : Nat) (Option.some Jvm.ClassFile.FieldType.int)) ∈ lw_all := lw_g (lw_at lw_m7 180 rfl) rfl
theorem q1690 : (Jvm.Cond.instanceMethod ({ cls := "SendTheBoxModel", name := "space", desc := "(II)I" } : Jvm.MethodName)) ∈ lw_all := lw_g (lw_at lw_m7 182 rfl) rfl
theorem q1691 : (Jvm.Cond.selects "SendTheBoxModel" ({ cls := "SendTheBoxModel", name := "space", desc := "(II)I" } : Jvm.MethodName) ({ cls := "SendTheBoxModel", name := "space", desc := "(II)I" } : Jvm.MethodName)) ∈ lw_all := lw_g (lw_at lw_m7 183 rfl) rfl
theorem q1692 : (Jvm.Cond.code ({ cls := "SendTheBoxModel", name := "space", desc := "(II)I" } : Jvm.MethodName) prog_17_method_38_code (3 : Nat) (Option.some Jvm.ClassFile.FieldType.int)) ∈ lw_all := lw_g (lw_at lw_m7 184 rfl) rfl
theorem q1693 : (Jvm.Cond.methodLink "SendTheBoxModel" (233 : Nat) ({ cls := "SendTheBoxModel", name := "isState", desc := "(II)Z" } : Jvm.MethodName)) ∈ lw_all := lw_g (lw_at lw_m7 185 rfl) rfl
theorem q1694 : (Jvm.Cond.privateMethod ({ cls := "SendTheBoxModel", name := "isState", desc := "(II)Z" } : Jvm.MethodName)) ∈ lw_tbl := lw_at lw_m7 186 rfl
theorem q1695 : (Jvm.Cond.instanceMethod ({ cls := "SendTheBoxModel", name := "isState", desc := "(II)Z" } : Jvm.MethodName)) ∈ lw_all := lw_g (lw_at lw_m7 187 rfl) rfl
theorem q1696 : (Jvm.Cond.code ({ cls := "SendTheBoxModel", name := "isState", desc := "(II)Z" } : Jvm.MethodName) prog_17_method_8_code (3 : Nat) (Option.some Jvm.ClassFile.FieldType.boolean)) ∈ lw_all := lw_g (lw_at lw_m7 188 rfl) rfl
theorem q1697 : (Jvm.Cond.methodLink "SendTheBoxModel" (110 : Nat) ({ cls := "SendTheBoxModel", name := "states", desc := "(I)I" } : Jvm.MethodName)) ∈ lw_all := lw_g (lw_at lw_m7 189 rfl) rfl
theorem q1698 : (Jvm.Cond.privateMethod ({ cls := "SendTheBoxModel", name := "states", desc := "(I)I" } : Jvm.MethodName)) ∈ lw_tbl := lw_at lw_m7 190 rfl
theorem q1699 : (Jvm.Cond.instanceMethod ({ cls := "SendTheBoxModel", name := "states", desc := "(I)I" } : Jvm.MethodName)) ∈ lw_all := lw_g (lw_at lw_m7 191 rfl) rfl
theorem q1700 : (Jvm.Cond.code ({ cls := "SendTheBoxModel", name := "states", desc := "(I)I" } : Jvm.MethodName) prog_17_method_7_code (2 : Nat) (Option.some Jvm.ClassFile.FieldType.int)) ∈ lw_all := lw_g (lw_at lw_m7 192 rfl) rfl
theorem q1701 : (Jvm.Cond.methodLink "SendTheBoxModel" (236 : Nat) ({ cls := "SendTheBoxModel", name := "sum", desc := "(III)I" } : Jvm.MethodName)) ∈ lw_all := lw_g (lw_at lw_m7 193 rfl) rfl
theorem q1702 : (Jvm.Cond.privateMethod ({ cls := "SendTheBoxModel", name := "sum", desc := "(III)I" } : Jvm.MethodName)) ∈ lw_tbl := lw_at lw_m7 194 rfl
theorem q1703 : (Jvm.Cond.instanceMethod ({ cls := "SendTheBoxModel", name := "sum", desc := "(III)I" } : Jvm.MethodName)) ∈ lw_all := lw_g (lw_at lw_m7 195 rfl) rfl
theorem q1704 : (Jvm.Cond.code ({ cls := "SendTheBoxModel", name := "sum", desc := "(III)I" } : Jvm.MethodName) prog_17_method_37_code (6 : Nat) (Option.some Jvm.ClassFile.FieldType.int)) ∈ lw_all := lw_g (lw_at lw_m7 196 rfl) rfl
theorem q1705 : (Jvm.Cond.methodLink "SendTheBoxModel" (229 : Nat) ({ cls := "SendTheBoxModel", name := "numberOf", desc := "(III)I" } : Jvm.MethodName)) ∈ lw_all := lw_g (lw_at lw_m7 197 rfl) rfl
theorem q1706 : (Jvm.Cond.privateMethod ({ cls := "SendTheBoxModel", name := "numberOf", desc := "(III)I" } : Jvm.MethodName)) ∈ lw_tbl := lw_at lw_m7 198 rfl
theorem q1707 : (Jvm.Cond.instanceMethod ({ cls := "SendTheBoxModel", name := "numberOf", desc := "(III)I" } : Jvm.MethodName)) ∈ lw_all := lw_g (lw_at lw_m7 199 rfl) rfl
theorem q1708 : (Jvm.Cond.code ({ cls := "SendTheBoxModel", name := "numberOf", desc := "(III)I" } : Jvm.MethodName) prog_17_method_36_code (4 : Nat) (Option.some Jvm.ClassFile.FieldType.int)) ∈ lw_all := lw_g (lw_at lw_m7 200 rfl) rfl
theorem q1710 : (Jvm.Cond.instanceMethod ({ cls := "SendTheBoxModel", name := "scale", desc := "(II)J" } : Jvm.MethodName)) ∈ lw_all := lw_g (lw_at lw_m7 202 rfl) rfl
theorem q1711 : (Jvm.Cond.selects "SendTheBoxModel" ({ cls := "SendTheBoxModel", name := "scale", desc := "(II)J" } : Jvm.MethodName) ({ cls := "SendTheBoxModel", name := "scale", desc := "(II)J" } : Jvm.MethodName)) ∈ lw_all := lw_g (lw_at lw_m7 203 rfl) rfl
theorem q1712 : (Jvm.Cond.code ({ cls := "SendTheBoxModel", name := "scale", desc := "(II)J" } : Jvm.MethodName) prog_17_method_40_code (3 : Nat) (Option.some Jvm.ClassFile.FieldType.long)) ∈ lw_all := lw_g (lw_at lw_m7 204 rfl) rfl
theorem q1713 : (Jvm.Cond.methodLink "SendTheBoxModel" (239 : Nat) ({ cls := "SendTheBoxModel", name := "isLeft", desc := "(II)Z" } : Jvm.MethodName)) ∈ lw_all := lw_g (lw_at lw_m7 205 rfl) rfl
theorem q1714 : (Jvm.Cond.privateMethod ({ cls := "SendTheBoxModel", name := "isLeft", desc := "(II)Z" } : Jvm.MethodName)) ∈ lw_tbl := lw_at lw_m7 206 rfl
theorem q1715 : (Jvm.Cond.instanceMethod ({ cls := "SendTheBoxModel", name := "isLeft", desc := "(II)Z" } : Jvm.MethodName)) ∈ lw_all := lw_g (lw_at lw_m7 207 rfl) rfl
theorem q1716 : (Jvm.Cond.code ({ cls := "SendTheBoxModel", name := "isLeft", desc := "(II)Z" } : Jvm.MethodName) prog_17_method_9_code (3 : Nat) (Option.some Jvm.ClassFile.FieldType.boolean)) ∈ lw_all := lw_g (lw_at lw_m7 208 rfl) rfl
theorem q1717 : (Jvm.Cond.methodLink "SendTheBoxModel" (242 : Nat) ({ cls := "SendTheBoxModel", name := "scaleOf", desc := "(II)J" } : Jvm.MethodName)) ∈ lw_all := lw_g (lw_at lw_m7 209 rfl) rfl
theorem q1718 : (Jvm.Cond.privateMethod ({ cls := "SendTheBoxModel", name := "scaleOf", desc := "(II)J" } : Jvm.MethodName)) ∈ lw_tbl := lw_at lw_m7 210 rfl
theorem q1719 : (Jvm.Cond.instanceMethod ({ cls := "SendTheBoxModel", name := "scaleOf", desc := "(II)J" } : Jvm.MethodName)) ∈ lw_all := lw_g (lw_at lw_m7 211 rfl) rfl
theorem q1720 : (Jvm.Cond.code ({ cls := "SendTheBoxModel", name := "scaleOf", desc := "(II)J" } : Jvm.MethodName) prog_17_method_39_code (6 : Nat) (Option.some Jvm.ClassFile.FieldType.long)) ∈ lw_all := lw_g (lw_at lw_m7 212 rfl) rfl
theorem q1722 : (Jvm.Cond.instanceMethod ({ cls := "SendTheBoxModel", name := "fill", desc := "(II)I" } : Jvm.MethodName)) ∈ lw_all := lw_g (lw_at lw_m7 214 rfl) rfl
theorem q1723 : (Jvm.Cond.selects "SendTheBoxModel" ({ cls := "SendTheBoxModel", name := "fill", desc := "(II)I" } : Jvm.MethodName) ({ cls := "SendTheBoxModel", name := "fill", desc := "(II)I" } : Jvm.MethodName)) ∈ lw_all := lw_g (lw_at lw_m7 215 rfl) rfl
theorem q1724 : (Jvm.Cond.code ({ cls := "SendTheBoxModel", name := "fill", desc := "(II)I" } : Jvm.MethodName) prog_17_method_43_code (3 : Nat) (Option.some Jvm.ClassFile.FieldType.int)) ∈ lw_all := lw_g (lw_at lw_m7 216 rfl) rfl
theorem q1725 : (Jvm.Cond.methodLink "SendTheBoxModel" (246 : Nat) ({ cls := "SendTheBoxModel", name := "fillOf", desc := "(II)I" } : Jvm.MethodName)) ∈ lw_all := lw_g (lw_at lw_m7 217 rfl) rfl
theorem q1726 : (Jvm.Cond.privateMethod ({ cls := "SendTheBoxModel", name := "fillOf", desc := "(II)I" } : Jvm.MethodName)) ∈ lw_tbl := lw_at lw_m7 218 rfl
theorem q1727 : (Jvm.Cond.instanceMethod ({ cls := "SendTheBoxModel", name := "fillOf", desc := "(II)I" } : Jvm.MethodName)) ∈ lw_all := lw_g (lw_at lw_m7 219 rfl) rfl
theorem q1728 : (Jvm.Cond.code ({ cls := "SendTheBoxModel", name := "fillOf", desc := "(II)I" } : Jvm.MethodName) prog_17_method_42_code (10 : Nat) (Option.some Jvm.ClassFile.FieldType.int)) ∈ lw_all := lw_g (lw_at lw_m7 220 rfl) rfl
theorem q1730 : (Jvm.Cond.instanceMethod ({ cls := "SendTheBoxModel", name := "cost", desc := "(III)J" } : Jvm.MethodName)) ∈ lw_all := lw_g (lw_at lw_m7 222 rfl) rfl
theorem q1731 : (Jvm.Cond.selects "SendTheBoxModel" ({ cls := "SendTheBoxModel", name := "cost", desc := "(III)J" } : Jvm.MethodName) ({ cls := "SendTheBoxModel", name := "cost", desc := "(III)J" } : Jvm.MethodName)) ∈ lw_all := lw_g (lw_at lw_m7 223 rfl) rfl
theorem q1732 : (Jvm.Cond.code ({ cls := "SendTheBoxModel", name := "cost", desc := "(III)J" } : Jvm.MethodName) prog_17_method_49_code (4 : Nat) (Option.some Jvm.ClassFile.FieldType.long)) ∈ lw_all := lw_g (lw_at lw_m7 224 rfl) rfl
theorem q1733 : (Jvm.Cond.methodLink "SendTheBoxModel" (264 : Nat) ({ cls := "SendTheBoxModel", name := "findBest", desc := "(I)V" } : Jvm.MethodName)) ∈ lw_all := lw_g (lw_at lw_m7 225 rfl) rfl
theorem q1734 : (Jvm.Cond.privateMethod ({ cls := "SendTheBoxModel", name := "findBest", desc := "(I)V" } : Jvm.MethodName)) ∈ lw_tbl := lw_at lw_m7 226 rfl
theorem q1735 : (Jvm.Cond.instanceMethod ({ cls := "SendTheBoxModel", name := "findBest", desc := "(I)V" } : Jvm.MethodName)) ∈ lw_all := lw_g (lw_at lw_m7 227 rfl) rfl
theorem q1736 : (Jvm.Cond.code ({ cls := "SendTheBoxModel", name := "findBest", desc := "(I)V" } : Jvm.MethodName) prog_17_method_47_code (10 : Nat) (Option.none : Option Jvm.ClassFile.FieldType)) ∈ lw_all := lw_g (lw_at lw_m7 228 rfl) rfl
theorem q1737 : (Jvm.Cond.methodLink "SendTheBoxModel" (249 : Nat) ({ cls := "SendTheBoxModel", name := "findWays", desc := "(I)V" } : Jvm.MethodName)) ∈ lw_all := lw_g (lw_at lw_m7 229 rfl) rfl
theorem q1738 : (Jvm.Cond.privateMethod ({ cls := "SendTheBoxModel", name := "findWays", desc := "(I)V" } : Jvm.MethodName)) ∈ lw_tbl := lw_at lw_m7 230 rfl
theorem q1739 : (Jvm.Cond.instanceMethod ({ cls := "SendTheBoxModel", name := "findWays", desc := "(I)V" } : Jvm.MethodName)) ∈ lw_all := lw_g (lw_at lw_m7 231 rfl) rfl
theorem q1740 : (Jvm.Cond.code ({ cls := "SendTheBoxModel", name := "findWays", desc := "(I)V" } : Jvm.MethodName) prog_17_method_44_code (8 : Nat) (Option.none : Option Jvm.ClassFile.FieldType)) ∈ lw_all := lw_g (lw_at lw_m7 232 rfl) rfl
theorem q1741 : (Jvm.Cond.methodLink "SendTheBoxModel" (253 : Nat) ({ cls := "SendTheBoxModel", name := "behind", desc := "(III[J)J" } : Jvm.MethodName)) ∈ lw_all := lw_g (lw_at lw_m7 233 rfl) rfl
theorem q1742 : (Jvm.Cond.privateMethod ({ cls := "SendTheBoxModel", name := "behind", desc := "(III[J)J" } : Jvm.MethodName)) ∈ lw_tbl := lw_at lw_m7 234 rfl
theorem q1743 : (Jvm.Cond.instanceMethod ({ cls := "SendTheBoxModel", name := "behind", desc := "(III[J)J" } : Jvm.MethodName)) ∈ lw_all := lw_g (lw_at lw_m7 235 rfl) rfl
theorem q1744 : (Jvm.Cond.code ({ cls := "SendTheBoxModel", name := "behind", desc := "(III[J)J" } : Jvm.MethodName) prog_17_method_45_code (11 : Nat) (Option.some Jvm.ClassFile.FieldType.long)) ∈ lw_all := lw_g (lw_at lw_m7 236 rfl) rfl
theorem q1745 : (Jvm.Cond.methodLink "SendTheBoxModel" (257 : Nat) ({ cls := "SendTheBoxModel", name := "isLoad", desc := "(III)Z" } : Jvm.MethodName)) ∈ lw_all := lw_g (lw_at lw_m7 237 rfl) rfl
theorem q1746 : (Jvm.Cond.privateMethod ({ cls := "SendTheBoxModel", name := "isLoad", desc := "(III)Z" } : Jvm.MethodName)) ∈ lw_tbl := lw_at lw_m7 238 rfl
theorem q1747 : (Jvm.Cond.instanceMethod ({ cls := "SendTheBoxModel", name := "isLoad", desc := "(III)Z" } : Jvm.MethodName)) ∈ lw_all := lw_g (lw_at lw_m7 239 rfl) rfl
theorem q1748 : (Jvm.Cond.code ({ cls := "SendTheBoxModel", name := "isLoad", desc := "(III)Z" } : Jvm.MethodName) prog_17_method_41_code (4 : Nat) (Option.some Jvm.ClassFile.FieldType.boolean)) ∈ lw_all := lw_g (lw_at lw_m8 0 rfl) rfl
theorem q1749 : (Jvm.Cond.methodLink "SendTheBoxModel" (261 : Nat) ({ cls := "SendTheBoxModel", name := "boxOf", desc := "(II)J" } : Jvm.MethodName)) ∈ lw_all := lw_g (lw_at lw_m8 1 rfl) rfl
theorem q1750 : (Jvm.Cond.privateMethod ({ cls := "SendTheBoxModel", name := "boxOf", desc := "(II)J" } : Jvm.MethodName)) ∈ lw_tbl := lw_at lw_m8 2 rfl
theorem q1751 : (Jvm.Cond.instanceMethod ({ cls := "SendTheBoxModel", name := "boxOf", desc := "(II)J" } : Jvm.MethodName)) ∈ lw_all := lw_g (lw_at lw_m8 3 rfl) rfl
theorem q1752 : (Jvm.Cond.code ({ cls := "SendTheBoxModel", name := "boxOf", desc := "(II)J" } : Jvm.MethodName) prog_17_method_46_code (3 : Nat) (Option.some Jvm.ClassFile.FieldType.long)) ∈ lw_all := lw_g (lw_at lw_m8 4 rfl) rfl
theorem q1754 : (Jvm.Cond.instanceMethod ({ cls := "SendTheBoxModel", name := "best", desc := "(III)I" } : Jvm.MethodName)) ∈ lw_all := lw_g (lw_at lw_m8 6 rfl) rfl
theorem q1755 : (Jvm.Cond.selects "SendTheBoxModel" ({ cls := "SendTheBoxModel", name := "best", desc := "(III)I" } : Jvm.MethodName) ({ cls := "SendTheBoxModel", name := "best", desc := "(III)I" } : Jvm.MethodName)) ∈ lw_all := lw_g (lw_at lw_m8 7 rfl) rfl
theorem q1756 : (Jvm.Cond.code ({ cls := "SendTheBoxModel", name := "best", desc := "(III)I" } : Jvm.MethodName) prog_17_method_50_code (4 : Nat) (Option.some Jvm.ClassFile.FieldType.int)) ∈ lw_all := lw_g (lw_at lw_m8 8 rfl) rfl
theorem q1758 : (Jvm.Cond.instanceMethod ({ cls := "SendTheBoxModel", name := "load", desc := "(IIII)I" } : Jvm.MethodName)) ∈ lw_all := lw_g (lw_at lw_m8 10 rfl) rfl
theorem q1759 : (Jvm.Cond.selects "SendTheBoxModel" ({ cls := "SendTheBoxModel", name := "load", desc := "(IIII)I" } : Jvm.MethodName) ({ cls := "SendTheBoxModel", name := "load", desc := "(IIII)I" } : Jvm.MethodName)) ∈ lw_all := lw_g (lw_at lw_m8 11 rfl) rfl
theorem q1760 : (Jvm.Cond.code ({ cls := "SendTheBoxModel", name := "load", desc := "(IIII)I" } : Jvm.MethodName) prog_17_method_54_code (6 : Nat) (Option.some Jvm.ClassFile.FieldType.int)) ∈ lw_all := lw_g (lw_at lw_m8 12 rfl) rfl
theorem q1761 : (Jvm.Cond.methodLink "SendTheBoxModel" (271 : Nat) ({ cls := "SendTheBoxModel", name := "noRule", desc := "(I)I" } : Jvm.MethodName)) ∈ lw_all := lw_g (lw_at lw_m8 13 rfl) rfl
theorem q1762 : (Jvm.Cond.privateMethod ({ cls := "SendTheBoxModel", name := "noRule", desc := "(I)I" } : Jvm.MethodName)) ∈ lw_tbl := lw_at lw_m8 14 rfl
theorem q1763 : (Jvm.Cond.instanceMethod ({ cls := "SendTheBoxModel", name := "noRule", desc := "(I)I" } : Jvm.MethodName)) ∈ lw_all := lw_g (lw_at lw_m8 15 rfl) rfl
theorem q1764 : (Jvm.Cond.code ({ cls := "SendTheBoxModel", name := "noRule", desc := "(I)I" } : Jvm.MethodName) prog_17_method_53_code (2 : Nat) (Option.some Jvm.ClassFile.FieldType.int)) ∈ lw_all := lw_g (lw_at lw_m8 16 rfl) rfl
theorem q1765 : (Jvm.Cond.methodLink "SendTheBoxModel" (274 : Nat) ({ cls := "SendTheBoxModel", name := "loadBy", desc := "(IIII)I" } : Jvm.MethodName)) ∈ lw_all := lw_g (lw_at lw_m8 17 rfl) rfl
theorem q1766 : (Jvm.Cond.privateMethod ({ cls := "SendTheBoxModel", name := "loadBy", desc := "(IIII)I" } : Jvm.MethodName)) ∈ lw_tbl := lw_at lw_m8 18 rfl
theorem q1767 : (Jvm.Cond.instanceMethod ({ cls := "SendTheBoxModel", name := "loadBy", desc := "(IIII)I" } : Jvm.MethodName)) ∈ lw_all := lw_g (lw_at lw_m8 19 rfl) rfl
theorem q1768 : (Jvm.Cond.code ({ cls := "SendTheBoxModel", name := "loadBy", desc := "(IIII)I" } : Jvm.MethodName) prog_17_method_51_code (5 : Nat) (Option.some Jvm.ClassFile.FieldType.int)) ∈ lw_all := lw_g (lw_at lw_m8 20 rfl) rfl
theorem q1769 : (Jvm.Cond.methodLink "SendTheBoxModel" (267 : Nat) ({ cls := "SendTheBoxModel", name := "fillsBy", desc := "(IIII)Z" } : Jvm.MethodName)) ∈ lw_all := lw_g (lw_at lw_m8 21 rfl) rfl
theorem q1770 : (Jvm.Cond.privateMethod ({ cls := "SendTheBoxModel", name := "fillsBy", desc := "(IIII)Z" } : Jvm.MethodName)) ∈ lw_tbl := lw_at lw_m8 22 rfl
theorem q1771 : (Jvm.Cond.instanceMethod ({ cls := "SendTheBoxModel", name := "fillsBy", desc := "(IIII)Z" } : Jvm.MethodName)) ∈ lw_all := lw_g (lw_at lw_m8 23 rfl) rfl
theorem q1772 : (Jvm.Cond.code ({ cls := "SendTheBoxModel", name := "fillsBy", desc := "(IIII)Z" } : Jvm.MethodName) prog_17_method_52_code (5 : Nat) (Option.some Jvm.ClassFile.FieldType.boolean)) ∈ lw_all := lw_g (lw_at lw_m8 24 rfl) rfl
theorem q1774 : (Jvm.Cond.instanceMethod ({ cls := "SendTheBoxModel", name := "mean", desc := "(IIII)J" } : Jvm.MethodName)) ∈ lw_all := lw_g (lw_at lw_m8 26 rfl) rfl
theorem q1775 : (Jvm.Cond.selects "SendTheBoxModel" ({ cls := "SendTheBoxModel", name := "mean", desc := "(IIII)J" } : Jvm.MethodName) ({ cls := "SendTheBoxModel", name := "mean", desc := "(IIII)J" } : Jvm.MethodName)) ∈ lw_all := lw_g (lw_at lw_m8 27 rfl) rfl
theorem q1776 : (Jvm.Cond.code ({ cls := "SendTheBoxModel", name := "mean", desc := "(IIII)J" } : Jvm.MethodName) prog_17_method_58_code (5 : Nat) (Option.some Jvm.ClassFile.FieldType.long)) ∈ lw_all := lw_g (lw_at lw_m8 28 rfl) rfl
theorem q1777 : (Jvm.Cond.methodLink "SendTheBoxModel" (285 : Nat) ({ cls := "SendTheBoxModel", name := "byShelf", desc := "(IIIIZ)J" } : Jvm.MethodName)) ∈ lw_all := lw_g (lw_at lw_m8 29 rfl) rfl
theorem q1778 : (Jvm.Cond.privateMethod ({ cls := "SendTheBoxModel", name := "byShelf", desc := "(IIIIZ)J" } : Jvm.MethodName)) ∈ lw_tbl := lw_at lw_m8 30 rfl
theorem q1779 : (Jvm.Cond.instanceMethod ({ cls := "SendTheBoxModel", name := "byShelf", desc := "(IIIIZ)J" } : Jvm.MethodName)) ∈ lw_all := lw_g (lw_at lw_m8 31 rfl) rfl
theorem q1780 : (Jvm.Cond.code ({ cls := "SendTheBoxModel", name := "byShelf", desc := "(IIIIZ)J" } : Jvm.MethodName) prog_17_method_57_code (7 : Nat) (Option.some Jvm.ClassFile.FieldType.long)) ∈ lw_all := lw_g (lw_at lw_m8 32 rfl) rfl
theorem q1781 : (Jvm.Cond.methodLink "SendTheBoxModel" (282 : Nat) ({ cls := "SendTheBoxModel", name := "findByRule", desc := "(II)V" } : Jvm.MethodName)) ∈ lw_all := lw_g (lw_at lw_m8 33 rfl) rfl
theorem q1782 : (Jvm.Cond.privateMethod ({ cls := "SendTheBoxModel", name := "findByRule", desc := "(II)V" } : Jvm.MethodName)) ∈ lw_tbl := lw_at lw_m8 34 rfl
theorem q1783 : (Jvm.Cond.instanceMethod ({ cls := "SendTheBoxModel", name := "findByRule", desc := "(II)V" } : Jvm.MethodName)) ∈ lw_all := lw_g (lw_at lw_m8 35 rfl) rfl
theorem q1784 : (Jvm.Cond.code ({ cls := "SendTheBoxModel", name := "findByRule", desc := "(II)V" } : Jvm.MethodName) prog_17_method_55_code (3 : Nat) (Option.none : Option Jvm.ClassFile.FieldType)) ∈ lw_all := lw_g (lw_at lw_m8 36 rfl) rfl
theorem q1785 : (Jvm.Cond.methodLink "SendTheBoxModel" (278 : Nat) ({ cls := "SendTheBoxModel", name := "goesByRule", desc := "(II)V" } : Jvm.MethodName)) ∈ lw_all := lw_g (lw_at lw_m8 37 rfl) rfl
theorem q1786 : (Jvm.Cond.privateMethod ({ cls := "SendTheBoxModel", name := "goesByRule", desc := "(II)V" } : Jvm.MethodName)) ∈ lw_tbl := lw_at lw_m8 38 rfl
theorem q1787 : (Jvm.Cond.instanceMethod ({ cls := "SendTheBoxModel", name := "goesByRule", desc := "(II)V" } : Jvm.MethodName)) ∈ lw_all := lw_g (lw_at lw_m8 39 rfl) rfl
theorem q1788 : (Jvm.Cond.code ({ cls := "SendTheBoxModel", name := "goesByRule", desc := "(II)V" } : Jvm.MethodName) prog_17_method_56_code (10 : Nat) (Option.none : Option Jvm.ClassFile.FieldType)) ∈ lw_all := lw_g (lw_at lw_m8 40 rfl) rfl
theorem q1790 : (Jvm.Cond.instanceMethod ({ cls := "SendTheBoxModel", name := "lose", desc := "(IIII)J" } : Jvm.MethodName)) ∈ lw_all := lw_g (lw_at lw_m8 42 rfl) rfl
theorem q1791 : (Jvm.Cond.selects "SendTheBoxModel" ({ cls := "SendTheBoxModel", name := "lose", desc := "(IIII)J" } : Jvm.MethodName) ({ cls := "SendTheBoxModel", name := "lose", desc := "(IIII)J" } : Jvm.MethodName)) ∈ lw_all := lw_g (lw_at lw_m8 43 rfl) rfl
theorem q1792 : (Jvm.Cond.code ({ cls := "SendTheBoxModel", name := "lose", desc := "(IIII)J" } : Jvm.MethodName) prog_17_method_59_code (5 : Nat) (Option.some Jvm.ClassFile.FieldType.long)) ∈ lw_all := lw_g (lw_at lw_m8 44 rfl) rfl
theorem q1794 : (Jvm.Cond.instanceMethod ({ cls := "SendTheBoxModel", name := "boy", desc := "(I)I" } : Jvm.MethodName)) ∈ lw_all := lw_g (lw_at lw_m8 46 rfl) rfl
theorem q1795 : (Jvm.Cond.selects "SendTheBoxModel" ({ cls := "SendTheBoxModel", name := "boy", desc := "(I)I" } : Jvm.MethodName) ({ cls := "SendTheBoxModel", name := "boy", desc := "(I)I" } : Jvm.MethodName)) ∈ lw_all := lw_g (lw_at lw_m8 47 rfl) rfl
theorem q1796 : (Jvm.Cond.code ({ cls := "SendTheBoxModel", name := "boy", desc := "(I)I" } : Jvm.MethodName) prog_17_method_60_code (8 : Nat) (Option.some Jvm.ClassFile.FieldType.int)) ∈ lw_all := lw_g (lw_at lw_m8 48 rfl) rfl
theorem q1798 : (Jvm.Cond.instanceMethod ({ cls := "SendTheBoxModel", name := "waits", desc := "(III)J" } : Jvm.MethodName)) ∈ lw_all := lw_g (lw_at lw_m8 50 rfl) rfl
theorem q1799 : (Jvm.Cond.selects "SendTheBoxModel" ({ cls := "SendTheBoxModel", name := "waits", desc := "(III)J" } : Jvm.MethodName) ({ cls := "SendTheBoxModel", name := "waits", desc := "(III)J" } : Jvm.MethodName)) ∈ lw_all := lw_g (lw_at lw_m8 51 rfl) rfl
theorem q1800 : (Jvm.Cond.code ({ cls := "SendTheBoxModel", name := "waits", desc := "(III)J" } : Jvm.MethodName) prog_17_method_61_code (4 : Nat) (Option.some Jvm.ClassFile.FieldType.long)) ∈ lw_all := lw_g (lw_at lw_m8 52 rfl) rfl
theorem q1802 : (Jvm.Cond.instanceMethod ({ cls := "SendTheBoxModel", name := "once", desc := "(III)J" } : Jvm.MethodName)) ∈ lw_all := lw_g (lw_at lw_m8 54 rfl) rfl
theorem q1803 : (Jvm.Cond.selects "SendTheBoxModel" ({ cls := "SendTheBoxModel", name := "once", desc := "(III)J" } : Jvm.MethodName) ({ cls := "SendTheBoxModel", name := "once", desc := "(III)J" } : Jvm.MethodName)) ∈ lw_all := lw_g (lw_at lw_m8 55 rfl) rfl
theorem q1804 : (Jvm.Cond.code ({ cls := "SendTheBoxModel", name := "once", desc := "(III)J" } : Jvm.MethodName) prog_17_method_62_code (4 : Nat) (Option.some Jvm.ClassFile.FieldType.long)) ∈ lw_all := lw_g (lw_at lw_m8 56 rfl) rfl
theorem q1805 : (Jvm.Cond.methodLink "SendTheBoxModel" (289 : Nat) ({ cls := "SendTheBoxModel", name := "withLoad", desc := "(IIII[J)J" } : Jvm.MethodName)) ∈ lw_all := lw_g (lw_at lw_m8 57 rfl) rfl
theorem q1806 : (Jvm.Cond.privateMethod ({ cls := "SendTheBoxModel", name := "withLoad", desc := "(IIII[J)J" } : Jvm.MethodName)) ∈ lw_tbl := lw_at lw_m8 58 rfl
theorem q1807 : (Jvm.Cond.instanceMethod ({ cls := "SendTheBoxModel", name := "withLoad", desc := "(IIII[J)J" } : Jvm.MethodName)) ∈ lw_all := lw_g (lw_at lw_m8 59 rfl) rfl
theorem q1808 : (Jvm.Cond.code ({ cls := "SendTheBoxModel", name := "withLoad", desc := "(IIII[J)J" } : Jvm.MethodName) prog_17_method_48_code (10 : Nat) (Option.some Jvm.ClassFile.FieldType.long)) ∈ lw_all := lw_g (lw_at lw_m8 60 rfl) rfl
theorem q1810 : (Jvm.Cond.instanceMethod ({ cls := "SendTheBoxModel", name := "chance", desc := "(IIII)J" } : Jvm.MethodName)) ∈ lw_all := lw_g (lw_at lw_m8 62 rfl) rfl
theorem q1811 : (Jvm.Cond.selects "SendTheBoxModel" ({ cls := "SendTheBoxModel", name := "chance", desc := "(IIII)J" } : Jvm.MethodName) ({ cls := "SendTheBoxModel", name := "chance", desc := "(IIII)J" } : Jvm.MethodName)) ∈ lw_all := lw_g (lw_at lw_m8 63 rfl) rfl
theorem q1812 : (Jvm.Cond.code ({ cls := "SendTheBoxModel", name := "chance", desc := "(IIII)J" } : Jvm.MethodName) prog_17_method_65_code (6 : Nat) (Option.some Jvm.ClassFile.FieldType.long)) ∈ lw_all := lw_g (lw_at lw_m8 64 rfl) rfl
theorem q1813 : (Jvm.Cond.methodLink "SendTheBoxModel" (297 : Nat) ({ cls := "SendTheBoxModel", name := "findChances", desc := "(II)V" } : Jvm.MethodName)) ∈ lw_all := lw_g (lw_at lw_m8 65 rfl) rfl
theorem q1814 : (Jvm.Cond.privateMethod ({ cls := "SendTheBoxModel", name := "findChances", desc := "(II)V" } : Jvm.MethodName)) ∈ lw_tbl := lw_at lw_m8 66 rfl
theorem q1815 : (Jvm.Cond.instanceMethod ({ cls := "SendTheBoxModel", name := "findChances", desc := "(II)V" } : Jvm.MethodName)) ∈ lw_all := lw_g (lw_at lw_m8 67 rfl) rfl
theorem q1816 : (Jvm.Cond.code ({ cls := "SendTheBoxModel", name := "findChances", desc := "(II)V" } : Jvm.MethodName) prog_17_method_64_code (8 : Nat) (Option.none : Option Jvm.ClassFile.FieldType)) ∈ lw_all := lw_g (lw_at lw_m8 68 rfl) rfl
theorem q1817 : (Jvm.Cond.methodLink "SendTheBoxModel" (293 : Nat) ({ cls := "SendTheBoxModel", name := "goesOn", desc := "(IIJ[J)V" } : Jvm.MethodName)) ∈ lw_all := lw_g (lw_at lw_m8 69 rfl) rfl
theorem q1818 : (Jvm.Cond.privateMethod ({ cls := "SendTheBoxModel", name := "goesOn", desc := "(IIJ[J)V" } : Jvm.MethodName)) ∈ lw_tbl := lw_at lw_m8 70 rfl
theorem q1819 : (Jvm.Cond.instanceMethod ({ cls := "SendTheBoxModel", name := "goesOn", desc := "(IIJ[J)V" } : Jvm.MethodName)) ∈ lw_all := lw_g (lw_at lw_m8 71 rfl) rfl
theorem q1820 : (Jvm.Cond.code ({ cls := "SendTheBoxModel", name := "goesOn", desc := "(IIJ[J)V" } : Jvm.MethodName) prog_17_method_63_code (14 : Nat) (Option.none : Option Jvm.ClassFile.FieldType)) ∈ lw_all := lw_g (lw_at lw_m8 72 rfl) rfl
theorem q1822 : (Jvm.Cond.instanceMethod ({ cls := "SendTheBoxModel", name := "reach", desc := "(III)I" } : Jvm.MethodName)) ∈ lw_all := lw_g (lw_at lw_m8 74 rfl) rfl
theorem q1823 : (Jvm.Cond.selects "SendTheBoxModel" ({ cls := "SendTheBoxModel", name := "reach", desc := "(III)I" } : Jvm.MethodName) ({ cls := "SendTheBoxModel", name := "reach", desc := "(III)I" } : Jvm.MethodName)) ∈ lw_all := lw_g (lw_at lw_m8 75 rfl) rfl
theorem q1824 : (Jvm.Cond.code ({ cls := "SendTheBoxModel", name := "reach", desc := "(III)I" } : Jvm.MethodName) prog_17_method_66_code (7 : Nat) (Option.some Jvm.ClassFile.FieldType.int)) ∈ lw_all := lw_g (lw_at lw_m8 76 rfl) rfl
theorem q1826 : (Jvm.Cond.instanceMethod ({ cls := "SendTheBoxModel", name := "held", desc := "(III)J" } : Jvm.MethodName)) ∈ lw_all := lw_g (lw_at lw_m8 78 rfl) rfl
theorem q1827 : (Jvm.Cond.selects "SendTheBoxModel" ({ cls := "SendTheBoxModel", name := "held", desc := "(III)J" } : Jvm.MethodName) ({ cls := "SendTheBoxModel", name := "held", desc := "(III)J" } : Jvm.MethodName)) ∈ lw_all := lw_g (lw_at lw_m8 79 rfl) rfl
theorem q1828 : (Jvm.Cond.code ({ cls := "SendTheBoxModel", name := "held", desc := "(III)J" } : Jvm.MethodName) prog_17_method_68_code (5 : Nat) (Option.some Jvm.ClassFile.FieldType.long)) ∈ lw_all := lw_g (lw_at lw_m8 80 rfl) rfl
theorem q1829 : (Jvm.Cond.methodLink "SendTheBoxModel" (300 : Nat) ({ cls := "SendTheBoxModel", name := "meanOf", desc := "(III)J" } : Jvm.MethodName)) ∈ lw_all := lw_g (lw_at lw_m8 81 rfl) rfl
theorem q1830 : (Jvm.Cond.privateMethod ({ cls := "SendTheBoxModel", name := "meanOf", desc := "(III)J" } : Jvm.MethodName)) ∈ lw_tbl := lw_at lw_m8 82 rfl
theorem q1831 : (Jvm.Cond.instanceMethod ({ cls := "SendTheBoxModel", name := "meanOf", desc := "(III)J" } : Jvm.MethodName)) ∈ lw_all := lw_g (lw_at lw_m8 83 rfl) rfl
theorem q1832 : (Jvm.Cond.code ({ cls := "SendTheBoxModel", name := "meanOf", desc := "(III)J" } : Jvm.MethodName) prog_17_method_67_code (14 : Nat) (Option.some Jvm.ClassFile.FieldType.long)) ∈ lw_all := lw_g (lw_at lw_m8 84 rfl) rfl
theorem q1834 : (Jvm.Cond.instanceMethod ({ cls := "SendTheBoxModel", name := "boxes", desc := "(II)J" } : Jvm.MethodName)) ∈ lw_all := lw_g (lw_at lw_m8 86 rfl) rfl
theorem q1835 : (Jvm.Cond.selects "SendTheBoxModel" ({ cls := "SendTheBoxModel", name := "boxes", desc := "(II)J" } : Jvm.MethodName) ({ cls := "SendTheBoxModel", name := "boxes", desc := "(II)J" } : Jvm.MethodName)) ∈ lw_all := lw_g (lw_at lw_m8 87 rfl) rfl
theorem q1836 : (Jvm.Cond.code ({ cls := "SendTheBoxModel", name := "boxes", desc := "(II)J" } : Jvm.MethodName) prog_17_method_69_code (4 : Nat) (Option.some Jvm.ClassFile.FieldType.long)) ∈ lw_all := lw_g (lw_at lw_m8 88 rfl) rfl
theorem q1838 : (Jvm.Cond.instanceMethod ({ cls := "SendTheBoxModel", name := "plain", desc := "(I)I" } : Jvm.MethodName)) ∈ lw_all := lw_g (lw_at lw_m8 90 rfl) rfl
theorem q1839 : (Jvm.Cond.selects "SendTheBoxModel" ({ cls := "SendTheBoxModel", name := "plain", desc := "(I)I" } : Jvm.MethodName) ({ cls := "SendTheBoxModel", name := "plain", desc := "(I)I" } : Jvm.MethodName)) ∈ lw_all := lw_g (lw_at lw_m8 91 rfl) rfl
theorem q1840 : (Jvm.Cond.code ({ cls := "SendTheBoxModel", name := "plain", desc := "(I)I" } : Jvm.MethodName) prog_17_method_72_code (2 : Nat) (Option.some Jvm.ClassFile.FieldType.int)) ∈ lw_all := lw_g (lw_at lw_m8 92 rfl) rfl
theorem q1841 : (Jvm.Cond.methodLink "SendTheBoxModel" (307 : Nat) ({ cls := "SendTheBoxModel", name := "leastOf", desc := "(IIII)I" } : Jvm.MethodName)) ∈ lw_all := lw_g (lw_at lw_m8 93 rfl) rfl
theorem q1842 : (Jvm.Cond.privateMethod ({ cls := "SendTheBoxModel", name := "leastOf", desc := "(IIII)I" } : Jvm.MethodName)) ∈ lw_tbl := lw_at lw_m8 94 rfl
theorem q1843 : (Jvm.Cond.instanceMethod ({ cls := "SendTheBoxModel", name := "leastOf", desc := "(IIII)I" } : Jvm.MethodName)) ∈ lw_all := lw_g (lw_at lw_m8 95 rfl) rfl
theorem q1844 : (Jvm.Cond.code ({ cls := "SendTheBoxModel", name := "leastOf", desc := "(IIII)I" } : Jvm.MethodName) prog_17_method_70_code (11 : Nat) (Option.some Jvm.ClassFile.FieldType.int)) ∈ lw_all := lw_g (lw_at lw_m8 96 rfl) rfl
theorem q1845 : (Jvm.Cond.methodLink "SendTheBoxModel" (304 : Nat) ({ cls := "SendTheBoxModel", name := "hasRoom", desc := "(II)Z" } : Jvm.MethodName)) ∈ lw_all := lw_g (lw_at lw_m8 97 rfl) rfl
theorem q1846 : (Jvm.Cond.privateMethod ({ cls := "SendTheBoxModel", name := "hasRoom", desc := "(II)Z" } : Jvm.MethodName)) ∈ lw_tbl := lw_at lw_m8 98 rfl
theorem q1847 : (Jvm.Cond.instanceMethod ({ cls := "SendTheBoxModel", name := "hasRoom", desc := "(II)Z" } : Jvm.MethodName)) ∈ lw_all := lw_g (lw_at lw_m8 99 rfl) rfl
theorem q1848 : (Jvm.Cond.code ({ cls := "SendTheBoxModel", name := "hasRoom", desc := "(II)Z" } : Jvm.MethodName) prog_17_method_71_code (4 : Nat) (Option.some Jvm.ClassFile.FieldType.boolean)) ∈ lw_all := lw_g (lw_at lw_m8 100 rfl) rfl
theorem q1850 : (Jvm.Cond.instanceMethod ({ cls := "SendTheBoxModel", name := "every", desc := "(I)I" } : Jvm.MethodName)) ∈ lw_all := lw_g (lw_at lw_m8 102 rfl) rfl
theorem q1851 : (Jvm.Cond.selects "SendTheBoxModel" ({ cls := "SendTheBoxModel", name := "every", desc := "(I)I" } : Jvm.MethodName) ({ cls := "SendTheBoxModel", name := "every", desc := "(I)I" } : Jvm.MethodName)) ∈ lw_all := lw_g (lw_at lw_m8 103 rfl) rfl
theorem q1852 : (Jvm.Cond.code ({ cls := "SendTheBoxModel", name := "every", desc := "(I)I" } : Jvm.MethodName) prog_17_method_73_code (2 : Nat) (Option.some Jvm.ClassFile.FieldType.int)) ∈ lw_all := lw_g (lw_at lw_m8 104 rfl) rfl
theorem q1854 : (Jvm.Cond.instanceMethod ({ cls := "SendTheBoxModel", name := "promise", desc := "(II)J" } : Jvm.MethodName)) ∈ lw_all := lw_g (lw_at lw_m8 106 rfl) rfl
theorem q1855 : (Jvm.Cond.selects "SendTheBoxModel" ({ cls := "SendTheBoxModel", name := "promise", desc := "(II)J" } : Jvm.MethodName) ({ cls := "SendTheBoxModel", name := "promise", desc := "(II)J" } : Jvm.MethodName)) ∈ lw_all := lw_g (lw_at lw_m8 107 rfl) rfl
theorem q1856 : (Jvm.Cond.code ({ cls := "SendTheBoxModel", name := "promise", desc := "(II)J" } : Jvm.MethodName) prog_17_method_74_code (5 : Nat) (Option.some Jvm.ClassFile.FieldType.long)) ∈ lw_all := lw_g (lw_at lw_m8 108 rfl) rfl
theorem q1858 : (Jvm.Cond.instanceMethod ({ cls := "SendTheBoxModel", name := "dear", desc := "(IIII)J" } : Jvm.MethodName)) ∈ lw_all := lw_g (lw_at lw_m8 110 rfl) rfl
theorem q1859 : (Jvm.Cond.selects "SendTheBoxModel" ({ cls := "SendTheBoxModel", name := "dear", desc := "(IIII)J" } : Jvm.MethodName) ({ cls := "SendTheBoxModel", name := "dear", desc := "(IIII)J" } : Jvm.MethodName)) ∈ lw_all := lw_g (lw_at lw_m8 111 rfl) rfl
theorem q1860 : (Jvm.Cond.code ({ cls := "SendTheBoxModel", name := "dear", desc := "(IIII)J" } : Jvm.MethodName) prog_17_method_75_code (5 : Nat) (Option.some Jvm.ClassFile.FieldType.long)) ∈ lw_all := lw_g (lw_at lw_m8 112 rfl) rfl
theorem q1862 : (Jvm.Cond.instanceMethod ({ cls := "SendTheBoxModel", name := "shape", desc := "(II)I" } : Jvm.MethodName)) ∈ lw_all := lw_g (lw_at lw_m8 114 rfl) rfl
theorem q1863 : (Jvm.Cond.selects "SendTheBoxModel" ({ cls := "SendTheBoxModel", name := "shape", desc := "(II)I" } : Jvm.MethodName) ({ cls := "SendTheBoxModel", name := "shape", desc := "(II)I" } : Jvm.MethodName)) ∈ lw_all := lw_g (lw_at lw_m8 115 rfl) rfl
theorem q1864 : (Jvm.Cond.code ({ cls := "SendTheBoxModel", name := "shape", desc := "(II)I" } : Jvm.MethodName) prog_17_method_77_code (3 : Nat) (Option.some Jvm.ClassFile.FieldType.int)) ∈ lw_all := lw_g (lw_at lw_m8 116 rfl) rfl
theorem q1865 : (Jvm.Cond.methodLink "SendTheBoxModel" (316 : Nat) ({ cls := "SendTheBoxModel", name := "findRooms", desc := "(II)Z" } : Jvm.MethodName)) ∈ lw_all := lw_g (lw_at lw_m8 117 rfl) rfl
theorem q1866 : (Jvm.Cond.privateMethod ({ cls := "SendTheBoxModel", name := "findRooms", desc := "(II)Z" } : Jvm.MethodName)) ∈ lw_tbl := lw_at lw_m8 118 rfl
theorem q1867 : (Jvm.Cond.instanceMethod ({ cls := "SendTheBoxModel", name := "findRooms", desc := "(II)Z" } : Jvm.MethodName)) ∈ lw_all := lw_g (lw_at lw_m8 119 rfl) rfl
theorem q1868 : (Jvm.Cond.code ({ cls := "SendTheBoxModel", name := "findRooms", desc := "(II)Z" } : Jvm.MethodName) prog_17_method_76_code (5 : Nat) (Option.some Jvm.ClassFile.FieldType.boolean)) ∈ lw_all := lw_g (lw_at lw_m8 120 rfl) rfl
theorem q1870 : (Jvm.Cond.instanceMethod ({ cls := "SendTheBoxModel", name := "odd", desc := "(II)I" } : Jvm.MethodName)) ∈ lw_all := lw_g (lw_at lw_m8 122 rfl) rfl
theorem q1871 : (Jvm.Cond.selects "SendTheBoxModel" ({ cls := "SendTheBoxModel", name := "odd", desc := "(II)I" } : Jvm.MethodName) ({ cls := "SendTheBoxModel", name := "odd", desc := "(II)I" } : Jvm.MethodName)) ∈ lw_all := lw_g (lw_at lw_m8 123 rfl) rfl
theorem q1872 : (Jvm.Cond.code ({ cls := "SendTheBoxModel", name := "odd", desc := "(II)I" } : Jvm.MethodName) prog_17_method_78_code (4 : Nat) (Option.some Jvm.ClassFile.FieldType.int)) ∈ lw_all := lw_g (lw_at lw_m8 124 rfl) rfl
theorem q1874 : (Jvm.Cond.instanceMethod ({ cls := "SendTheBoxModel", name := "judge", desc := "(III)I" } : Jvm.MethodName)) ∈ lw_all := lw_g (lw_at lw_m8 126 rfl) rfl
theorem q1875 : (Jvm.Cond.selects "SendTheBoxModel" ({ cls := "SendTheBoxModel", name := "judge", desc := "(III)I" } : Jvm.MethodName) ({ cls := "SendTheBoxModel", name := "judge", desc := "(III)I" } : Jvm.MethodName)) ∈ lw_all := lw_g (lw_at lw_m8 127 rfl) rfl
theorem q1876 : (Jvm.Cond.code ({ cls := "SendTheBoxModel", name := "judge", desc := "(III)I" } : Jvm.MethodName) prog_17_method_79_code (6 : Nat) (Option.some Jvm.ClassFile.FieldType.int)) ∈ lw_all := lw_g (lw_at lw_m8 128 rfl) rfl
theorem q1878 : (Jvm.Cond.instanceMethod ({ cls := "SendTheBoxModel", name := "join", desc := "(II)I" } : Jvm.MethodName)) ∈ lw_all := lw_g (lw_at lw_m8 130 rfl) rfl
theorem q1879 : (Jvm.Cond.selects "SendTheBoxModel" ({ cls := "SendTheBoxModel", name := "join", desc := "(II)I" } : Jvm.MethodName) ({ cls := "SendTheBoxModel", name := "join", desc := "(II)I" } : Jvm.MethodName)) ∈ lw_all := lw_g (lw_at lw_m8 131 rfl) rfl
theorem q1880 : (Jvm.Cond.code ({ cls := "SendTheBoxModel", name := "join", desc := "(II)I" } : Jvm.MethodName) prog_17_method_82_code (3 : Nat) (Option.some Jvm.ClassFile.FieldType.int)) ∈ lw_all := lw_g (lw_at lw_m8 132 rfl) rfl
theorem q1881 : (Jvm.Cond.methodLink "SendTheBoxModel" (319 : Nat) ({ cls := "SendTheBoxModel", name := "mayJoin", desc := "(II)Z" } : Jvm.MethodName)) ∈ lw_all := lw_g (lw_at lw_m8 133 rfl) rfl
theorem q1882 : (Jvm.Cond.privateMethod ({ cls := "SendTheBoxModel", name := "mayJoin", desc := "(II)Z" } : Jvm.MethodName)) ∈ lw_tbl := lw_at lw_m8 134 rfl
theorem q1883 : (Jvm.Cond.instanceMethod ({ cls := "SendTheBoxModel", name := "mayJoin", desc := "(II)Z" } : Jvm.MethodName)) ∈ lw_all := lw_g (lw_at lw_m8 135 rfl) rfl
theorem q1884 : (Jvm.Cond.code ({ cls := "SendTheBoxModel", name := "mayJoin", desc := "(II)Z" } : Jvm.MethodName) prog_17_method_80_code (3 : Nat) (Option.some Jvm.ClassFile.FieldType.boolean)) ∈ lw_all := lw_g (lw_at lw_m8 136 rfl) rfl
theorem q1885 : (Jvm.Cond.methodLink "SendTheBoxModel" (322 : Nat) ({ cls := "SendTheBoxModel", name := "joinTo", desc := "(III)V" } : Jvm.MethodName)) ∈ lw_all := lw_g (lw_at lw_m8 137 rfl) rfl
theorem q1886 : (Jvm.Cond.privateMethod ({ cls := "SendTheBoxModel", name := "joinTo", desc := "(III)V" } : Jvm.MethodName)) ∈ lw_tbl := lw_at lw_m8 138 rfl
theorem q1887 : (Jvm.Cond.instanceMethod ({ cls := "SendTheBoxModel", name := "joinTo", desc := "(III)V" } : Jvm.MethodName)) ∈ lw_all := lw_g (lw_at lw_m8 139 rfl) rfl
theorem q1888 : (Jvm.Cond.code ({ cls := "SendTheBoxModel", name := "joinTo", desc := "(III)V" } : Jvm.MethodName) prog_17_method_81_code (5 : Nat) (Option.none : Option Jvm.ClassFile.FieldType)) ∈ lw_all := lw_g (lw_at lw_m8 140 rfl) rfl
theorem q1890 : (Jvm.Cond.instanceMethod ({ cls := "SendTheBoxModel", name := "saved", desc := "(II)J" } : Jvm.MethodName)) ∈ lw_all := lw_g (lw_at lw_m8 142 rfl) rfl
theorem q1891 : (Jvm.Cond.selects "SendTheBoxModel" ({ cls := "SendTheBoxModel", name := "saved", desc := "(II)J" } : Jvm.MethodName) ({ cls := "SendTheBoxModel", name := "saved", desc := "(II)J" } : Jvm.MethodName)) ∈ lw_all := lw_g (lw_at lw_m8 143 rfl) rfl
theorem q1892 : (Jvm.Cond.code ({ cls := "SendTheBoxModel", name := "saved", desc := "(II)J" } : Jvm.MethodName) prog_17_method_84_code (12 : Nat) (Option.some Jvm.ClassFile.FieldType.long)) ∈ lw_all := lw_g (lw_at lw_m8 144 rfl) rfl
theorem q1893 : (Jvm.Cond.methodLink "SendTheBoxModel" (326 : Nat) ({ cls := "SendTheBoxModel", name := "wholeCost", desc := "(I)J" } : Jvm.MethodName)) ∈ lw_all := lw_g (lw_at lw_m8 145 rfl) rfl
theorem q1894 : (Jvm.Cond.privateMethod ({ cls := "SendTheBoxModel", name := "wholeCost", desc := "(I)J" } : Jvm.MethodName)) ∈ lw_tbl := lw_at lw_m8 146 rfl
theorem q1895 : (Jvm.Cond.instanceMethod ({ cls := "SendTheBoxModel", name := "wholeCost", desc := "(I)J" } : Jvm.MethodName)) ∈ lw_all := lw_g (lw_at lw_m8 147 rfl) rfl
theorem q1896 : (Jvm.Cond.code ({ cls := "SendTheBoxModel", name := "wholeCost", desc := "(I)J" } : Jvm.MethodName) prog_17_method_83_code (2 : Nat) (Option.some Jvm.ClassFile.FieldType.long)) ∈ lw_all := lw_g (lw_at lw_m8 148 rfl) rfl
theorem q1898 : (Jvm.Cond.instanceMethod ({ cls := "SendTheBoxModel", name := "seed", desc := "(I)I" } : Jvm.MethodName)) ∈ lw_all := lw_g (lw_at lw_m8 150 rfl) rfl
theorem q1899 : (Jvm.Cond.selects "SendTheBoxModel" ({ cls := "SendTheBoxModel", name := "seed", desc := "(I)I" } : Jvm.MethodName) ({ cls := "SendTheBoxModel", name := "seed", desc := "(I)I" } : Jvm.MethodName)) ∈ lw_all := lw_g (lw_at lw_m8 151 rfl) rfl
theorem q1900 : (Jvm.Cond.code ({ cls := "SendTheBoxModel", name := "seed", desc := "(I)I" } : Jvm.MethodName) prog_17_method_85_code (3 : Nat) (Option.some Jvm.ClassFile.FieldType.int)) ∈ lw_all := lw_g (lw_at lw_m8 152 rfl) rfl
theorem q1902 : (Jvm.Cond.instanceMethod ({ cls := "SendTheBoxModel", name := "begin", desc := "(II)I" } : Jvm.MethodName)) ∈ lw_all := lw_g (lw_at lw_m8 154 rfl) rfl
theorem q1903 : (Jvm.Cond.selects "SendTheBoxModel" ({ cls := "SendTheBoxModel", name := "begin", desc := "(II)I" } : Jvm.MethodName) ({ cls := "SendTheBoxModel", name := "begin", desc := "(II)I" } : Jvm.MethodName)) ∈ lw_all := lw_g (lw_at lw_m8 155 rfl) rfl
theorem q1904 : (Jvm.Cond.code ({ cls := "SendTheBoxModel", name := "begin", desc := "(II)I" } : Jvm.MethodName) prog_17_method_88_code (5 : Nat) (Option.some Jvm.ClassFile.FieldType.int)) ∈ lw_all := lw_g (lw_at lw_m8 156 rfl) rfl
theorem q1906 : (Jvm.Cond.instanceMethod ({ cls := "SendTheBoxModel", name := "step", desc := "(I)I" } : Jvm.MethodName)) ∈ lw_all := lw_g (lw_at lw_m8 158 rfl) rfl
theorem q1907 : (Jvm.Cond.selects "SendTheBoxModel" ({ cls := "SendTheBoxModel", name := "step", desc := "(I)I" } : Jvm.MethodName) ({ cls := "SendTheBoxModel", name := "step", desc := "(I)I" } : Jvm.MethodName)) ∈ lw_all := lw_g (lw_at lw_m8 159 rfl) rfl
theorem q1908 : (Jvm.Cond.code ({ cls := "SendTheBoxModel", name := "step", desc := "(I)I" } : Jvm.MethodName) prog_17_method_89_code (4 : Nat) (Option.some Jvm.ClassFile.FieldType.int)) ∈ lw_all := lw_g (lw_at lw_m8 160 rfl) rfl
theorem q1909 : (Jvm.Cond.methodLink "SendTheBoxModel" (367 : Nat) ({ cls := "SendTheBoxModel", name := "day", desc := "(IIII)I" } : Jvm.MethodName)) ∈ lw_all := lw_g (lw_at lw_m8 161 rfl) rfl
theorem q1910 : (Jvm.Cond.privateMethod ({ cls := "SendTheBoxModel", name := "day", desc := "(IIII)I" } : Jvm.MethodName)) ∈ lw_tbl := lw_at lw_m8 162 rfl
theorem q1911 : (Jvm.Cond.instanceMethod ({ cls := "SendTheBoxModel", name := "day", desc := "(IIII)I" } : Jvm.MethodName)) ∈ lw_all := lw_g (lw_at lw_m8 163 rfl) rfl
theorem q1912 : (Jvm.Cond.code ({ cls := "SendTheBoxModel", name := "day", desc := "(IIII)I" } : Jvm.MethodName) prog_17_method_87_code (9 : Nat) (Option.some Jvm.ClassFile.FieldType.int)) ∈ lw_all := lw_g (lw_at lw_m8 164 rfl) rfl
theorem q1913 : (Jvm.Cond.methodLink "SendTheBoxModel" (331 : Nat) ({ cls := "SendTheBoxModel", name := "draw", desc := "()I" } : Jvm.MethodName)) ∈ lw_all := lw_g (lw_at lw_m8 165 rfl) rfl
theorem q1914 : (Jvm.Cond.privateMethod ({ cls := "SendTheBoxModel", name := "draw", desc := "()I" } : Jvm.MethodName)) ∈ lw_tbl := lw_at lw_m8 166 rfl
theorem q1915 : (Jvm.Cond.instanceMethod ({ cls := "SendTheBoxModel", name := "draw", desc := "()I" } : Jvm.MethodName)) ∈ lw_all := lw_g (lw_at lw_m8 167 rfl) rfl
theorem q1916 : (Jvm.Cond.code ({ cls := "SendTheBoxModel", name := "draw", desc := "()I" } : Jvm.MethodName) prog_17_method_86_code (1 : Nat) (Option.some Jvm.ClassFile.FieldType.int)) ∈ lw_all := lw_g (lw_at lw_m8 168 rfl) rfl
theorem q1917 : (Jvm.Cond.constant "SendTheBoxModel" (330 : Nat) (1103515245 : Int32)) ∈ lw_all := lw_g (lw_at lw_m8 169 rfl) rfl
theorem q1919 : (Jvm.Cond.instanceMethod ({ cls := "SendTheBoxModel", name := "week", desc := "(I)I" } : Jvm.MethodName)) ∈ lw_all := lw_g (lw_at lw_m8 171 rfl) rfl
theorem q1920 : (Jvm.Cond.selects "SendTheBoxModel" ({ cls := "SendTheBoxModel", name := "week", desc := "(I)I" } : Jvm.MethodName) ({ cls := "SendTheBoxModel", name := "week", desc := "(I)I" } : Jvm.MethodName)) ∈ lw_all := lw_g (lw_at lw_m8 172 rfl) rfl
theorem q1921 : (Jvm.Cond.code ({ cls := "SendTheBoxModel", name := "week", desc := "(I)I" } : Jvm.MethodName) prog_17_method_90_code (2 : Nat) (Option.some Jvm.ClassFile.FieldType.int)) ∈ lw_all := lw_g (lw_at lw_m8 173 rfl) rfl
theorem q1923 : (Jvm.Cond.instanceMethod ({ cls := "SendTheBoxModel", name := "weeks", desc := "(III)I" } : Jvm.MethodName)) ∈ lw_all := lw_g (lw_at lw_m8 175 rfl) rfl
theorem q1924 : (Jvm.Cond.selects "SendTheBoxModel" ({ cls := "SendTheBoxModel", name := "weeks", desc := "(III)I" } : Jvm.MethodName) ({ cls := "SendTheBoxModel", name := "weeks", desc := "(III)I" } : Jvm.MethodName)) ∈ lw_all := lw_g (lw_at lw_m8 176 rfl) rfl
theorem q1925 : (Jvm.Cond.code ({ cls := "SendTheBoxModel", name := "weeks", desc := "(III)I" } : Jvm.MethodName) prog_17_method_91_code (9 : Nat) (Option.some Jvm.ClassFile.FieldType.int)) ∈ lw_all := lw_g (lw_at lw_m8 177 rfl) rfl
theorem q1926 : (Jvm.Cond.constantLong "SendTheBoxModel" (370 : Nat) (50 : Int64)) ∈ lw_all := lw_g (lw_at lw_m8 178 rfl) rfl
theorem q1928 : (Jvm.Cond.instanceMethod ({ cls := "SendTheBoxModel", name := "image", desc := "()I" } : Jvm.MethodName)) ∈ lw_all := lw_g (lw_at lw_m8 180 rfl) rfl
theorem q1929 : (Jvm.Cond.selects "SendTheBoxModel" ({ cls := "SendTheBoxModel", name := "image", desc := "()I" } : Jvm.MethodName) ({ cls := "SendTheBoxModel", name := "image", desc := "()I" } : Jvm.MethodName)) ∈ lw_all := lw_g (lw_at lw_m8 181 rfl) rfl
theorem q1930 : (Jvm.Cond.code ({ cls := "SendTheBoxModel", name := "image", desc := "()I" } : Jvm.MethodName) prog_17_method_93_code (1 : Nat) (Option.some Jvm.ClassFile.FieldType.int)) ∈ lw_all := lw_g (lw_at lw_m8 182 rfl) rfl
theorem q1931 : (Jvm.Cond.classLink "SendTheBoxModel" (8 : Nat) "SendTheBoxModel") ∈ lw_all := lw_g (lw_at lw_m8 183 rfl) rfl
theorem q1932 : (Jvm.Cond.methodLink "SendTheBoxModel" (376 : Nat) ({ cls := "SendTheBoxModel", name := "<init>", desc := "()V" } : Jvm.MethodName)) ∈ lw_all := lw_g (lw_at lw_m8 184 rfl) rfl
theorem q1933 : (Jvm.Cond.methodLink "SendTheBoxModel" (377 : Nat) ({ cls := "SendTheBoxModel", name := "takeFrom", desc := "(LSendTheBoxModel;)V" } : Jvm.MethodName)) ∈ lw_all := lw_g (lw_at lw_m8 185 rfl) rfl
theorem q1934 : (Jvm.Cond.privateMethod ({ cls := "SendTheBoxModel", name := "takeFrom", desc := "(LSendTheBoxModel;)V" } : Jvm.MethodName)) ∈ lw_tbl := lw_at lw_m8 186 rfl
theorem q1935 : (Jvm.Cond.instanceMethod ({ cls := "SendTheBoxModel", name := "takeFrom", desc := "(LSendTheBoxModel;)V" } : Jvm.MethodName)) ∈ lw_all := lw_g (lw_at lw_m8 187 rfl) rfl
theorem q1936 : (Jvm.Cond.code ({ cls := "SendTheBoxModel", name := "takeFrom", desc := "(LSendTheBoxModel;)V" } : Jvm.MethodName) prog_17_method_92_code (4 : Nat) (Option.none : Option Jvm.ClassFile.FieldType)) ∈ lw_all := lw_g (lw_at lw_m8 188 rfl) rfl
theorem q1938 : (Jvm.Cond.instanceMethod ({ cls := "SendTheBoxModel", name := "back", desc := "()I" } : Jvm.MethodName)) ∈ lw_all := lw_g (lw_at lw_m8 190 rfl) rfl
theorem q1939 : (Jvm.Cond.selects "SendTheBoxModel" ({ cls := "SendTheBoxModel", name := "back", desc := "()I" } : Jvm.MethodName) ({ cls := "SendTheBoxModel", name := "back", desc := "()I" } : Jvm.MethodName)) ∈ lw_all := lw_g (lw_at lw_m8 191 rfl) rfl
theorem q1940 : (Jvm.Cond.code ({ cls := "SendTheBoxModel", name := "back", desc := "()I" } : Jvm.MethodName) prog_17_method_94_code (1 : Nat) (Option.some Jvm.ClassFile.FieldType.int)) ∈ lw_all := lw_g (lw_at lw_m8 192 rfl) rfl
theorem q1942 : (Jvm.Cond.instanceMethod ({ cls := "SendTheBoxModel", name := "status", desc := "(I)I" } : Jvm.MethodName)) ∈ lw_all := lw_g (lw_at lw_m8 194 rfl) rfl
theorem q1943 : (Jvm.Cond.selects "SendTheBoxModel" ({ cls := "SendTheBoxModel", name := "status", desc := "(I)I" } : Jvm.MethodName) ({ cls := "SendTheBoxModel", name := "status", desc := "(I)I" } : Jvm.MethodName)) ∈ lw_all := lw_g (lw_at lw_m8 195 rfl) rfl
theorem q1944 : (Jvm.Cond.code ({ cls := "SendTheBoxModel", name := "status", desc := "(I)I" } : Jvm.MethodName) prog_17_method_95_code (4 : Nat) (Option.some Jvm.ClassFile.FieldType.int)) ∈ lw_all := lw_g (lw_at lw_m8 196 rfl) rfl
theorem q1945 : (Jvm.Cond.constantLong "SendTheBoxModel" (381 : Nat) (12 : Int64)) ∈ lw_all := lw_g (lw_at lw_m8 197 rfl) rfl
theorem q1946 : (Jvm.Cond.constantLong "SendTheBoxModel" (383 : Nat) (16 : Int64)) ∈ lw_all := lw_g (lw_at lw_m8 198 rfl) rfl
theorem in_X3 : ∀ w ∈ wsX30, w ∈ lw_all := lw_in wsX30 [1433, 1435, 1437, 1439, 1441, 1443, 1445, 1447, 1449, 1451, 1453, 1455, 1457, 1459, 1461, 1463, 1465, 1467, 1469, 1471, 1473, 1475, 1477, 1479, 1481, 1483, 1485, 1487, 1489, 1491, 1493, 1495, 1497, 1499, 1501, 1503, 1505, 1507, 1509, 1511, 1513, 1515, 1517, 1519, 1521, 1523] (by decide +kernel) (by decide +kernel)
