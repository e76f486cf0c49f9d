section
/-! HeirHunters -/
set_option maxRecDepth 100000
def RX0 : String := "HeirHunters"
def TX0 : u_T := fun k => match k with
  | 0 => ("HeirHunters", "latest", "I", false)
  | 1 => ("HeirHunters", "came", "[I", true)
  | 2 => ("HeirHunters", "upper", "J", false)
  | 3 => ("HeirHunters", "lower", "J", false)
  | 4 => ("HeirHunters", "sumUp", "J", false)
  | 5 => ("HeirHunters", "sumLow", "J", false)
  | 6 => ("HeirHunters", "personMany", "I", false)
  | 7 => ("HeirHunters", "lands", "[I", true)
  | 8 => ("HeirHunters", "born", "[I", true)
  | 9 => ("HeirHunters", "dead", "[I", true)
  | 10 => ("HeirHunters", "lines", "[LHeirHunters$Line;", true)
  | 11 => ("HeirHunters", "lineMany", "I", false)
  | 12 => ("HeirHunters", "coupleMany", "I", false)
  | 13 => ("HeirHunters", "couples", "[I", true)
  | 14 => ("HeirHunters", "lawMany", "I", false)
  | 15 => ("HeirHunters", "laws", "[I", true)
  | 16 => ("HeirHunters", "theDead", "I", false)
  | 17 => ("HeirHunters", "theLaw", "I", false)
  | 18 => ("HeirHunters", "isTrue", "[Z", true)
  | 19 => ("HeirHunters", "survives", "[Z", true)
  | 20 => ("HeirHunters", "counts", "[Z", true)
  | 21 => ("HeirHunters", "takes", "[I", true)
  | 22 => ("HeirHunters", "ups", "[J", true)
  | 23 => ("HeirHunters", "lows", "[J", true)
  | 24 => ("HeirHunters", "circle", "I", false)
  | 25 => ("HeirHunters", "dueUp", "[J", true)
  | 26 => ("HeirHunters", "dueLow", "[J", true)
  | 27 => ("HeirHunters", "byBirth", "[I", true)
  | 28 => ("HeirHunters", "heads", "[I", true)
  | 29 => ("HeirHunters", "headMany", "I", false)
  | 30 => ("HeirHunters", "openLines", "[I", true)
  | 31 => ("HeirHunters", "openMany", "I", false)
  | 32 => ("HeirHunters", "leastUp", "[J", true)
  | 33 => ("HeirHunters", "leastLow", "[J", true)
  | 34 => ("HeirHunters", "mostUp", "[J", true)
  | 35 => ("HeirHunters", "mostLow", "[J", true)
  | 36 => ("HeirHunters", "worthUp", "J", false)
  | 37 => ("HeirHunters", "worthLow", "J", false)
  | 38 => ("HeirHunters", "sums", "[I", true)
  | 39 => ("HeirHunters", "paid", "[I", true)
  | _ => ("HeirHunters", "sheets", "[[I", true)
def tyX0 : Nat → FieldType := fun k => match k with
  | 0 => .int
  | 1 => .array .int
  | 2 => .long
  | 3 => .long
  | 4 => .long
  | 5 => .long
  | 6 => .int
  | 7 => .array .int
  | 8 => .array .int
  | 9 => .array .int
  | 10 => .array (.object "HeirHunters$Line")
  | 11 => .int
  | 12 => .int
  | 13 => .array .int
  | 14 => .int
  | 15 => .array .int
  | 16 => .int
  | 17 => .int
  | 18 => .array .boolean
  | 19 => .array .boolean
  | 20 => .array .boolean
  | 21 => .array .int
  | 22 => .array .long
  | 23 => .array .long
  | 24 => .int
  | 25 => .array .long
  | 26 => .array .long
  | 27 => .array .int
  | 28 => .array .int
  | 29 => .int
  | 30 => .array .int
  | 31 => .int
  | 32 => .array .long
  | 33 => .array .long
  | 34 => .array .long
  | 35 => .array .long
  | 36 => .long
  | 37 => .long
  | 38 => .array .int
  | 39 => .array .int
  | _ => .array (.array .int)
abbrev wsX00 : List Cond := u_ws RX0 TX0 41
set_option maxRecDepth 100000 in
theorem nmX0 : ∀ a, a < 41 → ∀ b, b < 41 → a ≠ b → (TX0 a).2.1 ≠ (TX0 b).2.1 := by decide +kernel
set_option maxRecDepth 100000 in
theorem tyX0_ok : ∀ k, k < 41 → parseFieldDescriptor (TX0 k).2.2.1 = some (tyX0 k) := by decide +kernel
abbrev cX0_init : ByteArray := prog_1_method_3_code
def yX0_init : MethodName := ⟨RX0, "<init>", "()V"⟩
def dkwX0_init_9 : List UInt8 := [177]
abbrev dktX0_init_9 : List UInt8 := dkwX0_init_9 ++ []
def dkwX0_init_8 : List UInt8 := [16, 24, 188, 10, 181, 0, 89, 42, 17, 2, 64, 188, 10, 181, 0, 92, 42, 7, 189, 0, 95, 181, 0, 96]
abbrev dktX0_init_8 : List UInt8 := dkwX0_init_8 ++ dktX0_init_9
def dkwX0_init_7 : List UInt8 := [16, 25, 188, 11, 181, 0, 80, 42, 16, 25, 188, 11, 181, 0, 83, 42, 16, 25, 188, 11, 181, 0, 86, 42]
abbrev dktX0_init_7 : List UInt8 := dkwX0_init_7 ++ dktX0_init_8
def dkwX0_init_6 : List UInt8 := [16, 8, 188, 10, 181, 0, 71, 42, 16, 40, 188, 10, 181, 0, 74, 42, 16, 25, 188, 11, 181, 0, 77, 42]
abbrev dktX0_init_6 : List UInt8 := dkwX0_init_6 ++ dktX0_init_7
def dkwX0_init_5 : List UInt8 := [16, 24, 188, 11, 181, 0, 62, 42, 16, 24, 188, 11, 181, 0, 65, 42, 16, 24, 188, 10, 181, 0, 68, 42]
abbrev dktX0_init_5 : List UInt8 := dkwX0_init_5 ++ dktX0_init_6
def dkwX0_init_4 : List UInt8 := [16, 24, 188, 10, 181, 0, 52, 42, 16, 25, 188, 11, 181, 0, 55, 42, 16, 25, 188, 11, 181, 0, 59, 42]
abbrev dktX0_init_4 : List UInt8 := dkwX0_init_4 ++ dktX0_init_5
def dkwX0_init_3 : List UInt8 := [16, 40, 188, 4, 181, 0, 42, 42, 16, 24, 188, 4, 181, 0, 46, 42, 16, 40, 188, 4, 181, 0, 49, 42]
abbrev dktX0_init_3 : List UInt8 := dkwX0_init_3 ++ dktX0_init_4
def dkwX0_init_2 : List UInt8 := [189, 0, 30, 181, 0, 32, 42, 16, 80, 188, 10, 181, 0, 36, 42, 16, 96, 188, 10, 181, 0, 39, 42]
abbrev dktX0_init_2 : List UInt8 := dkwX0_init_2 ++ dktX0_init_3
def dkwX0_init_1 : List UInt8 := [181, 0, 21, 42, 16, 24, 188, 10, 181, 0, 24, 42, 16, 24, 188, 10, 181, 0, 27, 42, 16, 40]
abbrev dktX0_init_1 : List UInt8 := dkwX0_init_1 ++ dktX0_init_2
def dkwX0_init_0 : List UInt8 := [42, 183, 0, 11, 42, 16, 6, 188, 10, 181, 0, 7, 42, 10, 181, 0, 17, 42, 16, 24, 188, 10]
abbrev dktX0_init_0 : List UInt8 := dkwX0_init_0 ++ dktX0_init_1
theorem dksX0_init_0 : cX0_init.data.toList.drop 0 = dktX0_init_0 := by decide +kernel
theorem dksX0_init_1 : cX0_init.data.toList.drop 22 = dktX0_init_1 := dk_seg dksX0_init_0 22 rfl rfl
theorem dksX0_init_2 : cX0_init.data.toList.drop 44 = dktX0_init_2 := dk_seg dksX0_init_1 22 rfl rfl
theorem dksX0_init_3 : cX0_init.data.toList.drop 67 = dktX0_init_3 := dk_seg dksX0_init_2 23 rfl rfl
theorem dksX0_init_4 : cX0_init.data.toList.drop 91 = dktX0_init_4 := dk_seg dksX0_init_3 24 rfl rfl
theorem dksX0_init_5 : cX0_init.data.toList.drop 115 = dktX0_init_5 := dk_seg dksX0_init_4 24 rfl rfl
theorem dksX0_init_6 : cX0_init.data.toList.drop 139 = dktX0_init_6 := dk_seg dksX0_init_5 24 rfl rfl
theorem dksX0_init_7 : cX0_init.data.toList.drop 163 = dktX0_init_7 := dk_seg dksX0_init_6 24 rfl rfl
theorem dksX0_init_8 : cX0_init.data.toList.drop 187 = dktX0_init_8 := dk_seg dksX0_init_7 24 rfl rfl
theorem dksX0_init_9 : cX0_init.data.toList.drop 211 = dktX0_init_9 := dk_seg dksX0_init_8 24 rfl rfl
theorem dX0_init_0 : decode cX0_init 0 = .ok (.aload_n 0, 1) := dk_42 (dk_at dksX0_init_0 0 rfl rfl)
theorem dX0_init_1 : decode cX0_init 1 = .ok (.invokespecial 11, 3) := dk_183 0 11 (dk_at dksX0_init_0 1 rfl rfl)
theorem dX0_init_4 : decode cX0_init 4 = .ok (.aload_n 0, 1) := dk_42 (dk_at dksX0_init_0 4 rfl rfl)
theorem dX0_init_5 : decode cX0_init 5 = .ok (.bipush 6, 2) := dk_16 6 (dk_at dksX0_init_0 5 rfl rfl)
theorem dX0_init_7 : decode cX0_init 7 = .ok (.newarray .int, 2) := dk_188_10 (dk_at dksX0_init_0 7 rfl rfl)
theorem dX0_init_9 : decode cX0_init 9 = .ok (.putfield 7, 3) := dk_181 0 7 (dk_at dksX0_init_0 9 rfl rfl)
theorem dX0_init_12 : decode cX0_init 12 = .ok (.aload_n 0, 1) := dk_42 (dk_at dksX0_init_0 12 rfl rfl)
theorem dX0_init_13 : decode cX0_init 13 = .ok (.lconst 1, 1) := dk_10 (dk_at dksX0_init_0 13 rfl rfl)
theorem dX0_init_14 : decode cX0_init 14 = .ok (.putfield 17, 3) := dk_181 0 17 (dk_at dksX0_init_0 14 rfl rfl)
theorem dX0_init_17 : decode cX0_init 17 = .ok (.aload_n 0, 1) := dk_42 (dk_at dksX0_init_0 17 rfl rfl)
theorem dX0_init_18 : decode cX0_init 18 = .ok (.bipush 24, 2) := dk_16 24 (dk_at dksX0_init_0 18 rfl rfl)
theorem dX0_init_20 : decode cX0_init 20 = .ok (.newarray .int, 2) := dk_188_10 (dk_at dksX0_init_0 20 rfl rfl)
theorem dX0_init_22 : decode cX0_init 22 = .ok (.putfield 21, 3) := dk_181 0 21 (dk_at dksX0_init_1 0 rfl rfl)
theorem dX0_init_25 : decode cX0_init 25 = .ok (.aload_n 0, 1) := dk_42 (dk_at dksX0_init_1 3 rfl rfl)
theorem dX0_init_26 : decode cX0_init 26 = .ok (.bipush 24, 2) := dk_16 24 (dk_at dksX0_init_1 4 rfl rfl)
theorem dX0_init_28 : decode cX0_init 28 = .ok (.newarray .int, 2) := dk_188_10 (dk_at dksX0_init_1 6 rfl rfl)
theorem dX0_init_30 : decode cX0_init 30 = .ok (.putfield 24, 3) := dk_181 0 24 (dk_at dksX0_init_1 8 rfl rfl)
theorem dX0_init_33 : decode cX0_init 33 = .ok (.aload_n 0, 1) := dk_42 (dk_at dksX0_init_1 11 rfl rfl)
theorem dX0_init_34 : decode cX0_init 34 = .ok (.bipush 24, 2) := dk_16 24 (dk_at dksX0_init_1 12 rfl rfl)
theorem dX0_init_36 : decode cX0_init 36 = .ok (.newarray .int, 2) := dk_188_10 (dk_at dksX0_init_1 14 rfl rfl)
theorem dX0_init_38 : decode cX0_init 38 = .ok (.putfield 27, 3) := dk_181 0 27 (dk_at dksX0_init_1 16 rfl rfl)
theorem dX0_init_41 : decode cX0_init 41 = .ok (.aload_n 0, 1) := dk_42 (dk_at dksX0_init_1 19 rfl rfl)
theorem dX0_init_42 : decode cX0_init 42 = .ok (.bipush 40, 2) := dk_16 40 (dk_at dksX0_init_1 20 rfl rfl)
theorem dX0_init_44 : decode cX0_init 44 = .ok (.anewarray 30, 3) := dk_189 0 30 (dk_at dksX0_init_2 0 rfl rfl)
theorem dX0_init_47 : decode cX0_init 47 = .ok (.putfield 32, 3) := dk_181 0 32 (dk_at dksX0_init_2 3 rfl rfl)
theorem dX0_init_50 : decode cX0_init 50 = .ok (.aload_n 0, 1) := dk_42 (dk_at dksX0_init_2 6 rfl rfl)
theorem dX0_init_51 : decode cX0_init 51 = .ok (.bipush 80, 2) := dk_16 80 (dk_at dksX0_init_2 7 rfl rfl)
theorem dX0_init_53 : decode cX0_init 53 = .ok (.newarray .int, 2) := dk_188_10 (dk_at dksX0_init_2 9 rfl rfl)
theorem dX0_init_55 : decode cX0_init 55 = .ok (.putfield 36, 3) := dk_181 0 36 (dk_at dksX0_init_2 11 rfl rfl)
theorem dX0_init_58 : decode cX0_init 58 = .ok (.aload_n 0, 1) := dk_42 (dk_at dksX0_init_2 14 rfl rfl)
theorem dX0_init_59 : decode cX0_init 59 = .ok (.bipush 96, 2) := dk_16 96 (dk_at dksX0_init_2 15 rfl rfl)
theorem dX0_init_61 : decode cX0_init 61 = .ok (.newarray .int, 2) := dk_188_10 (dk_at dksX0_init_2 17 rfl rfl)
theorem dX0_init_63 : decode cX0_init 63 = .ok (.putfield 39, 3) := dk_181 0 39 (dk_at dksX0_init_2 19 rfl rfl)
theorem dX0_init_66 : decode cX0_init 66 = .ok (.aload_n 0, 1) := dk_42 (dk_at dksX0_init_2 22 rfl rfl)
theorem dX0_init_67 : decode cX0_init 67 = .ok (.bipush 40, 2) := dk_16 40 (dk_at dksX0_init_3 0 rfl rfl)
theorem dX0_init_69 : decode cX0_init 69 = .ok (.newarray .boolean, 2) := dk_188_4 (dk_at dksX0_init_3 2 rfl rfl)
theorem dX0_init_71 : decode cX0_init 71 = .ok (.putfield 42, 3) := dk_181 0 42 (dk_at dksX0_init_3 4 rfl rfl)
theorem dX0_init_74 : decode cX0_init 74 = .ok (.aload_n 0, 1) := dk_42 (dk_at dksX0_init_3 7 rfl rfl)
theorem dX0_init_75 : decode cX0_init 75 = .ok (.bipush 24, 2) := dk_16 24 (dk_at dksX0_init_3 8 rfl rfl)
theorem dX0_init_77 : decode cX0_init 77 = .ok (.newarray .boolean, 2) := dk_188_4 (dk_at dksX0_init_3 10 rfl rfl)
theorem dX0_init_79 : decode cX0_init 79 = .ok (.putfield 46, 3) := dk_181 0 46 (dk_at dksX0_init_3 12 rfl rfl)
theorem dX0_init_82 : decode cX0_init 82 = .ok (.aload_n 0, 1) := dk_42 (dk_at dksX0_init_3 15 rfl rfl)
theorem dX0_init_83 : decode cX0_init 83 = .ok (.bipush 40, 2) := dk_16 40 (dk_at dksX0_init_3 16 rfl rfl)
theorem dX0_init_85 : decode cX0_init 85 = .ok (.newarray .boolean, 2) := dk_188_4 (dk_at dksX0_init_3 18 rfl rfl)
theorem dX0_init_87 : decode cX0_init 87 = .ok (.putfield 49, 3) := dk_181 0 49 (dk_at dksX0_init_3 20 rfl rfl)
theorem dX0_init_90 : decode cX0_init 90 = .ok (.aload_n 0, 1) := dk_42 (dk_at dksX0_init_3 23 rfl rfl)
theorem dX0_init_91 : decode cX0_init 91 = .ok (.bipush 24, 2) := dk_16 24 (dk_at dksX0_init_4 0 rfl rfl)
theorem dX0_init_93 : decode cX0_init 93 = .ok (.newarray .int, 2) := dk_188_10 (dk_at dksX0_init_4 2 rfl rfl)
theorem dX0_init_95 : decode cX0_init 95 = .ok (.putfield 52, 3) := dk_181 0 52 (dk_at dksX0_init_4 4 rfl rfl)
theorem dX0_init_98 : decode cX0_init 98 = .ok (.aload_n 0, 1) := dk_42 (dk_at dksX0_init_4 7 rfl rfl)
theorem dX0_init_99 : decode cX0_init 99 = .ok (.bipush 25, 2) := dk_16 25 (dk_at dksX0_init_4 8 rfl rfl)
theorem dX0_init_101 : decode cX0_init 101 = .ok (.newarray .long, 2) := dk_188_11 (dk_at dksX0_init_4 10 rfl rfl)
theorem dX0_init_103 : decode cX0_init 103 = .ok (.putfield 55, 3) := dk_181 0 55 (dk_at dksX0_init_4 12 rfl rfl)
theorem dX0_init_106 : decode cX0_init 106 = .ok (.aload_n 0, 1) := dk_42 (dk_at dksX0_init_4 15 rfl rfl)
theorem dX0_init_107 : decode cX0_init 107 = .ok (.bipush 25, 2) := dk_16 25 (dk_at dksX0_init_4 16 rfl rfl)
theorem dX0_init_109 : decode cX0_init 109 = .ok (.newarray .long, 2) := dk_188_11 (dk_at dksX0_init_4 18 rfl rfl)
theorem dX0_init_111 : decode cX0_init 111 = .ok (.putfield 59, 3) := dk_181 0 59 (dk_at dksX0_init_4 20 rfl rfl)
theorem dX0_init_114 : decode cX0_init 114 = .ok (.aload_n 0, 1) := dk_42 (dk_at dksX0_init_4 23 rfl rfl)
theorem dX0_init_115 : decode cX0_init 115 = .ok (.bipush 24, 2) := dk_16 24 (dk_at dksX0_init_5 0 rfl rfl)
theorem dX0_init_117 : decode cX0_init 117 = .ok (.newarray .long, 2) := dk_188_11 (dk_at dksX0_init_5 2 rfl rfl)
theorem dX0_init_119 : decode cX0_init 119 = .ok (.putfield 62, 3) := dk_181 0 62 (dk_at dksX0_init_5 4 rfl rfl)
theorem dX0_init_122 : decode cX0_init 122 = .ok (.aload_n 0, 1) := dk_42 (dk_at dksX0_init_5 7 rfl rfl)
theorem dX0_init_123 : decode cX0_init 123 = .ok (.bipush 24, 2) := dk_16 24 (dk_at dksX0_init_5 8 rfl rfl)
theorem dX0_init_125 : decode cX0_init 125 = .ok (.newarray .long, 2) := dk_188_11 (dk_at dksX0_init_5 10 rfl rfl)
theorem dX0_init_127 : decode cX0_init 127 = .ok (.putfield 65, 3) := dk_181 0 65 (dk_at dksX0_init_5 12 rfl rfl)
theorem dX0_init_130 : decode cX0_init 130 = .ok (.aload_n 0, 1) := dk_42 (dk_at dksX0_init_5 15 rfl rfl)
theorem dX0_init_131 : decode cX0_init 131 = .ok (.bipush 24, 2) := dk_16 24 (dk_at dksX0_init_5 16 rfl rfl)
theorem dX0_init_133 : decode cX0_init 133 = .ok (.newarray .int, 2) := dk_188_10 (dk_at dksX0_init_5 18 rfl rfl)
theorem dX0_init_135 : decode cX0_init 135 = .ok (.putfield 68, 3) := dk_181 0 68 (dk_at dksX0_init_5 20 rfl rfl)
theorem dX0_init_138 : decode cX0_init 138 = .ok (.aload_n 0, 1) := dk_42 (dk_at dksX0_init_5 23 rfl rfl)
theorem dX0_init_139 : decode cX0_init 139 = .ok (.bipush 8, 2) := dk_16 8 (dk_at dksX0_init_6 0 rfl rfl)
theorem dX0_init_141 : decode cX0_init 141 = .ok (.newarray .int, 2) := dk_188_10 (dk_at dksX0_init_6 2 rfl rfl)
theorem dX0_init_143 : decode cX0_init 143 = .ok (.putfield 71, 3) := dk_181 0 71 (dk_at dksX0_init_6 4 rfl rfl)
theorem dX0_init_146 : decode cX0_init 146 = .ok (.aload_n 0, 1) := dk_42 (dk_at dksX0_init_6 7 rfl rfl)
theorem dX0_init_147 : decode cX0_init 147 = .ok (.bipush 40, 2) := dk_16 40 (dk_at dksX0_init_6 8 rfl rfl)
theorem dX0_init_149 : decode cX0_init 149 = .ok (.newarray .int, 2) := dk_188_10 (dk_at dksX0_init_6 10 rfl rfl)
theorem dX0_init_151 : decode cX0_init 151 = .ok (.putfield 74, 3) := dk_181 0 74 (dk_at dksX0_init_6 12 rfl rfl)
theorem dX0_init_154 : decode cX0_init 154 = .ok (.aload_n 0, 1) := dk_42 (dk_at dksX0_init_6 15 rfl rfl)
theorem dX0_init_155 : decode cX0_init 155 = .ok (.bipush 25, 2) := dk_16 25 (dk_at dksX0_init_6 16 rfl rfl)
theorem dX0_init_157 : decode cX0_init 157 = .ok (.newarray .long, 2) := dk_188_11 (dk_at dksX0_init_6 18 rfl rfl)
theorem dX0_init_159 : decode cX0_init 159 = .ok (.putfield 77, 3) := dk_181 0 77 (dk_at dksX0_init_6 20 rfl rfl)
theorem dX0_init_162 : decode cX0_init 162 = .ok (.aload_n 0, 1) := dk_42 (dk_at dksX0_init_6 23 rfl rfl)
theorem dX0_init_163 : decode cX0_init 163 = .ok (.bipush 25, 2) := dk_16 25 (dk_at dksX0_init_7 0 rfl rfl)
theorem dX0_init_165 : decode cX0_init 165 = .ok (.newarray .long, 2) := dk_188_11 (dk_at dksX0_init_7 2 rfl rfl)
theorem dX0_init_167 : decode cX0_init 167 = .ok (.putfield 80, 3) := dk_181 0 80 (dk_at dksX0_init_7 4 rfl rfl)
theorem dX0_init_170 : decode cX0_init 170 = .ok (.aload_n 0, 1) := dk_42 (dk_at dksX0_init_7 7 rfl rfl)
theorem dX0_init_171 : decode cX0_init 171 = .ok (.bipush 25, 2) := dk_16 25 (dk_at dksX0_init_7 8 rfl rfl)
theorem dX0_init_173 : decode cX0_init 173 = .ok (.newarray .long, 2) := dk_188_11 (dk_at dksX0_init_7 10 rfl rfl)
theorem dX0_init_175 : decode cX0_init 175 = .ok (.putfield 83, 3) := dk_181 0 83 (dk_at dksX0_init_7 12 rfl rfl)
theorem dX0_init_178 : decode cX0_init 178 = .ok (.aload_n 0, 1) := dk_42 (dk_at dksX0_init_7 15 rfl rfl)
theorem dX0_init_179 : decode cX0_init 179 = .ok (.bipush 25, 2) := dk_16 25 (dk_at dksX0_init_7 16 rfl rfl)
theorem dX0_init_181 : decode cX0_init 181 = .ok (.newarray .long, 2) := dk_188_11 (dk_at dksX0_init_7 18 rfl rfl)
theorem dX0_init_183 : decode cX0_init 183 = .ok (.putfield 86, 3) := dk_181 0 86 (dk_at dksX0_init_7 20 rfl rfl)
theorem dX0_init_186 : decode cX0_init 186 = .ok (.aload_n 0, 1) := dk_42 (dk_at dksX0_init_7 23 rfl rfl)
theorem dX0_init_187 : decode cX0_init 187 = .ok (.bipush 24, 2) := dk_16 24 (dk_at dksX0_init_8 0 rfl rfl)
theorem dX0_init_189 : decode cX0_init 189 = .ok (.newarray .int, 2) := dk_188_10 (dk_at dksX0_init_8 2 rfl rfl)
theorem dX0_init_191 : decode cX0_init 191 = .ok (.putfield 89, 3) := dk_181 0 89 (dk_at dksX0_init_8 4 rfl rfl)
theorem dX0_init_194 : decode cX0_init 194 = .ok (.aload_n 0, 1) := dk_42 (dk_at dksX0_init_8 7 rfl rfl)
theorem dX0_init_195 : decode cX0_init 195 = .ok (.sipush 576, 3) := dk_17 2 64 (dk_at dksX0_init_8 8 rfl rfl)
theorem dX0_init_198 : decode cX0_init 198 = .ok (.newarray .int, 2) := dk_188_10 (dk_at dksX0_init_8 11 rfl rfl)
theorem dX0_init_200 : decode cX0_init 200 = .ok (.putfield 92, 3) := dk_181 0 92 (dk_at dksX0_init_8 13 rfl rfl)
theorem dX0_init_203 : decode cX0_init 203 = .ok (.aload_n 0, 1) := dk_42 (dk_at dksX0_init_8 16 rfl rfl)
theorem dX0_init_204 : decode cX0_init 204 = .ok (.iconst 4, 1) := dk_7 (dk_at dksX0_init_8 17 rfl rfl)
theorem dX0_init_205 : decode cX0_init 205 = .ok (.anewarray 95, 3) := dk_189 0 95 (dk_at dksX0_init_8 18 rfl rfl)
theorem dX0_init_208 : decode cX0_init 208 = .ok (.putfield 96, 3) := dk_181 0 96 (dk_at dksX0_init_8 21 rfl rfl)
theorem dX0_init_211 : decode cX0_init 211 = .ok (.return_, 1) := dk_177 (dk_at dksX0_init_9 0 rfl rfl)
abbrev cX0_upper : ByteArray := prog_1_method_8_code
def yX0_upper : MethodName := ⟨RX0, "upper", "()J"⟩
theorem dX0_upper_0 : decode cX0_upper 0 = .ok (.aload_n 0, 1) := by decide +kernel
theorem dX0_upper_1 : decode cX0_upper 1 = .ok (.getfield 122, 3) := by decide +kernel
theorem dX0_upper_4 : decode cX0_upper 4 = .ok (.lreturn, 1) := by decide +kernel
abbrev cX0_lower : ByteArray := prog_1_method_9_code
def yX0_lower : MethodName := ⟨RX0, "lower", "()J"⟩
theorem dX0_lower_0 : decode cX0_lower 0 = .ok (.aload_n 0, 1) := by decide +kernel
theorem dX0_lower_1 : decode cX0_lower 1 = .ok (.getfield 17, 3) := by decide +kernel
theorem dX0_lower_4 : decode cX0_lower 4 = .ok (.lreturn, 1) := by decide +kernel
abbrev cX0_person : ByteArray := prog_1_method_12_code
def yX0_person : MethodName := ⟨RX0, "person", "(III)I"⟩
def dkwX0_person_3 : List UInt8 := [180, 0, 125, 29, 79, 42, 89, 180, 0, 125, 4, 96, 181, 0, 125, 42, 180, 0, 125, 4, 100, 172]
abbrev dktX0_person_3 : List UInt8 := dkwX0_person_3 ++ []
def dkwX0_person_2 : List UInt8 := [180, 0, 21, 42, 180, 0, 125, 27, 79, 42, 180, 0, 24, 42, 180, 0, 125, 28, 79, 42, 180, 0, 27, 42]
abbrev dktX0_person_2 : List UInt8 := dkwX0_person_2 ++ dktX0_person_3
def dkwX0_person_1 : List UInt8 := [18, 132, 184, 0, 128, 154, 0, 5, 2, 172, 42, 180, 0, 125, 16, 24, 160, 0, 6, 16, 254, 172, 42]
abbrev dktX0_person_1 : List UInt8 := dkwX0_person_1 ++ dktX0_person_2
def dkwX0_person_0 : List UInt8 := [27, 3, 6, 184, 0, 128, 153, 0, 26, 28, 184, 0, 133, 153, 0, 19, 29, 16, 247, 159, 0, 15, 29, 28]
abbrev dktX0_person_0 : List UInt8 := dkwX0_person_0 ++ dktX0_person_1
theorem dksX0_person_0 : cX0_person.data.toList.drop 0 = dktX0_person_0 := by decide +kernel
theorem dksX0_person_1 : cX0_person.data.toList.drop 24 = dktX0_person_1 := dk_seg dksX0_person_0 24 rfl rfl
theorem dksX0_person_2 : cX0_person.data.toList.drop 47 = dktX0_person_2 := dk_seg dksX0_person_1 23 rfl rfl
theorem dksX0_person_3 : cX0_person.data.toList.drop 71 = dktX0_person_3 := dk_seg dksX0_person_2 24 rfl rfl
theorem dX0_person_0 : decode cX0_person 0 = .ok (.iload_n 1, 1) := dk_27 (dk_at dksX0_person_0 0 rfl rfl)
theorem dX0_person_1 : decode cX0_person 1 = .ok (.iconst 0, 1) := dk_3 (dk_at dksX0_person_0 1 rfl rfl)
theorem dX0_person_2 : decode cX0_person 2 = .ok (.iconst 3, 1) := dk_6 (dk_at dksX0_person_0 2 rfl rfl)
theorem dX0_person_3 : decode cX0_person 3 = .ok (.invokestatic 128, 3) := dk_184 0 128 (dk_at dksX0_person_0 3 rfl rfl)
theorem dX0_person_6 : decode cX0_person 6 = .ok (.ifCond .eq 26, 3) := dk_153 0 26 (dk_at dksX0_person_0 6 rfl rfl)
theorem dX0_person_9 : decode cX0_person 9 = .ok (.iload_n 2, 1) := dk_28 (dk_at dksX0_person_0 9 rfl rfl)
theorem dX0_person_10 : decode cX0_person 10 = .ok (.invokestatic 133, 3) := dk_184 0 133 (dk_at dksX0_person_0 10 rfl rfl)
theorem dX0_person_13 : decode cX0_person 13 = .ok (.ifCond .eq 19, 3) := dk_153 0 19 (dk_at dksX0_person_0 13 rfl rfl)
theorem dX0_person_16 : decode cX0_person 16 = .ok (.iload_n 3, 1) := dk_29 (dk_at dksX0_person_0 16 rfl rfl)
theorem dX0_person_17 : decode cX0_person 17 = .ok (.bipush (-9), 2) := dk_16 247 (dk_at dksX0_person_0 17 rfl rfl)
theorem dX0_person_19 : decode cX0_person 19 = .ok (.if_icmp .eq 15, 3) := dk_159 0 15 (dk_at dksX0_person_0 19 rfl rfl)
theorem dX0_person_22 : decode cX0_person 22 = .ok (.iload_n 3, 1) := dk_29 (dk_at dksX0_person_0 22 rfl rfl)
theorem dX0_person_23 : decode cX0_person 23 = .ok (.iload_n 2, 1) := dk_28 (dk_at dksX0_person_0 23 rfl rfl)
theorem dX0_person_24 : decode cX0_person 24 = .ok (.ldc 132, 2) := dk_18 132 (dk_at dksX0_person_1 0 rfl rfl)
theorem dX0_person_26 : decode cX0_person 26 = .ok (.invokestatic 128, 3) := dk_184 0 128 (dk_at dksX0_person_1 2 rfl rfl)
theorem dX0_person_29 : decode cX0_person 29 = .ok (.ifCond .ne 5, 3) := dk_154 0 5 (dk_at dksX0_person_1 5 rfl rfl)
theorem dX0_person_32 : decode cX0_person 32 = .ok (.iconst (-1), 1) := dk_2 (dk_at dksX0_person_1 8 rfl rfl)
theorem dX0_person_33 : decode cX0_person 33 = .ok (.ireturn, 1) := dk_172 (dk_at dksX0_person_1 9 rfl rfl)
theorem dX0_person_34 : decode cX0_person 34 = .ok (.aload_n 0, 1) := dk_42 (dk_at dksX0_person_1 10 rfl rfl)
theorem dX0_person_35 : decode cX0_person 35 = .ok (.getfield 125, 3) := dk_180 0 125 (dk_at dksX0_person_1 11 rfl rfl)
theorem dX0_person_38 : decode cX0_person 38 = .ok (.bipush 24, 2) := dk_16 24 (dk_at dksX0_person_1 14 rfl rfl)
theorem dX0_person_40 : decode cX0_person 40 = .ok (.if_icmp .ne 6, 3) := dk_160 0 6 (dk_at dksX0_person_1 16 rfl rfl)
theorem dX0_person_43 : decode cX0_person 43 = .ok (.bipush (-2), 2) := dk_16 254 (dk_at dksX0_person_1 19 rfl rfl)
theorem dX0_person_45 : decode cX0_person 45 = .ok (.ireturn, 1) := dk_172 (dk_at dksX0_person_1 21 rfl rfl)
theorem dX0_person_46 : decode cX0_person 46 = .ok (.aload_n 0, 1) := dk_42 (dk_at dksX0_person_1 22 rfl rfl)
theorem dX0_person_47 : decode cX0_person 47 = .ok (.getfield 21, 3) := dk_180 0 21 (dk_at dksX0_person_2 0 rfl rfl)
theorem dX0_person_50 : decode cX0_person 50 = .ok (.aload_n 0, 1) := dk_42 (dk_at dksX0_person_2 3 rfl rfl)
theorem dX0_person_51 : decode cX0_person 51 = .ok (.getfield 125, 3) := dk_180 0 125 (dk_at dksX0_person_2 4 rfl rfl)
theorem dX0_person_54 : decode cX0_person 54 = .ok (.iload_n 1, 1) := dk_27 (dk_at dksX0_person_2 7 rfl rfl)
theorem dX0_person_55 : decode cX0_person 55 = .ok (.iastore, 1) := dk_79 (dk_at dksX0_person_2 8 rfl rfl)
theorem dX0_person_56 : decode cX0_person 56 = .ok (.aload_n 0, 1) := dk_42 (dk_at dksX0_person_2 9 rfl rfl)
theorem dX0_person_57 : decode cX0_person 57 = .ok (.getfield 24, 3) := dk_180 0 24 (dk_at dksX0_person_2 10 rfl rfl)
theorem dX0_person_60 : decode cX0_person 60 = .ok (.aload_n 0, 1) := dk_42 (dk_at dksX0_person_2 13 rfl rfl)
theorem dX0_person_61 : decode cX0_person 61 = .ok (.getfield 125, 3) := dk_180 0 125 (dk_at dksX0_person_2 14 rfl rfl)
theorem dX0_person_64 : decode cX0_person 64 = .ok (.iload_n 2, 1) := dk_28 (dk_at dksX0_person_2 17 rfl rfl)
theorem dX0_person_65 : decode cX0_person 65 = .ok (.iastore, 1) := dk_79 (dk_at dksX0_person_2 18 rfl rfl)
theorem dX0_person_66 : decode cX0_person 66 = .ok (.aload_n 0, 1) := dk_42 (dk_at dksX0_person_2 19 rfl rfl)
theorem dX0_person_67 : decode cX0_person 67 = .ok (.getfield 27, 3) := dk_180 0 27 (dk_at dksX0_person_2 20 rfl rfl)
theorem dX0_person_70 : decode cX0_person 70 = .ok (.aload_n 0, 1) := dk_42 (dk_at dksX0_person_2 23 rfl rfl)
theorem dX0_person_71 : decode cX0_person 71 = .ok (.getfield 125, 3) := dk_180 0 125 (dk_at dksX0_person_3 0 rfl rfl)
theorem dX0_person_74 : decode cX0_person 74 = .ok (.iload_n 3, 1) := dk_29 (dk_at dksX0_person_3 3 rfl rfl)
theorem dX0_person_75 : decode cX0_person 75 = .ok (.iastore, 1) := dk_79 (dk_at dksX0_person_3 4 rfl rfl)
theorem dX0_person_76 : decode cX0_person 76 = .ok (.aload_n 0, 1) := dk_42 (dk_at dksX0_person_3 5 rfl rfl)
theorem dX0_person_77 : decode cX0_person 77 = .ok (.dup, 1) := dk_89 (dk_at dksX0_person_3 6 rfl rfl)
theorem dX0_person_78 : decode cX0_person 78 = .ok (.getfield 125, 3) := dk_180 0 125 (dk_at dksX0_person_3 7 rfl rfl)
theorem dX0_person_81 : decode cX0_person 81 = .ok (.iconst 1, 1) := dk_4 (dk_at dksX0_person_3 10 rfl rfl)
theorem dX0_person_82 : decode cX0_person 82 = .ok (.iadd, 1) := dk_96 (dk_at dksX0_person_3 11 rfl rfl)
theorem dX0_person_83 : decode cX0_person 83 = .ok (.putfield 125, 3) := dk_181 0 125 (dk_at dksX0_person_3 12 rfl rfl)
theorem dX0_person_86 : decode cX0_person 86 = .ok (.aload_n 0, 1) := dk_42 (dk_at dksX0_person_3 15 rfl rfl)
theorem dX0_person_87 : decode cX0_person 87 = .ok (.getfield 125, 3) := dk_180 0 125 (dk_at dksX0_person_3 16 rfl rfl)
theorem dX0_person_90 : decode cX0_person 90 = .ok (.iconst 1, 1) := dk_4 (dk_at dksX0_person_3 19 rfl rfl)
theorem dX0_person_91 : decode cX0_person 91 = .ok (.isub, 1) := dk_100 (dk_at dksX0_person_3 20 rfl rfl)
theorem dX0_person_92 : decode cX0_person 92 = .ok (.ireturn, 1) := dk_172 (dk_at dksX0_person_3 21 rfl rfl)
abbrev cX0_in : ByteArray := prog_1_method_1_code
def yX0_in : MethodName := ⟨RX0, "in", "(III)Z"⟩
def dkwX0_in_0 : List UInt8 := [26, 27, 161, 0, 12, 26, 28, 163, 0, 7, 4, 167, 0, 4, 3, 172]
abbrev dktX0_in_0 : List UInt8 := dkwX0_in_0 ++ []
theorem dksX0_in_0 : cX0_in.data.toList.drop 0 = dktX0_in_0 := by decide +kernel
theorem dX0_in_0 : decode cX0_in 0 = .ok (.iload_n 0, 1) := dk_26 (dk_at dksX0_in_0 0 rfl rfl)
theorem dX0_in_1 : decode cX0_in 1 = .ok (.iload_n 1, 1) := dk_27 (dk_at dksX0_in_0 1 rfl rfl)
theorem dX0_in_2 : decode cX0_in 2 = .ok (.if_icmp .lt 12, 3) := dk_161 0 12 (dk_at dksX0_in_0 2 rfl rfl)
theorem dX0_in_5 : decode cX0_in 5 = .ok (.iload_n 0, 1) := dk_26 (dk_at dksX0_in_0 5 rfl rfl)
theorem dX0_in_6 : decode cX0_in 6 = .ok (.iload_n 2, 1) := dk_28 (dk_at dksX0_in_0 6 rfl rfl)
theorem dX0_in_7 : decode cX0_in 7 = .ok (.if_icmp .gt 7, 3) := dk_163 0 7 (dk_at dksX0_in_0 7 rfl rfl)
theorem dX0_in_10 : decode cX0_in 10 = .ok (.iconst 1, 1) := dk_4 (dk_at dksX0_in_0 10 rfl rfl)
theorem dX0_in_11 : decode cX0_in 11 = .ok (.goto 4, 3) := dk_167 0 4 (dk_at dksX0_in_0 11 rfl rfl)
theorem dX0_in_14 : decode cX0_in 14 = .ok (.iconst 0, 1) := dk_3 (dk_at dksX0_in_0 14 rfl rfl)
theorem dX0_in_15 : decode cX0_in 15 = .ok (.ireturn, 1) := dk_172 (dk_at dksX0_in_0 15 rfl rfl)
abbrev cX0_isDay : ByteArray := prog_1_method_11_code
def yX0_isDay : MethodName := ⟨RX0, "isDay", "(I)Z"⟩
def dkwX0_isDay_0 : List UInt8 := [26, 4, 18, 132, 184, 0, 128, 172]
abbrev dktX0_isDay_0 : List UInt8 := dkwX0_isDay_0 ++ []
theorem dksX0_isDay_0 : cX0_isDay.data.toList.drop 0 = dktX0_isDay_0 := by decide +kernel
theorem dX0_isDay_0 : decode cX0_isDay 0 = .ok (.iload_n 0, 1) := dk_26 (dk_at dksX0_isDay_0 0 rfl rfl)
theorem dX0_isDay_1 : decode cX0_isDay 1 = .ok (.iconst 1, 1) := dk_4 (dk_at dksX0_isDay_0 1 rfl rfl)
theorem dX0_isDay_2 : decode cX0_isDay 2 = .ok (.ldc 132, 2) := dk_18 132 (dk_at dksX0_isDay_0 2 rfl rfl)
theorem dX0_isDay_4 : decode cX0_isDay 4 = .ok (.invokestatic 128, 3) := dk_184 0 128 (dk_at dksX0_isDay_0 4 rfl rfl)
theorem dX0_isDay_7 : decode cX0_isDay 7 = .ok (.ireturn, 1) := dk_172 (dk_at dksX0_isDay_0 7 rfl rfl)
abbrev cX0_told : ByteArray := prog_1_method_13_code
def yX0_told : MethodName := ⟨RX0, "told", "(II)I"⟩
def dkwX0_told_5 : List UInt8 := [167, 0, 4, 3, 96, 62, 132, 4, 1, 167, 255, 209, 29, 172]
abbrev dktX0_told_5 : List UInt8 := dkwX0_told_5 ++ []
def dkwX0_told_4 : List UInt8 := [21, 4, 50, 180, 0, 147, 154, 0, 21, 42, 180, 0, 32, 21, 4, 50, 180, 0, 151, 27, 160, 0, 7, 4]
abbrev dktX0_told_4 : List UInt8 := dkwX0_told_4 ++ dktX0_told_5
def dkwX0_told_3 : List UInt8 := [182, 0, 140, 172, 3, 62, 3, 54, 4, 21, 4, 42, 180, 0, 144, 162, 0, 44, 29, 42, 180, 0, 32]
abbrev dktX0_told_3 : List UInt8 := dkwX0_told_3 ++ dktX0_told_4
def dkwX0_told_2 : List UInt8 := [42, 180, 0, 21, 27, 46, 172, 42, 180, 0, 24, 27, 46, 172, 42, 180, 0, 27, 27, 46, 172, 42, 27]
abbrev dktX0_told_2 : List UInt8 := dkwX0_told_2 ++ dktX0_told_3
def dkwX0_told_1 : List UInt8 := [170, 0, 0, 0, 0, 0, 0, 59, 0, 0, 0, 0, 0, 0, 0, 3, 0, 0, 0, 32, 0, 0, 0, 39, 0, 0, 0, 46, 0, 0, 0, 53]
abbrev dktX0_told_1 : List UInt8 := dkwX0_told_1 ++ dktX0_told_2
def dkwX0_told_0 : List UInt8 := [42, 27, 182, 0, 137, 153, 0, 12, 28, 3, 7, 184, 0, 128, 154, 0, 5, 2, 172, 28]
abbrev dktX0_told_0 : List UInt8 := dkwX0_told_0 ++ dktX0_told_1
theorem dksX0_told_0 : cX0_told.data.toList.drop 0 = dktX0_told_0 := by decide +kernel
theorem dksX0_told_1 : cX0_told.data.toList.drop 20 = dktX0_told_1 := dk_seg dksX0_told_0 20 rfl rfl
theorem dksX0_told_2 : cX0_told.data.toList.drop 52 = dktX0_told_2 := dk_seg dksX0_told_1 32 rfl rfl
theorem dksX0_told_3 : cX0_told.data.toList.drop 75 = dktX0_told_3 := dk_seg dksX0_told_2 23 rfl rfl
theorem dksX0_told_4 : cX0_told.data.toList.drop 98 = dktX0_told_4 := dk_seg dksX0_told_3 23 rfl rfl
theorem dksX0_told_5 : cX0_told.data.toList.drop 122 = dktX0_told_5 := dk_seg dksX0_told_4 24 rfl rfl
theorem dX0_told_0 : decode cX0_told 0 = .ok (.aload_n 0, 1) := dk_42 (dk_at dksX0_told_0 0 rfl rfl)
theorem dX0_told_1 : decode cX0_told 1 = .ok (.iload_n 1, 1) := dk_27 (dk_at dksX0_told_0 1 rfl rfl)
theorem dX0_told_2 : decode cX0_told 2 = .ok (.invokevirtual 137, 3) := dk_182 0 137 (dk_at dksX0_told_0 2 rfl rfl)
theorem dX0_told_5 : decode cX0_told 5 = .ok (.ifCond .eq 12, 3) := dk_153 0 12 (dk_at dksX0_told_0 5 rfl rfl)
theorem dX0_told_8 : decode cX0_told 8 = .ok (.iload_n 2, 1) := dk_28 (dk_at dksX0_told_0 8 rfl rfl)
theorem dX0_told_9 : decode cX0_told 9 = .ok (.iconst 0, 1) := dk_3 (dk_at dksX0_told_0 9 rfl rfl)
theorem dX0_told_10 : decode cX0_told 10 = .ok (.iconst 4, 1) := dk_7 (dk_at dksX0_told_0 10 rfl rfl)
theorem dX0_told_11 : decode cX0_told 11 = .ok (.invokestatic 128, 3) := dk_184 0 128 (dk_at dksX0_told_0 11 rfl rfl)
theorem dX0_told_14 : decode cX0_told 14 = .ok (.ifCond .ne 5, 3) := dk_154 0 5 (dk_at dksX0_told_0 14 rfl rfl)
theorem dX0_told_17 : decode cX0_told 17 = .ok (.iconst (-1), 1) := dk_2 (dk_at dksX0_told_0 17 rfl rfl)
theorem dX0_told_18 : decode cX0_told 18 = .ok (.ireturn, 1) := dk_172 (dk_at dksX0_told_0 18 rfl rfl)
theorem dX0_told_19 : decode cX0_told 19 = .ok (.iload_n 2, 1) := dk_28 (dk_at dksX0_told_0 19 rfl rfl)
theorem dX0_told_20 : decode cX0_told 20 = .ok (.tableswitch 59 0 3 #[32, 39, 46, 53], 32) := by decide +kernel
theorem dX0_told_52 : decode cX0_told 52 = .ok (.aload_n 0, 1) := dk_42 (dk_at dksX0_told_2 0 rfl rfl)
theorem dX0_told_53 : decode cX0_told 53 = .ok (.getfield 21, 3) := dk_180 0 21 (dk_at dksX0_told_2 1 rfl rfl)
theorem dX0_told_56 : decode cX0_told 56 = .ok (.iload_n 1, 1) := dk_27 (dk_at dksX0_told_2 4 rfl rfl)
theorem dX0_told_57 : decode cX0_told 57 = .ok (.iaload, 1) := dk_46 (dk_at dksX0_told_2 5 rfl rfl)
theorem dX0_told_58 : decode cX0_told 58 = .ok (.ireturn, 1) := dk_172 (dk_at dksX0_told_2 6 rfl rfl)
theorem dX0_told_59 : decode cX0_told 59 = .ok (.aload_n 0, 1) := dk_42 (dk_at dksX0_told_2 7 rfl rfl)
theorem dX0_told_60 : decode cX0_told 60 = .ok (.getfield 24, 3) := dk_180 0 24 (dk_at dksX0_told_2 8 rfl rfl)
theorem dX0_told_63 : decode cX0_told 63 = .ok (.iload_n 1, 1) := dk_27 (dk_at dksX0_told_2 11 rfl rfl)
theorem dX0_told_64 : decode cX0_told 64 = .ok (.iaload, 1) := dk_46 (dk_at dksX0_told_2 12 rfl rfl)
theorem dX0_told_65 : decode cX0_told 65 = .ok (.ireturn, 1) := dk_172 (dk_at dksX0_told_2 13 rfl rfl)
theorem dX0_told_66 : decode cX0_told 66 = .ok (.aload_n 0, 1) := dk_42 (dk_at dksX0_told_2 14 rfl rfl)
theorem dX0_told_67 : decode cX0_told 67 = .ok (.getfield 27, 3) := dk_180 0 27 (dk_at dksX0_told_2 15 rfl rfl)
theorem dX0_told_70 : decode cX0_told 70 = .ok (.iload_n 1, 1) := dk_27 (dk_at dksX0_told_2 18 rfl rfl)
theorem dX0_told_71 : decode cX0_told 71 = .ok (.iaload, 1) := dk_46 (dk_at dksX0_told_2 19 rfl rfl)
theorem dX0_told_72 : decode cX0_told 72 = .ok (.ireturn, 1) := dk_172 (dk_at dksX0_told_2 20 rfl rfl)
theorem dX0_told_73 : decode cX0_told 73 = .ok (.aload_n 0, 1) := dk_42 (dk_at dksX0_told_2 21 rfl rfl)
theorem dX0_told_74 : decode cX0_told 74 = .ok (.iload_n 1, 1) := dk_27 (dk_at dksX0_told_2 22 rfl rfl)
theorem dX0_told_75 : decode cX0_told 75 = .ok (.invokevirtual 140, 3) := dk_182 0 140 (dk_at dksX0_told_3 0 rfl rfl)
theorem dX0_told_78 : decode cX0_told 78 = .ok (.ireturn, 1) := dk_172 (dk_at dksX0_told_3 3 rfl rfl)
theorem dX0_told_79 : decode cX0_told 79 = .ok (.iconst 0, 1) := dk_3 (dk_at dksX0_told_3 4 rfl rfl)
theorem dX0_told_80 : decode cX0_told 80 = .ok (.istore_n 3, 1) := dk_62 (dk_at dksX0_told_3 5 rfl rfl)
theorem dX0_told_81 : decode cX0_told 81 = .ok (.iconst 0, 1) := dk_3 (dk_at dksX0_told_3 6 rfl rfl)
theorem dX0_told_82 : decode cX0_told 82 = .ok (.istore 4, 2) := dk_54 4 (dk_at dksX0_told_3 7 rfl rfl)
theorem dX0_told_84 : decode cX0_told 84 = .ok (.iload 4, 2) := dk_21 4 (dk_at dksX0_told_3 9 rfl rfl)
theorem dX0_told_86 : decode cX0_told 86 = .ok (.aload_n 0, 1) := dk_42 (dk_at dksX0_told_3 11 rfl rfl)
theorem dX0_told_87 : decode cX0_told 87 = .ok (.getfield 144, 3) := dk_180 0 144 (dk_at dksX0_told_3 12 rfl rfl)
theorem dX0_told_90 : decode cX0_told 90 = .ok (.if_icmp .ge 44, 3) := dk_162 0 44 (dk_at dksX0_told_3 15 rfl rfl)
theorem dX0_told_93 : decode cX0_told 93 = .ok (.iload_n 3, 1) := dk_29 (dk_at dksX0_told_3 18 rfl rfl)
theorem dX0_told_94 : decode cX0_told 94 = .ok (.aload_n 0, 1) := dk_42 (dk_at dksX0_told_3 19 rfl rfl)
theorem dX0_told_95 : decode cX0_told 95 = .ok (.getfield 32, 3) := dk_180 0 32 (dk_at dksX0_told_3 20 rfl rfl)
theorem dX0_told_98 : decode cX0_told 98 = .ok (.iload 4, 2) := dk_21 4 (dk_at dksX0_told_4 0 rfl rfl)
theorem dX0_told_100 : decode cX0_told 100 = .ok (.aaload, 1) := dk_50 (dk_at dksX0_told_4 2 rfl rfl)
theorem dX0_told_101 : decode cX0_told 101 = .ok (.getfield 147, 3) := dk_180 0 147 (dk_at dksX0_told_4 3 rfl rfl)
theorem dX0_told_104 : decode cX0_told 104 = .ok (.ifCond .ne 21, 3) := dk_154 0 21 (dk_at dksX0_told_4 6 rfl rfl)
theorem dX0_told_107 : decode cX0_told 107 = .ok (.aload_n 0, 1) := dk_42 (dk_at dksX0_told_4 9 rfl rfl)
theorem dX0_told_108 : decode cX0_told 108 = .ok (.getfield 32, 3) := dk_180 0 32 (dk_at dksX0_told_4 10 rfl rfl)
theorem dX0_told_111 : decode cX0_told 111 = .ok (.iload 4, 2) := dk_21 4 (dk_at dksX0_told_4 13 rfl rfl)
theorem dX0_told_113 : decode cX0_told 113 = .ok (.aaload, 1) := dk_50 (dk_at dksX0_told_4 15 rfl rfl)
theorem dX0_told_114 : decode cX0_told 114 = .ok (.getfield 151, 3) := dk_180 0 151 (dk_at dksX0_told_4 16 rfl rfl)
theorem dX0_told_117 : decode cX0_told 117 = .ok (.iload_n 1, 1) := dk_27 (dk_at dksX0_told_4 19 rfl rfl)
theorem dX0_told_118 : decode cX0_told 118 = .ok (.if_icmp .ne 7, 3) := dk_160 0 7 (dk_at dksX0_told_4 20 rfl rfl)
theorem dX0_told_121 : decode cX0_told 121 = .ok (.iconst 1, 1) := dk_4 (dk_at dksX0_told_4 23 rfl rfl)
theorem dX0_told_122 : decode cX0_told 122 = .ok (.goto 4, 3) := dk_167 0 4 (dk_at dksX0_told_5 0 rfl rfl)
theorem dX0_told_125 : decode cX0_told 125 = .ok (.iconst 0, 1) := dk_3 (dk_at dksX0_told_5 3 rfl rfl)
theorem dX0_told_126 : decode cX0_told 126 = .ok (.iadd, 1) := dk_96 (dk_at dksX0_told_5 4 rfl rfl)
theorem dX0_told_127 : decode cX0_told 127 = .ok (.istore_n 3, 1) := dk_62 (dk_at dksX0_told_5 5 rfl rfl)
theorem dX0_told_128 : decode cX0_told 128 = .ok (.iinc 4 1, 3) := dk_132 4 1 (dk_at dksX0_told_5 6 rfl rfl)
theorem dX0_told_131 : decode cX0_told 131 = .ok (.goto (-47), 3) := dk_167 255 209 (dk_at dksX0_told_5 9 rfl rfl)
theorem dX0_told_134 : decode cX0_told 134 = .ok (.iload_n 3, 1) := dk_29 (dk_at dksX0_told_5 12 rfl rfl)
theorem dX0_told_135 : decode cX0_told 135 = .ok (.ireturn, 1) := dk_172 (dk_at dksX0_told_5 13 rfl rfl)
abbrev cX0_isPerson : ByteArray := prog_1_method_10_code
def yX0_isPerson : MethodName := ⟨RX0, "isPerson", "(I)Z"⟩
def dkwX0_isPerson_0 : List UInt8 := [27, 3, 42, 180, 0, 125, 4, 100, 184, 0, 128, 172]
abbrev dktX0_isPerson_0 : List UInt8 := dkwX0_isPerson_0 ++ []
theorem dksX0_isPerson_0 : cX0_isPerson.data.toList.drop 0 = dktX0_isPerson_0 := by decide +kernel
theorem dX0_isPerson_0 : decode cX0_isPerson 0 = .ok (.iload_n 1, 1) := dk_27 (dk_at dksX0_isPerson_0 0 rfl rfl)
theorem dX0_isPerson_1 : decode cX0_isPerson 1 = .ok (.iconst 0, 1) := dk_3 (dk_at dksX0_isPerson_0 1 rfl rfl)
theorem dX0_isPerson_2 : decode cX0_isPerson 2 = .ok (.aload_n 0, 1) := dk_42 (dk_at dksX0_isPerson_0 2 rfl rfl)
theorem dX0_isPerson_3 : decode cX0_isPerson 3 = .ok (.getfield 125, 3) := dk_180 0 125 (dk_at dksX0_isPerson_0 3 rfl rfl)
theorem dX0_isPerson_6 : decode cX0_isPerson 6 = .ok (.iconst 1, 1) := dk_4 (dk_at dksX0_isPerson_0 6 rfl rfl)
theorem dX0_isPerson_7 : decode cX0_isPerson 7 = .ok (.isub, 1) := dk_100 (dk_at dksX0_isPerson_0 7 rfl rfl)
theorem dX0_isPerson_8 : decode cX0_isPerson 8 = .ok (.invokestatic 128, 3) := dk_184 0 128 (dk_at dksX0_isPerson_0 8 rfl rfl)
theorem dX0_isPerson_11 : decode cX0_isPerson 11 = .ok (.ireturn, 1) := dk_172 (dk_at dksX0_isPerson_0 11 rfl rfl)
abbrev cX0_linesTo : ByteArray := prog_1_method_16_code
def yX0_linesTo : MethodName := ⟨RX0, "linesTo", "(I)I"⟩
def dkwX0_linesTo_2 : List UInt8 := [132, 3, 1, 167, 255, 212, 28, 172]
abbrev dktX0_linesTo_2 : List UInt8 := dkwX0_linesTo_2 ++ []
def dkwX0_linesTo_1 : List UInt8 := [154, 0, 20, 42, 180, 0, 32, 29, 50, 180, 0, 154, 27, 160, 0, 7, 4, 167, 0, 4, 3, 96, 61]
abbrev dktX0_linesTo_1 : List UInt8 := dkwX0_linesTo_1 ++ dktX0_linesTo_2
def dkwX0_linesTo_0 : List UInt8 := [3, 61, 3, 62, 29, 42, 180, 0, 144, 162, 0, 42, 28, 42, 180, 0, 32, 29, 50, 180, 0, 147]
abbrev dktX0_linesTo_0 : List UInt8 := dkwX0_linesTo_0 ++ dktX0_linesTo_1
theorem dksX0_linesTo_0 : cX0_linesTo.data.toList.drop 0 = dktX0_linesTo_0 := by decide +kernel
theorem dksX0_linesTo_1 : cX0_linesTo.data.toList.drop 22 = dktX0_linesTo_1 := dk_seg dksX0_linesTo_0 22 rfl rfl
theorem dksX0_linesTo_2 : cX0_linesTo.data.toList.drop 45 = dktX0_linesTo_2 := dk_seg dksX0_linesTo_1 23 rfl rfl
theorem dX0_linesTo_0 : decode cX0_linesTo 0 = .ok (.iconst 0, 1) := dk_3 (dk_at dksX0_linesTo_0 0 rfl rfl)
theorem dX0_linesTo_1 : decode cX0_linesTo 1 = .ok (.istore_n 2, 1) := dk_61 (dk_at dksX0_linesTo_0 1 rfl rfl)
theorem dX0_linesTo_2 : decode cX0_linesTo 2 = .ok (.iconst 0, 1) := dk_3 (dk_at dksX0_linesTo_0 2 rfl rfl)
theorem dX0_linesTo_3 : decode cX0_linesTo 3 = .ok (.istore_n 3, 1) := dk_62 (dk_at dksX0_linesTo_0 3 rfl rfl)
theorem dX0_linesTo_4 : decode cX0_linesTo 4 = .ok (.iload_n 3, 1) := dk_29 (dk_at dksX0_linesTo_0 4 rfl rfl)
theorem dX0_linesTo_5 : decode cX0_linesTo 5 = .ok (.aload_n 0, 1) := dk_42 (dk_at dksX0_linesTo_0 5 rfl rfl)
theorem dX0_linesTo_6 : decode cX0_linesTo 6 = .ok (.getfield 144, 3) := dk_180 0 144 (dk_at dksX0_linesTo_0 6 rfl rfl)
theorem dX0_linesTo_9 : decode cX0_linesTo 9 = .ok (.if_icmp .ge 42, 3) := dk_162 0 42 (dk_at dksX0_linesTo_0 9 rfl rfl)
theorem dX0_linesTo_12 : decode cX0_linesTo 12 = .ok (.iload_n 2, 1) := dk_28 (dk_at dksX0_linesTo_0 12 rfl rfl)
theorem dX0_linesTo_13 : decode cX0_linesTo 13 = .ok (.aload_n 0, 1) := dk_42 (dk_at dksX0_linesTo_0 13 rfl rfl)
theorem dX0_linesTo_14 : decode cX0_linesTo 14 = .ok (.getfield 32, 3) := dk_180 0 32 (dk_at dksX0_linesTo_0 14 rfl rfl)
theorem dX0_linesTo_17 : decode cX0_linesTo 17 = .ok (.iload_n 3, 1) := dk_29 (dk_at dksX0_linesTo_0 17 rfl rfl)
theorem dX0_linesTo_18 : decode cX0_linesTo 18 = .ok (.aaload, 1) := dk_50 (dk_at dksX0_linesTo_0 18 rfl rfl)
theorem dX0_linesTo_19 : decode cX0_linesTo 19 = .ok (.getfield 147, 3) := dk_180 0 147 (dk_at dksX0_linesTo_0 19 rfl rfl)
theorem dX0_linesTo_22 : decode cX0_linesTo 22 = .ok (.ifCond .ne 20, 3) := dk_154 0 20 (dk_at dksX0_linesTo_1 0 rfl rfl)
theorem dX0_linesTo_25 : decode cX0_linesTo 25 = .ok (.aload_n 0, 1) := dk_42 (dk_at dksX0_linesTo_1 3 rfl rfl)
theorem dX0_linesTo_26 : decode cX0_linesTo 26 = .ok (.getfield 32, 3) := dk_180 0 32 (dk_at dksX0_linesTo_1 4 rfl rfl)
theorem dX0_linesTo_29 : decode cX0_linesTo 29 = .ok (.iload_n 3, 1) := dk_29 (dk_at dksX0_linesTo_1 7 rfl rfl)
theorem dX0_linesTo_30 : decode cX0_linesTo 30 = .ok (.aaload, 1) := dk_50 (dk_at dksX0_linesTo_1 8 rfl rfl)
theorem dX0_linesTo_31 : decode cX0_linesTo 31 = .ok (.getfield 154, 3) := dk_180 0 154 (dk_at dksX0_linesTo_1 9 rfl rfl)
theorem dX0_linesTo_34 : decode cX0_linesTo 34 = .ok (.iload_n 1, 1) := dk_27 (dk_at dksX0_linesTo_1 12 rfl rfl)
theorem dX0_linesTo_35 : decode cX0_linesTo 35 = .ok (.if_icmp .ne 7, 3) := dk_160 0 7 (dk_at dksX0_linesTo_1 13 rfl rfl)
theorem dX0_linesTo_38 : decode cX0_linesTo 38 = .ok (.iconst 1, 1) := dk_4 (dk_at dksX0_linesTo_1 16 rfl rfl)
theorem dX0_linesTo_39 : decode cX0_linesTo 39 = .ok (.goto 4, 3) := dk_167 0 4 (dk_at dksX0_linesTo_1 17 rfl rfl)
theorem dX0_linesTo_42 : decode cX0_linesTo 42 = .ok (.iconst 0, 1) := dk_3 (dk_at dksX0_linesTo_1 20 rfl rfl)
theorem dX0_linesTo_43 : decode cX0_linesTo 43 = .ok (.iadd, 1) := dk_96 (dk_at dksX0_linesTo_1 21 rfl rfl)
theorem dX0_linesTo_44 : decode cX0_linesTo 44 = .ok (.istore_n 2, 1) := dk_61 (dk_at dksX0_linesTo_1 22 rfl rfl)
theorem dX0_linesTo_45 : decode cX0_linesTo 45 = .ok (.iinc 3 1, 3) := dk_132 3 1 (dk_at dksX0_linesTo_2 0 rfl rfl)
theorem dX0_linesTo_48 : decode cX0_linesTo 48 = .ok (.goto (-44), 3) := dk_167 255 212 (dk_at dksX0_linesTo_2 3 rfl rfl)
theorem dX0_linesTo_51 : decode cX0_linesTo 51 = .ok (.iload_n 2, 1) := dk_28 (dk_at dksX0_linesTo_2 6 rfl rfl)
theorem dX0_linesTo_52 : decode cX0_linesTo 52 = .ok (.ireturn, 1) := dk_172 (dk_at dksX0_linesTo_2 7 rfl rfl)
abbrev cX0_die : ByteArray := prog_1_method_14_code
def yX0_die : MethodName := ⟨RX0, "die", "(II)I"⟩
def dkwX0_die_1 : List UInt8 := [172, 42, 180, 0, 27, 27, 46, 16, 247, 159, 0, 6, 16, 252, 172, 42, 180, 0, 27, 27, 28, 79, 4, 172]
abbrev dktX0_die_1 : List UInt8 := dkwX0_die_1 ++ []
def dkwX0_die_0 : List UInt8 := [42, 27, 182, 0, 137, 153, 0, 18, 28, 42, 180, 0, 24, 27, 46, 18, 132, 184, 0, 128, 154, 0, 5, 2]
abbrev dktX0_die_0 : List UInt8 := dkwX0_die_0 ++ dktX0_die_1
theorem dksX0_die_0 : cX0_die.data.toList.drop 0 = dktX0_die_0 := by decide +kernel
theorem dksX0_die_1 : cX0_die.data.toList.drop 24 = dktX0_die_1 := dk_seg dksX0_die_0 24 rfl rfl
theorem dX0_die_0 : decode cX0_die 0 = .ok (.aload_n 0, 1) := dk_42 (dk_at dksX0_die_0 0 rfl rfl)
theorem dX0_die_1 : decode cX0_die 1 = .ok (.iload_n 1, 1) := dk_27 (dk_at dksX0_die_0 1 rfl rfl)
theorem dX0_die_2 : decode cX0_die 2 = .ok (.invokevirtual 137, 3) := dk_182 0 137 (dk_at dksX0_die_0 2 rfl rfl)
theorem dX0_die_5 : decode cX0_die 5 = .ok (.ifCond .eq 18, 3) := dk_153 0 18 (dk_at dksX0_die_0 5 rfl rfl)
theorem dX0_die_8 : decode cX0_die 8 = .ok (.iload_n 2, 1) := dk_28 (dk_at dksX0_die_0 8 rfl rfl)
theorem dX0_die_9 : decode cX0_die 9 = .ok (.aload_n 0, 1) := dk_42 (dk_at dksX0_die_0 9 rfl rfl)
theorem dX0_die_10 : decode cX0_die 10 = .ok (.getfield 24, 3) := dk_180 0 24 (dk_at dksX0_die_0 10 rfl rfl)
theorem dX0_die_13 : decode cX0_die 13 = .ok (.iload_n 1, 1) := dk_27 (dk_at dksX0_die_0 13 rfl rfl)
theorem dX0_die_14 : decode cX0_die 14 = .ok (.iaload, 1) := dk_46 (dk_at dksX0_die_0 14 rfl rfl)
theorem dX0_die_15 : decode cX0_die 15 = .ok (.ldc 132, 2) := dk_18 132 (dk_at dksX0_die_0 15 rfl rfl)
theorem dX0_die_17 : decode cX0_die 17 = .ok (.invokestatic 128, 3) := dk_184 0 128 (dk_at dksX0_die_0 17 rfl rfl)
theorem dX0_die_20 : decode cX0_die 20 = .ok (.ifCond .ne 5, 3) := dk_154 0 5 (dk_at dksX0_die_0 20 rfl rfl)
theorem dX0_die_23 : decode cX0_die 23 = .ok (.iconst (-1), 1) := dk_2 (dk_at dksX0_die_0 23 rfl rfl)
theorem dX0_die_24 : decode cX0_die 24 = .ok (.ireturn, 1) := dk_172 (dk_at dksX0_die_1 0 rfl rfl)
theorem dX0_die_25 : decode cX0_die 25 = .ok (.aload_n 0, 1) := dk_42 (dk_at dksX0_die_1 1 rfl rfl)
theorem dX0_die_26 : decode cX0_die 26 = .ok (.getfield 27, 3) := dk_180 0 27 (dk_at dksX0_die_1 2 rfl rfl)
theorem dX0_die_29 : decode cX0_die 29 = .ok (.iload_n 1, 1) := dk_27 (dk_at dksX0_die_1 5 rfl rfl)
theorem dX0_die_30 : decode cX0_die 30 = .ok (.iaload, 1) := dk_46 (dk_at dksX0_die_1 6 rfl rfl)
theorem dX0_die_31 : decode cX0_die 31 = .ok (.bipush (-9), 2) := dk_16 247 (dk_at dksX0_die_1 7 rfl rfl)
theorem dX0_die_33 : decode cX0_die 33 = .ok (.if_icmp .eq 6, 3) := dk_159 0 6 (dk_at dksX0_die_1 9 rfl rfl)
theorem dX0_die_36 : decode cX0_die 36 = .ok (.bipush (-4), 2) := dk_16 252 (dk_at dksX0_die_1 12 rfl rfl)
theorem dX0_die_38 : decode cX0_die 38 = .ok (.ireturn, 1) := dk_172 (dk_at dksX0_die_1 14 rfl rfl)
theorem dX0_die_39 : decode cX0_die 39 = .ok (.aload_n 0, 1) := dk_42 (dk_at dksX0_die_1 15 rfl rfl)
theorem dX0_die_40 : decode cX0_die 40 = .ok (.getfield 27, 3) := dk_180 0 27 (dk_at dksX0_die_1 16 rfl rfl)
theorem dX0_die_43 : decode cX0_die 43 = .ok (.iload_n 1, 1) := dk_27 (dk_at dksX0_die_1 19 rfl rfl)
theorem dX0_die_44 : decode cX0_die 44 = .ok (.iload_n 2, 1) := dk_28 (dk_at dksX0_die_1 20 rfl rfl)
theorem dX0_die_45 : decode cX0_die 45 = .ok (.iastore, 1) := dk_79 (dk_at dksX0_die_1 21 rfl rfl)
theorem dX0_die_46 : decode cX0_die 46 = .ok (.iconst 1, 1) := dk_4 (dk_at dksX0_die_1 22 rfl rfl)
theorem dX0_die_47 : decode cX0_die 47 = .ok (.ireturn, 1) := dk_172 (dk_at dksX0_die_1 23 rfl rfl)
abbrev cX0_line : ByteArray := prog_1_method_18_code
def yX0_line : MethodName := ⟨RX0, "line", "(IIIII)I"⟩
def dkwX0_line_7 : List UInt8 := [29, 21, 4, 183, 0, 171, 83, 42, 89, 180, 0, 144, 4, 96, 181, 0, 144, 42, 180, 0, 144, 4, 100, 172]
abbrev dktX0_line_7 : List UInt8 := dkwX0_line_7 ++ []
def dkwX0_line_6 : List UInt8 := [160, 0, 18, 187, 0, 164, 89, 42, 28, 29, 21, 5, 183, 0, 166, 167, 0, 15, 187, 0, 169, 89, 42, 28]
abbrev dktX0_line_6 : List UInt8 := dkwX0_line_6 ++ dktX0_line_7
def dkwX0_line_5 : List UInt8 := [180, 0, 144, 27, 154, 0, 16, 187, 0, 30, 89, 42, 28, 29, 183, 0, 161, 167, 0, 35, 27, 4]
abbrev dktX0_line_5 : List UInt8 := dkwX0_line_5 ++ dktX0_line_6
def dkwX0_line_4 : List UInt8 := [29, 182, 0, 157, 154, 0, 12, 42, 29, 182, 0, 140, 5, 160, 0, 6, 16, 252, 172, 42, 180, 0, 32, 42]
abbrev dktX0_line_4 : List UInt8 := dkwX0_line_4 ++ dktX0_line_5
def dkwX0_line_3 : List UInt8 := [180, 0, 24, 29, 46, 161, 0, 5, 2, 172, 42, 180, 0, 144, 16, 40, 160, 0, 6, 16, 254, 172, 42, 28]
abbrev dktX0_line_3 : List UInt8 := dkwX0_line_3 ++ dktX0_line_4
def dkwX0_line_2 : List UInt8 := [28, 182, 0, 137, 153, 0, 26, 42, 29, 182, 0, 137, 153, 0, 18, 42, 180, 0, 24, 28, 46, 42]
abbrev dktX0_line_2 : List UInt8 := dkwX0_line_2 ++ dktX0_line_3
def dkwX0_line_1 : List UInt8 := [160, 0, 15, 21, 4, 184, 0, 133, 153, 0, 7, 4, 167, 0, 4, 3, 54, 6, 21, 6, 153, 0, 34, 42]
abbrev dktX0_line_1 : List UInt8 := dkwX0_line_1 ++ dktX0_line_2
def dkwX0_line_0 : List UInt8 := [27, 153, 0, 33, 27, 4, 160, 0, 15, 21, 5, 4, 17, 3, 232, 184, 0, 128, 154, 0, 16, 27, 6]
abbrev dktX0_line_0 : List UInt8 := dkwX0_line_0 ++ dktX0_line_1
theorem dksX0_line_0 : cX0_line.data.toList.drop 0 = dktX0_line_0 := by decide +kernel
theorem dksX0_line_1 : cX0_line.data.toList.drop 23 = dktX0_line_1 := dk_seg dksX0_line_0 23 rfl rfl
theorem dksX0_line_2 : cX0_line.data.toList.drop 47 = dktX0_line_2 := dk_seg dksX0_line_1 24 rfl rfl
theorem dksX0_line_3 : cX0_line.data.toList.drop 69 = dktX0_line_3 := dk_seg dksX0_line_2 22 rfl rfl
theorem dksX0_line_4 : cX0_line.data.toList.drop 93 = dktX0_line_4 := dk_seg dksX0_line_3 24 rfl rfl
theorem dksX0_line_5 : cX0_line.data.toList.drop 117 = dktX0_line_5 := dk_seg dksX0_line_4 24 rfl rfl
theorem dksX0_line_6 : cX0_line.data.toList.drop 139 = dktX0_line_6 := dk_seg dksX0_line_5 22 rfl rfl
theorem dksX0_line_7 : cX0_line.data.toList.drop 163 = dktX0_line_7 := dk_seg dksX0_line_6 24 rfl rfl
theorem dX0_line_0 : decode cX0_line 0 = .ok (.iload_n 1, 1) := dk_27 (dk_at dksX0_line_0 0 rfl rfl)
theorem dX0_line_1 : decode cX0_line 1 = .ok (.ifCond .eq 33, 3) := dk_153 0 33 (dk_at dksX0_line_0 1 rfl rfl)
theorem dX0_line_4 : decode cX0_line 4 = .ok (.iload_n 1, 1) := dk_27 (dk_at dksX0_line_0 4 rfl rfl)
theorem dX0_line_5 : decode cX0_line 5 = .ok (.iconst 1, 1) := dk_4 (dk_at dksX0_line_0 5 rfl rfl)
theorem dX0_line_6 : decode cX0_line 6 = .ok (.if_icmp .ne 15, 3) := dk_160 0 15 (dk_at dksX0_line_0 6 rfl rfl)
theorem dX0_line_9 : decode cX0_line 9 = .ok (.iload 5, 2) := dk_21 5 (dk_at dksX0_line_0 9 rfl rfl)
theorem dX0_line_11 : decode cX0_line 11 = .ok (.iconst 1, 1) := dk_4 (dk_at dksX0_line_0 11 rfl rfl)
theorem dX0_line_12 : decode cX0_line 12 = .ok (.sipush 1000, 3) := dk_17 3 232 (dk_at dksX0_line_0 12 rfl rfl)
theorem dX0_line_15 : decode cX0_line 15 = .ok (.invokestatic 128, 3) := dk_184 0 128 (dk_at dksX0_line_0 15 rfl rfl)
theorem dX0_line_18 : decode cX0_line 18 = .ok (.ifCond .ne 16, 3) := dk_154 0 16 (dk_at dksX0_line_0 18 rfl rfl)
theorem dX0_line_21 : decode cX0_line 21 = .ok (.iload_n 1, 1) := dk_27 (dk_at dksX0_line_0 21 rfl rfl)
theorem dX0_line_22 : decode cX0_line 22 = .ok (.iconst 3, 1) := dk_6 (dk_at dksX0_line_0 22 rfl rfl)
theorem dX0_line_23 : decode cX0_line 23 = .ok (.if_icmp .ne 15, 3) := dk_160 0 15 (dk_at dksX0_line_1 0 rfl rfl)
theorem dX0_line_26 : decode cX0_line 26 = .ok (.iload 4, 2) := dk_21 4 (dk_at dksX0_line_1 3 rfl rfl)
theorem dX0_line_28 : decode cX0_line 28 = .ok (.invokestatic 133, 3) := dk_184 0 133 (dk_at dksX0_line_1 5 rfl rfl)
theorem dX0_line_31 : decode cX0_line 31 = .ok (.ifCond .eq 7, 3) := dk_153 0 7 (dk_at dksX0_line_1 8 rfl rfl)
theorem dX0_line_34 : decode cX0_line 34 = .ok (.iconst 1, 1) := dk_4 (dk_at dksX0_line_1 11 rfl rfl)
theorem dX0_line_35 : decode cX0_line 35 = .ok (.goto 4, 3) := dk_167 0 4 (dk_at dksX0_line_1 12 rfl rfl)
theorem dX0_line_38 : decode cX0_line 38 = .ok (.iconst 0, 1) := dk_3 (dk_at dksX0_line_1 15 rfl rfl)
theorem dX0_line_39 : decode cX0_line 39 = .ok (.istore 6, 2) := dk_54 6 (dk_at dksX0_line_1 16 rfl rfl)
theorem dX0_line_41 : decode cX0_line 41 = .ok (.iload 6, 2) := dk_21 6 (dk_at dksX0_line_1 18 rfl rfl)
theorem dX0_line_43 : decode cX0_line 43 = .ok (.ifCond .eq 34, 3) := dk_153 0 34 (dk_at dksX0_line_1 20 rfl rfl)
theorem dX0_line_46 : decode cX0_line 46 = .ok (.aload_n 0, 1) := dk_42 (dk_at dksX0_line_1 23 rfl rfl)
theorem dX0_line_47 : decode cX0_line 47 = .ok (.iload_n 2, 1) := dk_28 (dk_at dksX0_line_2 0 rfl rfl)
theorem dX0_line_48 : decode cX0_line 48 = .ok (.invokevirtual 137, 3) := dk_182 0 137 (dk_at dksX0_line_2 1 rfl rfl)
theorem dX0_line_51 : decode cX0_line 51 = .ok (.ifCond .eq 26, 3) := dk_153 0 26 (dk_at dksX0_line_2 4 rfl rfl)
theorem dX0_line_54 : decode cX0_line 54 = .ok (.aload_n 0, 1) := dk_42 (dk_at dksX0_line_2 7 rfl rfl)
theorem dX0_line_55 : decode cX0_line 55 = .ok (.iload_n 3, 1) := dk_29 (dk_at dksX0_line_2 8 rfl rfl)
theorem dX0_line_56 : decode cX0_line 56 = .ok (.invokevirtual 137, 3) := dk_182 0 137 (dk_at dksX0_line_2 9 rfl rfl)
theorem dX0_line_59 : decode cX0_line 59 = .ok (.ifCond .eq 18, 3) := dk_153 0 18 (dk_at dksX0_line_2 12 rfl rfl)
theorem dX0_line_62 : decode cX0_line 62 = .ok (.aload_n 0, 1) := dk_42 (dk_at dksX0_line_2 15 rfl rfl)
theorem dX0_line_63 : decode cX0_line 63 = .ok (.getfield 24, 3) := dk_180 0 24 (dk_at dksX0_line_2 16 rfl rfl)
theorem dX0_line_66 : decode cX0_line 66 = .ok (.iload_n 2, 1) := dk_28 (dk_at dksX0_line_2 19 rfl rfl)
theorem dX0_line_67 : decode cX0_line 67 = .ok (.iaload, 1) := dk_46 (dk_at dksX0_line_2 20 rfl rfl)
theorem dX0_line_68 : decode cX0_line 68 = .ok (.aload_n 0, 1) := dk_42 (dk_at dksX0_line_2 21 rfl rfl)
theorem dX0_line_69 : decode cX0_line 69 = .ok (.getfield 24, 3) := dk_180 0 24 (dk_at dksX0_line_3 0 rfl rfl)
theorem dX0_line_72 : decode cX0_line 72 = .ok (.iload_n 3, 1) := dk_29 (dk_at dksX0_line_3 3 rfl rfl)
theorem dX0_line_73 : decode cX0_line 73 = .ok (.iaload, 1) := dk_46 (dk_at dksX0_line_3 4 rfl rfl)
theorem dX0_line_74 : decode cX0_line 74 = .ok (.if_icmp .lt 5, 3) := dk_161 0 5 (dk_at dksX0_line_3 5 rfl rfl)
theorem dX0_line_77 : decode cX0_line 77 = .ok (.iconst (-1), 1) := dk_2 (dk_at dksX0_line_3 8 rfl rfl)
theorem dX0_line_78 : decode cX0_line 78 = .ok (.ireturn, 1) := dk_172 (dk_at dksX0_line_3 9 rfl rfl)
theorem dX0_line_79 : decode cX0_line 79 = .ok (.aload_n 0, 1) := dk_42 (dk_at dksX0_line_3 10 rfl rfl)
theorem dX0_line_80 : decode cX0_line 80 = .ok (.getfield 144, 3) := dk_180 0 144 (dk_at dksX0_line_3 11 rfl rfl)
theorem dX0_line_83 : decode cX0_line 83 = .ok (.bipush 40, 2) := dk_16 40 (dk_at dksX0_line_3 14 rfl rfl)
theorem dX0_line_85 : decode cX0_line 85 = .ok (.if_icmp .ne 6, 3) := dk_160 0 6 (dk_at dksX0_line_3 16 rfl rfl)
theorem dX0_line_88 : decode cX0_line 88 = .ok (.bipush (-2), 2) := dk_16 254 (dk_at dksX0_line_3 19 rfl rfl)
theorem dX0_line_90 : decode cX0_line 90 = .ok (.ireturn, 1) := dk_172 (dk_at dksX0_line_3 21 rfl rfl)
theorem dX0_line_91 : decode cX0_line 91 = .ok (.aload_n 0, 1) := dk_42 (dk_at dksX0_line_3 22 rfl rfl)
theorem dX0_line_92 : decode cX0_line 92 = .ok (.iload_n 2, 1) := dk_28 (dk_at dksX0_line_3 23 rfl rfl)
theorem dX0_line_93 : decode cX0_line 93 = .ok (.iload_n 3, 1) := dk_29 (dk_at dksX0_line_4 0 rfl rfl)
theorem dX0_line_94 : decode cX0_line 94 = .ok (.invokevirtual 157, 3) := dk_182 0 157 (dk_at dksX0_line_4 1 rfl rfl)
theorem dX0_line_97 : decode cX0_line 97 = .ok (.ifCond .ne 12, 3) := dk_154 0 12 (dk_at dksX0_line_4 4 rfl rfl)
theorem dX0_line_100 : decode cX0_line 100 = .ok (.aload_n 0, 1) := dk_42 (dk_at dksX0_line_4 7 rfl rfl)
theorem dX0_line_101 : decode cX0_line 101 = .ok (.iload_n 3, 1) := dk_29 (dk_at dksX0_line_4 8 rfl rfl)
theorem dX0_line_102 : decode cX0_line 102 = .ok (.invokevirtual 140, 3) := dk_182 0 140 (dk_at dksX0_line_4 9 rfl rfl)
theorem dX0_line_105 : decode cX0_line 105 = .ok (.iconst 2, 1) := dk_5 (dk_at dksX0_line_4 12 rfl rfl)
theorem dX0_line_106 : decode cX0_line 106 = .ok (.if_icmp .ne 6, 3) := dk_160 0 6 (dk_at dksX0_line_4 13 rfl rfl)
theorem dX0_line_109 : decode cX0_line 109 = .ok (.bipush (-4), 2) := dk_16 252 (dk_at dksX0_line_4 16 rfl rfl)
theorem dX0_line_111 : decode cX0_line 111 = .ok (.ireturn, 1) := dk_172 (dk_at dksX0_line_4 18 rfl rfl)
theorem dX0_line_112 : decode cX0_line 112 = .ok (.aload_n 0, 1) := dk_42 (dk_at dksX0_line_4 19 rfl rfl)
theorem dX0_line_113 : decode cX0_line 113 = .ok (.getfield 32, 3) := dk_180 0 32 (dk_at dksX0_line_4 20 rfl rfl)
theorem dX0_line_116 : decode cX0_line 116 = .ok (.aload_n 0, 1) := dk_42 (dk_at dksX0_line_4 23 rfl rfl)
theorem dX0_line_117 : decode cX0_line 117 = .ok (.getfield 144, 3) := dk_180 0 144 (dk_at dksX0_line_5 0 rfl rfl)
theorem dX0_line_120 : decode cX0_line 120 = .ok (.iload_n 1, 1) := dk_27 (dk_at dksX0_line_5 3 rfl rfl)
theorem dX0_line_121 : decode cX0_line 121 = .ok (.ifCond .ne 16, 3) := dk_154 0 16 (dk_at dksX0_line_5 4 rfl rfl)
theorem dX0_line_124 : decode cX0_line 124 = .ok (.new 30, 3) := dk_187 0 30 (dk_at dksX0_line_5 7 rfl rfl)
theorem dX0_line_127 : decode cX0_line 127 = .ok (.dup, 1) := dk_89 (dk_at dksX0_line_5 10 rfl rfl)
theorem dX0_line_128 : decode cX0_line 128 = .ok (.aload_n 0, 1) := dk_42 (dk_at dksX0_line_5 11 rfl rfl)
theorem dX0_line_129 : decode cX0_line 129 = .ok (.iload_n 2, 1) := dk_28 (dk_at dksX0_line_5 12 rfl rfl)
theorem dX0_line_130 : decode cX0_line 130 = .ok (.iload_n 3, 1) := dk_29 (dk_at dksX0_line_5 13 rfl rfl)
theorem dX0_line_131 : decode cX0_line 131 = .ok (.invokespecial 161, 3) := dk_183 0 161 (dk_at dksX0_line_5 14 rfl rfl)
theorem dX0_line_134 : decode cX0_line 134 = .ok (.goto 35, 3) := dk_167 0 35 (dk_at dksX0_line_5 17 rfl rfl)
theorem dX0_line_137 : decode cX0_line 137 = .ok (.iload_n 1, 1) := dk_27 (dk_at dksX0_line_5 20 rfl rfl)
theorem dX0_line_138 : decode cX0_line 138 = .ok (.iconst 1, 1) := dk_4 (dk_at dksX0_line_5 21 rfl rfl)
theorem dX0_line_139 : decode cX0_line 139 = .ok (.if_icmp .ne 18, 3) := dk_160 0 18 (dk_at dksX0_line_6 0 rfl rfl)
theorem dX0_line_142 : decode cX0_line 142 = .ok (.new 164, 3) := dk_187 0 164 (dk_at dksX0_line_6 3 rfl rfl)
theorem dX0_line_145 : decode cX0_line 145 = .ok (.dup, 1) := dk_89 (dk_at dksX0_line_6 6 rfl rfl)
theorem dX0_line_146 : decode cX0_line 146 = .ok (.aload_n 0, 1) := dk_42 (dk_at dksX0_line_6 7 rfl rfl)
theorem dX0_line_147 : decode cX0_line 147 = .ok (.iload_n 2, 1) := dk_28 (dk_at dksX0_line_6 8 rfl rfl)
theorem dX0_line_148 : decode cX0_line 148 = .ok (.iload_n 3, 1) := dk_29 (dk_at dksX0_line_6 9 rfl rfl)
theorem dX0_line_149 : decode cX0_line 149 = .ok (.iload 5, 2) := dk_21 5 (dk_at dksX0_line_6 10 rfl rfl)
theorem dX0_line_151 : decode cX0_line 151 = .ok (.invokespecial 166, 3) := dk_183 0 166 (dk_at dksX0_line_6 12 rfl rfl)
theorem dX0_line_154 : decode cX0_line 154 = .ok (.goto 15, 3) := dk_167 0 15 (dk_at dksX0_line_6 15 rfl rfl)
theorem dX0_line_157 : decode cX0_line 157 = .ok (.new 169, 3) := dk_187 0 169 (dk_at dksX0_line_6 18 rfl rfl)
theorem dX0_line_160 : decode cX0_line 160 = .ok (.dup, 1) := dk_89 (dk_at dksX0_line_6 21 rfl rfl)
theorem dX0_line_161 : decode cX0_line 161 = .ok (.aload_n 0, 1) := dk_42 (dk_at dksX0_line_6 22 rfl rfl)
theorem dX0_line_162 : decode cX0_line 162 = .ok (.iload_n 2, 1) := dk_28 (dk_at dksX0_line_6 23 rfl rfl)
theorem dX0_line_163 : decode cX0_line 163 = .ok (.iload_n 3, 1) := dk_29 (dk_at dksX0_line_7 0 rfl rfl)
theorem dX0_line_164 : decode cX0_line 164 = .ok (.iload 4, 2) := dk_21 4 (dk_at dksX0_line_7 1 rfl rfl)
theorem dX0_line_166 : decode cX0_line 166 = .ok (.invokespecial 171, 3) := dk_183 0 171 (dk_at dksX0_line_7 3 rfl rfl)
theorem dX0_line_169 : decode cX0_line 169 = .ok (.aastore, 1) := dk_83 (dk_at dksX0_line_7 6 rfl rfl)
theorem dX0_line_170 : decode cX0_line 170 = .ok (.aload_n 0, 1) := dk_42 (dk_at dksX0_line_7 7 rfl rfl)
theorem dX0_line_171 : decode cX0_line 171 = .ok (.dup, 1) := dk_89 (dk_at dksX0_line_7 8 rfl rfl)
theorem dX0_line_172 : decode cX0_line 172 = .ok (.getfield 144, 3) := dk_180 0 144 (dk_at dksX0_line_7 9 rfl rfl)
theorem dX0_line_175 : decode cX0_line 175 = .ok (.iconst 1, 1) := dk_4 (dk_at dksX0_line_7 12 rfl rfl)
theorem dX0_line_176 : decode cX0_line 176 = .ok (.iadd, 1) := dk_96 (dk_at dksX0_line_7 13 rfl rfl)
theorem dX0_line_177 : decode cX0_line 177 = .ok (.putfield 144, 3) := dk_181 0 144 (dk_at dksX0_line_7 14 rfl rfl)
theorem dX0_line_180 : decode cX0_line 180 = .ok (.aload_n 0, 1) := dk_42 (dk_at dksX0_line_7 17 rfl rfl)
theorem dX0_line_181 : decode cX0_line 181 = .ok (.getfield 144, 3) := dk_180 0 144 (dk_at dksX0_line_7 18 rfl rfl)
theorem dX0_line_184 : decode cX0_line 184 = .ok (.iconst 1, 1) := dk_4 (dk_at dksX0_line_7 21 rfl rfl)
theorem dX0_line_185 : decode cX0_line 185 = .ok (.isub, 1) := dk_100 (dk_at dksX0_line_7 22 rfl rfl)
theorem dX0_line_186 : decode cX0_line 186 = .ok (.ireturn, 1) := dk_172 (dk_at dksX0_line_7 23 rfl rfl)
abbrev cX0_hasLine : ByteArray := prog_1_method_17_code
def yX0_hasLine : MethodName := ⟨RX0, "hasLine", "(II)Z"⟩
def dkwX0_hasLine_3 : List UInt8 := [172]
abbrev dktX0_hasLine_3 : List UInt8 := dkwX0_hasLine_3 ++ []
def dkwX0_hasLine_2 : List UInt8 := [21, 4, 50, 180, 0, 154, 28, 160, 0, 7, 4, 167, 0, 4, 3, 128, 62, 132, 4, 1, 167, 255, 195, 29]
abbrev dktX0_hasLine_2 : List UInt8 := dkwX0_hasLine_2 ++ dktX0_hasLine_3
def dkwX0_hasLine_1 : List UInt8 := [180, 0, 147, 154, 0, 35, 42, 180, 0, 32, 21, 4, 50, 180, 0, 151, 27, 160, 0, 21, 42, 180, 0, 32]
abbrev dktX0_hasLine_1 : List UInt8 := dkwX0_hasLine_1 ++ dktX0_hasLine_2
def dkwX0_hasLine_0 : List UInt8 := [3, 62, 3, 54, 4, 21, 4, 42, 180, 0, 144, 162, 0, 58, 29, 42, 180, 0, 32, 21, 4, 50]
abbrev dktX0_hasLine_0 : List UInt8 := dkwX0_hasLine_0 ++ dktX0_hasLine_1
theorem dksX0_hasLine_0 : cX0_hasLine.data.toList.drop 0 = dktX0_hasLine_0 := by decide +kernel
theorem dksX0_hasLine_1 : cX0_hasLine.data.toList.drop 22 = dktX0_hasLine_1 := dk_seg dksX0_hasLine_0 22 rfl rfl
theorem dksX0_hasLine_2 : cX0_hasLine.data.toList.drop 46 = dktX0_hasLine_2 := dk_seg dksX0_hasLine_1 24 rfl rfl
theorem dksX0_hasLine_3 : cX0_hasLine.data.toList.drop 70 = dktX0_hasLine_3 := dk_seg dksX0_hasLine_2 24 rfl rfl
theorem dX0_hasLine_0 : decode cX0_hasLine 0 = .ok (.iconst 0, 1) := dk_3 (dk_at dksX0_hasLine_0 0 rfl rfl)
theorem dX0_hasLine_1 : decode cX0_hasLine 1 = .ok (.istore_n 3, 1) := dk_62 (dk_at dksX0_hasLine_0 1 rfl rfl)
theorem dX0_hasLine_2 : decode cX0_hasLine 2 = .ok (.iconst 0, 1) := dk_3 (dk_at dksX0_hasLine_0 2 rfl rfl)
theorem dX0_hasLine_3 : decode cX0_hasLine 3 = .ok (.istore 4, 2) := dk_54 4 (dk_at dksX0_hasLine_0 3 rfl rfl)
theorem dX0_hasLine_5 : decode cX0_hasLine 5 = .ok (.iload 4, 2) := dk_21 4 (dk_at dksX0_hasLine_0 5 rfl rfl)
theorem dX0_hasLine_7 : decode cX0_hasLine 7 = .ok (.aload_n 0, 1) := dk_42 (dk_at dksX0_hasLine_0 7 rfl rfl)
theorem dX0_hasLine_8 : decode cX0_hasLine 8 = .ok (.getfield 144, 3) := dk_180 0 144 (dk_at dksX0_hasLine_0 8 rfl rfl)
theorem dX0_hasLine_11 : decode cX0_hasLine 11 = .ok (.if_icmp .ge 58, 3) := dk_162 0 58 (dk_at dksX0_hasLine_0 11 rfl rfl)
theorem dX0_hasLine_14 : decode cX0_hasLine 14 = .ok (.iload_n 3, 1) := dk_29 (dk_at dksX0_hasLine_0 14 rfl rfl)
theorem dX0_hasLine_15 : decode cX0_hasLine 15 = .ok (.aload_n 0, 1) := dk_42 (dk_at dksX0_hasLine_0 15 rfl rfl)
theorem dX0_hasLine_16 : decode cX0_hasLine 16 = .ok (.getfield 32, 3) := dk_180 0 32 (dk_at dksX0_hasLine_0 16 rfl rfl)
theorem dX0_hasLine_19 : decode cX0_hasLine 19 = .ok (.iload 4, 2) := dk_21 4 (dk_at dksX0_hasLine_0 19 rfl rfl)
theorem dX0_hasLine_21 : decode cX0_hasLine 21 = .ok (.aaload, 1) := dk_50 (dk_at dksX0_hasLine_0 21 rfl rfl)
theorem dX0_hasLine_22 : decode cX0_hasLine 22 = .ok (.getfield 147, 3) := dk_180 0 147 (dk_at dksX0_hasLine_1 0 rfl rfl)
theorem dX0_hasLine_25 : decode cX0_hasLine 25 = .ok (.ifCond .ne 35, 3) := dk_154 0 35 (dk_at dksX0_hasLine_1 3 rfl rfl)
theorem dX0_hasLine_28 : decode cX0_hasLine 28 = .ok (.aload_n 0, 1) := dk_42 (dk_at dksX0_hasLine_1 6 rfl rfl)
theorem dX0_hasLine_29 : decode cX0_hasLine 29 = .ok (.getfield 32, 3) := dk_180 0 32 (dk_at dksX0_hasLine_1 7 rfl rfl)
theorem dX0_hasLine_32 : decode cX0_hasLine 32 = .ok (.iload 4, 2) := dk_21 4 (dk_at dksX0_hasLine_1 10 rfl rfl)
theorem dX0_hasLine_34 : decode cX0_hasLine 34 = .ok (.aaload, 1) := dk_50 (dk_at dksX0_hasLine_1 12 rfl rfl)
theorem dX0_hasLine_35 : decode cX0_hasLine 35 = .ok (.getfield 151, 3) := dk_180 0 151 (dk_at dksX0_hasLine_1 13 rfl rfl)
theorem dX0_hasLine_38 : decode cX0_hasLine 38 = .ok (.iload_n 1, 1) := dk_27 (dk_at dksX0_hasLine_1 16 rfl rfl)
theorem dX0_hasLine_39 : decode cX0_hasLine 39 = .ok (.if_icmp .ne 21, 3) := dk_160 0 21 (dk_at dksX0_hasLine_1 17 rfl rfl)
theorem dX0_hasLine_42 : decode cX0_hasLine 42 = .ok (.aload_n 0, 1) := dk_42 (dk_at dksX0_hasLine_1 20 rfl rfl)
theorem dX0_hasLine_43 : decode cX0_hasLine 43 = .ok (.getfield 32, 3) := dk_180 0 32 (dk_at dksX0_hasLine_1 21 rfl rfl)
theorem dX0_hasLine_46 : decode cX0_hasLine 46 = .ok (.iload 4, 2) := dk_21 4 (dk_at dksX0_hasLine_2 0 rfl rfl)
theorem dX0_hasLine_48 : decode cX0_hasLine 48 = .ok (.aaload, 1) := dk_50 (dk_at dksX0_hasLine_2 2 rfl rfl)
theorem dX0_hasLine_49 : decode cX0_hasLine 49 = .ok (.getfield 154, 3) := dk_180 0 154 (dk_at dksX0_hasLine_2 3 rfl rfl)
theorem dX0_hasLine_52 : decode cX0_hasLine 52 = .ok (.iload_n 2, 1) := dk_28 (dk_at dksX0_hasLine_2 6 rfl rfl)
theorem dX0_hasLine_53 : decode cX0_hasLine 53 = .ok (.if_icmp .ne 7, 3) := dk_160 0 7 (dk_at dksX0_hasLine_2 7 rfl rfl)
theorem dX0_hasLine_56 : decode cX0_hasLine 56 = .ok (.iconst 1, 1) := dk_4 (dk_at dksX0_hasLine_2 10 rfl rfl)
theorem dX0_hasLine_57 : decode cX0_hasLine 57 = .ok (.goto 4, 3) := dk_167 0 4 (dk_at dksX0_hasLine_2 11 rfl rfl)
theorem dX0_hasLine_60 : decode cX0_hasLine 60 = .ok (.iconst 0, 1) := dk_3 (dk_at dksX0_hasLine_2 14 rfl rfl)
theorem dX0_hasLine_61 : decode cX0_hasLine 61 = .ok (.ior, 1) := dk_128 (dk_at dksX0_hasLine_2 15 rfl rfl)
theorem dX0_hasLine_62 : decode cX0_hasLine 62 = .ok (.istore_n 3, 1) := dk_62 (dk_at dksX0_hasLine_2 16 rfl rfl)
theorem dX0_hasLine_63 : decode cX0_hasLine 63 = .ok (.iinc 4 1, 3) := dk_132 4 1 (dk_at dksX0_hasLine_2 17 rfl rfl)
theorem dX0_hasLine_66 : decode cX0_hasLine 66 = .ok (.goto (-61), 3) := dk_167 255 195 (dk_at dksX0_hasLine_2 20 rfl rfl)
theorem dX0_hasLine_69 : decode cX0_hasLine 69 = .ok (.iload_n 3, 1) := dk_29 (dk_at dksX0_hasLine_2 23 rfl rfl)
theorem dX0_hasLine_70 : decode cX0_hasLine 70 = .ok (.ireturn, 1) := dk_172 (dk_at dksX0_hasLine_3 0 rfl rfl)
abbrev cX0_lineTold : ByteArray := prog_1_method_20_code
def yX0_lineTold : MethodName := ⟨RX0, "lineTold", "(II)I"⟩
def dkwX0_lineTold_1 : List UInt8 := [167, 0, 4, 2, 172]
abbrev dktX0_lineTold_1 : List UInt8 := dkwX0_lineTold_1 ++ []
def dkwX0_lineTold_0 : List UInt8 := [42, 27, 182, 0, 176, 153, 0, 21, 28, 3, 6, 184, 0, 128, 153, 0, 12, 42, 27, 28, 182, 0, 179]
abbrev dktX0_lineTold_0 : List UInt8 := dkwX0_lineTold_0 ++ dktX0_lineTold_1
theorem dksX0_lineTold_0 : cX0_lineTold.data.toList.drop 0 = dktX0_lineTold_0 := by decide +kernel
theorem dksX0_lineTold_1 : cX0_lineTold.data.toList.drop 23 = dktX0_lineTold_1 := dk_seg dksX0_lineTold_0 23 rfl rfl
theorem dX0_lineTold_0 : decode cX0_lineTold 0 = .ok (.aload_n 0, 1) := dk_42 (dk_at dksX0_lineTold_0 0 rfl rfl)
theorem dX0_lineTold_1 : decode cX0_lineTold 1 = .ok (.iload_n 1, 1) := dk_27 (dk_at dksX0_lineTold_0 1 rfl rfl)
theorem dX0_lineTold_2 : decode cX0_lineTold 2 = .ok (.invokevirtual 176, 3) := dk_182 0 176 (dk_at dksX0_lineTold_0 2 rfl rfl)
theorem dX0_lineTold_5 : decode cX0_lineTold 5 = .ok (.ifCond .eq 21, 3) := dk_153 0 21 (dk_at dksX0_lineTold_0 5 rfl rfl)
theorem dX0_lineTold_8 : decode cX0_lineTold 8 = .ok (.iload_n 2, 1) := dk_28 (dk_at dksX0_lineTold_0 8 rfl rfl)
theorem dX0_lineTold_9 : decode cX0_lineTold 9 = .ok (.iconst 0, 1) := dk_3 (dk_at dksX0_lineTold_0 9 rfl rfl)
theorem dX0_lineTold_10 : decode cX0_lineTold 10 = .ok (.iconst 3, 1) := dk_6 (dk_at dksX0_lineTold_0 10 rfl rfl)
theorem dX0_lineTold_11 : decode cX0_lineTold 11 = .ok (.invokestatic 128, 3) := dk_184 0 128 (dk_at dksX0_lineTold_0 11 rfl rfl)
theorem dX0_lineTold_14 : decode cX0_lineTold 14 = .ok (.ifCond .eq 12, 3) := dk_153 0 12 (dk_at dksX0_lineTold_0 14 rfl rfl)
theorem dX0_lineTold_17 : decode cX0_lineTold 17 = .ok (.aload_n 0, 1) := dk_42 (dk_at dksX0_lineTold_0 17 rfl rfl)
theorem dX0_lineTold_18 : decode cX0_lineTold 18 = .ok (.iload_n 1, 1) := dk_27 (dk_at dksX0_lineTold_0 18 rfl rfl)
theorem dX0_lineTold_19 : decode cX0_lineTold 19 = .ok (.iload_n 2, 1) := dk_28 (dk_at dksX0_lineTold_0 19 rfl rfl)
theorem dX0_lineTold_20 : decode cX0_lineTold 20 = .ok (.invokevirtual 179, 3) := dk_182 0 179 (dk_at dksX0_lineTold_0 20 rfl rfl)
theorem dX0_lineTold_23 : decode cX0_lineTold 23 = .ok (.goto 4, 3) := dk_167 0 4 (dk_at dksX0_lineTold_1 0 rfl rfl)
theorem dX0_lineTold_26 : decode cX0_lineTold 26 = .ok (.iconst (-1), 1) := dk_2 (dk_at dksX0_lineTold_1 3 rfl rfl)
theorem dX0_lineTold_27 : decode cX0_lineTold 27 = .ok (.ireturn, 1) := dk_172 (dk_at dksX0_lineTold_1 4 rfl rfl)
abbrev cX0_isLine : ByteArray := prog_1_method_15_code
def yX0_isLine : MethodName := ⟨RX0, "isLine", "(I)Z"⟩
def dkwX0_isLine_0 : List UInt8 := [27, 3, 42, 180, 0, 144, 4, 100, 184, 0, 128, 172]
abbrev dktX0_isLine_0 : List UInt8 := dkwX0_isLine_0 ++ []
theorem dksX0_isLine_0 : cX0_isLine.data.toList.drop 0 = dktX0_isLine_0 := by decide +kernel
theorem dX0_isLine_0 : decode cX0_isLine 0 = .ok (.iload_n 1, 1) := dk_27 (dk_at dksX0_isLine_0 0 rfl rfl)
theorem dX0_isLine_1 : decode cX0_isLine 1 = .ok (.iconst 0, 1) := dk_3 (dk_at dksX0_isLine_0 1 rfl rfl)
theorem dX0_isLine_2 : decode cX0_isLine 2 = .ok (.aload_n 0, 1) := dk_42 (dk_at dksX0_isLine_0 2 rfl rfl)
theorem dX0_isLine_3 : decode cX0_isLine 3 = .ok (.getfield 144, 3) := dk_180 0 144 (dk_at dksX0_isLine_0 3 rfl rfl)
theorem dX0_isLine_6 : decode cX0_isLine 6 = .ok (.iconst 1, 1) := dk_4 (dk_at dksX0_isLine_0 6 rfl rfl)
theorem dX0_isLine_7 : decode cX0_isLine 7 = .ok (.isub, 1) := dk_100 (dk_at dksX0_isLine_0 7 rfl rfl)
theorem dX0_isLine_8 : decode cX0_isLine 8 = .ok (.invokestatic 128, 3) := dk_184 0 128 (dk_at dksX0_isLine_0 8 rfl rfl)
theorem dX0_isLine_11 : decode cX0_isLine 11 = .ok (.ireturn, 1) := dk_172 (dk_at dksX0_isLine_0 11 rfl rfl)
abbrev cX0_lineOf : ByteArray := prog_1_method_19_code
def yX0_lineOf : MethodName := ⟨RX0, "lineOf", "(II)I"⟩
def dkwX0_lineOf_2 : List UInt8 := [153, 0, 7, 4, 167, 0, 4, 3, 172]
abbrev dktX0_lineOf_2 : List UInt8 := dkwX0_lineOf_2 ++ []
def dkwX0_lineOf_1 : List UInt8 := [180, 0, 151, 167, 0, 27, 28, 5, 160, 0, 10, 45, 180, 0, 154, 167, 0, 15, 45, 180, 0, 147]
abbrev dktX0_lineOf_1 : List UInt8 := dkwX0_lineOf_1 ++ dktX0_lineOf_2
def dkwX0_lineOf_0 : List UInt8 := [42, 180, 0, 32, 27, 50, 78, 28, 154, 0, 10, 45, 182, 0, 172, 167, 0, 39, 28, 4, 160, 0, 10, 45]
abbrev dktX0_lineOf_0 : List UInt8 := dkwX0_lineOf_0 ++ dktX0_lineOf_1
theorem dksX0_lineOf_0 : cX0_lineOf.data.toList.drop 0 = dktX0_lineOf_0 := by decide +kernel
theorem dksX0_lineOf_1 : cX0_lineOf.data.toList.drop 24 = dktX0_lineOf_1 := dk_seg dksX0_lineOf_0 24 rfl rfl
theorem dksX0_lineOf_2 : cX0_lineOf.data.toList.drop 46 = dktX0_lineOf_2 := dk_seg dksX0_lineOf_1 22 rfl rfl
theorem dX0_lineOf_0 : decode cX0_lineOf 0 = .ok (.aload_n 0, 1) := dk_42 (dk_at dksX0_lineOf_0 0 rfl rfl)
theorem dX0_lineOf_1 : decode cX0_lineOf 1 = .ok (.getfield 32, 3) := dk_180 0 32 (dk_at dksX0_lineOf_0 1 rfl rfl)
theorem dX0_lineOf_4 : decode cX0_lineOf 4 = .ok (.iload_n 1, 1) := dk_27 (dk_at dksX0_lineOf_0 4 rfl rfl)
theorem dX0_lineOf_5 : decode cX0_lineOf 5 = .ok (.aaload, 1) := dk_50 (dk_at dksX0_lineOf_0 5 rfl rfl)
theorem dX0_lineOf_6 : decode cX0_lineOf 6 = .ok (.astore_n 3, 1) := dk_78 (dk_at dksX0_lineOf_0 6 rfl rfl)
theorem dX0_lineOf_7 : decode cX0_lineOf 7 = .ok (.iload_n 2, 1) := dk_28 (dk_at dksX0_lineOf_0 7 rfl rfl)
theorem dX0_lineOf_8 : decode cX0_lineOf 8 = .ok (.ifCond .ne 10, 3) := dk_154 0 10 (dk_at dksX0_lineOf_0 8 rfl rfl)
theorem dX0_lineOf_11 : decode cX0_lineOf 11 = .ok (.aload_n 3, 1) := dk_45 (dk_at dksX0_lineOf_0 11 rfl rfl)
theorem dX0_lineOf_12 : decode cX0_lineOf 12 = .ok (.invokevirtual 172, 3) := dk_182 0 172 (dk_at dksX0_lineOf_0 12 rfl rfl)
theorem dX0_lineOf_15 : decode cX0_lineOf 15 = .ok (.goto 39, 3) := dk_167 0 39 (dk_at dksX0_lineOf_0 15 rfl rfl)
theorem dX0_lineOf_18 : decode cX0_lineOf 18 = .ok (.iload_n 2, 1) := dk_28 (dk_at dksX0_lineOf_0 18 rfl rfl)
theorem dX0_lineOf_19 : decode cX0_lineOf 19 = .ok (.iconst 1, 1) := dk_4 (dk_at dksX0_lineOf_0 19 rfl rfl)
theorem dX0_lineOf_20 : decode cX0_lineOf 20 = .ok (.if_icmp .ne 10, 3) := dk_160 0 10 (dk_at dksX0_lineOf_0 20 rfl rfl)
theorem dX0_lineOf_23 : decode cX0_lineOf 23 = .ok (.aload_n 3, 1) := dk_45 (dk_at dksX0_lineOf_0 23 rfl rfl)
theorem dX0_lineOf_24 : decode cX0_lineOf 24 = .ok (.getfield 151, 3) := dk_180 0 151 (dk_at dksX0_lineOf_1 0 rfl rfl)
theorem dX0_lineOf_27 : decode cX0_lineOf 27 = .ok (.goto 27, 3) := dk_167 0 27 (dk_at dksX0_lineOf_1 3 rfl rfl)
theorem dX0_lineOf_30 : decode cX0_lineOf 30 = .ok (.iload_n 2, 1) := dk_28 (dk_at dksX0_lineOf_1 6 rfl rfl)
theorem dX0_lineOf_31 : decode cX0_lineOf 31 = .ok (.iconst 2, 1) := dk_5 (dk_at dksX0_lineOf_1 7 rfl rfl)
theorem dX0_lineOf_32 : decode cX0_lineOf 32 = .ok (.if_icmp .ne 10, 3) := dk_160 0 10 (dk_at dksX0_lineOf_1 8 rfl rfl)
theorem dX0_lineOf_35 : decode cX0_lineOf 35 = .ok (.aload_n 3, 1) := dk_45 (dk_at dksX0_lineOf_1 11 rfl rfl)
theorem dX0_lineOf_36 : decode cX0_lineOf 36 = .ok (.getfield 154, 3) := dk_180 0 154 (dk_at dksX0_lineOf_1 12 rfl rfl)
theorem dX0_lineOf_39 : decode cX0_lineOf 39 = .ok (.goto 15, 3) := dk_167 0 15 (dk_at dksX0_lineOf_1 15 rfl rfl)
theorem dX0_lineOf_42 : decode cX0_lineOf 42 = .ok (.aload_n 3, 1) := dk_45 (dk_at dksX0_lineOf_1 18 rfl rfl)
theorem dX0_lineOf_43 : decode cX0_lineOf 43 = .ok (.getfield 147, 3) := dk_180 0 147 (dk_at dksX0_lineOf_1 19 rfl rfl)
theorem dX0_lineOf_46 : decode cX0_lineOf 46 = .ok (.ifCond .eq 7, 3) := dk_153 0 7 (dk_at dksX0_lineOf_2 0 rfl rfl)
theorem dX0_lineOf_49 : decode cX0_lineOf 49 = .ok (.iconst 1, 1) := dk_4 (dk_at dksX0_lineOf_2 3 rfl rfl)
theorem dX0_lineOf_50 : decode cX0_lineOf 50 = .ok (.goto 4, 3) := dk_167 0 4 (dk_at dksX0_lineOf_2 4 rfl rfl)
theorem dX0_lineOf_53 : decode cX0_lineOf 53 = .ok (.iconst 0, 1) := dk_3 (dk_at dksX0_lineOf_2 7 rfl rfl)
theorem dX0_lineOf_54 : decode cX0_lineOf 54 = .ok (.ireturn, 1) := dk_172 (dk_at dksX0_lineOf_2 8 rfl rfl)
abbrev cX0_mark : ByteArray := prog_1_method_21_code
def yX0_mark : MethodName := ⟨RX0, "mark", "(II)I"⟩
def dkwX0_mark_5 : List UInt8 := [192, 0, 169, 58, 6, 25, 6, 182, 0, 192, 172, 58, 4, 42, 6, 182, 0, 195, 172]
abbrev dktX0_mark_5 : List UInt8 := dkwX0_mark_5 ++ []
def dkwX0_mark_4 : List UInt8 := [167, 0, 8, 25, 4, 182, 0, 188, 172, 45, 192, 0, 183, 58, 5, 25, 5, 182, 0, 191, 172, 45]
abbrev dktX0_mark_4 : List UInt8 := dkwX0_mark_4 ++ dktX0_mark_5
def dkwX0_mark_3 : List UInt8 := [45, 192, 0, 164, 58, 4, 25, 4, 193, 0, 183, 153, 0, 14, 25, 4, 192, 0, 183, 182, 0, 185]
abbrev dktX0_mark_3 : List UInt8 := dkwX0_mark_3 ++ dktX0_mark_4
def dkwX0_mark_2 : List UInt8 := [171, 0, 0, 0, 68, 0, 0, 0, 2, 0, 0, 0, 1, 0, 0, 0, 25, 0, 0, 0, 2, 0, 0, 0, 56]
abbrev dktX0_mark_2 : List UInt8 := dkwX0_mark_2 ++ dktX0_mark_3
def dkwX0_mark_1 : List UInt8 := [50, 78, 28]
abbrev dktX0_mark_1 : List UInt8 := dkwX0_mark_1 ++ dktX0_mark_2
def dkwX0_mark_0 : List UInt8 := [42, 27, 182, 0, 176, 153, 0, 12, 28, 4, 6, 184, 0, 128, 154, 0, 5, 2, 172, 42, 180, 0, 32, 27]
abbrev dktX0_mark_0 : List UInt8 := dkwX0_mark_0 ++ dktX0_mark_1
theorem dksX0_mark_0 : cX0_mark.data.toList.drop 0 = dktX0_mark_0 := by decide +kernel
theorem dksX0_mark_1 : cX0_mark.data.toList.drop 24 = dktX0_mark_1 := dk_seg dksX0_mark_0 24 rfl rfl
theorem dksX0_mark_2 : cX0_mark.data.toList.drop 27 = dktX0_mark_2 := dk_seg dksX0_mark_1 3 rfl rfl
theorem dksX0_mark_3 : cX0_mark.data.toList.drop 52 = dktX0_mark_3 := dk_seg dksX0_mark_2 25 rfl rfl
theorem dksX0_mark_4 : cX0_mark.data.toList.drop 74 = dktX0_mark_4 := dk_seg dksX0_mark_3 22 rfl rfl
theorem dksX0_mark_5 : cX0_mark.data.toList.drop 96 = dktX0_mark_5 := dk_seg dksX0_mark_4 22 rfl rfl
theorem dX0_mark_0 : decode cX0_mark 0 = .ok (.aload_n 0, 1) := dk_42 (dk_at dksX0_mark_0 0 rfl rfl)
theorem dX0_mark_1 : decode cX0_mark 1 = .ok (.iload_n 1, 1) := dk_27 (dk_at dksX0_mark_0 1 rfl rfl)
theorem dX0_mark_2 : decode cX0_mark 2 = .ok (.invokevirtual 176, 3) := dk_182 0 176 (dk_at dksX0_mark_0 2 rfl rfl)
theorem dX0_mark_5 : decode cX0_mark 5 = .ok (.ifCond .eq 12, 3) := dk_153 0 12 (dk_at dksX0_mark_0 5 rfl rfl)
theorem dX0_mark_8 : decode cX0_mark 8 = .ok (.iload_n 2, 1) := dk_28 (dk_at dksX0_mark_0 8 rfl rfl)
theorem dX0_mark_9 : decode cX0_mark 9 = .ok (.iconst 1, 1) := dk_4 (dk_at dksX0_mark_0 9 rfl rfl)
theorem dX0_mark_10 : decode cX0_mark 10 = .ok (.iconst 3, 1) := dk_6 (dk_at dksX0_mark_0 10 rfl rfl)
theorem dX0_mark_11 : decode cX0_mark 11 = .ok (.invokestatic 128, 3) := dk_184 0 128 (dk_at dksX0_mark_0 11 rfl rfl)
theorem dX0_mark_14 : decode cX0_mark 14 = .ok (.ifCond .ne 5, 3) := dk_154 0 5 (dk_at dksX0_mark_0 14 rfl rfl)
theorem dX0_mark_17 : decode cX0_mark 17 = .ok (.iconst (-1), 1) := dk_2 (dk_at dksX0_mark_0 17 rfl rfl)
theorem dX0_mark_18 : decode cX0_mark 18 = .ok (.ireturn, 1) := dk_172 (dk_at dksX0_mark_0 18 rfl rfl)
theorem dX0_mark_19 : decode cX0_mark 19 = .ok (.aload_n 0, 1) := dk_42 (dk_at dksX0_mark_0 19 rfl rfl)
theorem dX0_mark_20 : decode cX0_mark 20 = .ok (.getfield 32, 3) := dk_180 0 32 (dk_at dksX0_mark_0 20 rfl rfl)
theorem dX0_mark_23 : decode cX0_mark 23 = .ok (.iload_n 1, 1) := dk_27 (dk_at dksX0_mark_0 23 rfl rfl)
theorem dX0_mark_24 : decode cX0_mark 24 = .ok (.aaload, 1) := dk_50 (dk_at dksX0_mark_1 0 rfl rfl)
theorem dX0_mark_25 : decode cX0_mark 25 = .ok (.astore_n 3, 1) := dk_78 (dk_at dksX0_mark_1 1 rfl rfl)
theorem dX0_mark_26 : decode cX0_mark 26 = .ok (.iload_n 2, 1) := dk_28 (dk_at dksX0_mark_1 2 rfl rfl)
theorem dX0_mark_27 : decode cX0_mark 27 = .ok (.lookupswitch 68 #[(1, 25), (2, 56)], 25) := by decide +kernel
theorem dX0_mark_52 : decode cX0_mark 52 = .ok (.aload_n 3, 1) := dk_45 (dk_at dksX0_mark_3 0 rfl rfl)
theorem dX0_mark_53 : decode cX0_mark 53 = .ok (.checkcast 164, 3) := dk_192 0 164 (dk_at dksX0_mark_3 1 rfl rfl)
theorem dX0_mark_56 : decode cX0_mark 56 = .ok (.astore 4, 2) := dk_58 4 (dk_at dksX0_mark_3 4 rfl rfl)
theorem dX0_mark_58 : decode cX0_mark 58 = .ok (.aload 4, 2) := dk_25 4 (dk_at dksX0_mark_3 6 rfl rfl)
theorem dX0_mark_60 : decode cX0_mark 60 = .ok (.instanceof 183, 3) := dk_193 0 183 (dk_at dksX0_mark_3 8 rfl rfl)
theorem dX0_mark_63 : decode cX0_mark 63 = .ok (.ifCond .eq 14, 3) := dk_153 0 14 (dk_at dksX0_mark_3 11 rfl rfl)
theorem dX0_mark_66 : decode cX0_mark 66 = .ok (.aload 4, 2) := dk_25 4 (dk_at dksX0_mark_3 14 rfl rfl)
theorem dX0_mark_68 : decode cX0_mark 68 = .ok (.checkcast 183, 3) := dk_192 0 183 (dk_at dksX0_mark_3 16 rfl rfl)
theorem dX0_mark_71 : decode cX0_mark 71 = .ok (.invokevirtual 185, 3) := dk_182 0 185 (dk_at dksX0_mark_3 19 rfl rfl)
theorem dX0_mark_74 : decode cX0_mark 74 = .ok (.goto 8, 3) := dk_167 0 8 (dk_at dksX0_mark_4 0 rfl rfl)
theorem dX0_mark_77 : decode cX0_mark 77 = .ok (.aload 4, 2) := dk_25 4 (dk_at dksX0_mark_4 3 rfl rfl)
theorem dX0_mark_79 : decode cX0_mark 79 = .ok (.invokevirtual 188, 3) := dk_182 0 188 (dk_at dksX0_mark_4 5 rfl rfl)
theorem dX0_mark_82 : decode cX0_mark 82 = .ok (.ireturn, 1) := dk_172 (dk_at dksX0_mark_4 8 rfl rfl)
theorem dX0_mark_83 : decode cX0_mark 83 = .ok (.aload_n 3, 1) := dk_45 (dk_at dksX0_mark_4 9 rfl rfl)
theorem dX0_mark_84 : decode cX0_mark 84 = .ok (.checkcast 183, 3) := dk_192 0 183 (dk_at dksX0_mark_4 10 rfl rfl)
theorem dX0_mark_87 : decode cX0_mark 87 = .ok (.astore 5, 2) := dk_58 5 (dk_at dksX0_mark_4 13 rfl rfl)
theorem dX0_mark_89 : decode cX0_mark 89 = .ok (.aload 5, 2) := dk_25 5 (dk_at dksX0_mark_4 15 rfl rfl)
theorem dX0_mark_91 : decode cX0_mark 91 = .ok (.invokevirtual 191, 3) := dk_182 0 191 (dk_at dksX0_mark_4 17 rfl rfl)
theorem dX0_mark_94 : decode cX0_mark 94 = .ok (.ireturn, 1) := dk_172 (dk_at dksX0_mark_4 20 rfl rfl)
theorem dX0_mark_95 : decode cX0_mark 95 = .ok (.aload_n 3, 1) := dk_45 (dk_at dksX0_mark_4 21 rfl rfl)
theorem dX0_mark_96 : decode cX0_mark 96 = .ok (.checkcast 169, 3) := dk_192 0 169 (dk_at dksX0_mark_5 0 rfl rfl)
theorem dX0_mark_99 : decode cX0_mark 99 = .ok (.astore 6, 2) := dk_58 6 (dk_at dksX0_mark_5 3 rfl rfl)
theorem dX0_mark_101 : decode cX0_mark 101 = .ok (.aload 6, 2) := dk_25 6 (dk_at dksX0_mark_5 5 rfl rfl)
theorem dX0_mark_103 : decode cX0_mark 103 = .ok (.invokevirtual 192, 3) := dk_182 0 192 (dk_at dksX0_mark_5 7 rfl rfl)
theorem dX0_mark_106 : decode cX0_mark 106 = .ok (.ireturn, 1) := dk_172 (dk_at dksX0_mark_5 10 rfl rfl)
theorem dX0_mark_107 : decode cX0_mark 107 = .ok (.astore 4, 2) := dk_58 4 (dk_at dksX0_mark_5 11 rfl rfl)
theorem dX0_mark_109 : decode cX0_mark 109 = .ok (.aload_n 0, 1) := dk_42 (dk_at dksX0_mark_5 13 rfl rfl)
theorem dX0_mark_110 : decode cX0_mark 110 = .ok (.iconst 3, 1) := dk_6 (dk_at dksX0_mark_5 14 rfl rfl)
theorem dX0_mark_111 : decode cX0_mark 111 = .ok (.invokevirtual 195, 3) := dk_182 0 195 (dk_at dksX0_mark_5 15 rfl rfl)
theorem dX0_mark_114 : decode cX0_mark 114 = .ok (.ireturn, 1) := dk_172 (dk_at dksX0_mark_5 18 rfl rfl)
abbrev cX0_found : ByteArray := prog_1_method_2_code
def yX0_found : MethodName := ⟨RX0, "found", "(I)I"⟩
def dkwX0_found_0 : List UInt8 := [42, 27, 181, 0, 1, 42, 180, 0, 7, 27, 92, 46, 4, 96, 79, 16, 253, 172]
abbrev dktX0_found_0 : List UInt8 := dkwX0_found_0 ++ []
theorem dksX0_found_0 : cX0_found.data.toList.drop 0 = dktX0_found_0 := by decide +kernel
theorem dX0_found_0 : decode cX0_found 0 = .ok (.aload_n 0, 1) := dk_42 (dk_at dksX0_found_0 0 rfl rfl)
theorem dX0_found_1 : decode cX0_found 1 = .ok (.iload_n 1, 1) := dk_27 (dk_at dksX0_found_0 1 rfl rfl)
theorem dX0_found_2 : decode cX0_found 2 = .ok (.putfield 1, 3) := dk_181 0 1 (dk_at dksX0_found_0 2 rfl rfl)
theorem dX0_found_5 : decode cX0_found 5 = .ok (.aload_n 0, 1) := dk_42 (dk_at dksX0_found_0 5 rfl rfl)
theorem dX0_found_6 : decode cX0_found 6 = .ok (.getfield 7, 3) := dk_180 0 7 (dk_at dksX0_found_0 6 rfl rfl)
theorem dX0_found_9 : decode cX0_found 9 = .ok (.iload_n 1, 1) := dk_27 (dk_at dksX0_found_0 9 rfl rfl)
theorem dX0_found_10 : decode cX0_found 10 = .ok (.dup2, 1) := dk_92 (dk_at dksX0_found_0 10 rfl rfl)
theorem dX0_found_11 : decode cX0_found 11 = .ok (.iaload, 1) := dk_46 (dk_at dksX0_found_0 11 rfl rfl)
theorem dX0_found_12 : decode cX0_found 12 = .ok (.iconst 1, 1) := dk_4 (dk_at dksX0_found_0 12 rfl rfl)
theorem dX0_found_13 : decode cX0_found 13 = .ok (.iadd, 1) := dk_96 (dk_at dksX0_found_0 13 rfl rfl)
theorem dX0_found_14 : decode cX0_found 14 = .ok (.iastore, 1) := dk_79 (dk_at dksX0_found_0 14 rfl rfl)
theorem dX0_found_15 : decode cX0_found 15 = .ok (.bipush (-3), 2) := dk_16 253 (dk_at dksX0_found_0 15 rfl rfl)
theorem dX0_found_17 : decode cX0_found 17 = .ok (.ireturn, 1) := dk_172 (dk_at dksX0_found_0 17 rfl rfl)
abbrev cX0_prove : ByteArray := prog_1_method_22_code
def yX0_prove : MethodName := ⟨RX0, "prove", "(II)I"⟩
def dkwX0_prove_2 : List UInt8 := [42, 180, 0, 32, 27, 187, 0, 183, 89, 42, 45, 192, 0, 164, 28, 183, 0, 198, 83, 4, 172]
abbrev dktX0_prove_2 : List UInt8 := dkwX0_prove_2 ++ []
def dkwX0_prove_1 : List UInt8 := [45, 180, 0, 147, 153, 0, 6, 16, 252, 172, 45, 182, 0, 172, 4, 159, 0, 9, 42, 6, 182, 0, 195, 172]
abbrev dktX0_prove_1 : List UInt8 := dkwX0_prove_1 ++ dktX0_prove_2
def dkwX0_prove_0 : List UInt8 := [42, 27, 182, 0, 176, 153, 0, 10, 28, 184, 0, 133, 154, 0, 5, 2, 172, 42, 180, 0, 32, 27, 50, 78]
abbrev dktX0_prove_0 : List UInt8 := dkwX0_prove_0 ++ dktX0_prove_1
theorem dksX0_prove_0 : cX0_prove.data.toList.drop 0 = dktX0_prove_0 := by decide +kernel
theorem dksX0_prove_1 : cX0_prove.data.toList.drop 24 = dktX0_prove_1 := dk_seg dksX0_prove_0 24 rfl rfl
theorem dksX0_prove_2 : cX0_prove.data.toList.drop 48 = dktX0_prove_2 := dk_seg dksX0_prove_1 24 rfl rfl
theorem dX0_prove_0 : decode cX0_prove 0 = .ok (.aload_n 0, 1) := dk_42 (dk_at dksX0_prove_0 0 rfl rfl)
theorem dX0_prove_1 : decode cX0_prove 1 = .ok (.iload_n 1, 1) := dk_27 (dk_at dksX0_prove_0 1 rfl rfl)
theorem dX0_prove_2 : decode cX0_prove 2 = .ok (.invokevirtual 176, 3) := dk_182 0 176 (dk_at dksX0_prove_0 2 rfl rfl)
theorem dX0_prove_5 : decode cX0_prove 5 = .ok (.ifCond .eq 10, 3) := dk_153 0 10 (dk_at dksX0_prove_0 5 rfl rfl)
theorem dX0_prove_8 : decode cX0_prove 8 = .ok (.iload_n 2, 1) := dk_28 (dk_at dksX0_prove_0 8 rfl rfl)
theorem dX0_prove_9 : decode cX0_prove 9 = .ok (.invokestatic 133, 3) := dk_184 0 133 (dk_at dksX0_prove_0 9 rfl rfl)
theorem dX0_prove_12 : decode cX0_prove 12 = .ok (.ifCond .ne 5, 3) := dk_154 0 5 (dk_at dksX0_prove_0 12 rfl rfl)
theorem dX0_prove_15 : decode cX0_prove 15 = .ok (.iconst (-1), 1) := dk_2 (dk_at dksX0_prove_0 15 rfl rfl)
theorem dX0_prove_16 : decode cX0_prove 16 = .ok (.ireturn, 1) := dk_172 (dk_at dksX0_prove_0 16 rfl rfl)
theorem dX0_prove_17 : decode cX0_prove 17 = .ok (.aload_n 0, 1) := dk_42 (dk_at dksX0_prove_0 17 rfl rfl)
theorem dX0_prove_18 : decode cX0_prove 18 = .ok (.getfield 32, 3) := dk_180 0 32 (dk_at dksX0_prove_0 18 rfl rfl)
theorem dX0_prove_21 : decode cX0_prove 21 = .ok (.iload_n 1, 1) := dk_27 (dk_at dksX0_prove_0 21 rfl rfl)
theorem dX0_prove_22 : decode cX0_prove 22 = .ok (.aaload, 1) := dk_50 (dk_at dksX0_prove_0 22 rfl rfl)
theorem dX0_prove_23 : decode cX0_prove 23 = .ok (.astore_n 3, 1) := dk_78 (dk_at dksX0_prove_0 23 rfl rfl)
theorem dX0_prove_24 : decode cX0_prove 24 = .ok (.aload_n 3, 1) := dk_45 (dk_at dksX0_prove_1 0 rfl rfl)
theorem dX0_prove_25 : decode cX0_prove 25 = .ok (.getfield 147, 3) := dk_180 0 147 (dk_at dksX0_prove_1 1 rfl rfl)
theorem dX0_prove_28 : decode cX0_prove 28 = .ok (.ifCond .eq 6, 3) := dk_153 0 6 (dk_at dksX0_prove_1 4 rfl rfl)
theorem dX0_prove_31 : decode cX0_prove 31 = .ok (.bipush (-4), 2) := dk_16 252 (dk_at dksX0_prove_1 7 rfl rfl)
theorem dX0_prove_33 : decode cX0_prove 33 = .ok (.ireturn, 1) := dk_172 (dk_at dksX0_prove_1 9 rfl rfl)
theorem dX0_prove_34 : decode cX0_prove 34 = .ok (.aload_n 3, 1) := dk_45 (dk_at dksX0_prove_1 10 rfl rfl)
theorem dX0_prove_35 : decode cX0_prove 35 = .ok (.invokevirtual 172, 3) := dk_182 0 172 (dk_at dksX0_prove_1 11 rfl rfl)
theorem dX0_prove_38 : decode cX0_prove 38 = .ok (.iconst 1, 1) := dk_4 (dk_at dksX0_prove_1 14 rfl rfl)
theorem dX0_prove_39 : decode cX0_prove 39 = .ok (.if_icmp .eq 9, 3) := dk_159 0 9 (dk_at dksX0_prove_1 15 rfl rfl)
theorem dX0_prove_42 : decode cX0_prove 42 = .ok (.aload_n 0, 1) := dk_42 (dk_at dksX0_prove_1 18 rfl rfl)
theorem dX0_prove_43 : decode cX0_prove 43 = .ok (.iconst 3, 1) := dk_6 (dk_at dksX0_prove_1 19 rfl rfl)
theorem dX0_prove_44 : decode cX0_prove 44 = .ok (.invokevirtual 195, 3) := dk_182 0 195 (dk_at dksX0_prove_1 20 rfl rfl)
theorem dX0_prove_47 : decode cX0_prove 47 = .ok (.ireturn, 1) := dk_172 (dk_at dksX0_prove_1 23 rfl rfl)
theorem dX0_prove_48 : decode cX0_prove 48 = .ok (.aload_n 0, 1) := dk_42 (dk_at dksX0_prove_2 0 rfl rfl)
theorem dX0_prove_49 : decode cX0_prove 49 = .ok (.getfield 32, 3) := dk_180 0 32 (dk_at dksX0_prove_2 1 rfl rfl)
theorem dX0_prove_52 : decode cX0_prove 52 = .ok (.iload_n 1, 1) := dk_27 (dk_at dksX0_prove_2 4 rfl rfl)
theorem dX0_prove_53 : decode cX0_prove 53 = .ok (.new 183, 3) := dk_187 0 183 (dk_at dksX0_prove_2 5 rfl rfl)
theorem dX0_prove_56 : decode cX0_prove 56 = .ok (.dup, 1) := dk_89 (dk_at dksX0_prove_2 8 rfl rfl)
theorem dX0_prove_57 : decode cX0_prove 57 = .ok (.aload_n 0, 1) := dk_42 (dk_at dksX0_prove_2 9 rfl rfl)
theorem dX0_prove_58 : decode cX0_prove 58 = .ok (.aload_n 3, 1) := dk_45 (dk_at dksX0_prove_2 10 rfl rfl)
theorem dX0_prove_59 : decode cX0_prove 59 = .ok (.checkcast 164, 3) := dk_192 0 164 (dk_at dksX0_prove_2 11 rfl rfl)
theorem dX0_prove_62 : decode cX0_prove 62 = .ok (.iload_n 2, 1) := dk_28 (dk_at dksX0_prove_2 14 rfl rfl)
theorem dX0_prove_63 : decode cX0_prove 63 = .ok (.invokespecial 198, 3) := dk_183 0 198 (dk_at dksX0_prove_2 15 rfl rfl)
theorem dX0_prove_66 : decode cX0_prove 66 = .ok (.aastore, 1) := dk_83 (dk_at dksX0_prove_2 18 rfl rfl)
theorem dX0_prove_67 : decode cX0_prove 67 = .ok (.iconst 1, 1) := dk_4 (dk_at dksX0_prove_2 19 rfl rfl)
theorem dX0_prove_68 : decode cX0_prove 68 = .ok (.ireturn, 1) := dk_172 (dk_at dksX0_prove_2 20 rfl rfl)
abbrev cX0_strike : ByteArray := prog_1_method_23_code
def yX0_strike : MethodName := ⟨RX0, "strike", "(I)I"⟩
def dkwX0_strike_1 : List UInt8 := [172, 42, 180, 0, 32, 27, 50, 4, 181, 0, 147, 4, 172]
abbrev dktX0_strike_1 : List UInt8 := dkwX0_strike_1 ++ []
def dkwX0_strike_0 : List UInt8 := [42, 27, 182, 0, 176, 154, 0, 5, 2, 172, 42, 180, 0, 32, 27, 50, 180, 0, 147, 153, 0, 6, 16, 252]
abbrev dktX0_strike_0 : List UInt8 := dkwX0_strike_0 ++ dktX0_strike_1
theorem dksX0_strike_0 : cX0_strike.data.toList.drop 0 = dktX0_strike_0 := by decide +kernel
theorem dksX0_strike_1 : cX0_strike.data.toList.drop 24 = dktX0_strike_1 := dk_seg dksX0_strike_0 24 rfl rfl
theorem dX0_strike_0 : decode cX0_strike 0 = .ok (.aload_n 0, 1) := dk_42 (dk_at dksX0_strike_0 0 rfl rfl)
theorem dX0_strike_1 : decode cX0_strike 1 = .ok (.iload_n 1, 1) := dk_27 (dk_at dksX0_strike_0 1 rfl rfl)
theorem dX0_strike_2 : decode cX0_strike 2 = .ok (.invokevirtual 176, 3) := dk_182 0 176 (dk_at dksX0_strike_0 2 rfl rfl)
theorem dX0_strike_5 : decode cX0_strike 5 = .ok (.ifCond .ne 5, 3) := dk_154 0 5 (dk_at dksX0_strike_0 5 rfl rfl)
theorem dX0_strike_8 : decode cX0_strike 8 = .ok (.iconst (-1), 1) := dk_2 (dk_at dksX0_strike_0 8 rfl rfl)
theorem dX0_strike_9 : decode cX0_strike 9 = .ok (.ireturn, 1) := dk_172 (dk_at dksX0_strike_0 9 rfl rfl)
theorem dX0_strike_10 : decode cX0_strike 10 = .ok (.aload_n 0, 1) := dk_42 (dk_at dksX0_strike_0 10 rfl rfl)
theorem dX0_strike_11 : decode cX0_strike 11 = .ok (.getfield 32, 3) := dk_180 0 32 (dk_at dksX0_strike_0 11 rfl rfl)
theorem dX0_strike_14 : decode cX0_strike 14 = .ok (.iload_n 1, 1) := dk_27 (dk_at dksX0_strike_0 14 rfl rfl)
theorem dX0_strike_15 : decode cX0_strike 15 = .ok (.aaload, 1) := dk_50 (dk_at dksX0_strike_0 15 rfl rfl)
theorem dX0_strike_16 : decode cX0_strike 16 = .ok (.getfield 147, 3) := dk_180 0 147 (dk_at dksX0_strike_0 16 rfl rfl)
theorem dX0_strike_19 : decode cX0_strike 19 = .ok (.ifCond .eq 6, 3) := dk_153 0 6 (dk_at dksX0_strike_0 19 rfl rfl)
theorem dX0_strike_22 : decode cX0_strike 22 = .ok (.bipush (-4), 2) := dk_16 252 (dk_at dksX0_strike_0 22 rfl rfl)
theorem dX0_strike_24 : decode cX0_strike 24 = .ok (.ireturn, 1) := dk_172 (dk_at dksX0_strike_1 0 rfl rfl)
theorem dX0_strike_25 : decode cX0_strike 25 = .ok (.aload_n 0, 1) := dk_42 (dk_at dksX0_strike_1 1 rfl rfl)
theorem dX0_strike_26 : decode cX0_strike 26 = .ok (.getfield 32, 3) := dk_180 0 32 (dk_at dksX0_strike_1 2 rfl rfl)
theorem dX0_strike_29 : decode cX0_strike 29 = .ok (.iload_n 1, 1) := dk_27 (dk_at dksX0_strike_1 5 rfl rfl)
theorem dX0_strike_30 : decode cX0_strike 30 = .ok (.aaload, 1) := dk_50 (dk_at dksX0_strike_1 6 rfl rfl)
theorem dX0_strike_31 : decode cX0_strike 31 = .ok (.iconst 1, 1) := dk_4 (dk_at dksX0_strike_1 7 rfl rfl)
theorem dX0_strike_32 : decode cX0_strike 32 = .ok (.putfield 147, 3) := dk_181 0 147 (dk_at dksX0_strike_1 8 rfl rfl)
theorem dX0_strike_35 : decode cX0_strike 35 = .ok (.iconst 1, 1) := dk_4 (dk_at dksX0_strike_1 11 rfl rfl)
theorem dX0_strike_36 : decode cX0_strike 36 = .ok (.ireturn, 1) := dk_172 (dk_at dksX0_strike_1 12 rfl rfl)
abbrev cX0_couple : ByteArray := prog_1_method_24_code
def yX0_couple : MethodName := ⟨RX0, "couple", "(IIII)I"⟩
def dkwX0_couple_5 : List UInt8 := [89, 180, 0, 201, 4, 96, 181, 0, 201, 42, 180, 0, 201, 172]
abbrev dktX0_couple_5 : List UInt8 := dkwX0_couple_5 ++ []
def dkwX0_couple_4 : List UInt8 := [180, 0, 201, 104, 5, 96, 29, 79, 42, 180, 0, 36, 7, 42, 180, 0, 201, 104, 6, 96, 21, 4, 79, 42]
abbrev dktX0_couple_4 : List UInt8 := dkwX0_couple_4 ++ dktX0_couple_5
def dkwX0_couple_3 : List UInt8 := [27, 79, 42, 180, 0, 36, 7, 42, 180, 0, 201, 104, 4, 96, 28, 79, 42, 180, 0, 36, 7, 42]
abbrev dktX0_couple_3 : List UInt8 := dkwX0_couple_3 ++ dktX0_couple_4
def dkwX0_couple_2 : List UInt8 := [2, 172, 42, 180, 0, 201, 16, 20, 160, 0, 6, 16, 254, 172, 42, 180, 0, 36, 7, 42, 180, 0, 201, 104]
abbrev dktX0_couple_2 : List UInt8 := dkwX0_couple_2 ++ dktX0_couple_3
def dkwX0_couple_1 : List UInt8 := [184, 0, 133, 153, 0, 21, 21, 4, 16, 247, 159, 0, 16, 21, 4, 29, 18, 132, 184, 0, 128, 154, 0, 5]
abbrev dktX0_couple_1 : List UInt8 := dkwX0_couple_1 ++ dktX0_couple_2
def dkwX0_couple_0 : List UInt8 := [42, 27, 182, 0, 137, 153, 0, 41, 42, 28, 182, 0, 137, 153, 0, 33, 27, 28, 159, 0, 28, 29]
abbrev dktX0_couple_0 : List UInt8 := dkwX0_couple_0 ++ dktX0_couple_1
theorem dksX0_couple_0 : cX0_couple.data.toList.drop 0 = dktX0_couple_0 := by decide +kernel
theorem dksX0_couple_1 : cX0_couple.data.toList.drop 22 = dktX0_couple_1 := dk_seg dksX0_couple_0 22 rfl rfl
theorem dksX0_couple_2 : cX0_couple.data.toList.drop 46 = dktX0_couple_2 := dk_seg dksX0_couple_1 24 rfl rfl
theorem dksX0_couple_3 : cX0_couple.data.toList.drop 70 = dktX0_couple_3 := dk_seg dksX0_couple_2 24 rfl rfl
theorem dksX0_couple_4 : cX0_couple.data.toList.drop 92 = dktX0_couple_4 := dk_seg dksX0_couple_3 22 rfl rfl
theorem dksX0_couple_5 : cX0_couple.data.toList.drop 116 = dktX0_couple_5 := dk_seg dksX0_couple_4 24 rfl rfl
theorem dX0_couple_0 : decode cX0_couple 0 = .ok (.aload_n 0, 1) := dk_42 (dk_at dksX0_couple_0 0 rfl rfl)
theorem dX0_couple_1 : decode cX0_couple 1 = .ok (.iload_n 1, 1) := dk_27 (dk_at dksX0_couple_0 1 rfl rfl)
theorem dX0_couple_2 : decode cX0_couple 2 = .ok (.invokevirtual 137, 3) := dk_182 0 137 (dk_at dksX0_couple_0 2 rfl rfl)
theorem dX0_couple_5 : decode cX0_couple 5 = .ok (.ifCond .eq 41, 3) := dk_153 0 41 (dk_at dksX0_couple_0 5 rfl rfl)
theorem dX0_couple_8 : decode cX0_couple 8 = .ok (.aload_n 0, 1) := dk_42 (dk_at dksX0_couple_0 8 rfl rfl)
theorem dX0_couple_9 : decode cX0_couple 9 = .ok (.iload_n 2, 1) := dk_28 (dk_at dksX0_couple_0 9 rfl rfl)
theorem dX0_couple_10 : decode cX0_couple 10 = .ok (.invokevirtual 137, 3) := dk_182 0 137 (dk_at dksX0_couple_0 10 rfl rfl)
theorem dX0_couple_13 : decode cX0_couple 13 = .ok (.ifCond .eq 33, 3) := dk_153 0 33 (dk_at dksX0_couple_0 13 rfl rfl)
theorem dX0_couple_16 : decode cX0_couple 16 = .ok (.iload_n 1, 1) := dk_27 (dk_at dksX0_couple_0 16 rfl rfl)
theorem dX0_couple_17 : decode cX0_couple 17 = .ok (.iload_n 2, 1) := dk_28 (dk_at dksX0_couple_0 17 rfl rfl)
theorem dX0_couple_18 : decode cX0_couple 18 = .ok (.if_icmp .eq 28, 3) := dk_159 0 28 (dk_at dksX0_couple_0 18 rfl rfl)
theorem dX0_couple_21 : decode cX0_couple 21 = .ok (.iload_n 3, 1) := dk_29 (dk_at dksX0_couple_0 21 rfl rfl)
theorem dX0_couple_22 : decode cX0_couple 22 = .ok (.invokestatic 133, 3) := dk_184 0 133 (dk_at dksX0_couple_1 0 rfl rfl)
theorem dX0_couple_25 : decode cX0_couple 25 = .ok (.ifCond .eq 21, 3) := dk_153 0 21 (dk_at dksX0_couple_1 3 rfl rfl)
theorem dX0_couple_28 : decode cX0_couple 28 = .ok (.iload 4, 2) := dk_21 4 (dk_at dksX0_couple_1 6 rfl rfl)
theorem dX0_couple_30 : decode cX0_couple 30 = .ok (.bipush (-9), 2) := dk_16 247 (dk_at dksX0_couple_1 8 rfl rfl)
theorem dX0_couple_32 : decode cX0_couple 32 = .ok (.if_icmp .eq 16, 3) := dk_159 0 16 (dk_at dksX0_couple_1 10 rfl rfl)
theorem dX0_couple_35 : decode cX0_couple 35 = .ok (.iload 4, 2) := dk_21 4 (dk_at dksX0_couple_1 13 rfl rfl)
theorem dX0_couple_37 : decode cX0_couple 37 = .ok (.iload_n 3, 1) := dk_29 (dk_at dksX0_couple_1 15 rfl rfl)
theorem dX0_couple_38 : decode cX0_couple 38 = .ok (.ldc 132, 2) := dk_18 132 (dk_at dksX0_couple_1 16 rfl rfl)
theorem dX0_couple_40 : decode cX0_couple 40 = .ok (.invokestatic 128, 3) := dk_184 0 128 (dk_at dksX0_couple_1 18 rfl rfl)
theorem dX0_couple_43 : decode cX0_couple 43 = .ok (.ifCond .ne 5, 3) := dk_154 0 5 (dk_at dksX0_couple_1 21 rfl rfl)
theorem dX0_couple_46 : decode cX0_couple 46 = .ok (.iconst (-1), 1) := dk_2 (dk_at dksX0_couple_2 0 rfl rfl)
theorem dX0_couple_47 : decode cX0_couple 47 = .ok (.ireturn, 1) := dk_172 (dk_at dksX0_couple_2 1 rfl rfl)
theorem dX0_couple_48 : decode cX0_couple 48 = .ok (.aload_n 0, 1) := dk_42 (dk_at dksX0_couple_2 2 rfl rfl)
theorem dX0_couple_49 : decode cX0_couple 49 = .ok (.getfield 201, 3) := dk_180 0 201 (dk_at dksX0_couple_2 3 rfl rfl)
theorem dX0_couple_52 : decode cX0_couple 52 = .ok (.bipush 20, 2) := dk_16 20 (dk_at dksX0_couple_2 6 rfl rfl)
theorem dX0_couple_54 : decode cX0_couple 54 = .ok (.if_icmp .ne 6, 3) := dk_160 0 6 (dk_at dksX0_couple_2 8 rfl rfl)
theorem dX0_couple_57 : decode cX0_couple 57 = .ok (.bipush (-2), 2) := dk_16 254 (dk_at dksX0_couple_2 11 rfl rfl)
theorem dX0_couple_59 : decode cX0_couple 59 = .ok (.ireturn, 1) := dk_172 (dk_at dksX0_couple_2 13 rfl rfl)
theorem dX0_couple_60 : decode cX0_couple 60 = .ok (.aload_n 0, 1) := dk_42 (dk_at dksX0_couple_2 14 rfl rfl)
theorem dX0_couple_61 : decode cX0_couple 61 = .ok (.getfield 36, 3) := dk_180 0 36 (dk_at dksX0_couple_2 15 rfl rfl)
theorem dX0_couple_64 : decode cX0_couple 64 = .ok (.iconst 4, 1) := dk_7 (dk_at dksX0_couple_2 18 rfl rfl)
theorem dX0_couple_65 : decode cX0_couple 65 = .ok (.aload_n 0, 1) := dk_42 (dk_at dksX0_couple_2 19 rfl rfl)
theorem dX0_couple_66 : decode cX0_couple 66 = .ok (.getfield 201, 3) := dk_180 0 201 (dk_at dksX0_couple_2 20 rfl rfl)
theorem dX0_couple_69 : decode cX0_couple 69 = .ok (.imul, 1) := dk_104 (dk_at dksX0_couple_2 23 rfl rfl)
theorem dX0_couple_70 : decode cX0_couple 70 = .ok (.iload_n 1, 1) := dk_27 (dk_at dksX0_couple_3 0 rfl rfl)
theorem dX0_couple_71 : decode cX0_couple 71 = .ok (.iastore, 1) := dk_79 (dk_at dksX0_couple_3 1 rfl rfl)
theorem dX0_couple_72 : decode cX0_couple 72 = .ok (.aload_n 0, 1) := dk_42 (dk_at dksX0_couple_3 2 rfl rfl)
theorem dX0_couple_73 : decode cX0_couple 73 = .ok (.getfield 36, 3) := dk_180 0 36 (dk_at dksX0_couple_3 3 rfl rfl)
theorem dX0_couple_76 : decode cX0_couple 76 = .ok (.iconst 4, 1) := dk_7 (dk_at dksX0_couple_3 6 rfl rfl)
theorem dX0_couple_77 : decode cX0_couple 77 = .ok (.aload_n 0, 1) := dk_42 (dk_at dksX0_couple_3 7 rfl rfl)
theorem dX0_couple_78 : decode cX0_couple 78 = .ok (.getfield 201, 3) := dk_180 0 201 (dk_at dksX0_couple_3 8 rfl rfl)
theorem dX0_couple_81 : decode cX0_couple 81 = .ok (.imul, 1) := dk_104 (dk_at dksX0_couple_3 11 rfl rfl)
theorem dX0_couple_82 : decode cX0_couple 82 = .ok (.iconst 1, 1) := dk_4 (dk_at dksX0_couple_3 12 rfl rfl)
theorem dX0_couple_83 : decode cX0_couple 83 = .ok (.iadd, 1) := dk_96 (dk_at dksX0_couple_3 13 rfl rfl)
theorem dX0_couple_84 : decode cX0_couple 84 = .ok (.iload_n 2, 1) := dk_28 (dk_at dksX0_couple_3 14 rfl rfl)
theorem dX0_couple_85 : decode cX0_couple 85 = .ok (.iastore, 1) := dk_79 (dk_at dksX0_couple_3 15 rfl rfl)
theorem dX0_couple_86 : decode cX0_couple 86 = .ok (.aload_n 0, 1) := dk_42 (dk_at dksX0_couple_3 16 rfl rfl)
theorem dX0_couple_87 : decode cX0_couple 87 = .ok (.getfield 36, 3) := dk_180 0 36 (dk_at dksX0_couple_3 17 rfl rfl)
theorem dX0_couple_90 : decode cX0_couple 90 = .ok (.iconst 4, 1) := dk_7 (dk_at dksX0_couple_3 20 rfl rfl)
theorem dX0_couple_91 : decode cX0_couple 91 = .ok (.aload_n 0, 1) := dk_42 (dk_at dksX0_couple_3 21 rfl rfl)
theorem dX0_couple_92 : decode cX0_couple 92 = .ok (.getfield 201, 3) := dk_180 0 201 (dk_at dksX0_couple_4 0 rfl rfl)
theorem dX0_couple_95 : decode cX0_couple 95 = .ok (.imul, 1) := dk_104 (dk_at dksX0_couple_4 3 rfl rfl)
theorem dX0_couple_96 : decode cX0_couple 96 = .ok (.iconst 2, 1) := dk_5 (dk_at dksX0_couple_4 4 rfl rfl)
theorem dX0_couple_97 : decode cX0_couple 97 = .ok (.iadd, 1) := dk_96 (dk_at dksX0_couple_4 5 rfl rfl)
theorem dX0_couple_98 : decode cX0_couple 98 = .ok (.iload_n 3, 1) := dk_29 (dk_at dksX0_couple_4 6 rfl rfl)
theorem dX0_couple_99 : decode cX0_couple 99 = .ok (.iastore, 1) := dk_79 (dk_at dksX0_couple_4 7 rfl rfl)
theorem dX0_couple_100 : decode cX0_couple 100 = .ok (.aload_n 0, 1) := dk_42 (dk_at dksX0_couple_4 8 rfl rfl)
theorem dX0_couple_101 : decode cX0_couple 101 = .ok (.getfield 36, 3) := dk_180 0 36 (dk_at dksX0_couple_4 9 rfl rfl)
theorem dX0_couple_104 : decode cX0_couple 104 = .ok (.iconst 4, 1) := dk_7 (dk_at dksX0_couple_4 12 rfl rfl)
theorem dX0_couple_105 : decode cX0_couple 105 = .ok (.aload_n 0, 1) := dk_42 (dk_at dksX0_couple_4 13 rfl rfl)
theorem dX0_couple_106 : decode cX0_couple 106 = .ok (.getfield 201, 3) := dk_180 0 201 (dk_at dksX0_couple_4 14 rfl rfl)
theorem dX0_couple_109 : decode cX0_couple 109 = .ok (.imul, 1) := dk_104 (dk_at dksX0_couple_4 17 rfl rfl)
theorem dX0_couple_110 : decode cX0_couple 110 = .ok (.iconst 3, 1) := dk_6 (dk_at dksX0_couple_4 18 rfl rfl)
theorem dX0_couple_111 : decode cX0_couple 111 = .ok (.iadd, 1) := dk_96 (dk_at dksX0_couple_4 19 rfl rfl)
theorem dX0_couple_112 : decode cX0_couple 112 = .ok (.iload 4, 2) := dk_21 4 (dk_at dksX0_couple_4 20 rfl rfl)
theorem dX0_couple_114 : decode cX0_couple 114 = .ok (.iastore, 1) := dk_79 (dk_at dksX0_couple_4 22 rfl rfl)
theorem dX0_couple_115 : decode cX0_couple 115 = .ok (.aload_n 0, 1) := dk_42 (dk_at dksX0_couple_4 23 rfl rfl)
theorem dX0_couple_116 : decode cX0_couple 116 = .ok (.dup, 1) := dk_89 (dk_at dksX0_couple_5 0 rfl rfl)
theorem dX0_couple_117 : decode cX0_couple 117 = .ok (.getfield 201, 3) := dk_180 0 201 (dk_at dksX0_couple_5 1 rfl rfl)
theorem dX0_couple_120 : decode cX0_couple 120 = .ok (.iconst 1, 1) := dk_4 (dk_at dksX0_couple_5 4 rfl rfl)
theorem dX0_couple_121 : decode cX0_couple 121 = .ok (.iadd, 1) := dk_96 (dk_at dksX0_couple_5 5 rfl rfl)
theorem dX0_couple_122 : decode cX0_couple 122 = .ok (.putfield 201, 3) := dk_181 0 201 (dk_at dksX0_couple_5 6 rfl rfl)
theorem dX0_couple_125 : decode cX0_couple 125 = .ok (.aload_n 0, 1) := dk_42 (dk_at dksX0_couple_5 9 rfl rfl)
theorem dX0_couple_126 : decode cX0_couple 126 = .ok (.getfield 201, 3) := dk_180 0 201 (dk_at dksX0_couple_5 10 rfl rfl)
theorem dX0_couple_129 : decode cX0_couple 129 = .ok (.ireturn, 1) := dk_172 (dk_at dksX0_couple_5 13 rfl rfl)
abbrev cX0_law : ByteArray := prog_1_method_25_code
def yX0_law : MethodName := ⟨RX0, "law", "(IIIIZI)I"⟩
def dkwX0_law_6 : List UInt8 := [180, 0, 204, 4, 96, 181, 0, 204, 42, 180, 0, 204, 4, 100, 172]
abbrev dktX0_law_6 : List UInt8 := dkwX0_law_6 ++ []
def dkwX0_law_5 : List UInt8 := [153, 0, 7, 4, 167, 0, 4, 3, 79, 42, 180, 0, 39, 21, 7, 8, 96, 21, 6, 79, 42, 89]
abbrev dktX0_law_5 : List UInt8 := dkwX0_law_5 ++ dktX0_law_6
def dkwX0_law_4 : List UInt8 := [96, 29, 79, 42, 180, 0, 39, 21, 7, 6, 96, 21, 4, 79, 42, 180, 0, 39, 21, 7, 7, 96, 21, 5]
abbrev dktX0_law_4 : List UInt8 := dkwX0_law_4 ++ dktX0_law_5
def dkwX0_law_3 : List UInt8 := [180, 0, 39, 21, 7, 27, 79, 42, 180, 0, 39, 21, 7, 4, 96, 28, 79, 42, 180, 0, 39, 21, 7, 5]
abbrev dktX0_law_3 : List UInt8 := dkwX0_law_3 ++ dktX0_law_4
def dkwX0_law_2 : List UInt8 := [172, 42, 180, 0, 204, 16, 16, 160, 0, 6, 16, 254, 172, 16, 6, 42, 180, 0, 204, 104, 54, 7, 42]
abbrev dktX0_law_2 : List UInt8 := dkwX0_law_2 ++ dktX0_law_3
def dkwX0_law_1 : List UInt8 := [153, 0, 23, 29, 3, 21, 4, 184, 0, 128, 153, 0, 13, 21, 6, 4, 6, 184, 0, 128, 154, 0, 5, 2]
abbrev dktX0_law_1 : List UInt8 := dkwX0_law_1 ++ dktX0_law_2
def dkwX0_law_0 : List UInt8 := [27, 3, 6, 184, 0, 128, 153, 0, 41, 28, 184, 0, 133, 153, 0, 34, 21, 4, 4, 16, 12, 184, 0, 128]
abbrev dktX0_law_0 : List UInt8 := dkwX0_law_0 ++ dktX0_law_1
theorem dksX0_law_0 : cX0_law.data.toList.drop 0 = dktX0_law_0 := by decide +kernel
theorem dksX0_law_1 : cX0_law.data.toList.drop 24 = dktX0_law_1 := dk_seg dksX0_law_0 24 rfl rfl
theorem dksX0_law_2 : cX0_law.data.toList.drop 48 = dktX0_law_2 := dk_seg dksX0_law_1 24 rfl rfl
theorem dksX0_law_3 : cX0_law.data.toList.drop 71 = dktX0_law_3 := dk_seg dksX0_law_2 23 rfl rfl
theorem dksX0_law_4 : cX0_law.data.toList.drop 95 = dktX0_law_4 := dk_seg dksX0_law_3 24 rfl rfl
theorem dksX0_law_5 : cX0_law.data.toList.drop 119 = dktX0_law_5 := dk_seg dksX0_law_4 24 rfl rfl
theorem dksX0_law_6 : cX0_law.data.toList.drop 141 = dktX0_law_6 := dk_seg dksX0_law_5 22 rfl rfl
theorem dX0_law_0 : decode cX0_law 0 = .ok (.iload_n 1, 1) := dk_27 (dk_at dksX0_law_0 0 rfl rfl)
theorem dX0_law_1 : decode cX0_law 1 = .ok (.iconst 0, 1) := dk_3 (dk_at dksX0_law_0 1 rfl rfl)
theorem dX0_law_2 : decode cX0_law 2 = .ok (.iconst 3, 1) := dk_6 (dk_at dksX0_law_0 2 rfl rfl)
theorem dX0_law_3 : decode cX0_law 3 = .ok (.invokestatic 128, 3) := dk_184 0 128 (dk_at dksX0_law_0 3 rfl rfl)
theorem dX0_law_6 : decode cX0_law 6 = .ok (.ifCond .eq 41, 3) := dk_153 0 41 (dk_at dksX0_law_0 6 rfl rfl)
theorem dX0_law_9 : decode cX0_law 9 = .ok (.iload_n 2, 1) := dk_28 (dk_at dksX0_law_0 9 rfl rfl)
theorem dX0_law_10 : decode cX0_law 10 = .ok (.invokestatic 133, 3) := dk_184 0 133 (dk_at dksX0_law_0 10 rfl rfl)
theorem dX0_law_13 : decode cX0_law 13 = .ok (.ifCond .eq 34, 3) := dk_153 0 34 (dk_at dksX0_law_0 13 rfl rfl)
theorem dX0_law_16 : decode cX0_law 16 = .ok (.iload 4, 2) := dk_21 4 (dk_at dksX0_law_0 16 rfl rfl)
theorem dX0_law_18 : decode cX0_law 18 = .ok (.iconst 1, 1) := dk_4 (dk_at dksX0_law_0 18 rfl rfl)
theorem dX0_law_19 : decode cX0_law 19 = .ok (.bipush 12, 2) := dk_16 12 (dk_at dksX0_law_0 19 rfl rfl)
theorem dX0_law_21 : decode cX0_law 21 = .ok (.invokestatic 128, 3) := dk_184 0 128 (dk_at dksX0_law_0 21 rfl rfl)
theorem dX0_law_24 : decode cX0_law 24 = .ok (.ifCond .eq 23, 3) := dk_153 0 23 (dk_at dksX0_law_1 0 rfl rfl)
theorem dX0_law_27 : decode cX0_law 27 = .ok (.iload_n 3, 1) := dk_29 (dk_at dksX0_law_1 3 rfl rfl)
theorem dX0_law_28 : decode cX0_law 28 = .ok (.iconst 0, 1) := dk_3 (dk_at dksX0_law_1 4 rfl rfl)
theorem dX0_law_29 : decode cX0_law 29 = .ok (.iload 4, 2) := dk_21 4 (dk_at dksX0_law_1 5 rfl rfl)
theorem dX0_law_31 : decode cX0_law 31 = .ok (.invokestatic 128, 3) := dk_184 0 128 (dk_at dksX0_law_1 7 rfl rfl)
theorem dX0_law_34 : decode cX0_law 34 = .ok (.ifCond .eq 13, 3) := dk_153 0 13 (dk_at dksX0_law_1 10 rfl rfl)
theorem dX0_law_37 : decode cX0_law 37 = .ok (.iload 6, 2) := dk_21 6 (dk_at dksX0_law_1 13 rfl rfl)
theorem dX0_law_39 : decode cX0_law 39 = .ok (.iconst 1, 1) := dk_4 (dk_at dksX0_law_1 15 rfl rfl)
theorem dX0_law_40 : decode cX0_law 40 = .ok (.iconst 3, 1) := dk_6 (dk_at dksX0_law_1 16 rfl rfl)
theorem dX0_law_41 : decode cX0_law 41 = .ok (.invokestatic 128, 3) := dk_184 0 128 (dk_at dksX0_law_1 17 rfl rfl)
theorem dX0_law_44 : decode cX0_law 44 = .ok (.ifCond .ne 5, 3) := dk_154 0 5 (dk_at dksX0_law_1 20 rfl rfl)
theorem dX0_law_47 : decode cX0_law 47 = .ok (.iconst (-1), 1) := dk_2 (dk_at dksX0_law_1 23 rfl rfl)
theorem dX0_law_48 : decode cX0_law 48 = .ok (.ireturn, 1) := dk_172 (dk_at dksX0_law_2 0 rfl rfl)
theorem dX0_law_49 : decode cX0_law 49 = .ok (.aload_n 0, 1) := dk_42 (dk_at dksX0_law_2 1 rfl rfl)
theorem dX0_law_50 : decode cX0_law 50 = .ok (.getfield 204, 3) := dk_180 0 204 (dk_at dksX0_law_2 2 rfl rfl)
theorem dX0_law_53 : decode cX0_law 53 = .ok (.bipush 16, 2) := dk_16 16 (dk_at dksX0_law_2 5 rfl rfl)
theorem dX0_law_55 : decode cX0_law 55 = .ok (.if_icmp .ne 6, 3) := dk_160 0 6 (dk_at dksX0_law_2 7 rfl rfl)
theorem dX0_law_58 : decode cX0_law 58 = .ok (.bipush (-2), 2) := dk_16 254 (dk_at dksX0_law_2 10 rfl rfl)
theorem dX0_law_60 : decode cX0_law 60 = .ok (.ireturn, 1) := dk_172 (dk_at dksX0_law_2 12 rfl rfl)
theorem dX0_law_61 : decode cX0_law 61 = .ok (.bipush 6, 2) := dk_16 6 (dk_at dksX0_law_2 13 rfl rfl)
theorem dX0_law_63 : decode cX0_law 63 = .ok (.aload_n 0, 1) := dk_42 (dk_at dksX0_law_2 15 rfl rfl)
theorem dX0_law_64 : decode cX0_law 64 = .ok (.getfield 204, 3) := dk_180 0 204 (dk_at dksX0_law_2 16 rfl rfl)
theorem dX0_law_67 : decode cX0_law 67 = .ok (.imul, 1) := dk_104 (dk_at dksX0_law_2 19 rfl rfl)
theorem dX0_law_68 : decode cX0_law 68 = .ok (.istore 7, 2) := dk_54 7 (dk_at dksX0_law_2 20 rfl rfl)
theorem dX0_law_70 : decode cX0_law 70 = .ok (.aload_n 0, 1) := dk_42 (dk_at dksX0_law_2 22 rfl rfl)
theorem dX0_law_71 : decode cX0_law 71 = .ok (.getfield 39, 3) := dk_180 0 39 (dk_at dksX0_law_3 0 rfl rfl)
theorem dX0_law_74 : decode cX0_law 74 = .ok (.iload 7, 2) := dk_21 7 (dk_at dksX0_law_3 3 rfl rfl)
theorem dX0_law_76 : decode cX0_law 76 = .ok (.iload_n 1, 1) := dk_27 (dk_at dksX0_law_3 5 rfl rfl)
theorem dX0_law_77 : decode cX0_law 77 = .ok (.iastore, 1) := dk_79 (dk_at dksX0_law_3 6 rfl rfl)
theorem dX0_law_78 : decode cX0_law 78 = .ok (.aload_n 0, 1) := dk_42 (dk_at dksX0_law_3 7 rfl rfl)
theorem dX0_law_79 : decode cX0_law 79 = .ok (.getfield 39, 3) := dk_180 0 39 (dk_at dksX0_law_3 8 rfl rfl)
theorem dX0_law_82 : decode cX0_law 82 = .ok (.iload 7, 2) := dk_21 7 (dk_at dksX0_law_3 11 rfl rfl)
theorem dX0_law_84 : decode cX0_law 84 = .ok (.iconst 1, 1) := dk_4 (dk_at dksX0_law_3 13 rfl rfl)
theorem dX0_law_85 : decode cX0_law 85 = .ok (.iadd, 1) := dk_96 (dk_at dksX0_law_3 14 rfl rfl)
theorem dX0_law_86 : decode cX0_law 86 = .ok (.iload_n 2, 1) := dk_28 (dk_at dksX0_law_3 15 rfl rfl)
theorem dX0_law_87 : decode cX0_law 87 = .ok (.iastore, 1) := dk_79 (dk_at dksX0_law_3 16 rfl rfl)
theorem dX0_law_88 : decode cX0_law 88 = .ok (.aload_n 0, 1) := dk_42 (dk_at dksX0_law_3 17 rfl rfl)
theorem dX0_law_89 : decode cX0_law 89 = .ok (.getfield 39, 3) := dk_180 0 39 (dk_at dksX0_law_3 18 rfl rfl)
theorem dX0_law_92 : decode cX0_law 92 = .ok (.iload 7, 2) := dk_21 7 (dk_at dksX0_law_3 21 rfl rfl)
theorem dX0_law_94 : decode cX0_law 94 = .ok (.iconst 2, 1) := dk_5 (dk_at dksX0_law_3 23 rfl rfl)
theorem dX0_law_95 : decode cX0_law 95 = .ok (.iadd, 1) := dk_96 (dk_at dksX0_law_4 0 rfl rfl)
theorem dX0_law_96 : decode cX0_law 96 = .ok (.iload_n 3, 1) := dk_29 (dk_at dksX0_law_4 1 rfl rfl)
theorem dX0_law_97 : decode cX0_law 97 = .ok (.iastore, 1) := dk_79 (dk_at dksX0_law_4 2 rfl rfl)
theorem dX0_law_98 : decode cX0_law 98 = .ok (.aload_n 0, 1) := dk_42 (dk_at dksX0_law_4 3 rfl rfl)
theorem dX0_law_99 : decode cX0_law 99 = .ok (.getfield 39, 3) := dk_180 0 39 (dk_at dksX0_law_4 4 rfl rfl)
theorem dX0_law_102 : decode cX0_law 102 = .ok (.iload 7, 2) := dk_21 7 (dk_at dksX0_law_4 7 rfl rfl)
theorem dX0_law_104 : decode cX0_law 104 = .ok (.iconst 3, 1) := dk_6 (dk_at dksX0_law_4 9 rfl rfl)
theorem dX0_law_105 : decode cX0_law 105 = .ok (.iadd, 1) := dk_96 (dk_at dksX0_law_4 10 rfl rfl)
theorem dX0_law_106 : decode cX0_law 106 = .ok (.iload 4, 2) := dk_21 4 (dk_at dksX0_law_4 11 rfl rfl)
theorem dX0_law_108 : decode cX0_law 108 = .ok (.iastore, 1) := dk_79 (dk_at dksX0_law_4 13 rfl rfl)
theorem dX0_law_109 : decode cX0_law 109 = .ok (.aload_n 0, 1) := dk_42 (dk_at dksX0_law_4 14 rfl rfl)
theorem dX0_law_110 : decode cX0_law 110 = .ok (.getfield 39, 3) := dk_180 0 39 (dk_at dksX0_law_4 15 rfl rfl)
theorem dX0_law_113 : decode cX0_law 113 = .ok (.iload 7, 2) := dk_21 7 (dk_at dksX0_law_4 18 rfl rfl)
theorem dX0_law_115 : decode cX0_law 115 = .ok (.iconst 4, 1) := dk_7 (dk_at dksX0_law_4 20 rfl rfl)
theorem dX0_law_116 : decode cX0_law 116 = .ok (.iadd, 1) := dk_96 (dk_at dksX0_law_4 21 rfl rfl)
theorem dX0_law_117 : decode cX0_law 117 = .ok (.iload 5, 2) := dk_21 5 (dk_at dksX0_law_4 22 rfl rfl)
theorem dX0_law_119 : decode cX0_law 119 = .ok (.ifCond .eq 7, 3) := dk_153 0 7 (dk_at dksX0_law_5 0 rfl rfl)
theorem dX0_law_122 : decode cX0_law 122 = .ok (.iconst 1, 1) := dk_4 (dk_at dksX0_law_5 3 rfl rfl)
theorem dX0_law_123 : decode cX0_law 123 = .ok (.goto 4, 3) := dk_167 0 4 (dk_at dksX0_law_5 4 rfl rfl)
theorem dX0_law_126 : decode cX0_law 126 = .ok (.iconst 0, 1) := dk_3 (dk_at dksX0_law_5 7 rfl rfl)
theorem dX0_law_127 : decode cX0_law 127 = .ok (.iastore, 1) := dk_79 (dk_at dksX0_law_5 8 rfl rfl)
theorem dX0_law_128 : decode cX0_law 128 = .ok (.aload_n 0, 1) := dk_42 (dk_at dksX0_law_5 9 rfl rfl)
theorem dX0_law_129 : decode cX0_law 129 = .ok (.getfield 39, 3) := dk_180 0 39 (dk_at dksX0_law_5 10 rfl rfl)
theorem dX0_law_132 : decode cX0_law 132 = .ok (.iload 7, 2) := dk_21 7 (dk_at dksX0_law_5 13 rfl rfl)
theorem dX0_law_134 : decode cX0_law 134 = .ok (.iconst 5, 1) := dk_8 (dk_at dksX0_law_5 15 rfl rfl)
theorem dX0_law_135 : decode cX0_law 135 = .ok (.iadd, 1) := dk_96 (dk_at dksX0_law_5 16 rfl rfl)
theorem dX0_law_136 : decode cX0_law 136 = .ok (.iload 6, 2) := dk_21 6 (dk_at dksX0_law_5 17 rfl rfl)
theorem dX0_law_138 : decode cX0_law 138 = .ok (.iastore, 1) := dk_79 (dk_at dksX0_law_5 19 rfl rfl)
theorem dX0_law_139 : decode cX0_law 139 = .ok (.aload_n 0, 1) := dk_42 (dk_at dksX0_law_5 20 rfl rfl)
theorem dX0_law_140 : decode cX0_law 140 = .ok (.dup, 1) := dk_89 (dk_at dksX0_law_5 21 rfl rfl)
theorem dX0_law_141 : decode cX0_law 141 = .ok (.getfield 204, 3) := dk_180 0 204 (dk_at dksX0_law_6 0 rfl rfl)
theorem dX0_law_144 : decode cX0_law 144 = .ok (.iconst 1, 1) := dk_4 (dk_at dksX0_law_6 3 rfl rfl)
theorem dX0_law_145 : decode cX0_law 145 = .ok (.iadd, 1) := dk_96 (dk_at dksX0_law_6 4 rfl rfl)
theorem dX0_law_146 : decode cX0_law 146 = .ok (.putfield 204, 3) := dk_181 0 204 (dk_at dksX0_law_6 5 rfl rfl)
theorem dX0_law_149 : decode cX0_law 149 = .ok (.aload_n 0, 1) := dk_42 (dk_at dksX0_law_6 8 rfl rfl)
theorem dX0_law_150 : decode cX0_law 150 = .ok (.getfield 204, 3) := dk_180 0 204 (dk_at dksX0_law_6 9 rfl rfl)
theorem dX0_law_153 : decode cX0_law 153 = .ok (.iconst 1, 1) := dk_4 (dk_at dksX0_law_6 12 rfl rfl)
theorem dX0_law_154 : decode cX0_law 154 = .ok (.isub, 1) := dk_100 (dk_at dksX0_law_6 13 rfl rfl)
theorem dX0_law_155 : decode cX0_law 155 = .ok (.ireturn, 1) := dk_172 (dk_at dksX0_law_6 14 rfl rfl)
abbrev cX0_lawOf : ByteArray := prog_1_method_46_code
def yX0_lawOf : MethodName := ⟨RX0, "lawOf", "(I)I"⟩
def dkwX0_lawOf_0 : List UInt8 := [42, 4, 27, 182, 1, 19, 61, 28, 156, 0, 7, 28, 167, 0, 8, 42, 27, 182, 0, 210, 172]
abbrev dktX0_lawOf_0 : List UInt8 := dkwX0_lawOf_0 ++ []
theorem dksX0_lawOf_0 : cX0_lawOf.data.toList.drop 0 = dktX0_lawOf_0 := by decide +kernel
theorem dX0_lawOf_0 : decode cX0_lawOf 0 = .ok (.aload_n 0, 1) := dk_42 (dk_at dksX0_lawOf_0 0 rfl rfl)
theorem dX0_lawOf_1 : decode cX0_lawOf 1 = .ok (.iconst 1, 1) := dk_4 (dk_at dksX0_lawOf_0 1 rfl rfl)
theorem dX0_lawOf_2 : decode cX0_lawOf 2 = .ok (.iload_n 1, 1) := dk_27 (dk_at dksX0_lawOf_0 2 rfl rfl)
theorem dX0_lawOf_3 : decode cX0_lawOf 3 = .ok (.invokevirtual 275, 3) := dk_182 1 19 (dk_at dksX0_lawOf_0 3 rfl rfl)
theorem dX0_lawOf_6 : decode cX0_lawOf 6 = .ok (.istore_n 2, 1) := dk_61 (dk_at dksX0_lawOf_0 6 rfl rfl)
theorem dX0_lawOf_7 : decode cX0_lawOf 7 = .ok (.iload_n 2, 1) := dk_28 (dk_at dksX0_lawOf_0 7 rfl rfl)
theorem dX0_lawOf_8 : decode cX0_lawOf 8 = .ok (.ifCond .ge 7, 3) := dk_156 0 7 (dk_at dksX0_lawOf_0 8 rfl rfl)
theorem dX0_lawOf_11 : decode cX0_lawOf 11 = .ok (.iload_n 2, 1) := dk_28 (dk_at dksX0_lawOf_0 11 rfl rfl)
theorem dX0_lawOf_12 : decode cX0_lawOf 12 = .ok (.goto 8, 3) := dk_167 0 8 (dk_at dksX0_lawOf_0 12 rfl rfl)
theorem dX0_lawOf_15 : decode cX0_lawOf 15 = .ok (.aload_n 0, 1) := dk_42 (dk_at dksX0_lawOf_0 15 rfl rfl)
theorem dX0_lawOf_16 : decode cX0_lawOf 16 = .ok (.iload_n 1, 1) := dk_27 (dk_at dksX0_lawOf_0 16 rfl rfl)
theorem dX0_lawOf_17 : decode cX0_lawOf 17 = .ok (.invokevirtual 210, 3) := dk_182 0 210 (dk_at dksX0_lawOf_0 17 rfl rfl)
theorem dX0_lawOf_20 : decode cX0_lawOf 20 = .ok (.ireturn, 1) := dk_172 (dk_at dksX0_lawOf_0 20 rfl rfl)
abbrev cX0_need : ByteArray := prog_1_method_42_code
def yX0_need : MethodName := ⟨RX0, "need", "(ZI)I"⟩
def dkwX0_need_1 : List UInt8 := [160, 0, 8, 16, 252, 167, 0, 4, 3, 172]
abbrev dktX0_need_1 : List UInt8 := dkwX0_need_1 ++ []
def dkwX0_need_0 : List UInt8 := [42, 28, 182, 1, 16, 153, 0, 7, 27, 154, 0, 7, 2, 167, 0, 19, 42, 28, 182, 0, 210, 16, 247]
abbrev dktX0_need_0 : List UInt8 := dkwX0_need_0 ++ dktX0_need_1
theorem dksX0_need_0 : cX0_need.data.toList.drop 0 = dktX0_need_0 := by decide +kernel
theorem dksX0_need_1 : cX0_need.data.toList.drop 23 = dktX0_need_1 := dk_seg dksX0_need_0 23 rfl rfl
theorem dX0_need_0 : decode cX0_need 0 = .ok (.aload_n 0, 1) := dk_42 (dk_at dksX0_need_0 0 rfl rfl)
theorem dX0_need_1 : decode cX0_need 1 = .ok (.iload_n 2, 1) := dk_28 (dk_at dksX0_need_0 1 rfl rfl)
theorem dX0_need_2 : decode cX0_need 2 = .ok (.invokevirtual 272, 3) := dk_182 1 16 (dk_at dksX0_need_0 2 rfl rfl)
theorem dX0_need_5 : decode cX0_need 5 = .ok (.ifCond .eq 7, 3) := dk_153 0 7 (dk_at dksX0_need_0 5 rfl rfl)
theorem dX0_need_8 : decode cX0_need 8 = .ok (.iload_n 1, 1) := dk_27 (dk_at dksX0_need_0 8 rfl rfl)
theorem dX0_need_9 : decode cX0_need 9 = .ok (.ifCond .ne 7, 3) := dk_154 0 7 (dk_at dksX0_need_0 9 rfl rfl)
theorem dX0_need_12 : decode cX0_need 12 = .ok (.iconst (-1), 1) := dk_2 (dk_at dksX0_need_0 12 rfl rfl)
theorem dX0_need_13 : decode cX0_need 13 = .ok (.goto 19, 3) := dk_167 0 19 (dk_at dksX0_need_0 13 rfl rfl)
theorem dX0_need_16 : decode cX0_need 16 = .ok (.aload_n 0, 1) := dk_42 (dk_at dksX0_need_0 16 rfl rfl)
theorem dX0_need_17 : decode cX0_need 17 = .ok (.iload_n 2, 1) := dk_28 (dk_at dksX0_need_0 17 rfl rfl)
theorem dX0_need_18 : decode cX0_need 18 = .ok (.invokevirtual 210, 3) := dk_182 0 210 (dk_at dksX0_need_0 18 rfl rfl)
theorem dX0_need_21 : decode cX0_need 21 = .ok (.bipush (-9), 2) := dk_16 247 (dk_at dksX0_need_0 21 rfl rfl)
theorem dX0_need_23 : decode cX0_need 23 = .ok (.if_icmp .ne 8, 3) := dk_160 0 8 (dk_at dksX0_need_1 0 rfl rfl)
theorem dX0_need_26 : decode cX0_need 26 = .ok (.bipush (-4), 2) := dk_16 252 (dk_at dksX0_need_1 3 rfl rfl)
theorem dX0_need_28 : decode cX0_need 28 = .ok (.goto 4, 3) := dk_167 0 4 (dk_at dksX0_need_1 5 rfl rfl)
theorem dX0_need_31 : decode cX0_need 31 = .ok (.iconst 0, 1) := dk_3 (dk_at dksX0_need_1 8 rfl rfl)
theorem dX0_need_32 : decode cX0_need 32 = .ok (.ireturn, 1) := dk_172 (dk_at dksX0_need_1 9 rfl rfl)
abbrev cX0_isDead : ByteArray := prog_1_method_41_code
def yX0_isDead : MethodName := ⟨RX0, "isDead", "(I)Z"⟩
def dkwX0_isDead_1 : List UInt8 := [172]
abbrev dktX0_isDead_1 : List UInt8 := dkwX0_isDead_1 ++ []
def dkwX0_isDead_0 : List UInt8 := [42, 27, 182, 0, 137, 153, 0, 18, 42, 180, 0, 27, 27, 46, 16, 247, 159, 0, 7, 4, 167, 0, 4, 3]
abbrev dktX0_isDead_0 : List UInt8 := dkwX0_isDead_0 ++ dktX0_isDead_1
theorem dksX0_isDead_0 : cX0_isDead.data.toList.drop 0 = dktX0_isDead_0 := by decide +kernel
theorem dksX0_isDead_1 : cX0_isDead.data.toList.drop 24 = dktX0_isDead_1 := dk_seg dksX0_isDead_0 24 rfl rfl
theorem dX0_isDead_0 : decode cX0_isDead 0 = .ok (.aload_n 0, 1) := dk_42 (dk_at dksX0_isDead_0 0 rfl rfl)
theorem dX0_isDead_1 : decode cX0_isDead 1 = .ok (.iload_n 1, 1) := dk_27 (dk_at dksX0_isDead_0 1 rfl rfl)
theorem dX0_isDead_2 : decode cX0_isDead 2 = .ok (.invokevirtual 137, 3) := dk_182 0 137 (dk_at dksX0_isDead_0 2 rfl rfl)
theorem dX0_isDead_5 : decode cX0_isDead 5 = .ok (.ifCond .eq 18, 3) := dk_153 0 18 (dk_at dksX0_isDead_0 5 rfl rfl)
theorem dX0_isDead_8 : decode cX0_isDead 8 = .ok (.aload_n 0, 1) := dk_42 (dk_at dksX0_isDead_0 8 rfl rfl)
theorem dX0_isDead_9 : decode cX0_isDead 9 = .ok (.getfield 27, 3) := dk_180 0 27 (dk_at dksX0_isDead_0 9 rfl rfl)
theorem dX0_isDead_12 : decode cX0_isDead 12 = .ok (.iload_n 1, 1) := dk_27 (dk_at dksX0_isDead_0 12 rfl rfl)
theorem dX0_isDead_13 : decode cX0_isDead 13 = .ok (.iaload, 1) := dk_46 (dk_at dksX0_isDead_0 13 rfl rfl)
theorem dX0_isDead_14 : decode cX0_isDead 14 = .ok (.bipush (-9), 2) := dk_16 247 (dk_at dksX0_isDead_0 14 rfl rfl)
theorem dX0_isDead_16 : decode cX0_isDead 16 = .ok (.if_icmp .eq 7, 3) := dk_159 0 7 (dk_at dksX0_isDead_0 16 rfl rfl)
theorem dX0_isDead_19 : decode cX0_isDead 19 = .ok (.iconst 1, 1) := dk_4 (dk_at dksX0_isDead_0 19 rfl rfl)
theorem dX0_isDead_20 : decode cX0_isDead 20 = .ok (.goto 4, 3) := dk_167 0 4 (dk_at dksX0_isDead_0 20 rfl rfl)
theorem dX0_isDead_23 : decode cX0_isDead 23 = .ok (.iconst 0, 1) := dk_3 (dk_at dksX0_isDead_0 23 rfl rfl)
theorem dX0_isDead_24 : decode cX0_isDead 24 = .ok (.ireturn, 1) := dk_172 (dk_at dksX0_isDead_1 0 rfl rfl)
abbrev cX0_lawFor : ByteArray := prog_1_method_26_code
def yX0_lawFor : MethodName := ⟨RX0, "lawFor", "(I)I"⟩
def dkwX0_lawFor_4 : List UInt8 := [29, 167, 0, 4, 28, 61, 132, 3, 1, 167, 255, 158, 28, 172]
abbrev dktX0_lawFor_4 : List UInt8 := dkwX0_lawFor_4 ++ []
def dkwX0_lawFor_3 : List UInt8 := [180, 0, 39, 16, 6, 29, 104, 4, 96, 46, 42, 180, 0, 39, 16, 6, 28, 104, 4, 96, 46, 161, 0, 7]
abbrev dktX0_lawFor_3 : List UInt8 := dkwX0_lawFor_3 ++ dktX0_lawFor_4
def dkwX0_lawFor_2 : List UInt8 := [46, 163, 0, 7, 4, 167, 0, 4, 3, 54, 4, 21, 4, 153, 0, 38, 28, 16, 247, 159, 0, 28, 42]
abbrev dktX0_lawFor_2 : List UInt8 := dkwX0_lawFor_2 ++ dktX0_lawFor_3
def dkwX0_lawFor_1 : List UInt8 := [180, 0, 21, 27, 46, 160, 0, 27, 42, 180, 0, 39, 16, 6, 29, 104, 4, 96, 46, 42, 180, 0, 27, 27]
abbrev dktX0_lawFor_1 : List UInt8 := dkwX0_lawFor_1 ++ dktX0_lawFor_2
def dkwX0_lawFor_0 : List UInt8 := [16, 247, 61, 3, 62, 29, 42, 180, 0, 204, 162, 0, 96, 42, 180, 0, 39, 16, 6, 29, 104, 46, 42]
abbrev dktX0_lawFor_0 : List UInt8 := dkwX0_lawFor_0 ++ dktX0_lawFor_1
theorem dksX0_lawFor_0 : cX0_lawFor.data.toList.drop 0 = dktX0_lawFor_0 := by decide +kernel
theorem dksX0_lawFor_1 : cX0_lawFor.data.toList.drop 23 = dktX0_lawFor_1 := dk_seg dksX0_lawFor_0 23 rfl rfl
theorem dksX0_lawFor_2 : cX0_lawFor.data.toList.drop 47 = dktX0_lawFor_2 := dk_seg dksX0_lawFor_1 24 rfl rfl
theorem dksX0_lawFor_3 : cX0_lawFor.data.toList.drop 70 = dktX0_lawFor_3 := dk_seg dksX0_lawFor_2 23 rfl rfl
theorem dksX0_lawFor_4 : cX0_lawFor.data.toList.drop 94 = dktX0_lawFor_4 := dk_seg dksX0_lawFor_3 24 rfl rfl
theorem dX0_lawFor_0 : decode cX0_lawFor 0 = .ok (.bipush (-9), 2) := dk_16 247 (dk_at dksX0_lawFor_0 0 rfl rfl)
theorem dX0_lawFor_2 : decode cX0_lawFor 2 = .ok (.istore_n 2, 1) := dk_61 (dk_at dksX0_lawFor_0 2 rfl rfl)
theorem dX0_lawFor_3 : decode cX0_lawFor 3 = .ok (.iconst 0, 1) := dk_3 (dk_at dksX0_lawFor_0 3 rfl rfl)
theorem dX0_lawFor_4 : decode cX0_lawFor 4 = .ok (.istore_n 3, 1) := dk_62 (dk_at dksX0_lawFor_0 4 rfl rfl)
theorem dX0_lawFor_5 : decode cX0_lawFor 5 = .ok (.iload_n 3, 1) := dk_29 (dk_at dksX0_lawFor_0 5 rfl rfl)
theorem dX0_lawFor_6 : decode cX0_lawFor 6 = .ok (.aload_n 0, 1) := dk_42 (dk_at dksX0_lawFor_0 6 rfl rfl)
theorem dX0_lawFor_7 : decode cX0_lawFor 7 = .ok (.getfield 204, 3) := dk_180 0 204 (dk_at dksX0_lawFor_0 7 rfl rfl)
theorem dX0_lawFor_10 : decode cX0_lawFor 10 = .ok (.if_icmp .ge 96, 3) := dk_162 0 96 (dk_at dksX0_lawFor_0 10 rfl rfl)
theorem dX0_lawFor_13 : decode cX0_lawFor 13 = .ok (.aload_n 0, 1) := dk_42 (dk_at dksX0_lawFor_0 13 rfl rfl)
theorem dX0_lawFor_14 : decode cX0_lawFor 14 = .ok (.getfield 39, 3) := dk_180 0 39 (dk_at dksX0_lawFor_0 14 rfl rfl)
theorem dX0_lawFor_17 : decode cX0_lawFor 17 = .ok (.bipush 6, 2) := dk_16 6 (dk_at dksX0_lawFor_0 17 rfl rfl)
theorem dX0_lawFor_19 : decode cX0_lawFor 19 = .ok (.iload_n 3, 1) := dk_29 (dk_at dksX0_lawFor_0 19 rfl rfl)
theorem dX0_lawFor_20 : decode cX0_lawFor 20 = .ok (.imul, 1) := dk_104 (dk_at dksX0_lawFor_0 20 rfl rfl)
theorem dX0_lawFor_21 : decode cX0_lawFor 21 = .ok (.iaload, 1) := dk_46 (dk_at dksX0_lawFor_0 21 rfl rfl)
theorem dX0_lawFor_22 : decode cX0_lawFor 22 = .ok (.aload_n 0, 1) := dk_42 (dk_at dksX0_lawFor_0 22 rfl rfl)
theorem dX0_lawFor_23 : decode cX0_lawFor 23 = .ok (.getfield 21, 3) := dk_180 0 21 (dk_at dksX0_lawFor_1 0 rfl rfl)
theorem dX0_lawFor_26 : decode cX0_lawFor 26 = .ok (.iload_n 1, 1) := dk_27 (dk_at dksX0_lawFor_1 3 rfl rfl)
theorem dX0_lawFor_27 : decode cX0_lawFor 27 = .ok (.iaload, 1) := dk_46 (dk_at dksX0_lawFor_1 4 rfl rfl)
theorem dX0_lawFor_28 : decode cX0_lawFor 28 = .ok (.if_icmp .ne 27, 3) := dk_160 0 27 (dk_at dksX0_lawFor_1 5 rfl rfl)
theorem dX0_lawFor_31 : decode cX0_lawFor 31 = .ok (.aload_n 0, 1) := dk_42 (dk_at dksX0_lawFor_1 8 rfl rfl)
theorem dX0_lawFor_32 : decode cX0_lawFor 32 = .ok (.getfield 39, 3) := dk_180 0 39 (dk_at dksX0_lawFor_1 9 rfl rfl)
theorem dX0_lawFor_35 : decode cX0_lawFor 35 = .ok (.bipush 6, 2) := dk_16 6 (dk_at dksX0_lawFor_1 12 rfl rfl)
theorem dX0_lawFor_37 : decode cX0_lawFor 37 = .ok (.iload_n 3, 1) := dk_29 (dk_at dksX0_lawFor_1 14 rfl rfl)
theorem dX0_lawFor_38 : decode cX0_lawFor 38 = .ok (.imul, 1) := dk_104 (dk_at dksX0_lawFor_1 15 rfl rfl)
theorem dX0_lawFor_39 : decode cX0_lawFor 39 = .ok (.iconst 1, 1) := dk_4 (dk_at dksX0_lawFor_1 16 rfl rfl)
theorem dX0_lawFor_40 : decode cX0_lawFor 40 = .ok (.iadd, 1) := dk_96 (dk_at dksX0_lawFor_1 17 rfl rfl)
theorem dX0_lawFor_41 : decode cX0_lawFor 41 = .ok (.iaload, 1) := dk_46 (dk_at dksX0_lawFor_1 18 rfl rfl)
theorem dX0_lawFor_42 : decode cX0_lawFor 42 = .ok (.aload_n 0, 1) := dk_42 (dk_at dksX0_lawFor_1 19 rfl rfl)
theorem dX0_lawFor_43 : decode cX0_lawFor 43 = .ok (.getfield 27, 3) := dk_180 0 27 (dk_at dksX0_lawFor_1 20 rfl rfl)
theorem dX0_lawFor_46 : decode cX0_lawFor 46 = .ok (.iload_n 1, 1) := dk_27 (dk_at dksX0_lawFor_1 23 rfl rfl)
theorem dX0_lawFor_47 : decode cX0_lawFor 47 = .ok (.iaload, 1) := dk_46 (dk_at dksX0_lawFor_2 0 rfl rfl)
theorem dX0_lawFor_48 : decode cX0_lawFor 48 = .ok (.if_icmp .gt 7, 3) := dk_163 0 7 (dk_at dksX0_lawFor_2 1 rfl rfl)
theorem dX0_lawFor_51 : decode cX0_lawFor 51 = .ok (.iconst 1, 1) := dk_4 (dk_at dksX0_lawFor_2 4 rfl rfl)
theorem dX0_lawFor_52 : decode cX0_lawFor 52 = .ok (.goto 4, 3) := dk_167 0 4 (dk_at dksX0_lawFor_2 5 rfl rfl)
theorem dX0_lawFor_55 : decode cX0_lawFor 55 = .ok (.iconst 0, 1) := dk_3 (dk_at dksX0_lawFor_2 8 rfl rfl)
theorem dX0_lawFor_56 : decode cX0_lawFor 56 = .ok (.istore 4, 2) := dk_54 4 (dk_at dksX0_lawFor_2 9 rfl rfl)
theorem dX0_lawFor_58 : decode cX0_lawFor 58 = .ok (.iload 4, 2) := dk_21 4 (dk_at dksX0_lawFor_2 11 rfl rfl)
theorem dX0_lawFor_60 : decode cX0_lawFor 60 = .ok (.ifCond .eq 38, 3) := dk_153 0 38 (dk_at dksX0_lawFor_2 13 rfl rfl)
theorem dX0_lawFor_63 : decode cX0_lawFor 63 = .ok (.iload_n 2, 1) := dk_28 (dk_at dksX0_lawFor_2 16 rfl rfl)
theorem dX0_lawFor_64 : decode cX0_lawFor 64 = .ok (.bipush (-9), 2) := dk_16 247 (dk_at dksX0_lawFor_2 17 rfl rfl)
theorem dX0_lawFor_66 : decode cX0_lawFor 66 = .ok (.if_icmp .eq 28, 3) := dk_159 0 28 (dk_at dksX0_lawFor_2 19 rfl rfl)
theorem dX0_lawFor_69 : decode cX0_lawFor 69 = .ok (.aload_n 0, 1) := dk_42 (dk_at dksX0_lawFor_2 22 rfl rfl)
theorem dX0_lawFor_70 : decode cX0_lawFor 70 = .ok (.getfield 39, 3) := dk_180 0 39 (dk_at dksX0_lawFor_3 0 rfl rfl)
theorem dX0_lawFor_73 : decode cX0_lawFor 73 = .ok (.bipush 6, 2) := dk_16 6 (dk_at dksX0_lawFor_3 3 rfl rfl)
theorem dX0_lawFor_75 : decode cX0_lawFor 75 = .ok (.iload_n 3, 1) := dk_29 (dk_at dksX0_lawFor_3 5 rfl rfl)
theorem dX0_lawFor_76 : decode cX0_lawFor 76 = .ok (.imul, 1) := dk_104 (dk_at dksX0_lawFor_3 6 rfl rfl)
theorem dX0_lawFor_77 : decode cX0_lawFor 77 = .ok (.iconst 1, 1) := dk_4 (dk_at dksX0_lawFor_3 7 rfl rfl)
theorem dX0_lawFor_78 : decode cX0_lawFor 78 = .ok (.iadd, 1) := dk_96 (dk_at dksX0_lawFor_3 8 rfl rfl)
theorem dX0_lawFor_79 : decode cX0_lawFor 79 = .ok (.iaload, 1) := dk_46 (dk_at dksX0_lawFor_3 9 rfl rfl)
theorem dX0_lawFor_80 : decode cX0_lawFor 80 = .ok (.aload_n 0, 1) := dk_42 (dk_at dksX0_lawFor_3 10 rfl rfl)
theorem dX0_lawFor_81 : decode cX0_lawFor 81 = .ok (.getfield 39, 3) := dk_180 0 39 (dk_at dksX0_lawFor_3 11 rfl rfl)
theorem dX0_lawFor_84 : decode cX0_lawFor 84 = .ok (.bipush 6, 2) := dk_16 6 (dk_at dksX0_lawFor_3 14 rfl rfl)
theorem dX0_lawFor_86 : decode cX0_lawFor 86 = .ok (.iload_n 2, 1) := dk_28 (dk_at dksX0_lawFor_3 16 rfl rfl)
theorem dX0_lawFor_87 : decode cX0_lawFor 87 = .ok (.imul, 1) := dk_104 (dk_at dksX0_lawFor_3 17 rfl rfl)
theorem dX0_lawFor_88 : decode cX0_lawFor 88 = .ok (.iconst 1, 1) := dk_4 (dk_at dksX0_lawFor_3 18 rfl rfl)
theorem dX0_lawFor_89 : decode cX0_lawFor 89 = .ok (.iadd, 1) := dk_96 (dk_at dksX0_lawFor_3 19 rfl rfl)
theorem dX0_lawFor_90 : decode cX0_lawFor 90 = .ok (.iaload, 1) := dk_46 (dk_at dksX0_lawFor_3 20 rfl rfl)
theorem dX0_lawFor_91 : decode cX0_lawFor 91 = .ok (.if_icmp .lt 7, 3) := dk_161 0 7 (dk_at dksX0_lawFor_3 21 rfl rfl)
theorem dX0_lawFor_94 : decode cX0_lawFor 94 = .ok (.iload_n 3, 1) := dk_29 (dk_at dksX0_lawFor_4 0 rfl rfl)
theorem dX0_lawFor_95 : decode cX0_lawFor 95 = .ok (.goto 4, 3) := dk_167 0 4 (dk_at dksX0_lawFor_4 1 rfl rfl)
theorem dX0_lawFor_98 : decode cX0_lawFor 98 = .ok (.iload_n 2, 1) := dk_28 (dk_at dksX0_lawFor_4 4 rfl rfl)
theorem dX0_lawFor_99 : decode cX0_lawFor 99 = .ok (.istore_n 2, 1) := dk_61 (dk_at dksX0_lawFor_4 5 rfl rfl)
theorem dX0_lawFor_100 : decode cX0_lawFor 100 = .ok (.iinc 3 1, 3) := dk_132 3 1 (dk_at dksX0_lawFor_4 6 rfl rfl)
theorem dX0_lawFor_103 : decode cX0_lawFor 103 = .ok (.goto (-98), 3) := dk_167 255 158 (dk_at dksX0_lawFor_4 9 rfl rfl)
theorem dX0_lawFor_106 : decode cX0_lawFor 106 = .ok (.iload_n 2, 1) := dk_28 (dk_at dksX0_lawFor_4 12 rfl rfl)
theorem dX0_lawFor_107 : decode cX0_lawFor 107 = .ok (.ireturn, 1) := dk_172 (dk_at dksX0_lawFor_4 13 rfl rfl)
abbrev cX0_share : ByteArray := prog_1_method_47_code
def yX0_share : MethodName := ⟨RX0, "share", "(IIZ)I"⟩
def dkwX0_share_2 : List UInt8 := [184, 1, 33, 47, 182, 1, 36, 172]
abbrev dktX0_share_2 : List UInt8 := dkwX0_share_2 ++ []
def dkwX0_share_1 : List UInt8 := [182, 1, 26, 42, 27, 182, 1, 30, 42, 42, 180, 0, 55, 28, 184, 1, 33, 47, 42, 180, 0, 59, 28]
abbrev dktX0_share_1 : List UInt8 := dkwX0_share_1 ++ dktX0_share_2
def dkwX0_share_0 : List UInt8 := [42, 42, 28, 182, 1, 23, 27, 182, 1, 19, 54, 4, 21, 4, 156, 0, 6, 21, 4, 172, 42, 29]
abbrev dktX0_share_0 : List UInt8 := dkwX0_share_0 ++ dktX0_share_1
theorem dksX0_share_0 : cX0_share.data.toList.drop 0 = dktX0_share_0 := by decide +kernel
theorem dksX0_share_1 : cX0_share.data.toList.drop 22 = dktX0_share_1 := dk_seg dksX0_share_0 22 rfl rfl
theorem dksX0_share_2 : cX0_share.data.toList.drop 45 = dktX0_share_2 := dk_seg dksX0_share_1 23 rfl rfl
theorem dX0_share_0 : decode cX0_share 0 = .ok (.aload_n 0, 1) := dk_42 (dk_at dksX0_share_0 0 rfl rfl)
theorem dX0_share_1 : decode cX0_share 1 = .ok (.aload_n 0, 1) := dk_42 (dk_at dksX0_share_0 1 rfl rfl)
theorem dX0_share_2 : decode cX0_share 2 = .ok (.iload_n 2, 1) := dk_28 (dk_at dksX0_share_0 2 rfl rfl)
theorem dX0_share_3 : decode cX0_share 3 = .ok (.invokevirtual 279, 3) := dk_182 1 23 (dk_at dksX0_share_0 3 rfl rfl)
theorem dX0_share_6 : decode cX0_share 6 = .ok (.iload_n 1, 1) := dk_27 (dk_at dksX0_share_0 6 rfl rfl)
theorem dX0_share_7 : decode cX0_share 7 = .ok (.invokevirtual 275, 3) := dk_182 1 19 (dk_at dksX0_share_0 7 rfl rfl)
theorem dX0_share_10 : decode cX0_share 10 = .ok (.istore 4, 2) := dk_54 4 (dk_at dksX0_share_0 10 rfl rfl)
theorem dX0_share_12 : decode cX0_share 12 = .ok (.iload 4, 2) := dk_21 4 (dk_at dksX0_share_0 12 rfl rfl)
theorem dX0_share_14 : decode cX0_share 14 = .ok (.ifCond .ge 6, 3) := dk_156 0 6 (dk_at dksX0_share_0 14 rfl rfl)
theorem dX0_share_17 : decode cX0_share 17 = .ok (.iload 4, 2) := dk_21 4 (dk_at dksX0_share_0 17 rfl rfl)
theorem dX0_share_19 : decode cX0_share 19 = .ok (.ireturn, 1) := dk_172 (dk_at dksX0_share_0 19 rfl rfl)
theorem dX0_share_20 : decode cX0_share 20 = .ok (.aload_n 0, 1) := dk_42 (dk_at dksX0_share_0 20 rfl rfl)
theorem dX0_share_21 : decode cX0_share 21 = .ok (.iload_n 3, 1) := dk_29 (dk_at dksX0_share_0 21 rfl rfl)
theorem dX0_share_22 : decode cX0_share 22 = .ok (.invokevirtual 282, 3) := dk_182 1 26 (dk_at dksX0_share_1 0 rfl rfl)
theorem dX0_share_25 : decode cX0_share 25 = .ok (.aload_n 0, 1) := dk_42 (dk_at dksX0_share_1 3 rfl rfl)
theorem dX0_share_26 : decode cX0_share 26 = .ok (.iload_n 1, 1) := dk_27 (dk_at dksX0_share_1 4 rfl rfl)
theorem dX0_share_27 : decode cX0_share 27 = .ok (.invokevirtual 286, 3) := dk_182 1 30 (dk_at dksX0_share_1 5 rfl rfl)
theorem dX0_share_30 : decode cX0_share 30 = .ok (.aload_n 0, 1) := dk_42 (dk_at dksX0_share_1 8 rfl rfl)
theorem dX0_share_31 : decode cX0_share 31 = .ok (.aload_n 0, 1) := dk_42 (dk_at dksX0_share_1 9 rfl rfl)
theorem dX0_share_32 : decode cX0_share 32 = .ok (.getfield 55, 3) := dk_180 0 55 (dk_at dksX0_share_1 10 rfl rfl)
theorem dX0_share_35 : decode cX0_share 35 = .ok (.iload_n 2, 1) := dk_28 (dk_at dksX0_share_1 13 rfl rfl)
theorem dX0_share_36 : decode cX0_share 36 = .ok (.invokestatic 289, 3) := dk_184 1 33 (dk_at dksX0_share_1 14 rfl rfl)
theorem dX0_share_39 : decode cX0_share 39 = .ok (.laload, 1) := dk_47 (dk_at dksX0_share_1 17 rfl rfl)
theorem dX0_share_40 : decode cX0_share 40 = .ok (.aload_n 0, 1) := dk_42 (dk_at dksX0_share_1 18 rfl rfl)
theorem dX0_share_41 : decode cX0_share 41 = .ok (.getfield 59, 3) := dk_180 0 59 (dk_at dksX0_share_1 19 rfl rfl)
theorem dX0_share_44 : decode cX0_share 44 = .ok (.iload_n 2, 1) := dk_28 (dk_at dksX0_share_1 22 rfl rfl)
theorem dX0_share_45 : decode cX0_share 45 = .ok (.invokestatic 289, 3) := dk_184 1 33 (dk_at dksX0_share_2 0 rfl rfl)
theorem dX0_share_48 : decode cX0_share 48 = .ok (.laload, 1) := dk_47 (dk_at dksX0_share_2 3 rfl rfl)
theorem dX0_share_49 : decode cX0_share 49 = .ok (.invokevirtual 292, 3) := dk_182 1 36 (dk_at dksX0_share_2 4 rfl rfl)
theorem dX0_share_52 : decode cX0_share 52 = .ok (.ireturn, 1) := dk_172 (dk_at dksX0_share_2 7 rfl rfl)
abbrev cX0_isOwner : ByteArray := prog_1_method_44_code
def yX0_isOwner : MethodName := ⟨RX0, "isOwner", "(I)Z"⟩
def dkwX0_isOwner_0 : List UInt8 := [27, 16, 247, 159, 0, 11, 42, 27, 182, 0, 137, 153, 0, 7, 4, 167, 0, 4, 3, 172]
abbrev dktX0_isOwner_0 : List UInt8 := dkwX0_isOwner_0 ++ []
theorem dksX0_isOwner_0 : cX0_isOwner.data.toList.drop 0 = dktX0_isOwner_0 := by decide +kernel
theorem dX0_isOwner_0 : decode cX0_isOwner 0 = .ok (.iload_n 1, 1) := dk_27 (dk_at dksX0_isOwner_0 0 rfl rfl)
theorem dX0_isOwner_1 : decode cX0_isOwner 1 = .ok (.bipush (-9), 2) := dk_16 247 (dk_at dksX0_isOwner_0 1 rfl rfl)
theorem dX0_isOwner_3 : decode cX0_isOwner 3 = .ok (.if_icmp .eq 11, 3) := dk_159 0 11 (dk_at dksX0_isOwner_0 3 rfl rfl)
theorem dX0_isOwner_6 : decode cX0_isOwner 6 = .ok (.aload_n 0, 1) := dk_42 (dk_at dksX0_isOwner_0 6 rfl rfl)
theorem dX0_isOwner_7 : decode cX0_isOwner 7 = .ok (.iload_n 1, 1) := dk_27 (dk_at dksX0_isOwner_0 7 rfl rfl)
theorem dX0_isOwner_8 : decode cX0_isOwner 8 = .ok (.invokevirtual 137, 3) := dk_182 0 137 (dk_at dksX0_isOwner_0 8 rfl rfl)
theorem dX0_isOwner_11 : decode cX0_isOwner 11 = .ok (.ifCond .eq 7, 3) := dk_153 0 7 (dk_at dksX0_isOwner_0 11 rfl rfl)
theorem dX0_isOwner_14 : decode cX0_isOwner 14 = .ok (.iconst 1, 1) := dk_4 (dk_at dksX0_isOwner_0 14 rfl rfl)
theorem dX0_isOwner_15 : decode cX0_isOwner 15 = .ok (.goto 4, 3) := dk_167 0 4 (dk_at dksX0_isOwner_0 15 rfl rfl)
theorem dX0_isOwner_18 : decode cX0_isOwner 18 = .ok (.iconst 0, 1) := dk_3 (dk_at dksX0_isOwner_0 18 rfl rfl)
theorem dX0_isOwner_19 : decode cX0_isOwner 19 = .ok (.ireturn, 1) := dk_172 (dk_at dksX0_isOwner_0 19 rfl rfl)
abbrev cX0_takeAll : ByteArray := prog_1_method_43_code
def yX0_takeAll : MethodName := ⟨RX0, "takeAll", "(Z)V"⟩
def dkwX0_takeAll_0 : List UInt8 := [3, 61, 28, 16, 40, 162, 0, 16, 42, 180, 0, 42, 28, 27, 84, 132, 2, 1, 167, 255, 240, 177]
abbrev dktX0_takeAll_0 : List UInt8 := dkwX0_takeAll_0 ++ []
theorem dksX0_takeAll_0 : cX0_takeAll.data.toList.drop 0 = dktX0_takeAll_0 := by decide +kernel
theorem dX0_takeAll_0 : decode cX0_takeAll 0 = .ok (.iconst 0, 1) := dk_3 (dk_at dksX0_takeAll_0 0 rfl rfl)
theorem dX0_takeAll_1 : decode cX0_takeAll 1 = .ok (.istore_n 2, 1) := dk_61 (dk_at dksX0_takeAll_0 1 rfl rfl)
theorem dX0_takeAll_2 : decode cX0_takeAll 2 = .ok (.iload_n 2, 1) := dk_28 (dk_at dksX0_takeAll_0 2 rfl rfl)
theorem dX0_takeAll_3 : decode cX0_takeAll 3 = .ok (.bipush 40, 2) := dk_16 40 (dk_at dksX0_takeAll_0 3 rfl rfl)
theorem dX0_takeAll_5 : decode cX0_takeAll 5 = .ok (.if_icmp .ge 16, 3) := dk_162 0 16 (dk_at dksX0_takeAll_0 5 rfl rfl)
theorem dX0_takeAll_8 : decode cX0_takeAll 8 = .ok (.aload_n 0, 1) := dk_42 (dk_at dksX0_takeAll_0 8 rfl rfl)
theorem dX0_takeAll_9 : decode cX0_takeAll 9 = .ok (.getfield 42, 3) := dk_180 0 42 (dk_at dksX0_takeAll_0 9 rfl rfl)
theorem dX0_takeAll_12 : decode cX0_takeAll 12 = .ok (.iload_n 2, 1) := dk_28 (dk_at dksX0_takeAll_0 12 rfl rfl)
theorem dX0_takeAll_13 : decode cX0_takeAll 13 = .ok (.iload_n 1, 1) := dk_27 (dk_at dksX0_takeAll_0 13 rfl rfl)
theorem dX0_takeAll_14 : decode cX0_takeAll 14 = .ok (.bastore, 1) := dk_84 (dk_at dksX0_takeAll_0 14 rfl rfl)
theorem dX0_takeAll_15 : decode cX0_takeAll 15 = .ok (.iinc 2 1, 3) := dk_132 2 1 (dk_at dksX0_takeAll_0 15 rfl rfl)
theorem dX0_takeAll_18 : decode cX0_takeAll 18 = .ok (.goto (-16), 3) := dk_167 255 240 (dk_at dksX0_takeAll_0 18 rfl rfl)
theorem dX0_takeAll_21 : decode cX0_takeAll 21 = .ok (.return_, 1) := dk_177 (dk_at dksX0_takeAll_0 21 rfl rfl)
abbrev cX0_share_2 : ByteArray := prog_1_method_40_code
def yX0_share_2 : MethodName := ⟨RX0, "share", "(I)V"⟩
def dkwX0_share_2_9 : List UInt8 := [182, 1, 13, 177]
abbrev dktX0_share_2_9 : List UInt8 := dkwX0_share_2_9 ++ []
def dkwX0_share_2_8 : List UInt8 := [180, 0, 71, 21, 12, 46, 22, 7, 22, 9, 21, 11, 133, 105, 182, 0, 238, 132, 12, 1, 167, 255, 203, 42]
abbrev dktX0_share_2_8 : List UInt8 := dkwX0_share_2_8 ++ dktX0_share_2_9
def dkwX0_share_2_7 : List UInt8 := [180, 1, 4, 4, 164, 0, 42, 42, 42, 180, 0, 71, 21, 12, 46, 182, 0, 224, 153, 0, 22, 42, 42]
abbrev dktX0_share_2_7 : List UInt8 := dkwX0_share_2_7 ++ dktX0_share_2_8
def dkwX0_share_2_6 : List UInt8 := [182, 0, 235, 42, 182, 0, 251, 54, 11, 3, 54, 12, 21, 12, 42, 180, 0, 241, 162, 0, 50, 42]
abbrev dktX0_share_2_6 : List UInt8 := dkwX0_share_2_6 ++ dktX0_share_2_7
def dkwX0_share_2_5 : List UInt8 := [22, 5, 55, 9, 42, 182, 1, 10, 42, 180, 1, 4, 4, 160, 0, 12, 42, 27, 22, 7, 22, 9]
abbrev dktX0_share_2_5 : List UInt8 := dkwX0_share_2_5 ++ dktX0_share_2_6
def dkwX0_share_2_4 : List UInt8 := [160, 0, 7, 10, 167, 0, 7, 22, 5, 33, 101, 55, 7, 28, 16, 247, 160, 0, 7, 10, 167, 0, 5]
abbrev dktX0_share_2_4 : List UInt8 := dkwX0_share_2_4 ++ dktX0_share_2_5
def dkwX0_share_2_3 : List UInt8 := [177, 28, 16, 247, 159, 0, 17, 33, 9, 148, 158, 0, 11, 42, 28, 33, 22, 5, 182, 0, 231, 28, 16, 247]
abbrev dktX0_share_2_3 : List UInt8 := dkwX0_share_2_3 ++ dktX0_share_2_4
def dkwX0_share_2_2 : List UInt8 := [180, 1, 4, 154, 0, 22, 42, 28, 16, 247, 160, 0, 8, 16, 24, 167, 0, 4, 28, 10, 10, 182, 0, 231]
abbrev dktX0_share_2_2 : List UInt8 := dkwX0_share_2_2 ++ dktX0_share_2_3
def dkwX0_share_2_1 : List UInt8 := [180, 0, 213, 5, 96, 46, 133, 66, 42, 180, 0, 39, 42, 180, 0, 213, 6, 96, 46, 133, 55, 5, 42]
abbrev dktX0_share_2_1 : List UInt8 := dkwX0_share_2_1 ++ dktX0_share_2_2
def dkwX0_share_2_0 : List UInt8 := [42, 27, 182, 0, 254, 42, 42, 182, 1, 1, 181, 1, 4, 42, 182, 1, 7, 61, 42, 180, 0, 39, 42]
abbrev dktX0_share_2_0 : List UInt8 := dkwX0_share_2_0 ++ dktX0_share_2_1
theorem dksX0_share_2_0 : cX0_share_2.data.toList.drop 0 = dktX0_share_2_0 := by decide +kernel
theorem dksX0_share_2_1 : cX0_share_2.data.toList.drop 23 = dktX0_share_2_1 := dk_seg dksX0_share_2_0 23 rfl rfl
theorem dksX0_share_2_2 : cX0_share_2.data.toList.drop 46 = dktX0_share_2_2 := dk_seg dksX0_share_2_1 23 rfl rfl
theorem dksX0_share_2_3 : cX0_share_2.data.toList.drop 70 = dktX0_share_2_3 := dk_seg dksX0_share_2_2 24 rfl rfl
theorem dksX0_share_2_4 : cX0_share_2.data.toList.drop 94 = dktX0_share_2_4 := dk_seg dksX0_share_2_3 24 rfl rfl
theorem dksX0_share_2_5 : cX0_share_2.data.toList.drop 117 = dktX0_share_2_5 := dk_seg dksX0_share_2_4 23 rfl rfl
theorem dksX0_share_2_6 : cX0_share_2.data.toList.drop 139 = dktX0_share_2_6 := dk_seg dksX0_share_2_5 22 rfl rfl
theorem dksX0_share_2_7 : cX0_share_2.data.toList.drop 161 = dktX0_share_2_7 := dk_seg dksX0_share_2_6 22 rfl rfl
theorem dksX0_share_2_8 : cX0_share_2.data.toList.drop 184 = dktX0_share_2_8 := dk_seg dksX0_share_2_7 23 rfl rfl
theorem dksX0_share_2_9 : cX0_share_2.data.toList.drop 208 = dktX0_share_2_9 := dk_seg dksX0_share_2_8 24 rfl rfl
theorem dX0_share_2_0 : decode cX0_share_2 0 = .ok (.aload_n 0, 1) := dk_42 (dk_at dksX0_share_2_0 0 rfl rfl)
theorem dX0_share_2_1 : decode cX0_share_2 1 = .ok (.iload_n 1, 1) := dk_27 (dk_at dksX0_share_2_0 1 rfl rfl)
theorem dX0_share_2_2 : decode cX0_share_2 2 = .ok (.invokevirtual 254, 3) := dk_182 0 254 (dk_at dksX0_share_2_0 2 rfl rfl)
theorem dX0_share_2_5 : decode cX0_share_2 5 = .ok (.aload_n 0, 1) := dk_42 (dk_at dksX0_share_2_0 5 rfl rfl)
theorem dX0_share_2_6 : decode cX0_share_2 6 = .ok (.aload_n 0, 1) := dk_42 (dk_at dksX0_share_2_0 6 rfl rfl)
theorem dX0_share_2_7 : decode cX0_share_2 7 = .ok (.invokevirtual 257, 3) := dk_182 1 1 (dk_at dksX0_share_2_0 7 rfl rfl)
theorem dX0_share_2_10 : decode cX0_share_2 10 = .ok (.putfield 260, 3) := dk_181 1 4 (dk_at dksX0_share_2_0 10 rfl rfl)
theorem dX0_share_2_13 : decode cX0_share_2 13 = .ok (.aload_n 0, 1) := dk_42 (dk_at dksX0_share_2_0 13 rfl rfl)
theorem dX0_share_2_14 : decode cX0_share_2 14 = .ok (.invokevirtual 263, 3) := dk_182 1 7 (dk_at dksX0_share_2_0 14 rfl rfl)
theorem dX0_share_2_17 : decode cX0_share_2 17 = .ok (.istore_n 2, 1) := dk_61 (dk_at dksX0_share_2_0 17 rfl rfl)
theorem dX0_share_2_18 : decode cX0_share_2 18 = .ok (.aload_n 0, 1) := dk_42 (dk_at dksX0_share_2_0 18 rfl rfl)
theorem dX0_share_2_19 : decode cX0_share_2 19 = .ok (.getfield 39, 3) := dk_180 0 39 (dk_at dksX0_share_2_0 19 rfl rfl)
theorem dX0_share_2_22 : decode cX0_share_2 22 = .ok (.aload_n 0, 1) := dk_42 (dk_at dksX0_share_2_0 22 rfl rfl)
theorem dX0_share_2_23 : decode cX0_share_2 23 = .ok (.getfield 213, 3) := dk_180 0 213 (dk_at dksX0_share_2_1 0 rfl rfl)
theorem dX0_share_2_26 : decode cX0_share_2 26 = .ok (.iconst 2, 1) := dk_5 (dk_at dksX0_share_2_1 3 rfl rfl)
theorem dX0_share_2_27 : decode cX0_share_2 27 = .ok (.iadd, 1) := dk_96 (dk_at dksX0_share_2_1 4 rfl rfl)
theorem dX0_share_2_28 : decode cX0_share_2 28 = .ok (.iaload, 1) := dk_46 (dk_at dksX0_share_2_1 5 rfl rfl)
theorem dX0_share_2_29 : decode cX0_share_2 29 = .ok (.i2l, 1) := dk_133 (dk_at dksX0_share_2_1 6 rfl rfl)
theorem dX0_share_2_30 : decode cX0_share_2 30 = .ok (.lstore_n 3, 1) := dk_66 (dk_at dksX0_share_2_1 7 rfl rfl)
theorem dX0_share_2_31 : decode cX0_share_2 31 = .ok (.aload_n 0, 1) := dk_42 (dk_at dksX0_share_2_1 8 rfl rfl)
theorem dX0_share_2_32 : decode cX0_share_2 32 = .ok (.getfield 39, 3) := dk_180 0 39 (dk_at dksX0_share_2_1 9 rfl rfl)
theorem dX0_share_2_35 : decode cX0_share_2 35 = .ok (.aload_n 0, 1) := dk_42 (dk_at dksX0_share_2_1 12 rfl rfl)
theorem dX0_share_2_36 : decode cX0_share_2 36 = .ok (.getfield 213, 3) := dk_180 0 213 (dk_at dksX0_share_2_1 13 rfl rfl)
theorem dX0_share_2_39 : decode cX0_share_2 39 = .ok (.iconst 3, 1) := dk_6 (dk_at dksX0_share_2_1 16 rfl rfl)
theorem dX0_share_2_40 : decode cX0_share_2 40 = .ok (.iadd, 1) := dk_96 (dk_at dksX0_share_2_1 17 rfl rfl)
theorem dX0_share_2_41 : decode cX0_share_2 41 = .ok (.iaload, 1) := dk_46 (dk_at dksX0_share_2_1 18 rfl rfl)
theorem dX0_share_2_42 : decode cX0_share_2 42 = .ok (.i2l, 1) := dk_133 (dk_at dksX0_share_2_1 19 rfl rfl)
theorem dX0_share_2_43 : decode cX0_share_2 43 = .ok (.lstore 5, 2) := dk_55 5 (dk_at dksX0_share_2_1 20 rfl rfl)
theorem dX0_share_2_45 : decode cX0_share_2 45 = .ok (.aload_n 0, 1) := dk_42 (dk_at dksX0_share_2_1 22 rfl rfl)
theorem dX0_share_2_46 : decode cX0_share_2 46 = .ok (.getfield 260, 3) := dk_180 1 4 (dk_at dksX0_share_2_2 0 rfl rfl)
theorem dX0_share_2_49 : decode cX0_share_2 49 = .ok (.ifCond .ne 22, 3) := dk_154 0 22 (dk_at dksX0_share_2_2 3 rfl rfl)
theorem dX0_share_2_52 : decode cX0_share_2 52 = .ok (.aload_n 0, 1) := dk_42 (dk_at dksX0_share_2_2 6 rfl rfl)
theorem dX0_share_2_53 : decode cX0_share_2 53 = .ok (.iload_n 2, 1) := dk_28 (dk_at dksX0_share_2_2 7 rfl rfl)
theorem dX0_share_2_54 : decode cX0_share_2 54 = .ok (.bipush (-9), 2) := dk_16 247 (dk_at dksX0_share_2_2 8 rfl rfl)
theorem dX0_share_2_56 : decode cX0_share_2 56 = .ok (.if_icmp .ne 8, 3) := dk_160 0 8 (dk_at dksX0_share_2_2 10 rfl rfl)
theorem dX0_share_2_59 : decode cX0_share_2 59 = .ok (.bipush 24, 2) := dk_16 24 (dk_at dksX0_share_2_2 13 rfl rfl)
theorem dX0_share_2_61 : decode cX0_share_2 61 = .ok (.goto 4, 3) := dk_167 0 4 (dk_at dksX0_share_2_2 15 rfl rfl)
theorem dX0_share_2_64 : decode cX0_share_2 64 = .ok (.iload_n 2, 1) := dk_28 (dk_at dksX0_share_2_2 18 rfl rfl)
theorem dX0_share_2_65 : decode cX0_share_2 65 = .ok (.lconst 1, 1) := dk_10 (dk_at dksX0_share_2_2 19 rfl rfl)
theorem dX0_share_2_66 : decode cX0_share_2 66 = .ok (.lconst 1, 1) := dk_10 (dk_at dksX0_share_2_2 20 rfl rfl)
theorem dX0_share_2_67 : decode cX0_share_2 67 = .ok (.invokevirtual 231, 3) := dk_182 0 231 (dk_at dksX0_share_2_2 21 rfl rfl)
theorem dX0_share_2_70 : decode cX0_share_2 70 = .ok (.return_, 1) := dk_177 (dk_at dksX0_share_2_3 0 rfl rfl)
theorem dX0_share_2_71 : decode cX0_share_2 71 = .ok (.iload_n 2, 1) := dk_28 (dk_at dksX0_share_2_3 1 rfl rfl)
theorem dX0_share_2_72 : decode cX0_share_2 72 = .ok (.bipush (-9), 2) := dk_16 247 (dk_at dksX0_share_2_3 2 rfl rfl)
theorem dX0_share_2_74 : decode cX0_share_2 74 = .ok (.if_icmp .eq 17, 3) := dk_159 0 17 (dk_at dksX0_share_2_3 4 rfl rfl)
theorem dX0_share_2_77 : decode cX0_share_2 77 = .ok (.lload_n 3, 1) := dk_33 (dk_at dksX0_share_2_3 7 rfl rfl)
theorem dX0_share_2_78 : decode cX0_share_2 78 = .ok (.lconst 0, 1) := dk_9 (dk_at dksX0_share_2_3 8 rfl rfl)
theorem dX0_share_2_79 : decode cX0_share_2 79 = .ok (.lcmp, 1) := dk_148 (dk_at dksX0_share_2_3 9 rfl rfl)
theorem dX0_share_2_80 : decode cX0_share_2 80 = .ok (.ifCond .le 11, 3) := dk_158 0 11 (dk_at dksX0_share_2_3 10 rfl rfl)
theorem dX0_share_2_83 : decode cX0_share_2 83 = .ok (.aload_n 0, 1) := dk_42 (dk_at dksX0_share_2_3 13 rfl rfl)
theorem dX0_share_2_84 : decode cX0_share_2 84 = .ok (.iload_n 2, 1) := dk_28 (dk_at dksX0_share_2_3 14 rfl rfl)
theorem dX0_share_2_85 : decode cX0_share_2 85 = .ok (.lload_n 3, 1) := dk_33 (dk_at dksX0_share_2_3 15 rfl rfl)
theorem dX0_share_2_86 : decode cX0_share_2 86 = .ok (.lload 5, 2) := dk_22 5 (dk_at dksX0_share_2_3 16 rfl rfl)
theorem dX0_share_2_88 : decode cX0_share_2 88 = .ok (.invokevirtual 231, 3) := dk_182 0 231 (dk_at dksX0_share_2_3 18 rfl rfl)
theorem dX0_share_2_91 : decode cX0_share_2 91 = .ok (.iload_n 2, 1) := dk_28 (dk_at dksX0_share_2_3 21 rfl rfl)
theorem dX0_share_2_92 : decode cX0_share_2 92 = .ok (.bipush (-9), 2) := dk_16 247 (dk_at dksX0_share_2_3 22 rfl rfl)
theorem dX0_share_2_94 : decode cX0_share_2 94 = .ok (.if_icmp .ne 7, 3) := dk_160 0 7 (dk_at dksX0_share_2_4 0 rfl rfl)
theorem dX0_share_2_97 : decode cX0_share_2 97 = .ok (.lconst 1, 1) := dk_10 (dk_at dksX0_share_2_4 3 rfl rfl)
theorem dX0_share_2_98 : decode cX0_share_2 98 = .ok (.goto 7, 3) := dk_167 0 7 (dk_at dksX0_share_2_4 4 rfl rfl)
theorem dX0_share_2_101 : decode cX0_share_2 101 = .ok (.lload 5, 2) := dk_22 5 (dk_at dksX0_share_2_4 7 rfl rfl)
theorem dX0_share_2_103 : decode cX0_share_2 103 = .ok (.lload_n 3, 1) := dk_33 (dk_at dksX0_share_2_4 9 rfl rfl)
theorem dX0_share_2_104 : decode cX0_share_2 104 = .ok (.lsub, 1) := dk_101 (dk_at dksX0_share_2_4 10 rfl rfl)
theorem dX0_share_2_105 : decode cX0_share_2 105 = .ok (.lstore 7, 2) := dk_55 7 (dk_at dksX0_share_2_4 11 rfl rfl)
theorem dX0_share_2_107 : decode cX0_share_2 107 = .ok (.iload_n 2, 1) := dk_28 (dk_at dksX0_share_2_4 13 rfl rfl)
theorem dX0_share_2_108 : decode cX0_share_2 108 = .ok (.bipush (-9), 2) := dk_16 247 (dk_at dksX0_share_2_4 14 rfl rfl)
theorem dX0_share_2_110 : decode cX0_share_2 110 = .ok (.if_icmp .ne 7, 3) := dk_160 0 7 (dk_at dksX0_share_2_4 16 rfl rfl)
theorem dX0_share_2_113 : decode cX0_share_2 113 = .ok (.lconst 1, 1) := dk_10 (dk_at dksX0_share_2_4 19 rfl rfl)
theorem dX0_share_2_114 : decode cX0_share_2 114 = .ok (.goto 5, 3) := dk_167 0 5 (dk_at dksX0_share_2_4 20 rfl rfl)
theorem dX0_share_2_117 : decode cX0_share_2 117 = .ok (.lload 5, 2) := dk_22 5 (dk_at dksX0_share_2_5 0 rfl rfl)
theorem dX0_share_2_119 : decode cX0_share_2 119 = .ok (.lstore 9, 2) := dk_55 9 (dk_at dksX0_share_2_5 2 rfl rfl)
theorem dX0_share_2_121 : decode cX0_share_2 121 = .ok (.aload_n 0, 1) := dk_42 (dk_at dksX0_share_2_5 4 rfl rfl)
theorem dX0_share_2_122 : decode cX0_share_2 122 = .ok (.invokevirtual 266, 3) := dk_182 1 10 (dk_at dksX0_share_2_5 5 rfl rfl)
theorem dX0_share_2_125 : decode cX0_share_2 125 = .ok (.aload_n 0, 1) := dk_42 (dk_at dksX0_share_2_5 8 rfl rfl)
theorem dX0_share_2_126 : decode cX0_share_2 126 = .ok (.getfield 260, 3) := dk_180 1 4 (dk_at dksX0_share_2_5 9 rfl rfl)
theorem dX0_share_2_129 : decode cX0_share_2 129 = .ok (.iconst 1, 1) := dk_4 (dk_at dksX0_share_2_5 12 rfl rfl)
theorem dX0_share_2_130 : decode cX0_share_2 130 = .ok (.if_icmp .ne 12, 3) := dk_160 0 12 (dk_at dksX0_share_2_5 13 rfl rfl)
theorem dX0_share_2_133 : decode cX0_share_2 133 = .ok (.aload_n 0, 1) := dk_42 (dk_at dksX0_share_2_5 16 rfl rfl)
theorem dX0_share_2_134 : decode cX0_share_2 134 = .ok (.iload_n 1, 1) := dk_27 (dk_at dksX0_share_2_5 17 rfl rfl)
theorem dX0_share_2_135 : decode cX0_share_2 135 = .ok (.lload 7, 2) := dk_22 7 (dk_at dksX0_share_2_5 18 rfl rfl)
theorem dX0_share_2_137 : decode cX0_share_2 137 = .ok (.lload 9, 2) := dk_22 9 (dk_at dksX0_share_2_5 20 rfl rfl)
theorem dX0_share_2_139 : decode cX0_share_2 139 = .ok (.invokevirtual 235, 3) := dk_182 0 235 (dk_at dksX0_share_2_6 0 rfl rfl)
theorem dX0_share_2_142 : decode cX0_share_2 142 = .ok (.aload_n 0, 1) := dk_42 (dk_at dksX0_share_2_6 3 rfl rfl)
theorem dX0_share_2_143 : decode cX0_share_2 143 = .ok (.invokevirtual 251, 3) := dk_182 0 251 (dk_at dksX0_share_2_6 4 rfl rfl)
theorem dX0_share_2_146 : decode cX0_share_2 146 = .ok (.istore 11, 2) := dk_54 11 (dk_at dksX0_share_2_6 7 rfl rfl)
theorem dX0_share_2_148 : decode cX0_share_2 148 = .ok (.iconst 0, 1) := dk_3 (dk_at dksX0_share_2_6 9 rfl rfl)
theorem dX0_share_2_149 : decode cX0_share_2 149 = .ok (.istore 12, 2) := dk_54 12 (dk_at dksX0_share_2_6 10 rfl rfl)
theorem dX0_share_2_151 : decode cX0_share_2 151 = .ok (.iload 12, 2) := dk_21 12 (dk_at dksX0_share_2_6 12 rfl rfl)
theorem dX0_share_2_153 : decode cX0_share_2 153 = .ok (.aload_n 0, 1) := dk_42 (dk_at dksX0_share_2_6 14 rfl rfl)
theorem dX0_share_2_154 : decode cX0_share_2 154 = .ok (.getfield 241, 3) := dk_180 0 241 (dk_at dksX0_share_2_6 15 rfl rfl)
theorem dX0_share_2_157 : decode cX0_share_2 157 = .ok (.if_icmp .ge 50, 3) := dk_162 0 50 (dk_at dksX0_share_2_6 18 rfl rfl)
theorem dX0_share_2_160 : decode cX0_share_2 160 = .ok (.aload_n 0, 1) := dk_42 (dk_at dksX0_share_2_6 21 rfl rfl)
theorem dX0_share_2_161 : decode cX0_share_2 161 = .ok (.getfield 260, 3) := dk_180 1 4 (dk_at dksX0_share_2_7 0 rfl rfl)
theorem dX0_share_2_164 : decode cX0_share_2 164 = .ok (.iconst 1, 1) := dk_4 (dk_at dksX0_share_2_7 3 rfl rfl)
theorem dX0_share_2_165 : decode cX0_share_2 165 = .ok (.if_icmp .le 42, 3) := dk_164 0 42 (dk_at dksX0_share_2_7 4 rfl rfl)
theorem dX0_share_2_168 : decode cX0_share_2 168 = .ok (.aload_n 0, 1) := dk_42 (dk_at dksX0_share_2_7 7 rfl rfl)
theorem dX0_share_2_169 : decode cX0_share_2 169 = .ok (.aload_n 0, 1) := dk_42 (dk_at dksX0_share_2_7 8 rfl rfl)
theorem dX0_share_2_170 : decode cX0_share_2 170 = .ok (.getfield 71, 3) := dk_180 0 71 (dk_at dksX0_share_2_7 9 rfl rfl)
theorem dX0_share_2_173 : decode cX0_share_2 173 = .ok (.iload 12, 2) := dk_21 12 (dk_at dksX0_share_2_7 12 rfl rfl)
theorem dX0_share_2_175 : decode cX0_share_2 175 = .ok (.iaload, 1) := dk_46 (dk_at dksX0_share_2_7 14 rfl rfl)
theorem dX0_share_2_176 : decode cX0_share_2 176 = .ok (.invokevirtual 224, 3) := dk_182 0 224 (dk_at dksX0_share_2_7 15 rfl rfl)
theorem dX0_share_2_179 : decode cX0_share_2 179 = .ok (.ifCond .eq 22, 3) := dk_153 0 22 (dk_at dksX0_share_2_7 18 rfl rfl)
theorem dX0_share_2_182 : decode cX0_share_2 182 = .ok (.aload_n 0, 1) := dk_42 (dk_at dksX0_share_2_7 21 rfl rfl)
theorem dX0_share_2_183 : decode cX0_share_2 183 = .ok (.aload_n 0, 1) := dk_42 (dk_at dksX0_share_2_7 22 rfl rfl)
theorem dX0_share_2_184 : decode cX0_share_2 184 = .ok (.getfield 71, 3) := dk_180 0 71 (dk_at dksX0_share_2_8 0 rfl rfl)
theorem dX0_share_2_187 : decode cX0_share_2 187 = .ok (.iload 12, 2) := dk_21 12 (dk_at dksX0_share_2_8 3 rfl rfl)
theorem dX0_share_2_189 : decode cX0_share_2 189 = .ok (.iaload, 1) := dk_46 (dk_at dksX0_share_2_8 5 rfl rfl)
theorem dX0_share_2_190 : decode cX0_share_2 190 = .ok (.lload 7, 2) := dk_22 7 (dk_at dksX0_share_2_8 6 rfl rfl)
theorem dX0_share_2_192 : decode cX0_share_2 192 = .ok (.lload 9, 2) := dk_22 9 (dk_at dksX0_share_2_8 8 rfl rfl)
theorem dX0_share_2_194 : decode cX0_share_2 194 = .ok (.iload 11, 2) := dk_21 11 (dk_at dksX0_share_2_8 10 rfl rfl)
theorem dX0_share_2_196 : decode cX0_share_2 196 = .ok (.i2l, 1) := dk_133 (dk_at dksX0_share_2_8 12 rfl rfl)
theorem dX0_share_2_197 : decode cX0_share_2 197 = .ok (.lmul, 1) := dk_105 (dk_at dksX0_share_2_8 13 rfl rfl)
theorem dX0_share_2_198 : decode cX0_share_2 198 = .ok (.invokevirtual 238, 3) := dk_182 0 238 (dk_at dksX0_share_2_8 14 rfl rfl)
theorem dX0_share_2_201 : decode cX0_share_2 201 = .ok (.iinc 12 1, 3) := dk_132 12 1 (dk_at dksX0_share_2_8 17 rfl rfl)
theorem dX0_share_2_204 : decode cX0_share_2 204 = .ok (.goto (-53), 3) := dk_167 255 203 (dk_at dksX0_share_2_8 20 rfl rfl)
theorem dX0_share_2_207 : decode cX0_share_2 207 = .ok (.aload_n 0, 1) := dk_42 (dk_at dksX0_share_2_8 23 rfl rfl)
theorem dX0_share_2_208 : decode cX0_share_2 208 = .ok (.invokevirtual 269, 3) := dk_182 1 13 (dk_at dksX0_share_2_9 0 rfl rfl)
theorem dX0_share_2_211 : decode cX0_share_2 211 = .ok (.return_, 1) := dk_177 (dk_at dksX0_share_2_9 3 rfl rfl)
abbrev cX0_layEstate : ByteArray := prog_1_method_27_code
def yX0_layEstate : MethodName := ⟨RX0, "layEstate", "(I)V"⟩
def dkwX0_layEstate_9 : List UInt8 := [9, 80, 42, 180, 0, 59, 28, 10, 80, 132, 2, 1, 167, 255, 233, 177]
abbrev dktX0_layEstate_9 : List UInt8 := dkwX0_layEstate_9 ++ []
def dkwX0_layEstate_8 : List UInt8 := [167, 0, 4, 3, 84, 132, 2, 1, 167, 255, 158, 3, 61, 28, 16, 24, 163, 0, 23, 42, 180, 0, 55, 28]
abbrev dktX0_layEstate_8 : List UInt8 := dkwX0_layEstate_8 ++ dktX0_layEstate_9
def dkwX0_layEstate_7 : List UInt8 := [4, 160, 0, 7, 4, 167, 0, 4, 3, 42, 180, 0, 27, 27, 46, 185, 0, 216, 3, 0, 153, 0, 7, 4]
abbrev dktX0_layEstate_7 : List UInt8 := dkwX0_layEstate_7 ++ dktX0_layEstate_8
def dkwX0_layEstate_6 : List UInt8 := [160, 0, 12, 42, 180, 0, 42, 28, 51, 153, 0, 42, 45, 42, 180, 0, 39, 42, 180, 0, 213, 7, 96, 46]
abbrev dktX0_layEstate_6 : List UInt8 := dkwX0_layEstate_6 ++ dktX0_layEstate_7
def dkwX0_layEstate_5 : List UInt8 := [28, 42, 180, 0, 32, 28, 50, 180, 0, 147, 154, 0, 64, 42, 180, 0, 32, 28, 50, 182, 0, 172, 4]
abbrev dktX0_layEstate_5 : List UInt8 := dkwX0_layEstate_5 ++ dktX0_layEstate_6
def dkwX0_layEstate_4 : List UInt8 := [167, 255, 181, 3, 61, 28, 42, 180, 0, 144, 162, 0, 96, 42, 180, 0, 32, 28, 50, 78, 42, 180, 0, 49]
abbrev dktX0_layEstate_4 : List UInt8 := dkwX0_layEstate_4 ++ dktX0_layEstate_5
def dkwX0_layEstate_3 : List UInt8 := [180, 0, 27, 27, 46, 164, 0, 7, 4, 167, 0, 4, 3, 84, 42, 180, 0, 52, 28, 3, 79, 132, 2, 1]
abbrev dktX0_layEstate_3 : List UInt8 := dkwX0_layEstate_3 ++ dktX0_layEstate_4
def dkwX0_layEstate_2 : List UInt8 := [46, 163, 0, 33, 42, 180, 0, 27, 28, 46, 16, 247, 159, 0, 18, 42, 180, 0, 27, 28, 46, 42]
abbrev dktX0_layEstate_2 : List UInt8 := dkwX0_layEstate_2 ++ dktX0_layEstate_3
def dkwX0_layEstate_1 : List UInt8 := [162, 0, 73, 42, 180, 0, 46, 28, 28, 27, 159, 0, 48, 42, 180, 0, 24, 28, 46, 42, 180, 0, 27, 27]
abbrev dktX0_layEstate_1 : List UInt8 := dkwX0_layEstate_1 ++ dktX0_layEstate_2
def dkwX0_layEstate_0 : List UInt8 := [42, 27, 181, 0, 207, 42, 16, 6, 42, 27, 182, 0, 210, 104, 181, 0, 213, 3, 61, 28, 42, 180, 0, 125]
abbrev dktX0_layEstate_0 : List UInt8 := dkwX0_layEstate_0 ++ dktX0_layEstate_1
theorem dksX0_layEstate_0 : cX0_layEstate.data.toList.drop 0 = dktX0_layEstate_0 := by decide +kernel
theorem dksX0_layEstate_1 : cX0_layEstate.data.toList.drop 24 = dktX0_layEstate_1 := dk_seg dksX0_layEstate_0 24 rfl rfl
theorem dksX0_layEstate_2 : cX0_layEstate.data.toList.drop 48 = dktX0_layEstate_2 := dk_seg dksX0_layEstate_1 24 rfl rfl
theorem dksX0_layEstate_3 : cX0_layEstate.data.toList.drop 70 = dktX0_layEstate_3 := dk_seg dksX0_layEstate_2 22 rfl rfl
theorem dksX0_layEstate_4 : cX0_layEstate.data.toList.drop 94 = dktX0_layEstate_4 := dk_seg dksX0_layEstate_3 24 rfl rfl
theorem dksX0_layEstate_5 : cX0_layEstate.data.toList.drop 118 = dktX0_layEstate_5 := dk_seg dksX0_layEstate_4 24 rfl rfl
theorem dksX0_layEstate_6 : cX0_layEstate.data.toList.drop 141 = dktX0_layEstate_6 := dk_seg dksX0_layEstate_5 23 rfl rfl
theorem dksX0_layEstate_7 : cX0_layEstate.data.toList.drop 165 = dktX0_layEstate_7 := dk_seg dksX0_layEstate_6 24 rfl rfl
theorem dksX0_layEstate_8 : cX0_layEstate.data.toList.drop 189 = dktX0_layEstate_8 := dk_seg dksX0_layEstate_7 24 rfl rfl
theorem dksX0_layEstate_9 : cX0_layEstate.data.toList.drop 213 = dktX0_layEstate_9 := dk_seg dksX0_layEstate_8 24 rfl rfl
theorem dX0_layEstate_0 : decode cX0_layEstate 0 = .ok (.aload_n 0, 1) := dk_42 (dk_at dksX0_layEstate_0 0 rfl rfl)
theorem dX0_layEstate_1 : decode cX0_layEstate 1 = .ok (.iload_n 1, 1) := dk_27 (dk_at dksX0_layEstate_0 1 rfl rfl)
theorem dX0_layEstate_2 : decode cX0_layEstate 2 = .ok (.putfield 207, 3) := dk_181 0 207 (dk_at dksX0_layEstate_0 2 rfl rfl)
theorem dX0_layEstate_5 : decode cX0_layEstate 5 = .ok (.aload_n 0, 1) := dk_42 (dk_at dksX0_layEstate_0 5 rfl rfl)
theorem dX0_layEstate_6 : decode cX0_layEstate 6 = .ok (.bipush 6, 2) := dk_16 6 (dk_at dksX0_layEstate_0 6 rfl rfl)
theorem dX0_layEstate_8 : decode cX0_layEstate 8 = .ok (.aload_n 0, 1) := dk_42 (dk_at dksX0_layEstate_0 8 rfl rfl)
theorem dX0_layEstate_9 : decode cX0_layEstate 9 = .ok (.iload_n 1, 1) := dk_27 (dk_at dksX0_layEstate_0 9 rfl rfl)
theorem dX0_layEstate_10 : decode cX0_layEstate 10 = .ok (.invokevirtual 210, 3) := dk_182 0 210 (dk_at dksX0_layEstate_0 10 rfl rfl)
theorem dX0_layEstate_13 : decode cX0_layEstate 13 = .ok (.imul, 1) := dk_104 (dk_at dksX0_layEstate_0 13 rfl rfl)
theorem dX0_layEstate_14 : decode cX0_layEstate 14 = .ok (.putfield 213, 3) := dk_181 0 213 (dk_at dksX0_layEstate_0 14 rfl rfl)
theorem dX0_layEstate_17 : decode cX0_layEstate 17 = .ok (.iconst 0, 1) := dk_3 (dk_at dksX0_layEstate_0 17 rfl rfl)
theorem dX0_layEstate_18 : decode cX0_layEstate 18 = .ok (.istore_n 2, 1) := dk_61 (dk_at dksX0_layEstate_0 18 rfl rfl)
theorem dX0_layEstate_19 : decode cX0_layEstate 19 = .ok (.iload_n 2, 1) := dk_28 (dk_at dksX0_layEstate_0 19 rfl rfl)
theorem dX0_layEstate_20 : decode cX0_layEstate 20 = .ok (.aload_n 0, 1) := dk_42 (dk_at dksX0_layEstate_0 20 rfl rfl)
theorem dX0_layEstate_21 : decode cX0_layEstate 21 = .ok (.getfield 125, 3) := dk_180 0 125 (dk_at dksX0_layEstate_0 21 rfl rfl)
theorem dX0_layEstate_24 : decode cX0_layEstate 24 = .ok (.if_icmp .ge 73, 3) := dk_162 0 73 (dk_at dksX0_layEstate_1 0 rfl rfl)
theorem dX0_layEstate_27 : decode cX0_layEstate 27 = .ok (.aload_n 0, 1) := dk_42 (dk_at dksX0_layEstate_1 3 rfl rfl)
theorem dX0_layEstate_28 : decode cX0_layEstate 28 = .ok (.getfield 46, 3) := dk_180 0 46 (dk_at dksX0_layEstate_1 4 rfl rfl)
theorem dX0_layEstate_31 : decode cX0_layEstate 31 = .ok (.iload_n 2, 1) := dk_28 (dk_at dksX0_layEstate_1 7 rfl rfl)
theorem dX0_layEstate_32 : decode cX0_layEstate 32 = .ok (.iload_n 2, 1) := dk_28 (dk_at dksX0_layEstate_1 8 rfl rfl)
theorem dX0_layEstate_33 : decode cX0_layEstate 33 = .ok (.iload_n 1, 1) := dk_27 (dk_at dksX0_layEstate_1 9 rfl rfl)
theorem dX0_layEstate_34 : decode cX0_layEstate 34 = .ok (.if_icmp .eq 48, 3) := dk_159 0 48 (dk_at dksX0_layEstate_1 10 rfl rfl)
theorem dX0_layEstate_37 : decode cX0_layEstate 37 = .ok (.aload_n 0, 1) := dk_42 (dk_at dksX0_layEstate_1 13 rfl rfl)
theorem dX0_layEstate_38 : decode cX0_layEstate 38 = .ok (.getfield 24, 3) := dk_180 0 24 (dk_at dksX0_layEstate_1 14 rfl rfl)
theorem dX0_layEstate_41 : decode cX0_layEstate 41 = .ok (.iload_n 2, 1) := dk_28 (dk_at dksX0_layEstate_1 17 rfl rfl)
theorem dX0_layEstate_42 : decode cX0_layEstate 42 = .ok (.iaload, 1) := dk_46 (dk_at dksX0_layEstate_1 18 rfl rfl)
theorem dX0_layEstate_43 : decode cX0_layEstate 43 = .ok (.aload_n 0, 1) := dk_42 (dk_at dksX0_layEstate_1 19 rfl rfl)
theorem dX0_layEstate_44 : decode cX0_layEstate 44 = .ok (.getfield 27, 3) := dk_180 0 27 (dk_at dksX0_layEstate_1 20 rfl rfl)
theorem dX0_layEstate_47 : decode cX0_layEstate 47 = .ok (.iload_n 1, 1) := dk_27 (dk_at dksX0_layEstate_1 23 rfl rfl)
theorem dX0_layEstate_48 : decode cX0_layEstate 48 = .ok (.iaload, 1) := dk_46 (dk_at dksX0_layEstate_2 0 rfl rfl)
theorem dX0_layEstate_49 : decode cX0_layEstate 49 = .ok (.if_icmp .gt 33, 3) := dk_163 0 33 (dk_at dksX0_layEstate_2 1 rfl rfl)
theorem dX0_layEstate_52 : decode cX0_layEstate 52 = .ok (.aload_n 0, 1) := dk_42 (dk_at dksX0_layEstate_2 4 rfl rfl)
theorem dX0_layEstate_53 : decode cX0_layEstate 53 = .ok (.getfield 27, 3) := dk_180 0 27 (dk_at dksX0_layEstate_2 5 rfl rfl)
theorem dX0_layEstate_56 : decode cX0_layEstate 56 = .ok (.iload_n 2, 1) := dk_28 (dk_at dksX0_layEstate_2 8 rfl rfl)
theorem dX0_layEstate_57 : decode cX0_layEstate 57 = .ok (.iaload, 1) := dk_46 (dk_at dksX0_layEstate_2 9 rfl rfl)
theorem dX0_layEstate_58 : decode cX0_layEstate 58 = .ok (.bipush (-9), 2) := dk_16 247 (dk_at dksX0_layEstate_2 10 rfl rfl)
theorem dX0_layEstate_60 : decode cX0_layEstate 60 = .ok (.if_icmp .eq 18, 3) := dk_159 0 18 (dk_at dksX0_layEstate_2 12 rfl rfl)
theorem dX0_layEstate_63 : decode cX0_layEstate 63 = .ok (.aload_n 0, 1) := dk_42 (dk_at dksX0_layEstate_2 15 rfl rfl)
theorem dX0_layEstate_64 : decode cX0_layEstate 64 = .ok (.getfield 27, 3) := dk_180 0 27 (dk_at dksX0_layEstate_2 16 rfl rfl)
theorem dX0_layEstate_67 : decode cX0_layEstate 67 = .ok (.iload_n 2, 1) := dk_28 (dk_at dksX0_layEstate_2 19 rfl rfl)
theorem dX0_layEstate_68 : decode cX0_layEstate 68 = .ok (.iaload, 1) := dk_46 (dk_at dksX0_layEstate_2 20 rfl rfl)
theorem dX0_layEstate_69 : decode cX0_layEstate 69 = .ok (.aload_n 0, 1) := dk_42 (dk_at dksX0_layEstate_2 21 rfl rfl)
theorem dX0_layEstate_70 : decode cX0_layEstate 70 = .ok (.getfield 27, 3) := dk_180 0 27 (dk_at dksX0_layEstate_3 0 rfl rfl)
theorem dX0_layEstate_73 : decode cX0_layEstate 73 = .ok (.iload_n 1, 1) := dk_27 (dk_at dksX0_layEstate_3 3 rfl rfl)
theorem dX0_layEstate_74 : decode cX0_layEstate 74 = .ok (.iaload, 1) := dk_46 (dk_at dksX0_layEstate_3 4 rfl rfl)
theorem dX0_layEstate_75 : decode cX0_layEstate 75 = .ok (.if_icmp .le 7, 3) := dk_164 0 7 (dk_at dksX0_layEstate_3 5 rfl rfl)
theorem dX0_layEstate_78 : decode cX0_layEstate 78 = .ok (.iconst 1, 1) := dk_4 (dk_at dksX0_layEstate_3 8 rfl rfl)
theorem dX0_layEstate_79 : decode cX0_layEstate 79 = .ok (.goto 4, 3) := dk_167 0 4 (dk_at dksX0_layEstate_3 9 rfl rfl)
theorem dX0_layEstate_82 : decode cX0_layEstate 82 = .ok (.iconst 0, 1) := dk_3 (dk_at dksX0_layEstate_3 12 rfl rfl)
theorem dX0_layEstate_83 : decode cX0_layEstate 83 = .ok (.bastore, 1) := dk_84 (dk_at dksX0_layEstate_3 13 rfl rfl)
theorem dX0_layEstate_84 : decode cX0_layEstate 84 = .ok (.aload_n 0, 1) := dk_42 (dk_at dksX0_layEstate_3 14 rfl rfl)
theorem dX0_layEstate_85 : decode cX0_layEstate 85 = .ok (.getfield 52, 3) := dk_180 0 52 (dk_at dksX0_layEstate_3 15 rfl rfl)
theorem dX0_layEstate_88 : decode cX0_layEstate 88 = .ok (.iload_n 2, 1) := dk_28 (dk_at dksX0_layEstate_3 18 rfl rfl)
theorem dX0_layEstate_89 : decode cX0_layEstate 89 = .ok (.iconst 0, 1) := dk_3 (dk_at dksX0_layEstate_3 19 rfl rfl)
theorem dX0_layEstate_90 : decode cX0_layEstate 90 = .ok (.iastore, 1) := dk_79 (dk_at dksX0_layEstate_3 20 rfl rfl)
theorem dX0_layEstate_91 : decode cX0_layEstate 91 = .ok (.iinc 2 1, 3) := dk_132 2 1 (dk_at dksX0_layEstate_3 21 rfl rfl)
theorem dX0_layEstate_94 : decode cX0_layEstate 94 = .ok (.goto (-75), 3) := dk_167 255 181 (dk_at dksX0_layEstate_4 0 rfl rfl)
theorem dX0_layEstate_97 : decode cX0_layEstate 97 = .ok (.iconst 0, 1) := dk_3 (dk_at dksX0_layEstate_4 3 rfl rfl)
theorem dX0_layEstate_98 : decode cX0_layEstate 98 = .ok (.istore_n 2, 1) := dk_61 (dk_at dksX0_layEstate_4 4 rfl rfl)
theorem dX0_layEstate_99 : decode cX0_layEstate 99 = .ok (.iload_n 2, 1) := dk_28 (dk_at dksX0_layEstate_4 5 rfl rfl)
theorem dX0_layEstate_100 : decode cX0_layEstate 100 = .ok (.aload_n 0, 1) := dk_42 (dk_at dksX0_layEstate_4 6 rfl rfl)
theorem dX0_layEstate_101 : decode cX0_layEstate 101 = .ok (.getfield 144, 3) := dk_180 0 144 (dk_at dksX0_layEstate_4 7 rfl rfl)
theorem dX0_layEstate_104 : decode cX0_layEstate 104 = .ok (.if_icmp .ge 96, 3) := dk_162 0 96 (dk_at dksX0_layEstate_4 10 rfl rfl)
theorem dX0_layEstate_107 : decode cX0_layEstate 107 = .ok (.aload_n 0, 1) := dk_42 (dk_at dksX0_layEstate_4 13 rfl rfl)
theorem dX0_layEstate_108 : decode cX0_layEstate 108 = .ok (.getfield 32, 3) := dk_180 0 32 (dk_at dksX0_layEstate_4 14 rfl rfl)
theorem dX0_layEstate_111 : decode cX0_layEstate 111 = .ok (.iload_n 2, 1) := dk_28 (dk_at dksX0_layEstate_4 17 rfl rfl)
theorem dX0_layEstate_112 : decode cX0_layEstate 112 = .ok (.aaload, 1) := dk_50 (dk_at dksX0_layEstate_4 18 rfl rfl)
theorem dX0_layEstate_113 : decode cX0_layEstate 113 = .ok (.astore_n 3, 1) := dk_78 (dk_at dksX0_layEstate_4 19 rfl rfl)
theorem dX0_layEstate_114 : decode cX0_layEstate 114 = .ok (.aload_n 0, 1) := dk_42 (dk_at dksX0_layEstate_4 20 rfl rfl)
theorem dX0_layEstate_115 : decode cX0_layEstate 115 = .ok (.getfield 49, 3) := dk_180 0 49 (dk_at dksX0_layEstate_4 21 rfl rfl)
theorem dX0_layEstate_118 : decode cX0_layEstate 118 = .ok (.iload_n 2, 1) := dk_28 (dk_at dksX0_layEstate_5 0 rfl rfl)
theorem dX0_layEstate_119 : decode cX0_layEstate 119 = .ok (.aload_n 0, 1) := dk_42 (dk_at dksX0_layEstate_5 1 rfl rfl)
theorem dX0_layEstate_120 : decode cX0_layEstate 120 = .ok (.getfield 32, 3) := dk_180 0 32 (dk_at dksX0_layEstate_5 2 rfl rfl)
theorem dX0_layEstate_123 : decode cX0_layEstate 123 = .ok (.iload_n 2, 1) := dk_28 (dk_at dksX0_layEstate_5 5 rfl rfl)
theorem dX0_layEstate_124 : decode cX0_layEstate 124 = .ok (.aaload, 1) := dk_50 (dk_at dksX0_layEstate_5 6 rfl rfl)
theorem dX0_layEstate_125 : decode cX0_layEstate 125 = .ok (.getfield 147, 3) := dk_180 0 147 (dk_at dksX0_layEstate_5 7 rfl rfl)
theorem dX0_layEstate_128 : decode cX0_layEstate 128 = .ok (.ifCond .ne 64, 3) := dk_154 0 64 (dk_at dksX0_layEstate_5 10 rfl rfl)
theorem dX0_layEstate_131 : decode cX0_layEstate 131 = .ok (.aload_n 0, 1) := dk_42 (dk_at dksX0_layEstate_5 13 rfl rfl)
theorem dX0_layEstate_132 : decode cX0_layEstate 132 = .ok (.getfield 32, 3) := dk_180 0 32 (dk_at dksX0_layEstate_5 14 rfl rfl)
theorem dX0_layEstate_135 : decode cX0_layEstate 135 = .ok (.iload_n 2, 1) := dk_28 (dk_at dksX0_layEstate_5 17 rfl rfl)
theorem dX0_layEstate_136 : decode cX0_layEstate 136 = .ok (.aaload, 1) := dk_50 (dk_at dksX0_layEstate_5 18 rfl rfl)
theorem dX0_layEstate_137 : decode cX0_layEstate 137 = .ok (.invokevirtual 172, 3) := dk_182 0 172 (dk_at dksX0_layEstate_5 19 rfl rfl)
theorem dX0_layEstate_140 : decode cX0_layEstate 140 = .ok (.iconst 1, 1) := dk_4 (dk_at dksX0_layEstate_5 22 rfl rfl)
theorem dX0_layEstate_141 : decode cX0_layEstate 141 = .ok (.if_icmp .ne 12, 3) := dk_160 0 12 (dk_at dksX0_layEstate_6 0 rfl rfl)
theorem dX0_layEstate_144 : decode cX0_layEstate 144 = .ok (.aload_n 0, 1) := dk_42 (dk_at dksX0_layEstate_6 3 rfl rfl)
theorem dX0_layEstate_145 : decode cX0_layEstate 145 = .ok (.getfield 42, 3) := dk_180 0 42 (dk_at dksX0_layEstate_6 4 rfl rfl)
theorem dX0_layEstate_148 : decode cX0_layEstate 148 = .ok (.iload_n 2, 1) := dk_28 (dk_at dksX0_layEstate_6 7 rfl rfl)
theorem dX0_layEstate_149 : decode cX0_layEstate 149 = .ok (.baload, 1) := dk_51 (dk_at dksX0_layEstate_6 8 rfl rfl)
theorem dX0_layEstate_150 : decode cX0_layEstate 150 = .ok (.ifCond .eq 42, 3) := dk_153 0 42 (dk_at dksX0_layEstate_6 9 rfl rfl)
theorem dX0_layEstate_153 : decode cX0_layEstate 153 = .ok (.aload_n 3, 1) := dk_45 (dk_at dksX0_layEstate_6 12 rfl rfl)
theorem dX0_layEstate_154 : decode cX0_layEstate 154 = .ok (.aload_n 0, 1) := dk_42 (dk_at dksX0_layEstate_6 13 rfl rfl)
theorem dX0_layEstate_155 : decode cX0_layEstate 155 = .ok (.getfield 39, 3) := dk_180 0 39 (dk_at dksX0_layEstate_6 14 rfl rfl)
theorem dX0_layEstate_158 : decode cX0_layEstate 158 = .ok (.aload_n 0, 1) := dk_42 (dk_at dksX0_layEstate_6 17 rfl rfl)
theorem dX0_layEstate_159 : decode cX0_layEstate 159 = .ok (.getfield 213, 3) := dk_180 0 213 (dk_at dksX0_layEstate_6 18 rfl rfl)
theorem dX0_layEstate_162 : decode cX0_layEstate 162 = .ok (.iconst 4, 1) := dk_7 (dk_at dksX0_layEstate_6 21 rfl rfl)
theorem dX0_layEstate_163 : decode cX0_layEstate 163 = .ok (.iadd, 1) := dk_96 (dk_at dksX0_layEstate_6 22 rfl rfl)
theorem dX0_layEstate_164 : decode cX0_layEstate 164 = .ok (.iaload, 1) := dk_46 (dk_at dksX0_layEstate_6 23 rfl rfl)
theorem dX0_layEstate_165 : decode cX0_layEstate 165 = .ok (.iconst 1, 1) := dk_4 (dk_at dksX0_layEstate_7 0 rfl rfl)
theorem dX0_layEstate_166 : decode cX0_layEstate 166 = .ok (.if_icmp .ne 7, 3) := dk_160 0 7 (dk_at dksX0_layEstate_7 1 rfl rfl)
theorem dX0_layEstate_169 : decode cX0_layEstate 169 = .ok (.iconst 1, 1) := dk_4 (dk_at dksX0_layEstate_7 4 rfl rfl)
theorem dX0_layEstate_170 : decode cX0_layEstate 170 = .ok (.goto 4, 3) := dk_167 0 4 (dk_at dksX0_layEstate_7 5 rfl rfl)
theorem dX0_layEstate_173 : decode cX0_layEstate 173 = .ok (.iconst 0, 1) := dk_3 (dk_at dksX0_layEstate_7 8 rfl rfl)
theorem dX0_layEstate_174 : decode cX0_layEstate 174 = .ok (.aload_n 0, 1) := dk_42 (dk_at dksX0_layEstate_7 9 rfl rfl)
theorem dX0_layEstate_175 : decode cX0_layEstate 175 = .ok (.getfield 27, 3) := dk_180 0 27 (dk_at dksX0_layEstate_7 10 rfl rfl)
theorem dX0_layEstate_178 : decode cX0_layEstate 178 = .ok (.iload_n 1, 1) := dk_27 (dk_at dksX0_layEstate_7 13 rfl rfl)
theorem dX0_layEstate_179 : decode cX0_layEstate 179 = .ok (.iaload, 1) := dk_46 (dk_at dksX0_layEstate_7 14 rfl rfl)
theorem dX0_layEstate_180 : decode cX0_layEstate 180 = .ok (.invokeinterface 216 3, 5) := by decide +kernel
theorem dX0_layEstate_185 : decode cX0_layEstate 185 = .ok (.ifCond .eq 7, 3) := dk_153 0 7 (dk_at dksX0_layEstate_7 20 rfl rfl)
theorem dX0_layEstate_188 : decode cX0_layEstate 188 = .ok (.iconst 1, 1) := dk_4 (dk_at dksX0_layEstate_7 23 rfl rfl)
theorem dX0_layEstate_189 : decode cX0_layEstate 189 = .ok (.goto 4, 3) := dk_167 0 4 (dk_at dksX0_layEstate_8 0 rfl rfl)
theorem dX0_layEstate_192 : decode cX0_layEstate 192 = .ok (.iconst 0, 1) := dk_3 (dk_at dksX0_layEstate_8 3 rfl rfl)
theorem dX0_layEstate_193 : decode cX0_layEstate 193 = .ok (.bastore, 1) := dk_84 (dk_at dksX0_layEstate_8 4 rfl rfl)
theorem dX0_layEstate_194 : decode cX0_layEstate 194 = .ok (.iinc 2 1, 3) := dk_132 2 1 (dk_at dksX0_layEstate_8 5 rfl rfl)
theorem dX0_layEstate_197 : decode cX0_layEstate 197 = .ok (.goto (-98), 3) := dk_167 255 158 (dk_at dksX0_layEstate_8 8 rfl rfl)
theorem dX0_layEstate_200 : decode cX0_layEstate 200 = .ok (.iconst 0, 1) := dk_3 (dk_at dksX0_layEstate_8 11 rfl rfl)
theorem dX0_layEstate_201 : decode cX0_layEstate 201 = .ok (.istore_n 2, 1) := dk_61 (dk_at dksX0_layEstate_8 12 rfl rfl)
theorem dX0_layEstate_202 : decode cX0_layEstate 202 = .ok (.iload_n 2, 1) := dk_28 (dk_at dksX0_layEstate_8 13 rfl rfl)
theorem dX0_layEstate_203 : decode cX0_layEstate 203 = .ok (.bipush 24, 2) := dk_16 24 (dk_at dksX0_layEstate_8 14 rfl rfl)
theorem dX0_layEstate_205 : decode cX0_layEstate 205 = .ok (.if_icmp .gt 23, 3) := dk_163 0 23 (dk_at dksX0_layEstate_8 16 rfl rfl)
theorem dX0_layEstate_208 : decode cX0_layEstate 208 = .ok (.aload_n 0, 1) := dk_42 (dk_at dksX0_layEstate_8 19 rfl rfl)
theorem dX0_layEstate_209 : decode cX0_layEstate 209 = .ok (.getfield 55, 3) := dk_180 0 55 (dk_at dksX0_layEstate_8 20 rfl rfl)
theorem dX0_layEstate_212 : decode cX0_layEstate 212 = .ok (.iload_n 2, 1) := dk_28 (dk_at dksX0_layEstate_8 23 rfl rfl)
theorem dX0_layEstate_213 : decode cX0_layEstate 213 = .ok (.lconst 0, 1) := dk_9 (dk_at dksX0_layEstate_9 0 rfl rfl)
theorem dX0_layEstate_214 : decode cX0_layEstate 214 = .ok (.lastore, 1) := dk_80 (dk_at dksX0_layEstate_9 1 rfl rfl)
theorem dX0_layEstate_215 : decode cX0_layEstate 215 = .ok (.aload_n 0, 1) := dk_42 (dk_at dksX0_layEstate_9 2 rfl rfl)
theorem dX0_layEstate_216 : decode cX0_layEstate 216 = .ok (.getfield 59, 3) := dk_180 0 59 (dk_at dksX0_layEstate_9 3 rfl rfl)
theorem dX0_layEstate_219 : decode cX0_layEstate 219 = .ok (.iload_n 2, 1) := dk_28 (dk_at dksX0_layEstate_9 6 rfl rfl)
theorem dX0_layEstate_220 : decode cX0_layEstate 220 = .ok (.lconst 1, 1) := dk_10 (dk_at dksX0_layEstate_9 7 rfl rfl)
theorem dX0_layEstate_221 : decode cX0_layEstate 221 = .ok (.lastore, 1) := dk_80 (dk_at dksX0_layEstate_9 8 rfl rfl)
theorem dX0_layEstate_222 : decode cX0_layEstate 222 = .ok (.iinc 2 1, 3) := dk_132 2 1 (dk_at dksX0_layEstate_9 9 rfl rfl)
theorem dX0_layEstate_225 : decode cX0_layEstate 225 = .ok (.goto (-23), 3) := dk_167 255 233 (dk_at dksX0_layEstate_9 12 rfl rfl)
theorem dX0_layEstate_228 : decode cX0_layEstate 228 = .ok (.return_, 1) := dk_177 (dk_at dksX0_layEstate_9 15 rfl rfl)
abbrev cX0_findCircle : ByteArray := prog_1_method_38_code
def yX0_findCircle : MethodName := ⟨RX0, "findCircle", "()I"⟩
def dkwX0_findCircle_2 : List UInt8 := [167, 255, 224, 3, 172]
abbrev dktX0_findCircle_2 : List UInt8 := dkwX0_findCircle_2 ++ []
def dkwX0_findCircle_1 : List UInt8 := [8, 96, 46, 163, 0, 23, 42, 27, 182, 0, 248, 42, 182, 0, 251, 158, 0, 5, 27, 172, 132, 1, 1]
abbrev dktX0_findCircle_1 : List UInt8 := dkwX0_findCircle_1 ++ dktX0_findCircle_2
def dkwX0_findCircle_0 : List UInt8 := [42, 42, 180, 0, 207, 182, 0, 221, 153, 0, 5, 4, 172, 5, 60, 27, 42, 180, 0, 39, 42, 180, 0, 213]
abbrev dktX0_findCircle_0 : List UInt8 := dkwX0_findCircle_0 ++ dktX0_findCircle_1
theorem dksX0_findCircle_0 : cX0_findCircle.data.toList.drop 0 = dktX0_findCircle_0 := by decide +kernel
theorem dksX0_findCircle_1 : cX0_findCircle.data.toList.drop 24 = dktX0_findCircle_1 := dk_seg dksX0_findCircle_0 24 rfl rfl
theorem dksX0_findCircle_2 : cX0_findCircle.data.toList.drop 47 = dktX0_findCircle_2 := dk_seg dksX0_findCircle_1 23 rfl rfl
theorem dX0_findCircle_0 : decode cX0_findCircle 0 = .ok (.aload_n 0, 1) := dk_42 (dk_at dksX0_findCircle_0 0 rfl rfl)
theorem dX0_findCircle_1 : decode cX0_findCircle 1 = .ok (.aload_n 0, 1) := dk_42 (dk_at dksX0_findCircle_0 1 rfl rfl)
theorem dX0_findCircle_2 : decode cX0_findCircle 2 = .ok (.getfield 207, 3) := dk_180 0 207 (dk_at dksX0_findCircle_0 2 rfl rfl)
theorem dX0_findCircle_5 : decode cX0_findCircle 5 = .ok (.invokevirtual 221, 3) := dk_182 0 221 (dk_at dksX0_findCircle_0 5 rfl rfl)
theorem dX0_findCircle_8 : decode cX0_findCircle 8 = .ok (.ifCond .eq 5, 3) := dk_153 0 5 (dk_at dksX0_findCircle_0 8 rfl rfl)
theorem dX0_findCircle_11 : decode cX0_findCircle 11 = .ok (.iconst 1, 1) := dk_4 (dk_at dksX0_findCircle_0 11 rfl rfl)
theorem dX0_findCircle_12 : decode cX0_findCircle 12 = .ok (.ireturn, 1) := dk_172 (dk_at dksX0_findCircle_0 12 rfl rfl)
theorem dX0_findCircle_13 : decode cX0_findCircle 13 = .ok (.iconst 2, 1) := dk_5 (dk_at dksX0_findCircle_0 13 rfl rfl)
theorem dX0_findCircle_14 : decode cX0_findCircle 14 = .ok (.istore_n 1, 1) := dk_60 (dk_at dksX0_findCircle_0 14 rfl rfl)
theorem dX0_findCircle_15 : decode cX0_findCircle 15 = .ok (.iload_n 1, 1) := dk_27 (dk_at dksX0_findCircle_0 15 rfl rfl)
theorem dX0_findCircle_16 : decode cX0_findCircle 16 = .ok (.aload_n 0, 1) := dk_42 (dk_at dksX0_findCircle_0 16 rfl rfl)
theorem dX0_findCircle_17 : decode cX0_findCircle 17 = .ok (.getfield 39, 3) := dk_180 0 39 (dk_at dksX0_findCircle_0 17 rfl rfl)
theorem dX0_findCircle_20 : decode cX0_findCircle 20 = .ok (.aload_n 0, 1) := dk_42 (dk_at dksX0_findCircle_0 20 rfl rfl)
theorem dX0_findCircle_21 : decode cX0_findCircle 21 = .ok (.getfield 213, 3) := dk_180 0 213 (dk_at dksX0_findCircle_0 21 rfl rfl)
theorem dX0_findCircle_24 : decode cX0_findCircle 24 = .ok (.iconst 5, 1) := dk_8 (dk_at dksX0_findCircle_1 0 rfl rfl)
theorem dX0_findCircle_25 : decode cX0_findCircle 25 = .ok (.iadd, 1) := dk_96 (dk_at dksX0_findCircle_1 1 rfl rfl)
theorem dX0_findCircle_26 : decode cX0_findCircle 26 = .ok (.iaload, 1) := dk_46 (dk_at dksX0_findCircle_1 2 rfl rfl)
theorem dX0_findCircle_27 : decode cX0_findCircle 27 = .ok (.if_icmp .gt 23, 3) := dk_163 0 23 (dk_at dksX0_findCircle_1 3 rfl rfl)
theorem dX0_findCircle_30 : decode cX0_findCircle 30 = .ok (.aload_n 0, 1) := dk_42 (dk_at dksX0_findCircle_1 6 rfl rfl)
theorem dX0_findCircle_31 : decode cX0_findCircle 31 = .ok (.iload_n 1, 1) := dk_27 (dk_at dksX0_findCircle_1 7 rfl rfl)
theorem dX0_findCircle_32 : decode cX0_findCircle 32 = .ok (.invokevirtual 248, 3) := dk_182 0 248 (dk_at dksX0_findCircle_1 8 rfl rfl)
theorem dX0_findCircle_35 : decode cX0_findCircle 35 = .ok (.aload_n 0, 1) := dk_42 (dk_at dksX0_findCircle_1 11 rfl rfl)
theorem dX0_findCircle_36 : decode cX0_findCircle 36 = .ok (.invokevirtual 251, 3) := dk_182 0 251 (dk_at dksX0_findCircle_1 12 rfl rfl)
theorem dX0_findCircle_39 : decode cX0_findCircle 39 = .ok (.ifCond .le 5, 3) := dk_158 0 5 (dk_at dksX0_findCircle_1 15 rfl rfl)
theorem dX0_findCircle_42 : decode cX0_findCircle 42 = .ok (.iload_n 1, 1) := dk_27 (dk_at dksX0_findCircle_1 18 rfl rfl)
theorem dX0_findCircle_43 : decode cX0_findCircle 43 = .ok (.ireturn, 1) := dk_172 (dk_at dksX0_findCircle_1 19 rfl rfl)
theorem dX0_findCircle_44 : decode cX0_findCircle 44 = .ok (.iinc 1 1, 3) := dk_132 1 1 (dk_at dksX0_findCircle_1 20 rfl rfl)
theorem dX0_findCircle_47 : decode cX0_findCircle 47 = .ok (.goto (-32), 3) := dk_167 255 224 (dk_at dksX0_findCircle_2 0 rfl rfl)
theorem dX0_findCircle_50 : decode cX0_findCircle 50 = .ok (.iconst 0, 1) := dk_3 (dk_at dksX0_findCircle_2 3 rfl rfl)
theorem dX0_findCircle_51 : decode cX0_findCircle 51 = .ok (.ireturn, 1) := dk_172 (dk_at dksX0_findCircle_2 4 rfl rfl)
abbrev cX0_issueTakes : ByteArray := prog_1_method_29_code
def yX0_issueTakes : MethodName := ⟨RX0, "issueTakes", "(I)Z"⟩
def dkwX0_issueTakes_4 : List UInt8 := [180, 0, 52, 27, 46, 4, 160, 0, 7, 4, 167, 0, 4, 3, 172]
abbrev dktX0_issueTakes_4 : List UInt8 := dkwX0_issueTakes_4 ++ []
def dkwX0_issueTakes_3 : List UInt8 := [61, 132, 3, 1, 167, 255, 197, 42, 180, 0, 52, 27, 28, 153, 0, 7, 4, 167, 0, 4, 5, 79, 42]
abbrev dktX0_issueTakes_3 : List UInt8 := dkwX0_issueTakes_3 ++ dktX0_issueTakes_4
def dkwX0_issueTakes_2 : List UInt8 := [160, 0, 23, 42, 42, 180, 0, 32, 29, 50, 180, 0, 154, 182, 0, 224, 153, 0, 7, 4, 167, 0, 4, 3]
abbrev dktX0_issueTakes_2 : List UInt8 := dkwX0_issueTakes_2 ++ dktX0_issueTakes_3
def dkwX0_issueTakes_1 : List UInt8 := [154, 0, 53, 42, 180, 0, 49, 29, 51, 153, 0, 36, 42, 180, 0, 32, 29, 50, 180, 0, 151, 27]
abbrev dktX0_issueTakes_1 : List UInt8 := dkwX0_issueTakes_1 ++ dktX0_issueTakes_2
def dkwX0_issueTakes_0 : List UInt8 := [42, 180, 0, 52, 27, 46, 154, 0, 84, 3, 61, 3, 62, 29, 42, 180, 0, 144, 162, 0, 57, 28]
abbrev dktX0_issueTakes_0 : List UInt8 := dkwX0_issueTakes_0 ++ dktX0_issueTakes_1
theorem dksX0_issueTakes_0 : cX0_issueTakes.data.toList.drop 0 = dktX0_issueTakes_0 := by decide +kernel
theorem dksX0_issueTakes_1 : cX0_issueTakes.data.toList.drop 22 = dktX0_issueTakes_1 := dk_seg dksX0_issueTakes_0 22 rfl rfl
theorem dksX0_issueTakes_2 : cX0_issueTakes.data.toList.drop 44 = dktX0_issueTakes_2 := dk_seg dksX0_issueTakes_1 22 rfl rfl
theorem dksX0_issueTakes_3 : cX0_issueTakes.data.toList.drop 68 = dktX0_issueTakes_3 := dk_seg dksX0_issueTakes_2 24 rfl rfl
theorem dksX0_issueTakes_4 : cX0_issueTakes.data.toList.drop 91 = dktX0_issueTakes_4 := dk_seg dksX0_issueTakes_3 23 rfl rfl
theorem dX0_issueTakes_0 : decode cX0_issueTakes 0 = .ok (.aload_n 0, 1) := dk_42 (dk_at dksX0_issueTakes_0 0 rfl rfl)
theorem dX0_issueTakes_1 : decode cX0_issueTakes 1 = .ok (.getfield 52, 3) := dk_180 0 52 (dk_at dksX0_issueTakes_0 1 rfl rfl)
theorem dX0_issueTakes_4 : decode cX0_issueTakes 4 = .ok (.iload_n 1, 1) := dk_27 (dk_at dksX0_issueTakes_0 4 rfl rfl)
theorem dX0_issueTakes_5 : decode cX0_issueTakes 5 = .ok (.iaload, 1) := dk_46 (dk_at dksX0_issueTakes_0 5 rfl rfl)
theorem dX0_issueTakes_6 : decode cX0_issueTakes 6 = .ok (.ifCond .ne 84, 3) := dk_154 0 84 (dk_at dksX0_issueTakes_0 6 rfl rfl)
theorem dX0_issueTakes_9 : decode cX0_issueTakes 9 = .ok (.iconst 0, 1) := dk_3 (dk_at dksX0_issueTakes_0 9 rfl rfl)
theorem dX0_issueTakes_10 : decode cX0_issueTakes 10 = .ok (.istore_n 2, 1) := dk_61 (dk_at dksX0_issueTakes_0 10 rfl rfl)
theorem dX0_issueTakes_11 : decode cX0_issueTakes 11 = .ok (.iconst 0, 1) := dk_3 (dk_at dksX0_issueTakes_0 11 rfl rfl)
theorem dX0_issueTakes_12 : decode cX0_issueTakes 12 = .ok (.istore_n 3, 1) := dk_62 (dk_at dksX0_issueTakes_0 12 rfl rfl)
theorem dX0_issueTakes_13 : decode cX0_issueTakes 13 = .ok (.iload_n 3, 1) := dk_29 (dk_at dksX0_issueTakes_0 13 rfl rfl)
theorem dX0_issueTakes_14 : decode cX0_issueTakes 14 = .ok (.aload_n 0, 1) := dk_42 (dk_at dksX0_issueTakes_0 14 rfl rfl)
theorem dX0_issueTakes_15 : decode cX0_issueTakes 15 = .ok (.getfield 144, 3) := dk_180 0 144 (dk_at dksX0_issueTakes_0 15 rfl rfl)
theorem dX0_issueTakes_18 : decode cX0_issueTakes 18 = .ok (.if_icmp .ge 57, 3) := dk_162 0 57 (dk_at dksX0_issueTakes_0 18 rfl rfl)
theorem dX0_issueTakes_21 : decode cX0_issueTakes 21 = .ok (.iload_n 2, 1) := dk_28 (dk_at dksX0_issueTakes_0 21 rfl rfl)
theorem dX0_issueTakes_22 : decode cX0_issueTakes 22 = .ok (.ifCond .ne 53, 3) := dk_154 0 53 (dk_at dksX0_issueTakes_1 0 rfl rfl)
theorem dX0_issueTakes_25 : decode cX0_issueTakes 25 = .ok (.aload_n 0, 1) := dk_42 (dk_at dksX0_issueTakes_1 3 rfl rfl)
theorem dX0_issueTakes_26 : decode cX0_issueTakes 26 = .ok (.getfield 49, 3) := dk_180 0 49 (dk_at dksX0_issueTakes_1 4 rfl rfl)
theorem dX0_issueTakes_29 : decode cX0_issueTakes 29 = .ok (.iload_n 3, 1) := dk_29 (dk_at dksX0_issueTakes_1 7 rfl rfl)
theorem dX0_issueTakes_30 : decode cX0_issueTakes 30 = .ok (.baload, 1) := dk_51 (dk_at dksX0_issueTakes_1 8 rfl rfl)
theorem dX0_issueTakes_31 : decode cX0_issueTakes 31 = .ok (.ifCond .eq 36, 3) := dk_153 0 36 (dk_at dksX0_issueTakes_1 9 rfl rfl)
theorem dX0_issueTakes_34 : decode cX0_issueTakes 34 = .ok (.aload_n 0, 1) := dk_42 (dk_at dksX0_issueTakes_1 12 rfl rfl)
theorem dX0_issueTakes_35 : decode cX0_issueTakes 35 = .ok (.getfield 32, 3) := dk_180 0 32 (dk_at dksX0_issueTakes_1 13 rfl rfl)
theorem dX0_issueTakes_38 : decode cX0_issueTakes 38 = .ok (.iload_n 3, 1) := dk_29 (dk_at dksX0_issueTakes_1 16 rfl rfl)
theorem dX0_issueTakes_39 : decode cX0_issueTakes 39 = .ok (.aaload, 1) := dk_50 (dk_at dksX0_issueTakes_1 17 rfl rfl)
theorem dX0_issueTakes_40 : decode cX0_issueTakes 40 = .ok (.getfield 151, 3) := dk_180 0 151 (dk_at dksX0_issueTakes_1 18 rfl rfl)
theorem dX0_issueTakes_43 : decode cX0_issueTakes 43 = .ok (.iload_n 1, 1) := dk_27 (dk_at dksX0_issueTakes_1 21 rfl rfl)
theorem dX0_issueTakes_44 : decode cX0_issueTakes 44 = .ok (.if_icmp .ne 23, 3) := dk_160 0 23 (dk_at dksX0_issueTakes_2 0 rfl rfl)
theorem dX0_issueTakes_47 : decode cX0_issueTakes 47 = .ok (.aload_n 0, 1) := dk_42 (dk_at dksX0_issueTakes_2 3 rfl rfl)
theorem dX0_issueTakes_48 : decode cX0_issueTakes 48 = .ok (.aload_n 0, 1) := dk_42 (dk_at dksX0_issueTakes_2 4 rfl rfl)
theorem dX0_issueTakes_49 : decode cX0_issueTakes 49 = .ok (.getfield 32, 3) := dk_180 0 32 (dk_at dksX0_issueTakes_2 5 rfl rfl)
theorem dX0_issueTakes_52 : decode cX0_issueTakes 52 = .ok (.iload_n 3, 1) := dk_29 (dk_at dksX0_issueTakes_2 8 rfl rfl)
theorem dX0_issueTakes_53 : decode cX0_issueTakes 53 = .ok (.aaload, 1) := dk_50 (dk_at dksX0_issueTakes_2 9 rfl rfl)
theorem dX0_issueTakes_54 : decode cX0_issueTakes 54 = .ok (.getfield 154, 3) := dk_180 0 154 (dk_at dksX0_issueTakes_2 10 rfl rfl)
theorem dX0_issueTakes_57 : decode cX0_issueTakes 57 = .ok (.invokevirtual 224, 3) := dk_182 0 224 (dk_at dksX0_issueTakes_2 13 rfl rfl)
theorem dX0_issueTakes_60 : decode cX0_issueTakes 60 = .ok (.ifCond .eq 7, 3) := dk_153 0 7 (dk_at dksX0_issueTakes_2 16 rfl rfl)
theorem dX0_issueTakes_63 : decode cX0_issueTakes 63 = .ok (.iconst 1, 1) := dk_4 (dk_at dksX0_issueTakes_2 19 rfl rfl)
theorem dX0_issueTakes_64 : decode cX0_issueTakes 64 = .ok (.goto 4, 3) := dk_167 0 4 (dk_at dksX0_issueTakes_2 20 rfl rfl)
theorem dX0_issueTakes_67 : decode cX0_issueTakes 67 = .ok (.iconst 0, 1) := dk_3 (dk_at dksX0_issueTakes_2 23 rfl rfl)
theorem dX0_issueTakes_68 : decode cX0_issueTakes 68 = .ok (.istore_n 2, 1) := dk_61 (dk_at dksX0_issueTakes_3 0 rfl rfl)
theorem dX0_issueTakes_69 : decode cX0_issueTakes 69 = .ok (.iinc 3 1, 3) := dk_132 3 1 (dk_at dksX0_issueTakes_3 1 rfl rfl)
theorem dX0_issueTakes_72 : decode cX0_issueTakes 72 = .ok (.goto (-59), 3) := dk_167 255 197 (dk_at dksX0_issueTakes_3 4 rfl rfl)
theorem dX0_issueTakes_75 : decode cX0_issueTakes 75 = .ok (.aload_n 0, 1) := dk_42 (dk_at dksX0_issueTakes_3 7 rfl rfl)
theorem dX0_issueTakes_76 : decode cX0_issueTakes 76 = .ok (.getfield 52, 3) := dk_180 0 52 (dk_at dksX0_issueTakes_3 8 rfl rfl)
theorem dX0_issueTakes_79 : decode cX0_issueTakes 79 = .ok (.iload_n 1, 1) := dk_27 (dk_at dksX0_issueTakes_3 11 rfl rfl)
theorem dX0_issueTakes_80 : decode cX0_issueTakes 80 = .ok (.iload_n 2, 1) := dk_28 (dk_at dksX0_issueTakes_3 12 rfl rfl)
theorem dX0_issueTakes_81 : decode cX0_issueTakes 81 = .ok (.ifCond .eq 7, 3) := dk_153 0 7 (dk_at dksX0_issueTakes_3 13 rfl rfl)
theorem dX0_issueTakes_84 : decode cX0_issueTakes 84 = .ok (.iconst 1, 1) := dk_4 (dk_at dksX0_issueTakes_3 16 rfl rfl)
theorem dX0_issueTakes_85 : decode cX0_issueTakes 85 = .ok (.goto 4, 3) := dk_167 0 4 (dk_at dksX0_issueTakes_3 17 rfl rfl)
theorem dX0_issueTakes_88 : decode cX0_issueTakes 88 = .ok (.iconst 2, 1) := dk_5 (dk_at dksX0_issueTakes_3 20 rfl rfl)
theorem dX0_issueTakes_89 : decode cX0_issueTakes 89 = .ok (.iastore, 1) := dk_79 (dk_at dksX0_issueTakes_3 21 rfl rfl)
theorem dX0_issueTakes_90 : decode cX0_issueTakes 90 = .ok (.aload_n 0, 1) := dk_42 (dk_at dksX0_issueTakes_3 22 rfl rfl)
theorem dX0_issueTakes_91 : decode cX0_issueTakes 91 = .ok (.getfield 52, 3) := dk_180 0 52 (dk_at dksX0_issueTakes_4 0 rfl rfl)
theorem dX0_issueTakes_94 : decode cX0_issueTakes 94 = .ok (.iload_n 1, 1) := dk_27 (dk_at dksX0_issueTakes_4 3 rfl rfl)
theorem dX0_issueTakes_95 : decode cX0_issueTakes 95 = .ok (.iaload, 1) := dk_46 (dk_at dksX0_issueTakes_4 4 rfl rfl)
theorem dX0_issueTakes_96 : decode cX0_issueTakes 96 = .ok (.iconst 1, 1) := dk_4 (dk_at dksX0_issueTakes_4 5 rfl rfl)
theorem dX0_issueTakes_97 : decode cX0_issueTakes 97 = .ok (.if_icmp .ne 7, 3) := dk_160 0 7 (dk_at dksX0_issueTakes_4 6 rfl rfl)
theorem dX0_issueTakes_100 : decode cX0_issueTakes 100 = .ok (.iconst 1, 1) := dk_4 (dk_at dksX0_issueTakes_4 9 rfl rfl)
theorem dX0_issueTakes_101 : decode cX0_issueTakes 101 = .ok (.goto 4, 3) := dk_167 0 4 (dk_at dksX0_issueTakes_4 10 rfl rfl)
theorem dX0_issueTakes_104 : decode cX0_issueTakes 104 = .ok (.iconst 0, 1) := dk_3 (dk_at dksX0_issueTakes_4 13 rfl rfl)
theorem dX0_issueTakes_105 : decode cX0_issueTakes 105 = .ok (.ireturn, 1) := dk_172 (dk_at dksX0_issueTakes_4 14 rfl rfl)
abbrev cX0_isIn : ByteArray := prog_1_method_28_code
def yX0_isIn : MethodName := ⟨RX0, "isIn", "(I)Z"⟩
def dkwX0_isIn_1 : List UInt8 := [153, 0, 7, 4, 167, 0, 4, 3, 172]
abbrev dktX0_isIn_1 : List UInt8 := dkwX0_isIn_1 ++ []
def dkwX0_isIn_0 : List UInt8 := [27, 42, 180, 0, 207, 159, 0, 24, 42, 180, 0, 46, 27, 51, 154, 0, 11, 42, 27, 182, 0, 221]
abbrev dktX0_isIn_0 : List UInt8 := dkwX0_isIn_0 ++ dktX0_isIn_1
theorem dksX0_isIn_0 : cX0_isIn.data.toList.drop 0 = dktX0_isIn_0 := by decide +kernel
theorem dksX0_isIn_1 : cX0_isIn.data.toList.drop 22 = dktX0_isIn_1 := dk_seg dksX0_isIn_0 22 rfl rfl
theorem dX0_isIn_0 : decode cX0_isIn 0 = .ok (.iload_n 1, 1) := dk_27 (dk_at dksX0_isIn_0 0 rfl rfl)
theorem dX0_isIn_1 : decode cX0_isIn 1 = .ok (.aload_n 0, 1) := dk_42 (dk_at dksX0_isIn_0 1 rfl rfl)
theorem dX0_isIn_2 : decode cX0_isIn 2 = .ok (.getfield 207, 3) := dk_180 0 207 (dk_at dksX0_isIn_0 2 rfl rfl)
theorem dX0_isIn_5 : decode cX0_isIn 5 = .ok (.if_icmp .eq 24, 3) := dk_159 0 24 (dk_at dksX0_isIn_0 5 rfl rfl)
theorem dX0_isIn_8 : decode cX0_isIn 8 = .ok (.aload_n 0, 1) := dk_42 (dk_at dksX0_isIn_0 8 rfl rfl)
theorem dX0_isIn_9 : decode cX0_isIn 9 = .ok (.getfield 46, 3) := dk_180 0 46 (dk_at dksX0_isIn_0 9 rfl rfl)
theorem dX0_isIn_12 : decode cX0_isIn 12 = .ok (.iload_n 1, 1) := dk_27 (dk_at dksX0_isIn_0 12 rfl rfl)
theorem dX0_isIn_13 : decode cX0_isIn 13 = .ok (.baload, 1) := dk_51 (dk_at dksX0_isIn_0 13 rfl rfl)
theorem dX0_isIn_14 : decode cX0_isIn 14 = .ok (.ifCond .ne 11, 3) := dk_154 0 11 (dk_at dksX0_isIn_0 14 rfl rfl)
theorem dX0_isIn_17 : decode cX0_isIn 17 = .ok (.aload_n 0, 1) := dk_42 (dk_at dksX0_isIn_0 17 rfl rfl)
theorem dX0_isIn_18 : decode cX0_isIn 18 = .ok (.iload_n 1, 1) := dk_27 (dk_at dksX0_isIn_0 18 rfl rfl)
theorem dX0_isIn_19 : decode cX0_isIn 19 = .ok (.invokevirtual 221, 3) := dk_182 0 221 (dk_at dksX0_isIn_0 19 rfl rfl)
theorem dX0_isIn_22 : decode cX0_isIn 22 = .ok (.ifCond .eq 7, 3) := dk_153 0 7 (dk_at dksX0_isIn_1 0 rfl rfl)
theorem dX0_isIn_25 : decode cX0_isIn 25 = .ok (.iconst 1, 1) := dk_4 (dk_at dksX0_isIn_1 3 rfl rfl)
theorem dX0_isIn_26 : decode cX0_isIn 26 = .ok (.goto 4, 3) := dk_167 0 4 (dk_at dksX0_isIn_1 4 rfl rfl)
theorem dX0_isIn_29 : decode cX0_isIn 29 = .ok (.iconst 0, 1) := dk_3 (dk_at dksX0_isIn_1 7 rfl rfl)
theorem dX0_isIn_30 : decode cX0_isIn 30 = .ok (.ireturn, 1) := dk_172 (dk_at dksX0_isIn_1 8 rfl rfl)
abbrev cX0_layHeads : ByteArray := prog_1_method_36_code
def yX0_layHeads : MethodName := ⟨RX0, "layHeads", "(I)V"⟩
def dkwX0_layHeads_3 : List UInt8 := [132, 3, 1, 167, 255, 231, 42, 89, 180, 0, 241, 28, 100, 181, 0, 241, 177]
abbrev dktX0_layHeads_3 : List UInt8 := dkwX0_layHeads_3 ++ []
def dkwX0_layHeads_2 : List UInt8 := [29, 42, 180, 0, 241, 162, 0, 23, 42, 180, 0, 71, 29, 28, 100, 42, 180, 0, 71, 29, 46, 79]
abbrev dktX0_layHeads_2 : List UInt8 := dkwX0_layHeads_2 ++ dktX0_layHeads_3
def dkwX0_layHeads_1 : List UInt8 := [62, 29, 28, 162, 0, 19, 42, 42, 180, 0, 71, 29, 46, 182, 0, 244, 132, 3, 1, 167, 255, 238, 28, 62]
abbrev dktX0_layHeads_1 : List UInt8 := dkwX0_layHeads_1 ++ dktX0_layHeads_2
def dkwX0_layHeads_0 : List UInt8 := [42, 3, 181, 0, 241, 42, 42, 180, 0, 207, 182, 0, 244, 27, 6, 160, 0, 71, 42, 180, 0, 241, 61, 3]
abbrev dktX0_layHeads_0 : List UInt8 := dkwX0_layHeads_0 ++ dktX0_layHeads_1
theorem dksX0_layHeads_0 : cX0_layHeads.data.toList.drop 0 = dktX0_layHeads_0 := by decide +kernel
theorem dksX0_layHeads_1 : cX0_layHeads.data.toList.drop 24 = dktX0_layHeads_1 := dk_seg dksX0_layHeads_0 24 rfl rfl
theorem dksX0_layHeads_2 : cX0_layHeads.data.toList.drop 48 = dktX0_layHeads_2 := dk_seg dksX0_layHeads_1 24 rfl rfl
theorem dksX0_layHeads_3 : cX0_layHeads.data.toList.drop 70 = dktX0_layHeads_3 := dk_seg dksX0_layHeads_2 22 rfl rfl
theorem dX0_layHeads_0 : decode cX0_layHeads 0 = .ok (.aload_n 0, 1) := dk_42 (dk_at dksX0_layHeads_0 0 rfl rfl)
theorem dX0_layHeads_1 : decode cX0_layHeads 1 = .ok (.iconst 0, 1) := dk_3 (dk_at dksX0_layHeads_0 1 rfl rfl)
theorem dX0_layHeads_2 : decode cX0_layHeads 2 = .ok (.putfield 241, 3) := dk_181 0 241 (dk_at dksX0_layHeads_0 2 rfl rfl)
theorem dX0_layHeads_5 : decode cX0_layHeads 5 = .ok (.aload_n 0, 1) := dk_42 (dk_at dksX0_layHeads_0 5 rfl rfl)
theorem dX0_layHeads_6 : decode cX0_layHeads 6 = .ok (.aload_n 0, 1) := dk_42 (dk_at dksX0_layHeads_0 6 rfl rfl)
theorem dX0_layHeads_7 : decode cX0_layHeads 7 = .ok (.getfield 207, 3) := dk_180 0 207 (dk_at dksX0_layHeads_0 7 rfl rfl)
theorem dX0_layHeads_10 : decode cX0_layHeads 10 = .ok (.invokevirtual 244, 3) := dk_182 0 244 (dk_at dksX0_layHeads_0 10 rfl rfl)
theorem dX0_layHeads_13 : decode cX0_layHeads 13 = .ok (.iload_n 1, 1) := dk_27 (dk_at dksX0_layHeads_0 13 rfl rfl)
theorem dX0_layHeads_14 : decode cX0_layHeads 14 = .ok (.iconst 3, 1) := dk_6 (dk_at dksX0_layHeads_0 14 rfl rfl)
theorem dX0_layHeads_15 : decode cX0_layHeads 15 = .ok (.if_icmp .ne 71, 3) := dk_160 0 71 (dk_at dksX0_layHeads_0 15 rfl rfl)
theorem dX0_layHeads_18 : decode cX0_layHeads 18 = .ok (.aload_n 0, 1) := dk_42 (dk_at dksX0_layHeads_0 18 rfl rfl)
theorem dX0_layHeads_19 : decode cX0_layHeads 19 = .ok (.getfield 241, 3) := dk_180 0 241 (dk_at dksX0_layHeads_0 19 rfl rfl)
theorem dX0_layHeads_22 : decode cX0_layHeads 22 = .ok (.istore_n 2, 1) := dk_61 (dk_at dksX0_layHeads_0 22 rfl rfl)
theorem dX0_layHeads_23 : decode cX0_layHeads 23 = .ok (.iconst 0, 1) := dk_3 (dk_at dksX0_layHeads_0 23 rfl rfl)
theorem dX0_layHeads_24 : decode cX0_layHeads 24 = .ok (.istore_n 3, 1) := dk_62 (dk_at dksX0_layHeads_1 0 rfl rfl)
theorem dX0_layHeads_25 : decode cX0_layHeads 25 = .ok (.iload_n 3, 1) := dk_29 (dk_at dksX0_layHeads_1 1 rfl rfl)
theorem dX0_layHeads_26 : decode cX0_layHeads 26 = .ok (.iload_n 2, 1) := dk_28 (dk_at dksX0_layHeads_1 2 rfl rfl)
theorem dX0_layHeads_27 : decode cX0_layHeads 27 = .ok (.if_icmp .ge 19, 3) := dk_162 0 19 (dk_at dksX0_layHeads_1 3 rfl rfl)
theorem dX0_layHeads_30 : decode cX0_layHeads 30 = .ok (.aload_n 0, 1) := dk_42 (dk_at dksX0_layHeads_1 6 rfl rfl)
theorem dX0_layHeads_31 : decode cX0_layHeads 31 = .ok (.aload_n 0, 1) := dk_42 (dk_at dksX0_layHeads_1 7 rfl rfl)
theorem dX0_layHeads_32 : decode cX0_layHeads 32 = .ok (.getfield 71, 3) := dk_180 0 71 (dk_at dksX0_layHeads_1 8 rfl rfl)
theorem dX0_layHeads_35 : decode cX0_layHeads 35 = .ok (.iload_n 3, 1) := dk_29 (dk_at dksX0_layHeads_1 11 rfl rfl)
theorem dX0_layHeads_36 : decode cX0_layHeads 36 = .ok (.iaload, 1) := dk_46 (dk_at dksX0_layHeads_1 12 rfl rfl)
theorem dX0_layHeads_37 : decode cX0_layHeads 37 = .ok (.invokevirtual 244, 3) := dk_182 0 244 (dk_at dksX0_layHeads_1 13 rfl rfl)
theorem dX0_layHeads_40 : decode cX0_layHeads 40 = .ok (.iinc 3 1, 3) := dk_132 3 1 (dk_at dksX0_layHeads_1 16 rfl rfl)
theorem dX0_layHeads_43 : decode cX0_layHeads 43 = .ok (.goto (-18), 3) := dk_167 255 238 (dk_at dksX0_layHeads_1 19 rfl rfl)
theorem dX0_layHeads_46 : decode cX0_layHeads 46 = .ok (.iload_n 2, 1) := dk_28 (dk_at dksX0_layHeads_1 22 rfl rfl)
theorem dX0_layHeads_47 : decode cX0_layHeads 47 = .ok (.istore_n 3, 1) := dk_62 (dk_at dksX0_layHeads_1 23 rfl rfl)
theorem dX0_layHeads_48 : decode cX0_layHeads 48 = .ok (.iload_n 3, 1) := dk_29 (dk_at dksX0_layHeads_2 0 rfl rfl)
theorem dX0_layHeads_49 : decode cX0_layHeads 49 = .ok (.aload_n 0, 1) := dk_42 (dk_at dksX0_layHeads_2 1 rfl rfl)
theorem dX0_layHeads_50 : decode cX0_layHeads 50 = .ok (.getfield 241, 3) := dk_180 0 241 (dk_at dksX0_layHeads_2 2 rfl rfl)
theorem dX0_layHeads_53 : decode cX0_layHeads 53 = .ok (.if_icmp .ge 23, 3) := dk_162 0 23 (dk_at dksX0_layHeads_2 5 rfl rfl)
theorem dX0_layHeads_56 : decode cX0_layHeads 56 = .ok (.aload_n 0, 1) := dk_42 (dk_at dksX0_layHeads_2 8 rfl rfl)
theorem dX0_layHeads_57 : decode cX0_layHeads 57 = .ok (.getfield 71, 3) := dk_180 0 71 (dk_at dksX0_layHeads_2 9 rfl rfl)
theorem dX0_layHeads_60 : decode cX0_layHeads 60 = .ok (.iload_n 3, 1) := dk_29 (dk_at dksX0_layHeads_2 12 rfl rfl)
theorem dX0_layHeads_61 : decode cX0_layHeads 61 = .ok (.iload_n 2, 1) := dk_28 (dk_at dksX0_layHeads_2 13 rfl rfl)
theorem dX0_layHeads_62 : decode cX0_layHeads 62 = .ok (.isub, 1) := dk_100 (dk_at dksX0_layHeads_2 14 rfl rfl)
theorem dX0_layHeads_63 : decode cX0_layHeads 63 = .ok (.aload_n 0, 1) := dk_42 (dk_at dksX0_layHeads_2 15 rfl rfl)
theorem dX0_layHeads_64 : decode cX0_layHeads 64 = .ok (.getfield 71, 3) := dk_180 0 71 (dk_at dksX0_layHeads_2 16 rfl rfl)
theorem dX0_layHeads_67 : decode cX0_layHeads 67 = .ok (.iload_n 3, 1) := dk_29 (dk_at dksX0_layHeads_2 19 rfl rfl)
theorem dX0_layHeads_68 : decode cX0_layHeads 68 = .ok (.iaload, 1) := dk_46 (dk_at dksX0_layHeads_2 20 rfl rfl)
theorem dX0_layHeads_69 : decode cX0_layHeads 69 = .ok (.iastore, 1) := dk_79 (dk_at dksX0_layHeads_2 21 rfl rfl)
theorem dX0_layHeads_70 : decode cX0_layHeads 70 = .ok (.iinc 3 1, 3) := dk_132 3 1 (dk_at dksX0_layHeads_3 0 rfl rfl)
theorem dX0_layHeads_73 : decode cX0_layHeads 73 = .ok (.goto (-25), 3) := dk_167 255 231 (dk_at dksX0_layHeads_3 3 rfl rfl)
theorem dX0_layHeads_76 : decode cX0_layHeads 76 = .ok (.aload_n 0, 1) := dk_42 (dk_at dksX0_layHeads_3 6 rfl rfl)
theorem dX0_layHeads_77 : decode cX0_layHeads 77 = .ok (.dup, 1) := dk_89 (dk_at dksX0_layHeads_3 7 rfl rfl)
theorem dX0_layHeads_78 : decode cX0_layHeads 78 = .ok (.getfield 241, 3) := dk_180 0 241 (dk_at dksX0_layHeads_3 8 rfl rfl)
theorem dX0_layHeads_81 : decode cX0_layHeads 81 = .ok (.iload_n 2, 1) := dk_28 (dk_at dksX0_layHeads_3 11 rfl rfl)
theorem dX0_layHeads_82 : decode cX0_layHeads 82 = .ok (.isub, 1) := dk_100 (dk_at dksX0_layHeads_3 12 rfl rfl)
theorem dX0_layHeads_83 : decode cX0_layHeads 83 = .ok (.putfield 241, 3) := dk_181 0 241 (dk_at dksX0_layHeads_3 13 rfl rfl)
theorem dX0_layHeads_86 : decode cX0_layHeads 86 = .ok (.return_, 1) := dk_177 (dk_at dksX0_layHeads_3 16 rfl rfl)
abbrev cX0_addParents : ByteArray := prog_1_method_35_code
def yX0_addParents : MethodName := ⟨RX0, "addParents", "(I)V"⟩
def dkwX0_addParents_2 : List UInt8 := [180, 0, 151, 79, 42, 89, 180, 0, 241, 4, 96, 181, 0, 241, 132, 2, 1, 167, 255, 195, 177]
abbrev dktX0_addParents_2 : List UInt8 := dkwX0_addParents_2 ++ []
def dkwX0_addParents_1 : List UInt8 := [50, 180, 0, 154, 27, 160, 0, 31, 42, 180, 0, 71, 42, 180, 0, 241, 42, 180, 0, 32, 28, 50]
abbrev dktX0_addParents_1 : List UInt8 := dkwX0_addParents_1 ++ dktX0_addParents_2
def dkwX0_addParents_0 : List UInt8 := [3, 61, 28, 42, 180, 0, 144, 162, 0, 59, 42, 180, 0, 49, 28, 51, 153, 0, 44, 42, 180, 0, 32, 28]
abbrev dktX0_addParents_0 : List UInt8 := dkwX0_addParents_0 ++ dktX0_addParents_1
theorem dksX0_addParents_0 : cX0_addParents.data.toList.drop 0 = dktX0_addParents_0 := by decide +kernel
theorem dksX0_addParents_1 : cX0_addParents.data.toList.drop 24 = dktX0_addParents_1 := dk_seg dksX0_addParents_0 24 rfl rfl
theorem dksX0_addParents_2 : cX0_addParents.data.toList.drop 46 = dktX0_addParents_2 := dk_seg dksX0_addParents_1 22 rfl rfl
theorem dX0_addParents_0 : decode cX0_addParents 0 = .ok (.iconst 0, 1) := dk_3 (dk_at dksX0_addParents_0 0 rfl rfl)
theorem dX0_addParents_1 : decode cX0_addParents 1 = .ok (.istore_n 2, 1) := dk_61 (dk_at dksX0_addParents_0 1 rfl rfl)
theorem dX0_addParents_2 : decode cX0_addParents 2 = .ok (.iload_n 2, 1) := dk_28 (dk_at dksX0_addParents_0 2 rfl rfl)
theorem dX0_addParents_3 : decode cX0_addParents 3 = .ok (.aload_n 0, 1) := dk_42 (dk_at dksX0_addParents_0 3 rfl rfl)
theorem dX0_addParents_4 : decode cX0_addParents 4 = .ok (.getfield 144, 3) := dk_180 0 144 (dk_at dksX0_addParents_0 4 rfl rfl)
theorem dX0_addParents_7 : decode cX0_addParents 7 = .ok (.if_icmp .ge 59, 3) := dk_162 0 59 (dk_at dksX0_addParents_0 7 rfl rfl)
theorem dX0_addParents_10 : decode cX0_addParents 10 = .ok (.aload_n 0, 1) := dk_42 (dk_at dksX0_addParents_0 10 rfl rfl)
theorem dX0_addParents_11 : decode cX0_addParents 11 = .ok (.getfield 49, 3) := dk_180 0 49 (dk_at dksX0_addParents_0 11 rfl rfl)
theorem dX0_addParents_14 : decode cX0_addParents 14 = .ok (.iload_n 2, 1) := dk_28 (dk_at dksX0_addParents_0 14 rfl rfl)
theorem dX0_addParents_15 : decode cX0_addParents 15 = .ok (.baload, 1) := dk_51 (dk_at dksX0_addParents_0 15 rfl rfl)
theorem dX0_addParents_16 : decode cX0_addParents 16 = .ok (.ifCond .eq 44, 3) := dk_153 0 44 (dk_at dksX0_addParents_0 16 rfl rfl)
theorem dX0_addParents_19 : decode cX0_addParents 19 = .ok (.aload_n 0, 1) := dk_42 (dk_at dksX0_addParents_0 19 rfl rfl)
theorem dX0_addParents_20 : decode cX0_addParents 20 = .ok (.getfield 32, 3) := dk_180 0 32 (dk_at dksX0_addParents_0 20 rfl rfl)
theorem dX0_addParents_23 : decode cX0_addParents 23 = .ok (.iload_n 2, 1) := dk_28 (dk_at dksX0_addParents_0 23 rfl rfl)
theorem dX0_addParents_24 : decode cX0_addParents 24 = .ok (.aaload, 1) := dk_50 (dk_at dksX0_addParents_1 0 rfl rfl)
theorem dX0_addParents_25 : decode cX0_addParents 25 = .ok (.getfield 154, 3) := dk_180 0 154 (dk_at dksX0_addParents_1 1 rfl rfl)
theorem dX0_addParents_28 : decode cX0_addParents 28 = .ok (.iload_n 1, 1) := dk_27 (dk_at dksX0_addParents_1 4 rfl rfl)
theorem dX0_addParents_29 : decode cX0_addParents 29 = .ok (.if_icmp .ne 31, 3) := dk_160 0 31 (dk_at dksX0_addParents_1 5 rfl rfl)
theorem dX0_addParents_32 : decode cX0_addParents 32 = .ok (.aload_n 0, 1) := dk_42 (dk_at dksX0_addParents_1 8 rfl rfl)
theorem dX0_addParents_33 : decode cX0_addParents 33 = .ok (.getfield 71, 3) := dk_180 0 71 (dk_at dksX0_addParents_1 9 rfl rfl)
theorem dX0_addParents_36 : decode cX0_addParents 36 = .ok (.aload_n 0, 1) := dk_42 (dk_at dksX0_addParents_1 12 rfl rfl)
theorem dX0_addParents_37 : decode cX0_addParents 37 = .ok (.getfield 241, 3) := dk_180 0 241 (dk_at dksX0_addParents_1 13 rfl rfl)
theorem dX0_addParents_40 : decode cX0_addParents 40 = .ok (.aload_n 0, 1) := dk_42 (dk_at dksX0_addParents_1 16 rfl rfl)
theorem dX0_addParents_41 : decode cX0_addParents 41 = .ok (.getfield 32, 3) := dk_180 0 32 (dk_at dksX0_addParents_1 17 rfl rfl)
theorem dX0_addParents_44 : decode cX0_addParents 44 = .ok (.iload_n 2, 1) := dk_28 (dk_at dksX0_addParents_1 20 rfl rfl)
theorem dX0_addParents_45 : decode cX0_addParents 45 = .ok (.aaload, 1) := dk_50 (dk_at dksX0_addParents_1 21 rfl rfl)
theorem dX0_addParents_46 : decode cX0_addParents 46 = .ok (.getfield 151, 3) := dk_180 0 151 (dk_at dksX0_addParents_2 0 rfl rfl)
theorem dX0_addParents_49 : decode cX0_addParents 49 = .ok (.iastore, 1) := dk_79 (dk_at dksX0_addParents_2 3 rfl rfl)
theorem dX0_addParents_50 : decode cX0_addParents 50 = .ok (.aload_n 0, 1) := dk_42 (dk_at dksX0_addParents_2 4 rfl rfl)
theorem dX0_addParents_51 : decode cX0_addParents 51 = .ok (.dup, 1) := dk_89 (dk_at dksX0_addParents_2 5 rfl rfl)
theorem dX0_addParents_52 : decode cX0_addParents 52 = .ok (.getfield 241, 3) := dk_180 0 241 (dk_at dksX0_addParents_2 6 rfl rfl)
theorem dX0_addParents_55 : decode cX0_addParents 55 = .ok (.iconst 1, 1) := dk_4 (dk_at dksX0_addParents_2 9 rfl rfl)
theorem dX0_addParents_56 : decode cX0_addParents 56 = .ok (.iadd, 1) := dk_96 (dk_at dksX0_addParents_2 10 rfl rfl)
theorem dX0_addParents_57 : decode cX0_addParents 57 = .ok (.putfield 241, 3) := dk_181 0 241 (dk_at dksX0_addParents_2 11 rfl rfl)
theorem dX0_addParents_60 : decode cX0_addParents 60 = .ok (.iinc 2 1, 3) := dk_132 2 1 (dk_at dksX0_addParents_2 14 rfl rfl)
theorem dX0_addParents_63 : decode cX0_addParents 63 = .ok (.goto (-61), 3) := dk_167 255 195 (dk_at dksX0_addParents_2 17 rfl rfl)
theorem dX0_addParents_66 : decode cX0_addParents 66 = .ok (.return_, 1) := dk_177 (dk_at dksX0_addParents_2 20 rfl rfl)
abbrev cX0_headsIn : ByteArray := prog_1_method_37_code
def yX0_headsIn : MethodName := ⟨RX0, "headsIn", "()I"⟩
def dkwX0_headsIn_1 : List UInt8 := [153, 0, 7, 4, 167, 0, 4, 3, 96, 60, 132, 2, 1, 167, 255, 224, 27, 172]
abbrev dktX0_headsIn_1 : List UInt8 := dkwX0_headsIn_1 ++ []
def dkwX0_headsIn_0 : List UInt8 := [3, 60, 3, 61, 28, 42, 180, 0, 241, 162, 0, 30, 27, 42, 42, 180, 0, 71, 28, 46, 182, 0, 224]
abbrev dktX0_headsIn_0 : List UInt8 := dkwX0_headsIn_0 ++ dktX0_headsIn_1
theorem dksX0_headsIn_0 : cX0_headsIn.data.toList.drop 0 = dktX0_headsIn_0 := by decide +kernel
theorem dksX0_headsIn_1 : cX0_headsIn.data.toList.drop 23 = dktX0_headsIn_1 := dk_seg dksX0_headsIn_0 23 rfl rfl
theorem dX0_headsIn_0 : decode cX0_headsIn 0 = .ok (.iconst 0, 1) := dk_3 (dk_at dksX0_headsIn_0 0 rfl rfl)
theorem dX0_headsIn_1 : decode cX0_headsIn 1 = .ok (.istore_n 1, 1) := dk_60 (dk_at dksX0_headsIn_0 1 rfl rfl)
theorem dX0_headsIn_2 : decode cX0_headsIn 2 = .ok (.iconst 0, 1) := dk_3 (dk_at dksX0_headsIn_0 2 rfl rfl)
theorem dX0_headsIn_3 : decode cX0_headsIn 3 = .ok (.istore_n 2, 1) := dk_61 (dk_at dksX0_headsIn_0 3 rfl rfl)
theorem dX0_headsIn_4 : decode cX0_headsIn 4 = .ok (.iload_n 2, 1) := dk_28 (dk_at dksX0_headsIn_0 4 rfl rfl)
theorem dX0_headsIn_5 : decode cX0_headsIn 5 = .ok (.aload_n 0, 1) := dk_42 (dk_at dksX0_headsIn_0 5 rfl rfl)
theorem dX0_headsIn_6 : decode cX0_headsIn 6 = .ok (.getfield 241, 3) := dk_180 0 241 (dk_at dksX0_headsIn_0 6 rfl rfl)
theorem dX0_headsIn_9 : decode cX0_headsIn 9 = .ok (.if_icmp .ge 30, 3) := dk_162 0 30 (dk_at dksX0_headsIn_0 9 rfl rfl)
theorem dX0_headsIn_12 : decode cX0_headsIn 12 = .ok (.iload_n 1, 1) := dk_27 (dk_at dksX0_headsIn_0 12 rfl rfl)
theorem dX0_headsIn_13 : decode cX0_headsIn 13 = .ok (.aload_n 0, 1) := dk_42 (dk_at dksX0_headsIn_0 13 rfl rfl)
theorem dX0_headsIn_14 : decode cX0_headsIn 14 = .ok (.aload_n 0, 1) := dk_42 (dk_at dksX0_headsIn_0 14 rfl rfl)
theorem dX0_headsIn_15 : decode cX0_headsIn 15 = .ok (.getfield 71, 3) := dk_180 0 71 (dk_at dksX0_headsIn_0 15 rfl rfl)
theorem dX0_headsIn_18 : decode cX0_headsIn 18 = .ok (.iload_n 2, 1) := dk_28 (dk_at dksX0_headsIn_0 18 rfl rfl)
theorem dX0_headsIn_19 : decode cX0_headsIn 19 = .ok (.iaload, 1) := dk_46 (dk_at dksX0_headsIn_0 19 rfl rfl)
theorem dX0_headsIn_20 : decode cX0_headsIn 20 = .ok (.invokevirtual 224, 3) := dk_182 0 224 (dk_at dksX0_headsIn_0 20 rfl rfl)
theorem dX0_headsIn_23 : decode cX0_headsIn 23 = .ok (.ifCond .eq 7, 3) := dk_153 0 7 (dk_at dksX0_headsIn_1 0 rfl rfl)
theorem dX0_headsIn_26 : decode cX0_headsIn 26 = .ok (.iconst 1, 1) := dk_4 (dk_at dksX0_headsIn_1 3 rfl rfl)
theorem dX0_headsIn_27 : decode cX0_headsIn 27 = .ok (.goto 4, 3) := dk_167 0 4 (dk_at dksX0_headsIn_1 4 rfl rfl)
theorem dX0_headsIn_30 : decode cX0_headsIn 30 = .ok (.iconst 0, 1) := dk_3 (dk_at dksX0_headsIn_1 7 rfl rfl)
theorem dX0_headsIn_31 : decode cX0_headsIn 31 = .ok (.iadd, 1) := dk_96 (dk_at dksX0_headsIn_1 8 rfl rfl)
theorem dX0_headsIn_32 : decode cX0_headsIn 32 = .ok (.istore_n 1, 1) := dk_60 (dk_at dksX0_headsIn_1 9 rfl rfl)
theorem dX0_headsIn_33 : decode cX0_headsIn 33 = .ok (.iinc 2 1, 3) := dk_132 2 1 (dk_at dksX0_headsIn_1 10 rfl rfl)
theorem dX0_headsIn_36 : decode cX0_headsIn 36 = .ok (.goto (-32), 3) := dk_167 255 224 (dk_at dksX0_headsIn_1 13 rfl rfl)
theorem dX0_headsIn_39 : decode cX0_headsIn 39 = .ok (.iload_n 1, 1) := dk_27 (dk_at dksX0_headsIn_1 16 rfl rfl)
theorem dX0_headsIn_40 : decode cX0_headsIn 40 = .ok (.ireturn, 1) := dk_172 (dk_at dksX0_headsIn_1 17 rfl rfl)
abbrev cX0_coupled : ByteArray := prog_1_method_39_code
def yX0_coupled : MethodName := ⟨RX0, "coupled", "()I"⟩
def dkwX0_coupled_6 : List UInt8 := [21, 6, 172, 132, 1, 1, 167, 255, 110, 16, 247, 172]
abbrev dktX0_coupled_6 : List UInt8 := dkwX0_coupled_6 ++ []
def dkwX0_coupled_5 : List UInt8 := [54, 6, 21, 5, 153, 0, 23, 21, 6, 16, 247, 159, 0, 16, 42, 180, 0, 46, 21, 6, 51, 153, 0, 6]
abbrev dktX0_coupled_5 : List UInt8 := dkwX0_coupled_5 ++ dktX0_coupled_6
def dkwX0_coupled_4 : List UInt8 := [180, 0, 207, 160, 0, 7, 29, 167, 0, 17, 29, 42, 180, 0, 207, 160, 0, 7, 28, 167, 0, 5, 16, 247]
abbrev dktX0_coupled_4 : List UInt8 := dkwX0_coupled_4 ++ dktX0_coupled_5
def dkwX0_coupled_3 : List UInt8 := [21, 4, 42, 180, 0, 27, 42, 180, 0, 207, 46, 161, 0, 7, 4, 167, 0, 4, 3, 54, 5, 28, 42]
abbrev dktX0_coupled_3 : List UInt8 := dkwX0_coupled_3 ++ dktX0_coupled_4
def dkwX0_coupled_2 : List UInt8 := [104, 5, 96, 46, 42, 180, 0, 27, 42, 180, 0, 207, 46, 163, 0, 28, 21, 4, 16, 247, 159, 0, 17]
abbrev dktX0_coupled_2 : List UInt8 := dkwX0_coupled_2 ++ dktX0_coupled_3
def dkwX0_coupled_1 : List UInt8 := [27, 104, 4, 96, 46, 62, 42, 180, 0, 36, 7, 27, 104, 6, 96, 46, 54, 4, 42, 180, 0, 36, 7, 27]
abbrev dktX0_coupled_1 : List UInt8 := dkwX0_coupled_1 ++ dktX0_coupled_2
def dkwX0_coupled_0 : List UInt8 := [3, 60, 27, 42, 180, 0, 201, 162, 0, 144, 42, 180, 0, 36, 7, 27, 104, 46, 61, 42, 180, 0, 36, 7]
abbrev dktX0_coupled_0 : List UInt8 := dkwX0_coupled_0 ++ dktX0_coupled_1
theorem dksX0_coupled_0 : cX0_coupled.data.toList.drop 0 = dktX0_coupled_0 := by decide +kernel
theorem dksX0_coupled_1 : cX0_coupled.data.toList.drop 24 = dktX0_coupled_1 := dk_seg dksX0_coupled_0 24 rfl rfl
theorem dksX0_coupled_2 : cX0_coupled.data.toList.drop 48 = dktX0_coupled_2 := dk_seg dksX0_coupled_1 24 rfl rfl
theorem dksX0_coupled_3 : cX0_coupled.data.toList.drop 71 = dktX0_coupled_3 := dk_seg dksX0_coupled_2 23 rfl rfl
theorem dksX0_coupled_4 : cX0_coupled.data.toList.drop 94 = dktX0_coupled_4 := dk_seg dksX0_coupled_3 23 rfl rfl
theorem dksX0_coupled_5 : cX0_coupled.data.toList.drop 118 = dktX0_coupled_5 := dk_seg dksX0_coupled_4 24 rfl rfl
theorem dksX0_coupled_6 : cX0_coupled.data.toList.drop 142 = dktX0_coupled_6 := dk_seg dksX0_coupled_5 24 rfl rfl
theorem dX0_coupled_0 : decode cX0_coupled 0 = .ok (.iconst 0, 1) := dk_3 (dk_at dksX0_coupled_0 0 rfl rfl)
theorem dX0_coupled_1 : decode cX0_coupled 1 = .ok (.istore_n 1, 1) := dk_60 (dk_at dksX0_coupled_0 1 rfl rfl)
theorem dX0_coupled_2 : decode cX0_coupled 2 = .ok (.iload_n 1, 1) := dk_27 (dk_at dksX0_coupled_0 2 rfl rfl)
theorem dX0_coupled_3 : decode cX0_coupled 3 = .ok (.aload_n 0, 1) := dk_42 (dk_at dksX0_coupled_0 3 rfl rfl)
theorem dX0_coupled_4 : decode cX0_coupled 4 = .ok (.getfield 201, 3) := dk_180 0 201 (dk_at dksX0_coupled_0 4 rfl rfl)
theorem dX0_coupled_7 : decode cX0_coupled 7 = .ok (.if_icmp .ge 144, 3) := dk_162 0 144 (dk_at dksX0_coupled_0 7 rfl rfl)
theorem dX0_coupled_10 : decode cX0_coupled 10 = .ok (.aload_n 0, 1) := dk_42 (dk_at dksX0_coupled_0 10 rfl rfl)
theorem dX0_coupled_11 : decode cX0_coupled 11 = .ok (.getfield 36, 3) := dk_180 0 36 (dk_at dksX0_coupled_0 11 rfl rfl)
theorem dX0_coupled_14 : decode cX0_coupled 14 = .ok (.iconst 4, 1) := dk_7 (dk_at dksX0_coupled_0 14 rfl rfl)
theorem dX0_coupled_15 : decode cX0_coupled 15 = .ok (.iload_n 1, 1) := dk_27 (dk_at dksX0_coupled_0 15 rfl rfl)
theorem dX0_coupled_16 : decode cX0_coupled 16 = .ok (.imul, 1) := dk_104 (dk_at dksX0_coupled_0 16 rfl rfl)
theorem dX0_coupled_17 : decode cX0_coupled 17 = .ok (.iaload, 1) := dk_46 (dk_at dksX0_coupled_0 17 rfl rfl)
theorem dX0_coupled_18 : decode cX0_coupled 18 = .ok (.istore_n 2, 1) := dk_61 (dk_at dksX0_coupled_0 18 rfl rfl)
theorem dX0_coupled_19 : decode cX0_coupled 19 = .ok (.aload_n 0, 1) := dk_42 (dk_at dksX0_coupled_0 19 rfl rfl)
theorem dX0_coupled_20 : decode cX0_coupled 20 = .ok (.getfield 36, 3) := dk_180 0 36 (dk_at dksX0_coupled_0 20 rfl rfl)
theorem dX0_coupled_23 : decode cX0_coupled 23 = .ok (.iconst 4, 1) := dk_7 (dk_at dksX0_coupled_0 23 rfl rfl)
theorem dX0_coupled_24 : decode cX0_coupled 24 = .ok (.iload_n 1, 1) := dk_27 (dk_at dksX0_coupled_1 0 rfl rfl)
theorem dX0_coupled_25 : decode cX0_coupled 25 = .ok (.imul, 1) := dk_104 (dk_at dksX0_coupled_1 1 rfl rfl)
theorem dX0_coupled_26 : decode cX0_coupled 26 = .ok (.iconst 1, 1) := dk_4 (dk_at dksX0_coupled_1 2 rfl rfl)
theorem dX0_coupled_27 : decode cX0_coupled 27 = .ok (.iadd, 1) := dk_96 (dk_at dksX0_coupled_1 3 rfl rfl)
theorem dX0_coupled_28 : decode cX0_coupled 28 = .ok (.iaload, 1) := dk_46 (dk_at dksX0_coupled_1 4 rfl rfl)
theorem dX0_coupled_29 : decode cX0_coupled 29 = .ok (.istore_n 3, 1) := dk_62 (dk_at dksX0_coupled_1 5 rfl rfl)
theorem dX0_coupled_30 : decode cX0_coupled 30 = .ok (.aload_n 0, 1) := dk_42 (dk_at dksX0_coupled_1 6 rfl rfl)
theorem dX0_coupled_31 : decode cX0_coupled 31 = .ok (.getfield 36, 3) := dk_180 0 36 (dk_at dksX0_coupled_1 7 rfl rfl)
theorem dX0_coupled_34 : decode cX0_coupled 34 = .ok (.iconst 4, 1) := dk_7 (dk_at dksX0_coupled_1 10 rfl rfl)
theorem dX0_coupled_35 : decode cX0_coupled 35 = .ok (.iload_n 1, 1) := dk_27 (dk_at dksX0_coupled_1 11 rfl rfl)
theorem dX0_coupled_36 : decode cX0_coupled 36 = .ok (.imul, 1) := dk_104 (dk_at dksX0_coupled_1 12 rfl rfl)
theorem dX0_coupled_37 : decode cX0_coupled 37 = .ok (.iconst 3, 1) := dk_6 (dk_at dksX0_coupled_1 13 rfl rfl)
theorem dX0_coupled_38 : decode cX0_coupled 38 = .ok (.iadd, 1) := dk_96 (dk_at dksX0_coupled_1 14 rfl rfl)
theorem dX0_coupled_39 : decode cX0_coupled 39 = .ok (.iaload, 1) := dk_46 (dk_at dksX0_coupled_1 15 rfl rfl)
theorem dX0_coupled_40 : decode cX0_coupled 40 = .ok (.istore 4, 2) := dk_54 4 (dk_at dksX0_coupled_1 16 rfl rfl)
theorem dX0_coupled_42 : decode cX0_coupled 42 = .ok (.aload_n 0, 1) := dk_42 (dk_at dksX0_coupled_1 18 rfl rfl)
theorem dX0_coupled_43 : decode cX0_coupled 43 = .ok (.getfield 36, 3) := dk_180 0 36 (dk_at dksX0_coupled_1 19 rfl rfl)
theorem dX0_coupled_46 : decode cX0_coupled 46 = .ok (.iconst 4, 1) := dk_7 (dk_at dksX0_coupled_1 22 rfl rfl)
theorem dX0_coupled_47 : decode cX0_coupled 47 = .ok (.iload_n 1, 1) := dk_27 (dk_at dksX0_coupled_1 23 rfl rfl)
theorem dX0_coupled_48 : decode cX0_coupled 48 = .ok (.imul, 1) := dk_104 (dk_at dksX0_coupled_2 0 rfl rfl)
theorem dX0_coupled_49 : decode cX0_coupled 49 = .ok (.iconst 2, 1) := dk_5 (dk_at dksX0_coupled_2 1 rfl rfl)
theorem dX0_coupled_50 : decode cX0_coupled 50 = .ok (.iadd, 1) := dk_96 (dk_at dksX0_coupled_2 2 rfl rfl)
theorem dX0_coupled_51 : decode cX0_coupled 51 = .ok (.iaload, 1) := dk_46 (dk_at dksX0_coupled_2 3 rfl rfl)
theorem dX0_coupled_52 : decode cX0_coupled 52 = .ok (.aload_n 0, 1) := dk_42 (dk_at dksX0_coupled_2 4 rfl rfl)
theorem dX0_coupled_53 : decode cX0_coupled 53 = .ok (.getfield 27, 3) := dk_180 0 27 (dk_at dksX0_coupled_2 5 rfl rfl)
theorem dX0_coupled_56 : decode cX0_coupled 56 = .ok (.aload_n 0, 1) := dk_42 (dk_at dksX0_coupled_2 8 rfl rfl)
theorem dX0_coupled_57 : decode cX0_coupled 57 = .ok (.getfield 207, 3) := dk_180 0 207 (dk_at dksX0_coupled_2 9 rfl rfl)
theorem dX0_coupled_60 : decode cX0_coupled 60 = .ok (.iaload, 1) := dk_46 (dk_at dksX0_coupled_2 12 rfl rfl)
theorem dX0_coupled_61 : decode cX0_coupled 61 = .ok (.if_icmp .gt 28, 3) := dk_163 0 28 (dk_at dksX0_coupled_2 13 rfl rfl)
theorem dX0_coupled_64 : decode cX0_coupled 64 = .ok (.iload 4, 2) := dk_21 4 (dk_at dksX0_coupled_2 16 rfl rfl)
theorem dX0_coupled_66 : decode cX0_coupled 66 = .ok (.bipush (-9), 2) := dk_16 247 (dk_at dksX0_coupled_2 18 rfl rfl)
theorem dX0_coupled_68 : decode cX0_coupled 68 = .ok (.if_icmp .eq 17, 3) := dk_159 0 17 (dk_at dksX0_coupled_2 20 rfl rfl)
theorem dX0_coupled_71 : decode cX0_coupled 71 = .ok (.iload 4, 2) := dk_21 4 (dk_at dksX0_coupled_3 0 rfl rfl)
theorem dX0_coupled_73 : decode cX0_coupled 73 = .ok (.aload_n 0, 1) := dk_42 (dk_at dksX0_coupled_3 2 rfl rfl)
theorem dX0_coupled_74 : decode cX0_coupled 74 = .ok (.getfield 27, 3) := dk_180 0 27 (dk_at dksX0_coupled_3 3 rfl rfl)
theorem dX0_coupled_77 : decode cX0_coupled 77 = .ok (.aload_n 0, 1) := dk_42 (dk_at dksX0_coupled_3 6 rfl rfl)
theorem dX0_coupled_78 : decode cX0_coupled 78 = .ok (.getfield 207, 3) := dk_180 0 207 (dk_at dksX0_coupled_3 7 rfl rfl)
theorem dX0_coupled_81 : decode cX0_coupled 81 = .ok (.iaload, 1) := dk_46 (dk_at dksX0_coupled_3 10 rfl rfl)
theorem dX0_coupled_82 : decode cX0_coupled 82 = .ok (.if_icmp .lt 7, 3) := dk_161 0 7 (dk_at dksX0_coupled_3 11 rfl rfl)
theorem dX0_coupled_85 : decode cX0_coupled 85 = .ok (.iconst 1, 1) := dk_4 (dk_at dksX0_coupled_3 14 rfl rfl)
theorem dX0_coupled_86 : decode cX0_coupled 86 = .ok (.goto 4, 3) := dk_167 0 4 (dk_at dksX0_coupled_3 15 rfl rfl)
theorem dX0_coupled_89 : decode cX0_coupled 89 = .ok (.iconst 0, 1) := dk_3 (dk_at dksX0_coupled_3 18 rfl rfl)
theorem dX0_coupled_90 : decode cX0_coupled 90 = .ok (.istore 5, 2) := dk_54 5 (dk_at dksX0_coupled_3 19 rfl rfl)
theorem dX0_coupled_92 : decode cX0_coupled 92 = .ok (.iload_n 2, 1) := dk_28 (dk_at dksX0_coupled_3 21 rfl rfl)
theorem dX0_coupled_93 : decode cX0_coupled 93 = .ok (.aload_n 0, 1) := dk_42 (dk_at dksX0_coupled_3 22 rfl rfl)
theorem dX0_coupled_94 : decode cX0_coupled 94 = .ok (.getfield 207, 3) := dk_180 0 207 (dk_at dksX0_coupled_4 0 rfl rfl)
theorem dX0_coupled_97 : decode cX0_coupled 97 = .ok (.if_icmp .ne 7, 3) := dk_160 0 7 (dk_at dksX0_coupled_4 3 rfl rfl)
theorem dX0_coupled_100 : decode cX0_coupled 100 = .ok (.iload_n 3, 1) := dk_29 (dk_at dksX0_coupled_4 6 rfl rfl)
theorem dX0_coupled_101 : decode cX0_coupled 101 = .ok (.goto 17, 3) := dk_167 0 17 (dk_at dksX0_coupled_4 7 rfl rfl)
theorem dX0_coupled_104 : decode cX0_coupled 104 = .ok (.iload_n 3, 1) := dk_29 (dk_at dksX0_coupled_4 10 rfl rfl)
theorem dX0_coupled_105 : decode cX0_coupled 105 = .ok (.aload_n 0, 1) := dk_42 (dk_at dksX0_coupled_4 11 rfl rfl)
theorem dX0_coupled_106 : decode cX0_coupled 106 = .ok (.getfield 207, 3) := dk_180 0 207 (dk_at dksX0_coupled_4 12 rfl rfl)
theorem dX0_coupled_109 : decode cX0_coupled 109 = .ok (.if_icmp .ne 7, 3) := dk_160 0 7 (dk_at dksX0_coupled_4 15 rfl rfl)
theorem dX0_coupled_112 : decode cX0_coupled 112 = .ok (.iload_n 2, 1) := dk_28 (dk_at dksX0_coupled_4 18 rfl rfl)
theorem dX0_coupled_113 : decode cX0_coupled 113 = .ok (.goto 5, 3) := dk_167 0 5 (dk_at dksX0_coupled_4 19 rfl rfl)
theorem dX0_coupled_116 : decode cX0_coupled 116 = .ok (.bipush (-9), 2) := dk_16 247 (dk_at dksX0_coupled_4 22 rfl rfl)
theorem dX0_coupled_118 : decode cX0_coupled 118 = .ok (.istore 6, 2) := dk_54 6 (dk_at dksX0_coupled_5 0 rfl rfl)
theorem dX0_coupled_120 : decode cX0_coupled 120 = .ok (.iload 5, 2) := dk_21 5 (dk_at dksX0_coupled_5 2 rfl rfl)
theorem dX0_coupled_122 : decode cX0_coupled 122 = .ok (.ifCond .eq 23, 3) := dk_153 0 23 (dk_at dksX0_coupled_5 4 rfl rfl)
theorem dX0_coupled_125 : decode cX0_coupled 125 = .ok (.iload 6, 2) := dk_21 6 (dk_at dksX0_coupled_5 7 rfl rfl)
theorem dX0_coupled_127 : decode cX0_coupled 127 = .ok (.bipush (-9), 2) := dk_16 247 (dk_at dksX0_coupled_5 9 rfl rfl)
theorem dX0_coupled_129 : decode cX0_coupled 129 = .ok (.if_icmp .eq 16, 3) := dk_159 0 16 (dk_at dksX0_coupled_5 11 rfl rfl)
theorem dX0_coupled_132 : decode cX0_coupled 132 = .ok (.aload_n 0, 1) := dk_42 (dk_at dksX0_coupled_5 14 rfl rfl)
theorem dX0_coupled_133 : decode cX0_coupled 133 = .ok (.getfield 46, 3) := dk_180 0 46 (dk_at dksX0_coupled_5 15 rfl rfl)
theorem dX0_coupled_136 : decode cX0_coupled 136 = .ok (.iload 6, 2) := dk_21 6 (dk_at dksX0_coupled_5 18 rfl rfl)
theorem dX0_coupled_138 : decode cX0_coupled 138 = .ok (.baload, 1) := dk_51 (dk_at dksX0_coupled_5 20 rfl rfl)
theorem dX0_coupled_139 : decode cX0_coupled 139 = .ok (.ifCond .eq 6, 3) := dk_153 0 6 (dk_at dksX0_coupled_5 21 rfl rfl)
theorem dX0_coupled_142 : decode cX0_coupled 142 = .ok (.iload 6, 2) := dk_21 6 (dk_at dksX0_coupled_6 0 rfl rfl)
theorem dX0_coupled_144 : decode cX0_coupled 144 = .ok (.ireturn, 1) := dk_172 (dk_at dksX0_coupled_6 2 rfl rfl)
theorem dX0_coupled_145 : decode cX0_coupled 145 = .ok (.iinc 1 1, 3) := dk_132 1 1 (dk_at dksX0_coupled_6 3 rfl rfl)
theorem dX0_coupled_148 : decode cX0_coupled 148 = .ok (.goto (-146), 3) := dk_167 255 110 (dk_at dksX0_coupled_6 6 rfl rfl)
theorem dX0_coupled_151 : decode cX0_coupled 151 = .ok (.bipush (-9), 2) := dk_16 247 (dk_at dksX0_coupled_6 9 rfl rfl)
theorem dX0_coupled_153 : decode cX0_coupled 153 = .ok (.ireturn, 1) := dk_172 (dk_at dksX0_coupled_6 11 rfl rfl)
abbrev cX0_gets : ByteArray := prog_1_method_30_code
def yX0_gets : MethodName := ⟨RX0, "gets", "(IJJ)V"⟩
def dkwX0_gets_1 : List UInt8 := [42, 180, 0, 110, 80, 42, 180, 0, 59, 27, 42, 180, 0, 113, 80, 177]
abbrev dktX0_gets_1 : List UInt8 := dkwX0_gets_1 ++ []
def dkwX0_gets_0 : List UInt8 := [42, 42, 180, 0, 55, 27, 47, 42, 180, 0, 59, 27, 47, 32, 22, 4, 182, 0, 227, 42, 180, 0, 55, 27]
abbrev dktX0_gets_0 : List UInt8 := dkwX0_gets_0 ++ dktX0_gets_1
theorem dksX0_gets_0 : cX0_gets.data.toList.drop 0 = dktX0_gets_0 := by decide +kernel
theorem dksX0_gets_1 : cX0_gets.data.toList.drop 24 = dktX0_gets_1 := dk_seg dksX0_gets_0 24 rfl rfl
theorem dX0_gets_0 : decode cX0_gets 0 = .ok (.aload_n 0, 1) := dk_42 (dk_at dksX0_gets_0 0 rfl rfl)
theorem dX0_gets_1 : decode cX0_gets 1 = .ok (.aload_n 0, 1) := dk_42 (dk_at dksX0_gets_0 1 rfl rfl)
theorem dX0_gets_2 : decode cX0_gets 2 = .ok (.getfield 55, 3) := dk_180 0 55 (dk_at dksX0_gets_0 2 rfl rfl)
theorem dX0_gets_5 : decode cX0_gets 5 = .ok (.iload_n 1, 1) := dk_27 (dk_at dksX0_gets_0 5 rfl rfl)
theorem dX0_gets_6 : decode cX0_gets 6 = .ok (.laload, 1) := dk_47 (dk_at dksX0_gets_0 6 rfl rfl)
theorem dX0_gets_7 : decode cX0_gets 7 = .ok (.aload_n 0, 1) := dk_42 (dk_at dksX0_gets_0 7 rfl rfl)
theorem dX0_gets_8 : decode cX0_gets 8 = .ok (.getfield 59, 3) := dk_180 0 59 (dk_at dksX0_gets_0 8 rfl rfl)
theorem dX0_gets_11 : decode cX0_gets 11 = .ok (.iload_n 1, 1) := dk_27 (dk_at dksX0_gets_0 11 rfl rfl)
theorem dX0_gets_12 : decode cX0_gets 12 = .ok (.laload, 1) := dk_47 (dk_at dksX0_gets_0 12 rfl rfl)
theorem dX0_gets_13 : decode cX0_gets 13 = .ok (.lload_n 2, 1) := dk_32 (dk_at dksX0_gets_0 13 rfl rfl)
theorem dX0_gets_14 : decode cX0_gets 14 = .ok (.lload 4, 2) := dk_22 4 (dk_at dksX0_gets_0 14 rfl rfl)
theorem dX0_gets_16 : decode cX0_gets 16 = .ok (.invokevirtual 227, 3) := dk_182 0 227 (dk_at dksX0_gets_0 16 rfl rfl)
theorem dX0_gets_19 : decode cX0_gets 19 = .ok (.aload_n 0, 1) := dk_42 (dk_at dksX0_gets_0 19 rfl rfl)
theorem dX0_gets_20 : decode cX0_gets 20 = .ok (.getfield 55, 3) := dk_180 0 55 (dk_at dksX0_gets_0 20 rfl rfl)
theorem dX0_gets_23 : decode cX0_gets 23 = .ok (.iload_n 1, 1) := dk_27 (dk_at dksX0_gets_0 23 rfl rfl)
theorem dX0_gets_24 : decode cX0_gets 24 = .ok (.aload_n 0, 1) := dk_42 (dk_at dksX0_gets_1 0 rfl rfl)
theorem dX0_gets_25 : decode cX0_gets 25 = .ok (.getfield 110, 3) := dk_180 0 110 (dk_at dksX0_gets_1 1 rfl rfl)
theorem dX0_gets_28 : decode cX0_gets 28 = .ok (.lastore, 1) := dk_80 (dk_at dksX0_gets_1 4 rfl rfl)
theorem dX0_gets_29 : decode cX0_gets 29 = .ok (.aload_n 0, 1) := dk_42 (dk_at dksX0_gets_1 5 rfl rfl)
theorem dX0_gets_30 : decode cX0_gets 30 = .ok (.getfield 59, 3) := dk_180 0 59 (dk_at dksX0_gets_1 6 rfl rfl)
theorem dX0_gets_33 : decode cX0_gets 33 = .ok (.iload_n 1, 1) := dk_27 (dk_at dksX0_gets_1 9 rfl rfl)
theorem dX0_gets_34 : decode cX0_gets 34 = .ok (.aload_n 0, 1) := dk_42 (dk_at dksX0_gets_1 10 rfl rfl)
theorem dX0_gets_35 : decode cX0_gets 35 = .ok (.getfield 113, 3) := dk_180 0 113 (dk_at dksX0_gets_1 11 rfl rfl)
theorem dX0_gets_38 : decode cX0_gets 38 = .ok (.lastore, 1) := dk_80 (dk_at dksX0_gets_1 14 rfl rfl)
theorem dX0_gets_39 : decode cX0_gets 39 = .ok (.return_, 1) := dk_177 (dk_at dksX0_gets_1 15 rfl rfl)
abbrev cX0_add : ByteArray := prog_1_method_5_code
def yX0_add : MethodName := ⟨RX0, "add", "(JJJJ)V"⟩
def dkwX0_add_2 : List UInt8 := [22, 15, 109, 181, 0, 110, 42, 22, 13, 22, 15, 109, 181, 0, 113, 177]
abbrev dktX0_add_2 : List UInt8 := dkwX0_add_2 ++ []
def dkwX0_add_1 : List UInt8 := [55, 11, 33, 22, 9, 109, 22, 7, 105, 55, 13, 22, 11, 22, 13, 184, 0, 106, 55, 15, 42, 22, 11]
abbrev dktX0_add_1 : List UInt8 := dkwX0_add_1 ++ dktX0_add_2
def dkwX0_add_0 : List UInt8 := [33, 22, 7, 184, 0, 106, 55, 9, 31, 22, 7, 22, 9, 109, 105, 22, 5, 33, 22, 9, 109, 105, 97]
abbrev dktX0_add_0 : List UInt8 := dkwX0_add_0 ++ dktX0_add_1
theorem dksX0_add_0 : cX0_add.data.toList.drop 0 = dktX0_add_0 := by decide +kernel
theorem dksX0_add_1 : cX0_add.data.toList.drop 23 = dktX0_add_1 := dk_seg dksX0_add_0 23 rfl rfl
theorem dksX0_add_2 : cX0_add.data.toList.drop 46 = dktX0_add_2 := dk_seg dksX0_add_1 23 rfl rfl
theorem dX0_add_0 : decode cX0_add 0 = .ok (.lload_n 3, 1) := dk_33 (dk_at dksX0_add_0 0 rfl rfl)
theorem dX0_add_1 : decode cX0_add 1 = .ok (.lload 7, 2) := dk_22 7 (dk_at dksX0_add_0 1 rfl rfl)
theorem dX0_add_3 : decode cX0_add 3 = .ok (.invokestatic 106, 3) := dk_184 0 106 (dk_at dksX0_add_0 3 rfl rfl)
theorem dX0_add_6 : decode cX0_add 6 = .ok (.lstore 9, 2) := dk_55 9 (dk_at dksX0_add_0 6 rfl rfl)
theorem dX0_add_8 : decode cX0_add 8 = .ok (.lload_n 1, 1) := dk_31 (dk_at dksX0_add_0 8 rfl rfl)
theorem dX0_add_9 : decode cX0_add 9 = .ok (.lload 7, 2) := dk_22 7 (dk_at dksX0_add_0 9 rfl rfl)
theorem dX0_add_11 : decode cX0_add 11 = .ok (.lload 9, 2) := dk_22 9 (dk_at dksX0_add_0 11 rfl rfl)
theorem dX0_add_13 : decode cX0_add 13 = .ok (.ldiv, 1) := dk_109 (dk_at dksX0_add_0 13 rfl rfl)
theorem dX0_add_14 : decode cX0_add 14 = .ok (.lmul, 1) := dk_105 (dk_at dksX0_add_0 14 rfl rfl)
theorem dX0_add_15 : decode cX0_add 15 = .ok (.lload 5, 2) := dk_22 5 (dk_at dksX0_add_0 15 rfl rfl)
theorem dX0_add_17 : decode cX0_add 17 = .ok (.lload_n 3, 1) := dk_33 (dk_at dksX0_add_0 17 rfl rfl)
theorem dX0_add_18 : decode cX0_add 18 = .ok (.lload 9, 2) := dk_22 9 (dk_at dksX0_add_0 18 rfl rfl)
theorem dX0_add_20 : decode cX0_add 20 = .ok (.ldiv, 1) := dk_109 (dk_at dksX0_add_0 20 rfl rfl)
theorem dX0_add_21 : decode cX0_add 21 = .ok (.lmul, 1) := dk_105 (dk_at dksX0_add_0 21 rfl rfl)
theorem dX0_add_22 : decode cX0_add 22 = .ok (.ladd, 1) := dk_97 (dk_at dksX0_add_0 22 rfl rfl)
theorem dX0_add_23 : decode cX0_add 23 = .ok (.lstore 11, 2) := dk_55 11 (dk_at dksX0_add_1 0 rfl rfl)
theorem dX0_add_25 : decode cX0_add 25 = .ok (.lload_n 3, 1) := dk_33 (dk_at dksX0_add_1 2 rfl rfl)
theorem dX0_add_26 : decode cX0_add 26 = .ok (.lload 9, 2) := dk_22 9 (dk_at dksX0_add_1 3 rfl rfl)
theorem dX0_add_28 : decode cX0_add 28 = .ok (.ldiv, 1) := dk_109 (dk_at dksX0_add_1 5 rfl rfl)
theorem dX0_add_29 : decode cX0_add 29 = .ok (.lload 7, 2) := dk_22 7 (dk_at dksX0_add_1 6 rfl rfl)
theorem dX0_add_31 : decode cX0_add 31 = .ok (.lmul, 1) := dk_105 (dk_at dksX0_add_1 8 rfl rfl)
theorem dX0_add_32 : decode cX0_add 32 = .ok (.lstore 13, 2) := dk_55 13 (dk_at dksX0_add_1 9 rfl rfl)
theorem dX0_add_34 : decode cX0_add 34 = .ok (.lload 11, 2) := dk_22 11 (dk_at dksX0_add_1 11 rfl rfl)
theorem dX0_add_36 : decode cX0_add 36 = .ok (.lload 13, 2) := dk_22 13 (dk_at dksX0_add_1 13 rfl rfl)
theorem dX0_add_38 : decode cX0_add 38 = .ok (.invokestatic 106, 3) := dk_184 0 106 (dk_at dksX0_add_1 15 rfl rfl)
theorem dX0_add_41 : decode cX0_add 41 = .ok (.lstore 15, 2) := dk_55 15 (dk_at dksX0_add_1 18 rfl rfl)
theorem dX0_add_43 : decode cX0_add 43 = .ok (.aload_n 0, 1) := dk_42 (dk_at dksX0_add_1 20 rfl rfl)
theorem dX0_add_44 : decode cX0_add 44 = .ok (.lload 11, 2) := dk_22 11 (dk_at dksX0_add_1 21 rfl rfl)
theorem dX0_add_46 : decode cX0_add 46 = .ok (.lload 15, 2) := dk_22 15 (dk_at dksX0_add_2 0 rfl rfl)
theorem dX0_add_48 : decode cX0_add 48 = .ok (.ldiv, 1) := dk_109 (dk_at dksX0_add_2 2 rfl rfl)
theorem dX0_add_49 : decode cX0_add 49 = .ok (.putfield 110, 3) := dk_181 0 110 (dk_at dksX0_add_2 3 rfl rfl)
theorem dX0_add_52 : decode cX0_add 52 = .ok (.aload_n 0, 1) := dk_42 (dk_at dksX0_add_2 6 rfl rfl)
theorem dX0_add_53 : decode cX0_add 53 = .ok (.lload 13, 2) := dk_22 13 (dk_at dksX0_add_2 7 rfl rfl)
theorem dX0_add_55 : decode cX0_add 55 = .ok (.lload 15, 2) := dk_22 15 (dk_at dksX0_add_2 9 rfl rfl)
theorem dX0_add_57 : decode cX0_add 57 = .ok (.ldiv, 1) := dk_109 (dk_at dksX0_add_2 11 rfl rfl)
theorem dX0_add_58 : decode cX0_add 58 = .ok (.putfield 113, 3) := dk_181 0 113 (dk_at dksX0_add_2 12 rfl rfl)
theorem dX0_add_61 : decode cX0_add 61 = .ok (.return_, 1) := dk_177 (dk_at dksX0_add_2 15 rfl rfl)
abbrev cX0_gcd : ByteArray := prog_1_method_4_code
def yX0_gcd : MethodName := ⟨RX0, "gcd", "(JJ)J"⟩
def dkwX0_gcd_1 : List UInt8 := [22, 6, 55, 4, 22, 8, 55, 6, 167, 255, 234, 22, 4, 173]
abbrev dktX0_gcd_1 : List UInt8 := dkwX0_gcd_1 ++ []
def dkwX0_gcd_0 : List UInt8 := [30, 184, 0, 100, 55, 4, 32, 55, 6, 22, 6, 9, 148, 153, 0, 21, 22, 4, 22, 6, 113, 55, 8]
abbrev dktX0_gcd_0 : List UInt8 := dkwX0_gcd_0 ++ dktX0_gcd_1
theorem dksX0_gcd_0 : cX0_gcd.data.toList.drop 0 = dktX0_gcd_0 := by decide +kernel
theorem dksX0_gcd_1 : cX0_gcd.data.toList.drop 23 = dktX0_gcd_1 := dk_seg dksX0_gcd_0 23 rfl rfl
theorem dX0_gcd_0 : decode cX0_gcd 0 = .ok (.lload_n 0, 1) := dk_30 (dk_at dksX0_gcd_0 0 rfl rfl)
theorem dX0_gcd_1 : decode cX0_gcd 1 = .ok (.invokestatic 100, 3) := dk_184 0 100 (dk_at dksX0_gcd_0 1 rfl rfl)
theorem dX0_gcd_4 : decode cX0_gcd 4 = .ok (.lstore 4, 2) := dk_55 4 (dk_at dksX0_gcd_0 4 rfl rfl)
theorem dX0_gcd_6 : decode cX0_gcd 6 = .ok (.lload_n 2, 1) := dk_32 (dk_at dksX0_gcd_0 6 rfl rfl)
theorem dX0_gcd_7 : decode cX0_gcd 7 = .ok (.lstore 6, 2) := dk_55 6 (dk_at dksX0_gcd_0 7 rfl rfl)
theorem dX0_gcd_9 : decode cX0_gcd 9 = .ok (.lload 6, 2) := dk_22 6 (dk_at dksX0_gcd_0 9 rfl rfl)
theorem dX0_gcd_11 : decode cX0_gcd 11 = .ok (.lconst 0, 1) := dk_9 (dk_at dksX0_gcd_0 11 rfl rfl)
theorem dX0_gcd_12 : decode cX0_gcd 12 = .ok (.lcmp, 1) := dk_148 (dk_at dksX0_gcd_0 12 rfl rfl)
theorem dX0_gcd_13 : decode cX0_gcd 13 = .ok (.ifCond .eq 21, 3) := dk_153 0 21 (dk_at dksX0_gcd_0 13 rfl rfl)
theorem dX0_gcd_16 : decode cX0_gcd 16 = .ok (.lload 4, 2) := dk_22 4 (dk_at dksX0_gcd_0 16 rfl rfl)
theorem dX0_gcd_18 : decode cX0_gcd 18 = .ok (.lload 6, 2) := dk_22 6 (dk_at dksX0_gcd_0 18 rfl rfl)
theorem dX0_gcd_20 : decode cX0_gcd 20 = .ok (.lrem, 1) := dk_113 (dk_at dksX0_gcd_0 20 rfl rfl)
theorem dX0_gcd_21 : decode cX0_gcd 21 = .ok (.lstore 8, 2) := dk_55 8 (dk_at dksX0_gcd_0 21 rfl rfl)
theorem dX0_gcd_23 : decode cX0_gcd 23 = .ok (.lload 6, 2) := dk_22 6 (dk_at dksX0_gcd_1 0 rfl rfl)
theorem dX0_gcd_25 : decode cX0_gcd 25 = .ok (.lstore 4, 2) := dk_55 4 (dk_at dksX0_gcd_1 2 rfl rfl)
theorem dX0_gcd_27 : decode cX0_gcd 27 = .ok (.lload 8, 2) := dk_22 8 (dk_at dksX0_gcd_1 4 rfl rfl)
theorem dX0_gcd_29 : decode cX0_gcd 29 = .ok (.lstore 6, 2) := dk_55 6 (dk_at dksX0_gcd_1 6 rfl rfl)
theorem dX0_gcd_31 : decode cX0_gcd 31 = .ok (.goto (-22), 3) := dk_167 255 234 (dk_at dksX0_gcd_1 8 rfl rfl)
theorem dX0_gcd_34 : decode cX0_gcd 34 = .ok (.lload 4, 2) := dk_22 4 (dk_at dksX0_gcd_1 11 rfl rfl)
theorem dX0_gcd_36 : decode cX0_gcd 36 = .ok (.lreturn, 1) := dk_173 (dk_at dksX0_gcd_1 13 rfl rfl)
abbrev cX0_clearDues : ByteArray := prog_1_method_32_code
def yX0_clearDues : MethodName := ⟨RX0, "clearDues", "()V"⟩
def dkwX0_clearDues_3 : List UInt8 := [42, 180, 0, 68, 28, 27, 79, 132, 1, 1, 167, 255, 176, 177]
abbrev dktX0_clearDues_3 : List UInt8 := dkwX0_clearDues_3 ++ []
def dkwX0_clearDues_2 : List UInt8 := [46, 164, 0, 23, 42, 180, 0, 68, 28, 42, 180, 0, 68, 28, 4, 100, 46, 79, 132, 2, 255, 167, 255, 213]
abbrev dktX0_clearDues_2 : List UInt8 := dkwX0_clearDues_2 ++ dktX0_clearDues_3
def dkwX0_clearDues_1 : List UInt8 := [27, 61, 28, 158, 0, 45, 42, 180, 0, 24, 42, 180, 0, 68, 28, 4, 100, 46, 46, 42, 180, 0, 24, 27]
abbrev dktX0_clearDues_1 : List UInt8 := dkwX0_clearDues_1 ++ dktX0_clearDues_2
def dkwX0_clearDues_0 : List UInt8 := [3, 60, 27, 42, 180, 0, 125, 162, 0, 78, 42, 180, 0, 62, 27, 9, 80, 42, 180, 0, 65, 27, 10, 80]
abbrev dktX0_clearDues_0 : List UInt8 := dkwX0_clearDues_0 ++ dktX0_clearDues_1
theorem dksX0_clearDues_0 : cX0_clearDues.data.toList.drop 0 = dktX0_clearDues_0 := by decide +kernel
theorem dksX0_clearDues_1 : cX0_clearDues.data.toList.drop 24 = dktX0_clearDues_1 := dk_seg dksX0_clearDues_0 24 rfl rfl
theorem dksX0_clearDues_2 : cX0_clearDues.data.toList.drop 48 = dktX0_clearDues_2 := dk_seg dksX0_clearDues_1 24 rfl rfl
theorem dksX0_clearDues_3 : cX0_clearDues.data.toList.drop 72 = dktX0_clearDues_3 := dk_seg dksX0_clearDues_2 24 rfl rfl
theorem dX0_clearDues_0 : decode cX0_clearDues 0 = .ok (.iconst 0, 1) := dk_3 (dk_at dksX0_clearDues_0 0 rfl rfl)
theorem dX0_clearDues_1 : decode cX0_clearDues 1 = .ok (.istore_n 1, 1) := dk_60 (dk_at dksX0_clearDues_0 1 rfl rfl)
theorem dX0_clearDues_2 : decode cX0_clearDues 2 = .ok (.iload_n 1, 1) := dk_27 (dk_at dksX0_clearDues_0 2 rfl rfl)
theorem dX0_clearDues_3 : decode cX0_clearDues 3 = .ok (.aload_n 0, 1) := dk_42 (dk_at dksX0_clearDues_0 3 rfl rfl)
theorem dX0_clearDues_4 : decode cX0_clearDues 4 = .ok (.getfield 125, 3) := dk_180 0 125 (dk_at dksX0_clearDues_0 4 rfl rfl)
theorem dX0_clearDues_7 : decode cX0_clearDues 7 = .ok (.if_icmp .ge 78, 3) := dk_162 0 78 (dk_at dksX0_clearDues_0 7 rfl rfl)
theorem dX0_clearDues_10 : decode cX0_clearDues 10 = .ok (.aload_n 0, 1) := dk_42 (dk_at dksX0_clearDues_0 10 rfl rfl)
theorem dX0_clearDues_11 : decode cX0_clearDues 11 = .ok (.getfield 62, 3) := dk_180 0 62 (dk_at dksX0_clearDues_0 11 rfl rfl)
theorem dX0_clearDues_14 : decode cX0_clearDues 14 = .ok (.iload_n 1, 1) := dk_27 (dk_at dksX0_clearDues_0 14 rfl rfl)
theorem dX0_clearDues_15 : decode cX0_clearDues 15 = .ok (.lconst 0, 1) := dk_9 (dk_at dksX0_clearDues_0 15 rfl rfl)
theorem dX0_clearDues_16 : decode cX0_clearDues 16 = .ok (.lastore, 1) := dk_80 (dk_at dksX0_clearDues_0 16 rfl rfl)
theorem dX0_clearDues_17 : decode cX0_clearDues 17 = .ok (.aload_n 0, 1) := dk_42 (dk_at dksX0_clearDues_0 17 rfl rfl)
theorem dX0_clearDues_18 : decode cX0_clearDues 18 = .ok (.getfield 65, 3) := dk_180 0 65 (dk_at dksX0_clearDues_0 18 rfl rfl)
theorem dX0_clearDues_21 : decode cX0_clearDues 21 = .ok (.iload_n 1, 1) := dk_27 (dk_at dksX0_clearDues_0 21 rfl rfl)
theorem dX0_clearDues_22 : decode cX0_clearDues 22 = .ok (.lconst 1, 1) := dk_10 (dk_at dksX0_clearDues_0 22 rfl rfl)
theorem dX0_clearDues_23 : decode cX0_clearDues 23 = .ok (.lastore, 1) := dk_80 (dk_at dksX0_clearDues_0 23 rfl rfl)
theorem dX0_clearDues_24 : decode cX0_clearDues 24 = .ok (.iload_n 1, 1) := dk_27 (dk_at dksX0_clearDues_1 0 rfl rfl)
theorem dX0_clearDues_25 : decode cX0_clearDues 25 = .ok (.istore_n 2, 1) := dk_61 (dk_at dksX0_clearDues_1 1 rfl rfl)
theorem dX0_clearDues_26 : decode cX0_clearDues 26 = .ok (.iload_n 2, 1) := dk_28 (dk_at dksX0_clearDues_1 2 rfl rfl)
theorem dX0_clearDues_27 : decode cX0_clearDues 27 = .ok (.ifCond .le 45, 3) := dk_158 0 45 (dk_at dksX0_clearDues_1 3 rfl rfl)
theorem dX0_clearDues_30 : decode cX0_clearDues 30 = .ok (.aload_n 0, 1) := dk_42 (dk_at dksX0_clearDues_1 6 rfl rfl)
theorem dX0_clearDues_31 : decode cX0_clearDues 31 = .ok (.getfield 24, 3) := dk_180 0 24 (dk_at dksX0_clearDues_1 7 rfl rfl)
theorem dX0_clearDues_34 : decode cX0_clearDues 34 = .ok (.aload_n 0, 1) := dk_42 (dk_at dksX0_clearDues_1 10 rfl rfl)
theorem dX0_clearDues_35 : decode cX0_clearDues 35 = .ok (.getfield 68, 3) := dk_180 0 68 (dk_at dksX0_clearDues_1 11 rfl rfl)
theorem dX0_clearDues_38 : decode cX0_clearDues 38 = .ok (.iload_n 2, 1) := dk_28 (dk_at dksX0_clearDues_1 14 rfl rfl)
theorem dX0_clearDues_39 : decode cX0_clearDues 39 = .ok (.iconst 1, 1) := dk_4 (dk_at dksX0_clearDues_1 15 rfl rfl)
theorem dX0_clearDues_40 : decode cX0_clearDues 40 = .ok (.isub, 1) := dk_100 (dk_at dksX0_clearDues_1 16 rfl rfl)
theorem dX0_clearDues_41 : decode cX0_clearDues 41 = .ok (.iaload, 1) := dk_46 (dk_at dksX0_clearDues_1 17 rfl rfl)
theorem dX0_clearDues_42 : decode cX0_clearDues 42 = .ok (.iaload, 1) := dk_46 (dk_at dksX0_clearDues_1 18 rfl rfl)
theorem dX0_clearDues_43 : decode cX0_clearDues 43 = .ok (.aload_n 0, 1) := dk_42 (dk_at dksX0_clearDues_1 19 rfl rfl)
theorem dX0_clearDues_44 : decode cX0_clearDues 44 = .ok (.getfield 24, 3) := dk_180 0 24 (dk_at dksX0_clearDues_1 20 rfl rfl)
theorem dX0_clearDues_47 : decode cX0_clearDues 47 = .ok (.iload_n 1, 1) := dk_27 (dk_at dksX0_clearDues_1 23 rfl rfl)
theorem dX0_clearDues_48 : decode cX0_clearDues 48 = .ok (.iaload, 1) := dk_46 (dk_at dksX0_clearDues_2 0 rfl rfl)
theorem dX0_clearDues_49 : decode cX0_clearDues 49 = .ok (.if_icmp .le 23, 3) := dk_164 0 23 (dk_at dksX0_clearDues_2 1 rfl rfl)
theorem dX0_clearDues_52 : decode cX0_clearDues 52 = .ok (.aload_n 0, 1) := dk_42 (dk_at dksX0_clearDues_2 4 rfl rfl)
theorem dX0_clearDues_53 : decode cX0_clearDues 53 = .ok (.getfield 68, 3) := dk_180 0 68 (dk_at dksX0_clearDues_2 5 rfl rfl)
theorem dX0_clearDues_56 : decode cX0_clearDues 56 = .ok (.iload_n 2, 1) := dk_28 (dk_at dksX0_clearDues_2 8 rfl rfl)
theorem dX0_clearDues_57 : decode cX0_clearDues 57 = .ok (.aload_n 0, 1) := dk_42 (dk_at dksX0_clearDues_2 9 rfl rfl)
theorem dX0_clearDues_58 : decode cX0_clearDues 58 = .ok (.getfield 68, 3) := dk_180 0 68 (dk_at dksX0_clearDues_2 10 rfl rfl)
theorem dX0_clearDues_61 : decode cX0_clearDues 61 = .ok (.iload_n 2, 1) := dk_28 (dk_at dksX0_clearDues_2 13 rfl rfl)
theorem dX0_clearDues_62 : decode cX0_clearDues 62 = .ok (.iconst 1, 1) := dk_4 (dk_at dksX0_clearDues_2 14 rfl rfl)
theorem dX0_clearDues_63 : decode cX0_clearDues 63 = .ok (.isub, 1) := dk_100 (dk_at dksX0_clearDues_2 15 rfl rfl)
theorem dX0_clearDues_64 : decode cX0_clearDues 64 = .ok (.iaload, 1) := dk_46 (dk_at dksX0_clearDues_2 16 rfl rfl)
theorem dX0_clearDues_65 : decode cX0_clearDues 65 = .ok (.iastore, 1) := dk_79 (dk_at dksX0_clearDues_2 17 rfl rfl)
theorem dX0_clearDues_66 : decode cX0_clearDues 66 = .ok (.iinc 2 (-1), 3) := dk_132 2 255 (dk_at dksX0_clearDues_2 18 rfl rfl)
theorem dX0_clearDues_69 : decode cX0_clearDues 69 = .ok (.goto (-43), 3) := dk_167 255 213 (dk_at dksX0_clearDues_2 21 rfl rfl)
theorem dX0_clearDues_72 : decode cX0_clearDues 72 = .ok (.aload_n 0, 1) := dk_42 (dk_at dksX0_clearDues_3 0 rfl rfl)
theorem dX0_clearDues_73 : decode cX0_clearDues 73 = .ok (.getfield 68, 3) := dk_180 0 68 (dk_at dksX0_clearDues_3 1 rfl rfl)
theorem dX0_clearDues_76 : decode cX0_clearDues 76 = .ok (.iload_n 2, 1) := dk_28 (dk_at dksX0_clearDues_3 4 rfl rfl)
theorem dX0_clearDues_77 : decode cX0_clearDues 77 = .ok (.iload_n 1, 1) := dk_27 (dk_at dksX0_clearDues_3 5 rfl rfl)
theorem dX0_clearDues_78 : decode cX0_clearDues 78 = .ok (.iastore, 1) := dk_79 (dk_at dksX0_clearDues_3 6 rfl rfl)
theorem dX0_clearDues_79 : decode cX0_clearDues 79 = .ok (.iinc 1 1, 3) := dk_132 1 1 (dk_at dksX0_clearDues_3 7 rfl rfl)
theorem dX0_clearDues_82 : decode cX0_clearDues 82 = .ok (.goto (-80), 3) := dk_167 255 176 (dk_at dksX0_clearDues_3 10 rfl rfl)
theorem dX0_clearDues_85 : decode cX0_clearDues 85 = .ok (.return_, 1) := dk_177 (dk_at dksX0_clearDues_3 13 rfl rfl)
abbrev cX0_partsAmong : ByteArray := prog_1_method_34_code
def yX0_partsAmong : MethodName := ⟨RX0, "partsAmong", "(IJJ)V"⟩
def dkwX0_partsAmong_6 : List UInt8 := [182, 0, 238, 132, 7, 1, 167, 255, 182, 177]
abbrev dktX0_partsAmong_6 : List UInt8 := dkwX0_partsAmong_6 ++ []
def dkwX0_partsAmong_5 : List UInt8 := [182, 0, 224, 153, 0, 24, 42, 42, 180, 0, 32, 21, 7, 50, 180, 0, 154, 32, 22, 4, 21, 6, 133, 105]
abbrev dktX0_partsAmong_5 : List UInt8 := dkwX0_partsAmong_5 ++ dktX0_partsAmong_6
def dkwX0_partsAmong_4 : List UInt8 := [180, 0, 32, 21, 7, 50, 180, 0, 151, 27, 160, 0, 41, 42, 42, 180, 0, 32, 21, 7, 50, 180, 0, 154]
abbrev dktX0_partsAmong_4 : List UInt8 := dkwX0_partsAmong_4 ++ dktX0_partsAmong_5
def dkwX0_partsAmong_3 : List UInt8 := [3, 54, 7, 21, 7, 42, 180, 0, 144, 162, 0, 71, 42, 180, 0, 49, 21, 7, 51, 153, 0, 55, 42]
abbrev dktX0_partsAmong_3 : List UInt8 := dkwX0_partsAmong_3 ++ dktX0_partsAmong_4
def dkwX0_partsAmong_2 : List UInt8 := [50, 180, 0, 154, 182, 0, 224, 153, 0, 7, 4, 167, 0, 4, 3, 96, 54, 6, 132, 7, 1, 167, 255, 193]
abbrev dktX0_partsAmong_2 : List UInt8 := dkwX0_partsAmong_2 ++ dktX0_partsAmong_3
def dkwX0_partsAmong_1 : List UInt8 := [153, 0, 38, 42, 180, 0, 32, 21, 7, 50, 180, 0, 151, 27, 160, 0, 24, 42, 42, 180, 0, 32, 21, 7]
abbrev dktX0_partsAmong_1 : List UInt8 := dkwX0_partsAmong_1 ++ dktX0_partsAmong_2
def dkwX0_partsAmong_0 : List UInt8 := [3, 54, 6, 3, 54, 7, 21, 7, 42, 180, 0, 144, 162, 0, 60, 21, 6, 42, 180, 0, 49, 21, 7, 51]
abbrev dktX0_partsAmong_0 : List UInt8 := dkwX0_partsAmong_0 ++ dktX0_partsAmong_1
theorem dksX0_partsAmong_0 : cX0_partsAmong.data.toList.drop 0 = dktX0_partsAmong_0 := by decide +kernel
theorem dksX0_partsAmong_1 : cX0_partsAmong.data.toList.drop 24 = dktX0_partsAmong_1 := dk_seg dksX0_partsAmong_0 24 rfl rfl
theorem dksX0_partsAmong_2 : cX0_partsAmong.data.toList.drop 48 = dktX0_partsAmong_2 := dk_seg dksX0_partsAmong_1 24 rfl rfl
theorem dksX0_partsAmong_3 : cX0_partsAmong.data.toList.drop 72 = dktX0_partsAmong_3 := dk_seg dksX0_partsAmong_2 24 rfl rfl
theorem dksX0_partsAmong_4 : cX0_partsAmong.data.toList.drop 95 = dktX0_partsAmong_4 := dk_seg dksX0_partsAmong_3 23 rfl rfl
theorem dksX0_partsAmong_5 : cX0_partsAmong.data.toList.drop 119 = dktX0_partsAmong_5 := dk_seg dksX0_partsAmong_4 24 rfl rfl
theorem dksX0_partsAmong_6 : cX0_partsAmong.data.toList.drop 143 = dktX0_partsAmong_6 := dk_seg dksX0_partsAmong_5 24 rfl rfl
theorem dX0_partsAmong_0 : decode cX0_partsAmong 0 = .ok (.iconst 0, 1) := dk_3 (dk_at dksX0_partsAmong_0 0 rfl rfl)
theorem dX0_partsAmong_1 : decode cX0_partsAmong 1 = .ok (.istore 6, 2) := dk_54 6 (dk_at dksX0_partsAmong_0 1 rfl rfl)
theorem dX0_partsAmong_3 : decode cX0_partsAmong 3 = .ok (.iconst 0, 1) := dk_3 (dk_at dksX0_partsAmong_0 3 rfl rfl)
theorem dX0_partsAmong_4 : decode cX0_partsAmong 4 = .ok (.istore 7, 2) := dk_54 7 (dk_at dksX0_partsAmong_0 4 rfl rfl)
theorem dX0_partsAmong_6 : decode cX0_partsAmong 6 = .ok (.iload 7, 2) := dk_21 7 (dk_at dksX0_partsAmong_0 6 rfl rfl)
theorem dX0_partsAmong_8 : decode cX0_partsAmong 8 = .ok (.aload_n 0, 1) := dk_42 (dk_at dksX0_partsAmong_0 8 rfl rfl)
theorem dX0_partsAmong_9 : decode cX0_partsAmong 9 = .ok (.getfield 144, 3) := dk_180 0 144 (dk_at dksX0_partsAmong_0 9 rfl rfl)
theorem dX0_partsAmong_12 : decode cX0_partsAmong 12 = .ok (.if_icmp .ge 60, 3) := dk_162 0 60 (dk_at dksX0_partsAmong_0 12 rfl rfl)
theorem dX0_partsAmong_15 : decode cX0_partsAmong 15 = .ok (.iload 6, 2) := dk_21 6 (dk_at dksX0_partsAmong_0 15 rfl rfl)
theorem dX0_partsAmong_17 : decode cX0_partsAmong 17 = .ok (.aload_n 0, 1) := dk_42 (dk_at dksX0_partsAmong_0 17 rfl rfl)
theorem dX0_partsAmong_18 : decode cX0_partsAmong 18 = .ok (.getfield 49, 3) := dk_180 0 49 (dk_at dksX0_partsAmong_0 18 rfl rfl)
theorem dX0_partsAmong_21 : decode cX0_partsAmong 21 = .ok (.iload 7, 2) := dk_21 7 (dk_at dksX0_partsAmong_0 21 rfl rfl)
theorem dX0_partsAmong_23 : decode cX0_partsAmong 23 = .ok (.baload, 1) := dk_51 (dk_at dksX0_partsAmong_0 23 rfl rfl)
theorem dX0_partsAmong_24 : decode cX0_partsAmong 24 = .ok (.ifCond .eq 38, 3) := dk_153 0 38 (dk_at dksX0_partsAmong_1 0 rfl rfl)
theorem dX0_partsAmong_27 : decode cX0_partsAmong 27 = .ok (.aload_n 0, 1) := dk_42 (dk_at dksX0_partsAmong_1 3 rfl rfl)
theorem dX0_partsAmong_28 : decode cX0_partsAmong 28 = .ok (.getfield 32, 3) := dk_180 0 32 (dk_at dksX0_partsAmong_1 4 rfl rfl)
theorem dX0_partsAmong_31 : decode cX0_partsAmong 31 = .ok (.iload 7, 2) := dk_21 7 (dk_at dksX0_partsAmong_1 7 rfl rfl)
theorem dX0_partsAmong_33 : decode cX0_partsAmong 33 = .ok (.aaload, 1) := dk_50 (dk_at dksX0_partsAmong_1 9 rfl rfl)
theorem dX0_partsAmong_34 : decode cX0_partsAmong 34 = .ok (.getfield 151, 3) := dk_180 0 151 (dk_at dksX0_partsAmong_1 10 rfl rfl)
theorem dX0_partsAmong_37 : decode cX0_partsAmong 37 = .ok (.iload_n 1, 1) := dk_27 (dk_at dksX0_partsAmong_1 13 rfl rfl)
theorem dX0_partsAmong_38 : decode cX0_partsAmong 38 = .ok (.if_icmp .ne 24, 3) := dk_160 0 24 (dk_at dksX0_partsAmong_1 14 rfl rfl)
theorem dX0_partsAmong_41 : decode cX0_partsAmong 41 = .ok (.aload_n 0, 1) := dk_42 (dk_at dksX0_partsAmong_1 17 rfl rfl)
theorem dX0_partsAmong_42 : decode cX0_partsAmong 42 = .ok (.aload_n 0, 1) := dk_42 (dk_at dksX0_partsAmong_1 18 rfl rfl)
theorem dX0_partsAmong_43 : decode cX0_partsAmong 43 = .ok (.getfield 32, 3) := dk_180 0 32 (dk_at dksX0_partsAmong_1 19 rfl rfl)
theorem dX0_partsAmong_46 : decode cX0_partsAmong 46 = .ok (.iload 7, 2) := dk_21 7 (dk_at dksX0_partsAmong_1 22 rfl rfl)
theorem dX0_partsAmong_48 : decode cX0_partsAmong 48 = .ok (.aaload, 1) := dk_50 (dk_at dksX0_partsAmong_2 0 rfl rfl)
theorem dX0_partsAmong_49 : decode cX0_partsAmong 49 = .ok (.getfield 154, 3) := dk_180 0 154 (dk_at dksX0_partsAmong_2 1 rfl rfl)
theorem dX0_partsAmong_52 : decode cX0_partsAmong 52 = .ok (.invokevirtual 224, 3) := dk_182 0 224 (dk_at dksX0_partsAmong_2 4 rfl rfl)
theorem dX0_partsAmong_55 : decode cX0_partsAmong 55 = .ok (.ifCond .eq 7, 3) := dk_153 0 7 (dk_at dksX0_partsAmong_2 7 rfl rfl)
theorem dX0_partsAmong_58 : decode cX0_partsAmong 58 = .ok (.iconst 1, 1) := dk_4 (dk_at dksX0_partsAmong_2 10 rfl rfl)
theorem dX0_partsAmong_59 : decode cX0_partsAmong 59 = .ok (.goto 4, 3) := dk_167 0 4 (dk_at dksX0_partsAmong_2 11 rfl rfl)
theorem dX0_partsAmong_62 : decode cX0_partsAmong 62 = .ok (.iconst 0, 1) := dk_3 (dk_at dksX0_partsAmong_2 14 rfl rfl)
theorem dX0_partsAmong_63 : decode cX0_partsAmong 63 = .ok (.iadd, 1) := dk_96 (dk_at dksX0_partsAmong_2 15 rfl rfl)
theorem dX0_partsAmong_64 : decode cX0_partsAmong 64 = .ok (.istore 6, 2) := dk_54 6 (dk_at dksX0_partsAmong_2 16 rfl rfl)
theorem dX0_partsAmong_66 : decode cX0_partsAmong 66 = .ok (.iinc 7 1, 3) := dk_132 7 1 (dk_at dksX0_partsAmong_2 18 rfl rfl)
theorem dX0_partsAmong_69 : decode cX0_partsAmong 69 = .ok (.goto (-63), 3) := dk_167 255 193 (dk_at dksX0_partsAmong_2 21 rfl rfl)
theorem dX0_partsAmong_72 : decode cX0_partsAmong 72 = .ok (.iconst 0, 1) := dk_3 (dk_at dksX0_partsAmong_3 0 rfl rfl)
theorem dX0_partsAmong_73 : decode cX0_partsAmong 73 = .ok (.istore 7, 2) := dk_54 7 (dk_at dksX0_partsAmong_3 1 rfl rfl)
theorem dX0_partsAmong_75 : decode cX0_partsAmong 75 = .ok (.iload 7, 2) := dk_21 7 (dk_at dksX0_partsAmong_3 3 rfl rfl)
theorem dX0_partsAmong_77 : decode cX0_partsAmong 77 = .ok (.aload_n 0, 1) := dk_42 (dk_at dksX0_partsAmong_3 5 rfl rfl)
theorem dX0_partsAmong_78 : decode cX0_partsAmong 78 = .ok (.getfield 144, 3) := dk_180 0 144 (dk_at dksX0_partsAmong_3 6 rfl rfl)
theorem dX0_partsAmong_81 : decode cX0_partsAmong 81 = .ok (.if_icmp .ge 71, 3) := dk_162 0 71 (dk_at dksX0_partsAmong_3 9 rfl rfl)
theorem dX0_partsAmong_84 : decode cX0_partsAmong 84 = .ok (.aload_n 0, 1) := dk_42 (dk_at dksX0_partsAmong_3 12 rfl rfl)
theorem dX0_partsAmong_85 : decode cX0_partsAmong 85 = .ok (.getfield 49, 3) := dk_180 0 49 (dk_at dksX0_partsAmong_3 13 rfl rfl)
theorem dX0_partsAmong_88 : decode cX0_partsAmong 88 = .ok (.iload 7, 2) := dk_21 7 (dk_at dksX0_partsAmong_3 16 rfl rfl)
theorem dX0_partsAmong_90 : decode cX0_partsAmong 90 = .ok (.baload, 1) := dk_51 (dk_at dksX0_partsAmong_3 18 rfl rfl)
theorem dX0_partsAmong_91 : decode cX0_partsAmong 91 = .ok (.ifCond .eq 55, 3) := dk_153 0 55 (dk_at dksX0_partsAmong_3 19 rfl rfl)
theorem dX0_partsAmong_94 : decode cX0_partsAmong 94 = .ok (.aload_n 0, 1) := dk_42 (dk_at dksX0_partsAmong_3 22 rfl rfl)
theorem dX0_partsAmong_95 : decode cX0_partsAmong 95 = .ok (.getfield 32, 3) := dk_180 0 32 (dk_at dksX0_partsAmong_4 0 rfl rfl)
theorem dX0_partsAmong_98 : decode cX0_partsAmong 98 = .ok (.iload 7, 2) := dk_21 7 (dk_at dksX0_partsAmong_4 3 rfl rfl)
theorem dX0_partsAmong_100 : decode cX0_partsAmong 100 = .ok (.aaload, 1) := dk_50 (dk_at dksX0_partsAmong_4 5 rfl rfl)
theorem dX0_partsAmong_101 : decode cX0_partsAmong 101 = .ok (.getfield 151, 3) := dk_180 0 151 (dk_at dksX0_partsAmong_4 6 rfl rfl)
theorem dX0_partsAmong_104 : decode cX0_partsAmong 104 = .ok (.iload_n 1, 1) := dk_27 (dk_at dksX0_partsAmong_4 9 rfl rfl)
theorem dX0_partsAmong_105 : decode cX0_partsAmong 105 = .ok (.if_icmp .ne 41, 3) := dk_160 0 41 (dk_at dksX0_partsAmong_4 10 rfl rfl)
theorem dX0_partsAmong_108 : decode cX0_partsAmong 108 = .ok (.aload_n 0, 1) := dk_42 (dk_at dksX0_partsAmong_4 13 rfl rfl)
theorem dX0_partsAmong_109 : decode cX0_partsAmong 109 = .ok (.aload_n 0, 1) := dk_42 (dk_at dksX0_partsAmong_4 14 rfl rfl)
theorem dX0_partsAmong_110 : decode cX0_partsAmong 110 = .ok (.getfield 32, 3) := dk_180 0 32 (dk_at dksX0_partsAmong_4 15 rfl rfl)
theorem dX0_partsAmong_113 : decode cX0_partsAmong 113 = .ok (.iload 7, 2) := dk_21 7 (dk_at dksX0_partsAmong_4 18 rfl rfl)
theorem dX0_partsAmong_115 : decode cX0_partsAmong 115 = .ok (.aaload, 1) := dk_50 (dk_at dksX0_partsAmong_4 20 rfl rfl)
theorem dX0_partsAmong_116 : decode cX0_partsAmong 116 = .ok (.getfield 154, 3) := dk_180 0 154 (dk_at dksX0_partsAmong_4 21 rfl rfl)
theorem dX0_partsAmong_119 : decode cX0_partsAmong 119 = .ok (.invokevirtual 224, 3) := dk_182 0 224 (dk_at dksX0_partsAmong_5 0 rfl rfl)
theorem dX0_partsAmong_122 : decode cX0_partsAmong 122 = .ok (.ifCond .eq 24, 3) := dk_153 0 24 (dk_at dksX0_partsAmong_5 3 rfl rfl)
theorem dX0_partsAmong_125 : decode cX0_partsAmong 125 = .ok (.aload_n 0, 1) := dk_42 (dk_at dksX0_partsAmong_5 6 rfl rfl)
theorem dX0_partsAmong_126 : decode cX0_partsAmong 126 = .ok (.aload_n 0, 1) := dk_42 (dk_at dksX0_partsAmong_5 7 rfl rfl)
theorem dX0_partsAmong_127 : decode cX0_partsAmong 127 = .ok (.getfield 32, 3) := dk_180 0 32 (dk_at dksX0_partsAmong_5 8 rfl rfl)
theorem dX0_partsAmong_130 : decode cX0_partsAmong 130 = .ok (.iload 7, 2) := dk_21 7 (dk_at dksX0_partsAmong_5 11 rfl rfl)
theorem dX0_partsAmong_132 : decode cX0_partsAmong 132 = .ok (.aaload, 1) := dk_50 (dk_at dksX0_partsAmong_5 13 rfl rfl)
theorem dX0_partsAmong_133 : decode cX0_partsAmong 133 = .ok (.getfield 154, 3) := dk_180 0 154 (dk_at dksX0_partsAmong_5 14 rfl rfl)
theorem dX0_partsAmong_136 : decode cX0_partsAmong 136 = .ok (.lload_n 2, 1) := dk_32 (dk_at dksX0_partsAmong_5 17 rfl rfl)
theorem dX0_partsAmong_137 : decode cX0_partsAmong 137 = .ok (.lload 4, 2) := dk_22 4 (dk_at dksX0_partsAmong_5 18 rfl rfl)
theorem dX0_partsAmong_139 : decode cX0_partsAmong 139 = .ok (.iload 6, 2) := dk_21 6 (dk_at dksX0_partsAmong_5 20 rfl rfl)
theorem dX0_partsAmong_141 : decode cX0_partsAmong 141 = .ok (.i2l, 1) := dk_133 (dk_at dksX0_partsAmong_5 22 rfl rfl)
theorem dX0_partsAmong_142 : decode cX0_partsAmong 142 = .ok (.lmul, 1) := dk_105 (dk_at dksX0_partsAmong_5 23 rfl rfl)
theorem dX0_partsAmong_143 : decode cX0_partsAmong 143 = .ok (.invokevirtual 238, 3) := dk_182 0 238 (dk_at dksX0_partsAmong_6 0 rfl rfl)
theorem dX0_partsAmong_146 : decode cX0_partsAmong 146 = .ok (.iinc 7 1, 3) := dk_132 7 1 (dk_at dksX0_partsAmong_6 3 rfl rfl)
theorem dX0_partsAmong_149 : decode cX0_partsAmong 149 = .ok (.goto (-74), 3) := dk_167 255 182 (dk_at dksX0_partsAmong_6 6 rfl rfl)
theorem dX0_partsAmong_152 : decode cX0_partsAmong 152 = .ok (.return_, 1) := dk_177 (dk_at dksX0_partsAmong_6 9 rfl rfl)
abbrev cX0_comesTo : ByteArray := prog_1_method_31_code
def yX0_comesTo : MethodName := ⟨RX0, "comesTo", "(IJJ)V"⟩
def dkwX0_comesTo_1 : List UInt8 := [42, 180, 0, 110, 80, 42, 180, 0, 65, 27, 42, 180, 0, 113, 80, 177]
abbrev dktX0_comesTo_1 : List UInt8 := dkwX0_comesTo_1 ++ []
def dkwX0_comesTo_0 : List UInt8 := [42, 42, 180, 0, 62, 27, 47, 42, 180, 0, 65, 27, 47, 32, 22, 4, 182, 0, 227, 42, 180, 0, 62, 27]
abbrev dktX0_comesTo_0 : List UInt8 := dkwX0_comesTo_0 ++ dktX0_comesTo_1
theorem dksX0_comesTo_0 : cX0_comesTo.data.toList.drop 0 = dktX0_comesTo_0 := by decide +kernel
theorem dksX0_comesTo_1 : cX0_comesTo.data.toList.drop 24 = dktX0_comesTo_1 := dk_seg dksX0_comesTo_0 24 rfl rfl
theorem dX0_comesTo_0 : decode cX0_comesTo 0 = .ok (.aload_n 0, 1) := dk_42 (dk_at dksX0_comesTo_0 0 rfl rfl)
theorem dX0_comesTo_1 : decode cX0_comesTo 1 = .ok (.aload_n 0, 1) := dk_42 (dk_at dksX0_comesTo_0 1 rfl rfl)
theorem dX0_comesTo_2 : decode cX0_comesTo 2 = .ok (.getfield 62, 3) := dk_180 0 62 (dk_at dksX0_comesTo_0 2 rfl rfl)
theorem dX0_comesTo_5 : decode cX0_comesTo 5 = .ok (.iload_n 1, 1) := dk_27 (dk_at dksX0_comesTo_0 5 rfl rfl)
theorem dX0_comesTo_6 : decode cX0_comesTo 6 = .ok (.laload, 1) := dk_47 (dk_at dksX0_comesTo_0 6 rfl rfl)
theorem dX0_comesTo_7 : decode cX0_comesTo 7 = .ok (.aload_n 0, 1) := dk_42 (dk_at dksX0_comesTo_0 7 rfl rfl)
theorem dX0_comesTo_8 : decode cX0_comesTo 8 = .ok (.getfield 65, 3) := dk_180 0 65 (dk_at dksX0_comesTo_0 8 rfl rfl)
theorem dX0_comesTo_11 : decode cX0_comesTo 11 = .ok (.iload_n 1, 1) := dk_27 (dk_at dksX0_comesTo_0 11 rfl rfl)
theorem dX0_comesTo_12 : decode cX0_comesTo 12 = .ok (.laload, 1) := dk_47 (dk_at dksX0_comesTo_0 12 rfl rfl)
theorem dX0_comesTo_13 : decode cX0_comesTo 13 = .ok (.lload_n 2, 1) := dk_32 (dk_at dksX0_comesTo_0 13 rfl rfl)
theorem dX0_comesTo_14 : decode cX0_comesTo 14 = .ok (.lload 4, 2) := dk_22 4 (dk_at dksX0_comesTo_0 14 rfl rfl)
theorem dX0_comesTo_16 : decode cX0_comesTo 16 = .ok (.invokevirtual 227, 3) := dk_182 0 227 (dk_at dksX0_comesTo_0 16 rfl rfl)
theorem dX0_comesTo_19 : decode cX0_comesTo 19 = .ok (.aload_n 0, 1) := dk_42 (dk_at dksX0_comesTo_0 19 rfl rfl)
theorem dX0_comesTo_20 : decode cX0_comesTo 20 = .ok (.getfield 62, 3) := dk_180 0 62 (dk_at dksX0_comesTo_0 20 rfl rfl)
theorem dX0_comesTo_23 : decode cX0_comesTo 23 = .ok (.iload_n 1, 1) := dk_27 (dk_at dksX0_comesTo_0 23 rfl rfl)
theorem dX0_comesTo_24 : decode cX0_comesTo 24 = .ok (.aload_n 0, 1) := dk_42 (dk_at dksX0_comesTo_1 0 rfl rfl)
theorem dX0_comesTo_25 : decode cX0_comesTo 25 = .ok (.getfield 110, 3) := dk_180 0 110 (dk_at dksX0_comesTo_1 1 rfl rfl)
theorem dX0_comesTo_28 : decode cX0_comesTo 28 = .ok (.lastore, 1) := dk_80 (dk_at dksX0_comesTo_1 4 rfl rfl)
theorem dX0_comesTo_29 : decode cX0_comesTo 29 = .ok (.aload_n 0, 1) := dk_42 (dk_at dksX0_comesTo_1 5 rfl rfl)
theorem dX0_comesTo_30 : decode cX0_comesTo 30 = .ok (.getfield 65, 3) := dk_180 0 65 (dk_at dksX0_comesTo_1 6 rfl rfl)
theorem dX0_comesTo_33 : decode cX0_comesTo 33 = .ok (.iload_n 1, 1) := dk_27 (dk_at dksX0_comesTo_1 9 rfl rfl)
theorem dX0_comesTo_34 : decode cX0_comesTo 34 = .ok (.aload_n 0, 1) := dk_42 (dk_at dksX0_comesTo_1 10 rfl rfl)
theorem dX0_comesTo_35 : decode cX0_comesTo 35 = .ok (.getfield 113, 3) := dk_180 0 113 (dk_at dksX0_comesTo_1 11 rfl rfl)
theorem dX0_comesTo_38 : decode cX0_comesTo 38 = .ok (.lastore, 1) := dk_80 (dk_at dksX0_comesTo_1 14 rfl rfl)
theorem dX0_comesTo_39 : decode cX0_comesTo 39 = .ok (.return_, 1) := dk_177 (dk_at dksX0_comesTo_1 15 rfl rfl)
abbrev cX0_handOn : ByteArray := prog_1_method_33_code
def yX0_handOn : MethodName := ⟨RX0, "handOn", "()V"⟩
def dkwX0_handOn_3 : List UInt8 := [42, 180, 0, 62, 28, 47, 42, 180, 0, 65, 28, 47, 182, 0, 235, 132, 1, 1, 167, 255, 170, 177]
abbrev dktX0_handOn_3 : List UInt8 := dkwX0_handOn_3 ++ []
def dkwX0_handOn_2 : List UInt8 := [180, 0, 65, 28, 47, 182, 0, 231, 167, 0, 31, 42, 180, 0, 62, 28, 47, 9, 148, 158, 0, 20, 42, 28]
abbrev dktX0_handOn_2 : List UInt8 := dkwX0_handOn_2 ++ dktX0_handOn_3
def dkwX0_handOn_1 : List UInt8 := [148, 158, 0, 32, 42, 180, 0, 46, 28, 51, 153, 0, 23, 42, 28, 42, 180, 0, 62, 28, 47, 42]
abbrev dktX0_handOn_1 : List UInt8 := dkwX0_handOn_1 ++ dktX0_handOn_2
def dkwX0_handOn_0 : List UInt8 := [3, 60, 27, 42, 180, 0, 125, 162, 0, 84, 42, 180, 0, 68, 27, 46, 61, 42, 180, 0, 62, 28, 47, 9]
abbrev dktX0_handOn_0 : List UInt8 := dkwX0_handOn_0 ++ dktX0_handOn_1
theorem dksX0_handOn_0 : cX0_handOn.data.toList.drop 0 = dktX0_handOn_0 := by decide +kernel
theorem dksX0_handOn_1 : cX0_handOn.data.toList.drop 24 = dktX0_handOn_1 := dk_seg dksX0_handOn_0 24 rfl rfl
theorem dksX0_handOn_2 : cX0_handOn.data.toList.drop 46 = dktX0_handOn_2 := dk_seg dksX0_handOn_1 22 rfl rfl
theorem dksX0_handOn_3 : cX0_handOn.data.toList.drop 70 = dktX0_handOn_3 := dk_seg dksX0_handOn_2 24 rfl rfl
theorem dX0_handOn_0 : decode cX0_handOn 0 = .ok (.iconst 0, 1) := dk_3 (dk_at dksX0_handOn_0 0 rfl rfl)
theorem dX0_handOn_1 : decode cX0_handOn 1 = .ok (.istore_n 1, 1) := dk_60 (dk_at dksX0_handOn_0 1 rfl rfl)
theorem dX0_handOn_2 : decode cX0_handOn 2 = .ok (.iload_n 1, 1) := dk_27 (dk_at dksX0_handOn_0 2 rfl rfl)
theorem dX0_handOn_3 : decode cX0_handOn 3 = .ok (.aload_n 0, 1) := dk_42 (dk_at dksX0_handOn_0 3 rfl rfl)
theorem dX0_handOn_4 : decode cX0_handOn 4 = .ok (.getfield 125, 3) := dk_180 0 125 (dk_at dksX0_handOn_0 4 rfl rfl)
theorem dX0_handOn_7 : decode cX0_handOn 7 = .ok (.if_icmp .ge 84, 3) := dk_162 0 84 (dk_at dksX0_handOn_0 7 rfl rfl)
theorem dX0_handOn_10 : decode cX0_handOn 10 = .ok (.aload_n 0, 1) := dk_42 (dk_at dksX0_handOn_0 10 rfl rfl)
theorem dX0_handOn_11 : decode cX0_handOn 11 = .ok (.getfield 68, 3) := dk_180 0 68 (dk_at dksX0_handOn_0 11 rfl rfl)
theorem dX0_handOn_14 : decode cX0_handOn 14 = .ok (.iload_n 1, 1) := dk_27 (dk_at dksX0_handOn_0 14 rfl rfl)
theorem dX0_handOn_15 : decode cX0_handOn 15 = .ok (.iaload, 1) := dk_46 (dk_at dksX0_handOn_0 15 rfl rfl)
theorem dX0_handOn_16 : decode cX0_handOn 16 = .ok (.istore_n 2, 1) := dk_61 (dk_at dksX0_handOn_0 16 rfl rfl)
theorem dX0_handOn_17 : decode cX0_handOn 17 = .ok (.aload_n 0, 1) := dk_42 (dk_at dksX0_handOn_0 17 rfl rfl)
theorem dX0_handOn_18 : decode cX0_handOn 18 = .ok (.getfield 62, 3) := dk_180 0 62 (dk_at dksX0_handOn_0 18 rfl rfl)
theorem dX0_handOn_21 : decode cX0_handOn 21 = .ok (.iload_n 2, 1) := dk_28 (dk_at dksX0_handOn_0 21 rfl rfl)
theorem dX0_handOn_22 : decode cX0_handOn 22 = .ok (.laload, 1) := dk_47 (dk_at dksX0_handOn_0 22 rfl rfl)
theorem dX0_handOn_23 : decode cX0_handOn 23 = .ok (.lconst 0, 1) := dk_9 (dk_at dksX0_handOn_0 23 rfl rfl)
theorem dX0_handOn_24 : decode cX0_handOn 24 = .ok (.lcmp, 1) := dk_148 (dk_at dksX0_handOn_1 0 rfl rfl)
theorem dX0_handOn_25 : decode cX0_handOn 25 = .ok (.ifCond .le 32, 3) := dk_158 0 32 (dk_at dksX0_handOn_1 1 rfl rfl)
theorem dX0_handOn_28 : decode cX0_handOn 28 = .ok (.aload_n 0, 1) := dk_42 (dk_at dksX0_handOn_1 4 rfl rfl)
theorem dX0_handOn_29 : decode cX0_handOn 29 = .ok (.getfield 46, 3) := dk_180 0 46 (dk_at dksX0_handOn_1 5 rfl rfl)
theorem dX0_handOn_32 : decode cX0_handOn 32 = .ok (.iload_n 2, 1) := dk_28 (dk_at dksX0_handOn_1 8 rfl rfl)
theorem dX0_handOn_33 : decode cX0_handOn 33 = .ok (.baload, 1) := dk_51 (dk_at dksX0_handOn_1 9 rfl rfl)
theorem dX0_handOn_34 : decode cX0_handOn 34 = .ok (.ifCond .eq 23, 3) := dk_153 0 23 (dk_at dksX0_handOn_1 10 rfl rfl)
theorem dX0_handOn_37 : decode cX0_handOn 37 = .ok (.aload_n 0, 1) := dk_42 (dk_at dksX0_handOn_1 13 rfl rfl)
theorem dX0_handOn_38 : decode cX0_handOn 38 = .ok (.iload_n 2, 1) := dk_28 (dk_at dksX0_handOn_1 14 rfl rfl)
theorem dX0_handOn_39 : decode cX0_handOn 39 = .ok (.aload_n 0, 1) := dk_42 (dk_at dksX0_handOn_1 15 rfl rfl)
theorem dX0_handOn_40 : decode cX0_handOn 40 = .ok (.getfield 62, 3) := dk_180 0 62 (dk_at dksX0_handOn_1 16 rfl rfl)
theorem dX0_handOn_43 : decode cX0_handOn 43 = .ok (.iload_n 2, 1) := dk_28 (dk_at dksX0_handOn_1 19 rfl rfl)
theorem dX0_handOn_44 : decode cX0_handOn 44 = .ok (.laload, 1) := dk_47 (dk_at dksX0_handOn_1 20 rfl rfl)
theorem dX0_handOn_45 : decode cX0_handOn 45 = .ok (.aload_n 0, 1) := dk_42 (dk_at dksX0_handOn_1 21 rfl rfl)
theorem dX0_handOn_46 : decode cX0_handOn 46 = .ok (.getfield 65, 3) := dk_180 0 65 (dk_at dksX0_handOn_2 0 rfl rfl)
theorem dX0_handOn_49 : decode cX0_handOn 49 = .ok (.iload_n 2, 1) := dk_28 (dk_at dksX0_handOn_2 3 rfl rfl)
theorem dX0_handOn_50 : decode cX0_handOn 50 = .ok (.laload, 1) := dk_47 (dk_at dksX0_handOn_2 4 rfl rfl)
theorem dX0_handOn_51 : decode cX0_handOn 51 = .ok (.invokevirtual 231, 3) := dk_182 0 231 (dk_at dksX0_handOn_2 5 rfl rfl)
theorem dX0_handOn_54 : decode cX0_handOn 54 = .ok (.goto 31, 3) := dk_167 0 31 (dk_at dksX0_handOn_2 8 rfl rfl)
theorem dX0_handOn_57 : decode cX0_handOn 57 = .ok (.aload_n 0, 1) := dk_42 (dk_at dksX0_handOn_2 11 rfl rfl)
theorem dX0_handOn_58 : decode cX0_handOn 58 = .ok (.getfield 62, 3) := dk_180 0 62 (dk_at dksX0_handOn_2 12 rfl rfl)
theorem dX0_handOn_61 : decode cX0_handOn 61 = .ok (.iload_n 2, 1) := dk_28 (dk_at dksX0_handOn_2 15 rfl rfl)
theorem dX0_handOn_62 : decode cX0_handOn 62 = .ok (.laload, 1) := dk_47 (dk_at dksX0_handOn_2 16 rfl rfl)
theorem dX0_handOn_63 : decode cX0_handOn 63 = .ok (.lconst 0, 1) := dk_9 (dk_at dksX0_handOn_2 17 rfl rfl)
theorem dX0_handOn_64 : decode cX0_handOn 64 = .ok (.lcmp, 1) := dk_148 (dk_at dksX0_handOn_2 18 rfl rfl)
theorem dX0_handOn_65 : decode cX0_handOn 65 = .ok (.ifCond .le 20, 3) := dk_158 0 20 (dk_at dksX0_handOn_2 19 rfl rfl)
theorem dX0_handOn_68 : decode cX0_handOn 68 = .ok (.aload_n 0, 1) := dk_42 (dk_at dksX0_handOn_2 22 rfl rfl)
theorem dX0_handOn_69 : decode cX0_handOn 69 = .ok (.iload_n 2, 1) := dk_28 (dk_at dksX0_handOn_2 23 rfl rfl)
theorem dX0_handOn_70 : decode cX0_handOn 70 = .ok (.aload_n 0, 1) := dk_42 (dk_at dksX0_handOn_3 0 rfl rfl)
theorem dX0_handOn_71 : decode cX0_handOn 71 = .ok (.getfield 62, 3) := dk_180 0 62 (dk_at dksX0_handOn_3 1 rfl rfl)
theorem dX0_handOn_74 : decode cX0_handOn 74 = .ok (.iload_n 2, 1) := dk_28 (dk_at dksX0_handOn_3 4 rfl rfl)
theorem dX0_handOn_75 : decode cX0_handOn 75 = .ok (.laload, 1) := dk_47 (dk_at dksX0_handOn_3 5 rfl rfl)
theorem dX0_handOn_76 : decode cX0_handOn 76 = .ok (.aload_n 0, 1) := dk_42 (dk_at dksX0_handOn_3 6 rfl rfl)
theorem dX0_handOn_77 : decode cX0_handOn 77 = .ok (.getfield 65, 3) := dk_180 0 65 (dk_at dksX0_handOn_3 7 rfl rfl)
theorem dX0_handOn_80 : decode cX0_handOn 80 = .ok (.iload_n 2, 1) := dk_28 (dk_at dksX0_handOn_3 10 rfl rfl)
theorem dX0_handOn_81 : decode cX0_handOn 81 = .ok (.laload, 1) := dk_47 (dk_at dksX0_handOn_3 11 rfl rfl)
theorem dX0_handOn_82 : decode cX0_handOn 82 = .ok (.invokevirtual 235, 3) := dk_182 0 235 (dk_at dksX0_handOn_3 12 rfl rfl)
theorem dX0_handOn_85 : decode cX0_handOn 85 = .ok (.iinc 1 1, 3) := dk_132 1 1 (dk_at dksX0_handOn_3 15 rfl rfl)
theorem dX0_handOn_88 : decode cX0_handOn 88 = .ok (.goto (-86), 3) := dk_167 255 170 (dk_at dksX0_handOn_3 18 rfl rfl)
theorem dX0_handOn_91 : decode cX0_handOn 91 = .ok (.return_, 1) := dk_177 (dk_at dksX0_handOn_3 21 rfl rfl)
abbrev cX0_placeOf : ByteArray := prog_1_method_45_code
def yX0_placeOf : MethodName := ⟨RX0, "placeOf", "(I)I"⟩
def dkwX0_placeOf_0 : List UInt8 := [26, 16, 247, 160, 0, 8, 16, 24, 167, 0, 4, 26, 172]
abbrev dktX0_placeOf_0 : List UInt8 := dkwX0_placeOf_0 ++ []
theorem dksX0_placeOf_0 : cX0_placeOf.data.toList.drop 0 = dktX0_placeOf_0 := by decide +kernel
theorem dX0_placeOf_0 : decode cX0_placeOf 0 = .ok (.iload_n 0, 1) := dk_26 (dk_at dksX0_placeOf_0 0 rfl rfl)
theorem dX0_placeOf_1 : decode cX0_placeOf 1 = .ok (.bipush (-9), 2) := dk_16 247 (dk_at dksX0_placeOf_0 1 rfl rfl)
theorem dX0_placeOf_3 : decode cX0_placeOf 3 = .ok (.if_icmp .ne 8, 3) := dk_160 0 8 (dk_at dksX0_placeOf_0 3 rfl rfl)
theorem dX0_placeOf_6 : decode cX0_placeOf 6 = .ok (.bipush 24, 2) := dk_16 24 (dk_at dksX0_placeOf_0 6 rfl rfl)
theorem dX0_placeOf_8 : decode cX0_placeOf 8 = .ok (.goto 4, 3) := dk_167 0 4 (dk_at dksX0_placeOf_0 8 rfl rfl)
theorem dX0_placeOf_11 : decode cX0_placeOf 11 = .ok (.iload_n 0, 1) := dk_26 (dk_at dksX0_placeOf_0 11 rfl rfl)
theorem dX0_placeOf_12 : decode cX0_placeOf 12 = .ok (.ireturn, 1) := dk_172 (dk_at dksX0_placeOf_0 12 rfl rfl)
abbrev cX0_tells : ByteArray := prog_1_method_7_code
def yX0_tells : MethodName := ⟨RX0, "tells", "(JJ)I"⟩
def dkwX0_tells_1 : List UInt8 := [172]
abbrev dktX0_tells_1 : List UInt8 := dkwX0_tells_1 ++ []
def dkwX0_tells_0 : List UInt8 := [31, 33, 184, 0, 106, 55, 5, 42, 31, 22, 5, 109, 181, 0, 122, 42, 33, 22, 5, 109, 181, 0, 17, 4]
abbrev dktX0_tells_0 : List UInt8 := dkwX0_tells_0 ++ dktX0_tells_1
theorem dksX0_tells_0 : cX0_tells.data.toList.drop 0 = dktX0_tells_0 := by decide +kernel
theorem dksX0_tells_1 : cX0_tells.data.toList.drop 24 = dktX0_tells_1 := dk_seg dksX0_tells_0 24 rfl rfl
theorem dX0_tells_0 : decode cX0_tells 0 = .ok (.lload_n 1, 1) := dk_31 (dk_at dksX0_tells_0 0 rfl rfl)
theorem dX0_tells_1 : decode cX0_tells 1 = .ok (.lload_n 3, 1) := dk_33 (dk_at dksX0_tells_0 1 rfl rfl)
theorem dX0_tells_2 : decode cX0_tells 2 = .ok (.invokestatic 106, 3) := dk_184 0 106 (dk_at dksX0_tells_0 2 rfl rfl)
theorem dX0_tells_5 : decode cX0_tells 5 = .ok (.lstore 5, 2) := dk_55 5 (dk_at dksX0_tells_0 5 rfl rfl)
theorem dX0_tells_7 : decode cX0_tells 7 = .ok (.aload_n 0, 1) := dk_42 (dk_at dksX0_tells_0 7 rfl rfl)
theorem dX0_tells_8 : decode cX0_tells 8 = .ok (.lload_n 1, 1) := dk_31 (dk_at dksX0_tells_0 8 rfl rfl)
theorem dX0_tells_9 : decode cX0_tells 9 = .ok (.lload 5, 2) := dk_22 5 (dk_at dksX0_tells_0 9 rfl rfl)
theorem dX0_tells_11 : decode cX0_tells 11 = .ok (.ldiv, 1) := dk_109 (dk_at dksX0_tells_0 11 rfl rfl)
theorem dX0_tells_12 : decode cX0_tells 12 = .ok (.putfield 122, 3) := dk_181 0 122 (dk_at dksX0_tells_0 12 rfl rfl)
theorem dX0_tells_15 : decode cX0_tells 15 = .ok (.aload_n 0, 1) := dk_42 (dk_at dksX0_tells_0 15 rfl rfl)
theorem dX0_tells_16 : decode cX0_tells 16 = .ok (.lload_n 3, 1) := dk_33 (dk_at dksX0_tells_0 16 rfl rfl)
theorem dX0_tells_17 : decode cX0_tells 17 = .ok (.lload 5, 2) := dk_22 5 (dk_at dksX0_tells_0 17 rfl rfl)
theorem dX0_tells_19 : decode cX0_tells 19 = .ok (.ldiv, 1) := dk_109 (dk_at dksX0_tells_0 19 rfl rfl)
theorem dX0_tells_20 : decode cX0_tells 20 = .ok (.putfield 17, 3) := dk_181 0 17 (dk_at dksX0_tells_0 20 rfl rfl)
theorem dX0_tells_23 : decode cX0_tells 23 = .ok (.iconst 1, 1) := dk_4 (dk_at dksX0_tells_0 23 rfl rfl)
theorem dX0_tells_24 : decode cX0_tells 24 = .ok (.ireturn, 1) := dk_172 (dk_at dksX0_tells_1 0 rfl rfl)
abbrev cX0_circle : ByteArray := prog_1_method_48_code
def yX0_circle : MethodName := ⟨RX0, "circle", "(IZ)I"⟩
def dkwX0_circle_1 : List UInt8 := [180, 1, 4, 172]
abbrev dktX0_circle_1 : List UInt8 := dkwX0_circle_1 ++ []
def dkwX0_circle_0 : List UInt8 := [42, 4, 27, 182, 1, 19, 62, 29, 156, 0, 5, 29, 172, 42, 28, 182, 1, 26, 42, 27, 182, 1, 30, 42]
abbrev dktX0_circle_0 : List UInt8 := dkwX0_circle_0 ++ dktX0_circle_1
theorem dksX0_circle_0 : cX0_circle.data.toList.drop 0 = dktX0_circle_0 := by decide +kernel
theorem dksX0_circle_1 : cX0_circle.data.toList.drop 24 = dktX0_circle_1 := dk_seg dksX0_circle_0 24 rfl rfl
theorem dX0_circle_0 : decode cX0_circle 0 = .ok (.aload_n 0, 1) := dk_42 (dk_at dksX0_circle_0 0 rfl rfl)
theorem dX0_circle_1 : decode cX0_circle 1 = .ok (.iconst 1, 1) := dk_4 (dk_at dksX0_circle_0 1 rfl rfl)
theorem dX0_circle_2 : decode cX0_circle 2 = .ok (.iload_n 1, 1) := dk_27 (dk_at dksX0_circle_0 2 rfl rfl)
theorem dX0_circle_3 : decode cX0_circle 3 = .ok (.invokevirtual 275, 3) := dk_182 1 19 (dk_at dksX0_circle_0 3 rfl rfl)
theorem dX0_circle_6 : decode cX0_circle 6 = .ok (.istore_n 3, 1) := dk_62 (dk_at dksX0_circle_0 6 rfl rfl)
theorem dX0_circle_7 : decode cX0_circle 7 = .ok (.iload_n 3, 1) := dk_29 (dk_at dksX0_circle_0 7 rfl rfl)
theorem dX0_circle_8 : decode cX0_circle 8 = .ok (.ifCond .ge 5, 3) := dk_156 0 5 (dk_at dksX0_circle_0 8 rfl rfl)
theorem dX0_circle_11 : decode cX0_circle 11 = .ok (.iload_n 3, 1) := dk_29 (dk_at dksX0_circle_0 11 rfl rfl)
theorem dX0_circle_12 : decode cX0_circle 12 = .ok (.ireturn, 1) := dk_172 (dk_at dksX0_circle_0 12 rfl rfl)
theorem dX0_circle_13 : decode cX0_circle 13 = .ok (.aload_n 0, 1) := dk_42 (dk_at dksX0_circle_0 13 rfl rfl)
theorem dX0_circle_14 : decode cX0_circle 14 = .ok (.iload_n 2, 1) := dk_28 (dk_at dksX0_circle_0 14 rfl rfl)
theorem dX0_circle_15 : decode cX0_circle 15 = .ok (.invokevirtual 282, 3) := dk_182 1 26 (dk_at dksX0_circle_0 15 rfl rfl)
theorem dX0_circle_18 : decode cX0_circle 18 = .ok (.aload_n 0, 1) := dk_42 (dk_at dksX0_circle_0 18 rfl rfl)
theorem dX0_circle_19 : decode cX0_circle 19 = .ok (.iload_n 1, 1) := dk_27 (dk_at dksX0_circle_0 19 rfl rfl)
theorem dX0_circle_20 : decode cX0_circle 20 = .ok (.invokevirtual 286, 3) := dk_182 1 30 (dk_at dksX0_circle_0 20 rfl rfl)
theorem dX0_circle_23 : decode cX0_circle 23 = .ok (.aload_n 0, 1) := dk_42 (dk_at dksX0_circle_0 23 rfl rfl)
theorem dX0_circle_24 : decode cX0_circle 24 = .ok (.getfield 260, 3) := dk_180 1 4 (dk_at dksX0_circle_1 0 rfl rfl)
theorem dX0_circle_27 : decode cX0_circle 27 = .ok (.ireturn, 1) := dk_172 (dk_at dksX0_circle_1 3 rfl rfl)
abbrev cX0_heirs : ByteArray := prog_1_method_49_code
def yX0_heirs : MethodName := ⟨RX0, "heirs", "(IZ)I"⟩
def dkwX0_heirs_2 : List UInt8 := [148, 158, 0, 7, 4, 167, 0, 4, 3, 96, 54, 4, 132, 5, 1, 167, 255, 222, 21, 4, 172]
abbrev dktX0_heirs_2 : List UInt8 := dkwX0_heirs_2 ++ []
def dkwX0_heirs_1 : List UInt8 := [54, 4, 3, 54, 5, 21, 5, 42, 180, 0, 125, 162, 0, 31, 21, 4, 42, 180, 0, 55, 21, 5, 47, 9]
abbrev dktX0_heirs_1 : List UInt8 := dkwX0_heirs_1 ++ dktX0_heirs_2
def dkwX0_heirs_0 : List UInt8 := [42, 4, 27, 182, 1, 19, 62, 29, 156, 0, 5, 29, 172, 42, 28, 182, 1, 26, 42, 27, 182, 1, 30, 3]
abbrev dktX0_heirs_0 : List UInt8 := dkwX0_heirs_0 ++ dktX0_heirs_1
theorem dksX0_heirs_0 : cX0_heirs.data.toList.drop 0 = dktX0_heirs_0 := by decide +kernel
theorem dksX0_heirs_1 : cX0_heirs.data.toList.drop 24 = dktX0_heirs_1 := dk_seg dksX0_heirs_0 24 rfl rfl
theorem dksX0_heirs_2 : cX0_heirs.data.toList.drop 48 = dktX0_heirs_2 := dk_seg dksX0_heirs_1 24 rfl rfl
theorem dX0_heirs_0 : decode cX0_heirs 0 = .ok (.aload_n 0, 1) := dk_42 (dk_at dksX0_heirs_0 0 rfl rfl)
theorem dX0_heirs_1 : decode cX0_heirs 1 = .ok (.iconst 1, 1) := dk_4 (dk_at dksX0_heirs_0 1 rfl rfl)
theorem dX0_heirs_2 : decode cX0_heirs 2 = .ok (.iload_n 1, 1) := dk_27 (dk_at dksX0_heirs_0 2 rfl rfl)
theorem dX0_heirs_3 : decode cX0_heirs 3 = .ok (.invokevirtual 275, 3) := dk_182 1 19 (dk_at dksX0_heirs_0 3 rfl rfl)
theorem dX0_heirs_6 : decode cX0_heirs 6 = .ok (.istore_n 3, 1) := dk_62 (dk_at dksX0_heirs_0 6 rfl rfl)
theorem dX0_heirs_7 : decode cX0_heirs 7 = .ok (.iload_n 3, 1) := dk_29 (dk_at dksX0_heirs_0 7 rfl rfl)
theorem dX0_heirs_8 : decode cX0_heirs 8 = .ok (.ifCond .ge 5, 3) := dk_156 0 5 (dk_at dksX0_heirs_0 8 rfl rfl)
theorem dX0_heirs_11 : decode cX0_heirs 11 = .ok (.iload_n 3, 1) := dk_29 (dk_at dksX0_heirs_0 11 rfl rfl)
theorem dX0_heirs_12 : decode cX0_heirs 12 = .ok (.ireturn, 1) := dk_172 (dk_at dksX0_heirs_0 12 rfl rfl)
theorem dX0_heirs_13 : decode cX0_heirs 13 = .ok (.aload_n 0, 1) := dk_42 (dk_at dksX0_heirs_0 13 rfl rfl)
theorem dX0_heirs_14 : decode cX0_heirs 14 = .ok (.iload_n 2, 1) := dk_28 (dk_at dksX0_heirs_0 14 rfl rfl)
theorem dX0_heirs_15 : decode cX0_heirs 15 = .ok (.invokevirtual 282, 3) := dk_182 1 26 (dk_at dksX0_heirs_0 15 rfl rfl)
theorem dX0_heirs_18 : decode cX0_heirs 18 = .ok (.aload_n 0, 1) := dk_42 (dk_at dksX0_heirs_0 18 rfl rfl)
theorem dX0_heirs_19 : decode cX0_heirs 19 = .ok (.iload_n 1, 1) := dk_27 (dk_at dksX0_heirs_0 19 rfl rfl)
theorem dX0_heirs_20 : decode cX0_heirs 20 = .ok (.invokevirtual 286, 3) := dk_182 1 30 (dk_at dksX0_heirs_0 20 rfl rfl)
theorem dX0_heirs_23 : decode cX0_heirs 23 = .ok (.iconst 0, 1) := dk_3 (dk_at dksX0_heirs_0 23 rfl rfl)
theorem dX0_heirs_24 : decode cX0_heirs 24 = .ok (.istore 4, 2) := dk_54 4 (dk_at dksX0_heirs_1 0 rfl rfl)
theorem dX0_heirs_26 : decode cX0_heirs 26 = .ok (.iconst 0, 1) := dk_3 (dk_at dksX0_heirs_1 2 rfl rfl)
theorem dX0_heirs_27 : decode cX0_heirs 27 = .ok (.istore 5, 2) := dk_54 5 (dk_at dksX0_heirs_1 3 rfl rfl)
theorem dX0_heirs_29 : decode cX0_heirs 29 = .ok (.iload 5, 2) := dk_21 5 (dk_at dksX0_heirs_1 5 rfl rfl)
theorem dX0_heirs_31 : decode cX0_heirs 31 = .ok (.aload_n 0, 1) := dk_42 (dk_at dksX0_heirs_1 7 rfl rfl)
theorem dX0_heirs_32 : decode cX0_heirs 32 = .ok (.getfield 125, 3) := dk_180 0 125 (dk_at dksX0_heirs_1 8 rfl rfl)
theorem dX0_heirs_35 : decode cX0_heirs 35 = .ok (.if_icmp .ge 31, 3) := dk_162 0 31 (dk_at dksX0_heirs_1 11 rfl rfl)
theorem dX0_heirs_38 : decode cX0_heirs 38 = .ok (.iload 4, 2) := dk_21 4 (dk_at dksX0_heirs_1 14 rfl rfl)
theorem dX0_heirs_40 : decode cX0_heirs 40 = .ok (.aload_n 0, 1) := dk_42 (dk_at dksX0_heirs_1 16 rfl rfl)
theorem dX0_heirs_41 : decode cX0_heirs 41 = .ok (.getfield 55, 3) := dk_180 0 55 (dk_at dksX0_heirs_1 17 rfl rfl)
theorem dX0_heirs_44 : decode cX0_heirs 44 = .ok (.iload 5, 2) := dk_21 5 (dk_at dksX0_heirs_1 20 rfl rfl)
theorem dX0_heirs_46 : decode cX0_heirs 46 = .ok (.laload, 1) := dk_47 (dk_at dksX0_heirs_1 22 rfl rfl)
theorem dX0_heirs_47 : decode cX0_heirs 47 = .ok (.lconst 0, 1) := dk_9 (dk_at dksX0_heirs_1 23 rfl rfl)
theorem dX0_heirs_48 : decode cX0_heirs 48 = .ok (.lcmp, 1) := dk_148 (dk_at dksX0_heirs_2 0 rfl rfl)
theorem dX0_heirs_49 : decode cX0_heirs 49 = .ok (.ifCond .le 7, 3) := dk_158 0 7 (dk_at dksX0_heirs_2 1 rfl rfl)
theorem dX0_heirs_52 : decode cX0_heirs 52 = .ok (.iconst 1, 1) := dk_4 (dk_at dksX0_heirs_2 4 rfl rfl)
theorem dX0_heirs_53 : decode cX0_heirs 53 = .ok (.goto 4, 3) := dk_167 0 4 (dk_at dksX0_heirs_2 5 rfl rfl)
theorem dX0_heirs_56 : decode cX0_heirs 56 = .ok (.iconst 0, 1) := dk_3 (dk_at dksX0_heirs_2 8 rfl rfl)
theorem dX0_heirs_57 : decode cX0_heirs 57 = .ok (.iadd, 1) := dk_96 (dk_at dksX0_heirs_2 9 rfl rfl)
theorem dX0_heirs_58 : decode cX0_heirs 58 = .ok (.istore 4, 2) := dk_54 4 (dk_at dksX0_heirs_2 10 rfl rfl)
theorem dX0_heirs_60 : decode cX0_heirs 60 = .ok (.iinc 5 1, 3) := dk_132 5 1 (dk_at dksX0_heirs_2 12 rfl rfl)
theorem dX0_heirs_63 : decode cX0_heirs 63 = .ok (.goto (-34), 3) := dk_167 255 222 (dk_at dksX0_heirs_2 15 rfl rfl)
theorem dX0_heirs_66 : decode cX0_heirs 66 = .ok (.iload 4, 2) := dk_21 4 (dk_at dksX0_heirs_2 18 rfl rfl)
theorem dX0_heirs_68 : decode cX0_heirs 68 = .ok (.ireturn, 1) := dk_172 (dk_at dksX0_heirs_2 20 rfl rfl)
abbrev cX0_open : ByteArray := prog_1_method_51_code
def yX0_open : MethodName := ⟨RX0, "open", "()I"⟩
def dkwX0_open_0 : List UInt8 := [42, 182, 1, 46, 42, 180, 1, 39, 172]
abbrev dktX0_open_0 : List UInt8 := dkwX0_open_0 ++ []
theorem dksX0_open_0 : cX0_open.data.toList.drop 0 = dktX0_open_0 := by decide +kernel
theorem dX0_open_0 : decode cX0_open 0 = .ok (.aload_n 0, 1) := dk_42 (dk_at dksX0_open_0 0 rfl rfl)
theorem dX0_open_1 : decode cX0_open 1 = .ok (.invokevirtual 302, 3) := dk_182 1 46 (dk_at dksX0_open_0 1 rfl rfl)
theorem dX0_open_4 : decode cX0_open 4 = .ok (.aload_n 0, 1) := dk_42 (dk_at dksX0_open_0 4 rfl rfl)
theorem dX0_open_5 : decode cX0_open 5 = .ok (.getfield 295, 3) := dk_180 1 39 (dk_at dksX0_open_0 5 rfl rfl)
theorem dX0_open_8 : decode cX0_open 8 = .ok (.ireturn, 1) := dk_172 (dk_at dksX0_open_0 8 rfl rfl)
abbrev cX0_layOpen : ByteArray := prog_1_method_50_code
def yX0_layOpen : MethodName := ⟨RX0, "layOpen", "()V"⟩
def dkwX0_layOpen_2 : List UInt8 := [132, 1, 1, 167, 255, 213, 177]
abbrev dktX0_layOpen_2 : List UInt8 := dkwX0_layOpen_2 ++ []
def dkwX0_layOpen_1 : List UInt8 := [153, 0, 23, 42, 180, 0, 74, 42, 180, 1, 39, 27, 79, 42, 89, 180, 1, 39, 4, 96, 181, 1, 39]
abbrev dktX0_layOpen_1 : List UInt8 := dkwX0_layOpen_1 ++ dktX0_layOpen_2
def dkwX0_layOpen_0 : List UInt8 := [42, 3, 181, 1, 39, 3, 60, 27, 42, 180, 0, 144, 162, 0, 41, 42, 180, 0, 32, 27, 50, 182, 1, 42]
abbrev dktX0_layOpen_0 : List UInt8 := dkwX0_layOpen_0 ++ dktX0_layOpen_1
theorem dksX0_layOpen_0 : cX0_layOpen.data.toList.drop 0 = dktX0_layOpen_0 := by decide +kernel
theorem dksX0_layOpen_1 : cX0_layOpen.data.toList.drop 24 = dktX0_layOpen_1 := dk_seg dksX0_layOpen_0 24 rfl rfl
theorem dksX0_layOpen_2 : cX0_layOpen.data.toList.drop 47 = dktX0_layOpen_2 := dk_seg dksX0_layOpen_1 23 rfl rfl
theorem dX0_layOpen_0 : decode cX0_layOpen 0 = .ok (.aload_n 0, 1) := dk_42 (dk_at dksX0_layOpen_0 0 rfl rfl)
theorem dX0_layOpen_1 : decode cX0_layOpen 1 = .ok (.iconst 0, 1) := dk_3 (dk_at dksX0_layOpen_0 1 rfl rfl)
theorem dX0_layOpen_2 : decode cX0_layOpen 2 = .ok (.putfield 295, 3) := dk_181 1 39 (dk_at dksX0_layOpen_0 2 rfl rfl)
theorem dX0_layOpen_5 : decode cX0_layOpen 5 = .ok (.iconst 0, 1) := dk_3 (dk_at dksX0_layOpen_0 5 rfl rfl)
theorem dX0_layOpen_6 : decode cX0_layOpen 6 = .ok (.istore_n 1, 1) := dk_60 (dk_at dksX0_layOpen_0 6 rfl rfl)
theorem dX0_layOpen_7 : decode cX0_layOpen 7 = .ok (.iload_n 1, 1) := dk_27 (dk_at dksX0_layOpen_0 7 rfl rfl)
theorem dX0_layOpen_8 : decode cX0_layOpen 8 = .ok (.aload_n 0, 1) := dk_42 (dk_at dksX0_layOpen_0 8 rfl rfl)
theorem dX0_layOpen_9 : decode cX0_layOpen 9 = .ok (.getfield 144, 3) := dk_180 0 144 (dk_at dksX0_layOpen_0 9 rfl rfl)
theorem dX0_layOpen_12 : decode cX0_layOpen 12 = .ok (.if_icmp .ge 41, 3) := dk_162 0 41 (dk_at dksX0_layOpen_0 12 rfl rfl)
theorem dX0_layOpen_15 : decode cX0_layOpen 15 = .ok (.aload_n 0, 1) := dk_42 (dk_at dksX0_layOpen_0 15 rfl rfl)
theorem dX0_layOpen_16 : decode cX0_layOpen 16 = .ok (.getfield 32, 3) := dk_180 0 32 (dk_at dksX0_layOpen_0 16 rfl rfl)
theorem dX0_layOpen_19 : decode cX0_layOpen 19 = .ok (.iload_n 1, 1) := dk_27 (dk_at dksX0_layOpen_0 19 rfl rfl)
theorem dX0_layOpen_20 : decode cX0_layOpen 20 = .ok (.aaload, 1) := dk_50 (dk_at dksX0_layOpen_0 20 rfl rfl)
theorem dX0_layOpen_21 : decode cX0_layOpen 21 = .ok (.invokevirtual 298, 3) := dk_182 1 42 (dk_at dksX0_layOpen_0 21 rfl rfl)
theorem dX0_layOpen_24 : decode cX0_layOpen 24 = .ok (.ifCond .eq 23, 3) := dk_153 0 23 (dk_at dksX0_layOpen_1 0 rfl rfl)
theorem dX0_layOpen_27 : decode cX0_layOpen 27 = .ok (.aload_n 0, 1) := dk_42 (dk_at dksX0_layOpen_1 3 rfl rfl)
theorem dX0_layOpen_28 : decode cX0_layOpen 28 = .ok (.getfield 74, 3) := dk_180 0 74 (dk_at dksX0_layOpen_1 4 rfl rfl)
theorem dX0_layOpen_31 : decode cX0_layOpen 31 = .ok (.aload_n 0, 1) := dk_42 (dk_at dksX0_layOpen_1 7 rfl rfl)
theorem dX0_layOpen_32 : decode cX0_layOpen 32 = .ok (.getfield 295, 3) := dk_180 1 39 (dk_at dksX0_layOpen_1 8 rfl rfl)
theorem dX0_layOpen_35 : decode cX0_layOpen 35 = .ok (.iload_n 1, 1) := dk_27 (dk_at dksX0_layOpen_1 11 rfl rfl)
theorem dX0_layOpen_36 : decode cX0_layOpen 36 = .ok (.iastore, 1) := dk_79 (dk_at dksX0_layOpen_1 12 rfl rfl)
theorem dX0_layOpen_37 : decode cX0_layOpen 37 = .ok (.aload_n 0, 1) := dk_42 (dk_at dksX0_layOpen_1 13 rfl rfl)
theorem dX0_layOpen_38 : decode cX0_layOpen 38 = .ok (.dup, 1) := dk_89 (dk_at dksX0_layOpen_1 14 rfl rfl)
theorem dX0_layOpen_39 : decode cX0_layOpen 39 = .ok (.getfield 295, 3) := dk_180 1 39 (dk_at dksX0_layOpen_1 15 rfl rfl)
theorem dX0_layOpen_42 : decode cX0_layOpen 42 = .ok (.iconst 1, 1) := dk_4 (dk_at dksX0_layOpen_1 18 rfl rfl)
theorem dX0_layOpen_43 : decode cX0_layOpen 43 = .ok (.iadd, 1) := dk_96 (dk_at dksX0_layOpen_1 19 rfl rfl)
theorem dX0_layOpen_44 : decode cX0_layOpen 44 = .ok (.putfield 295, 3) := dk_181 1 39 (dk_at dksX0_layOpen_1 20 rfl rfl)
theorem dX0_layOpen_47 : decode cX0_layOpen 47 = .ok (.iinc 1 1, 3) := dk_132 1 1 (dk_at dksX0_layOpen_2 0 rfl rfl)
theorem dX0_layOpen_50 : decode cX0_layOpen 50 = .ok (.goto (-43), 3) := dk_167 255 213 (dk_at dksX0_layOpen_2 3 rfl rfl)
theorem dX0_layOpen_53 : decode cX0_layOpen 53 = .ok (.return_, 1) := dk_177 (dk_at dksX0_layOpen_2 6 rfl rfl)
abbrev cX0_bound : ByteArray := prog_1_method_55_code
def yX0_bound : MethodName := ⟨RX0, "bound", "(IIZ)I"⟩
def dkwX0_bound_3 : List UInt8 := [21, 5, 47, 182, 1, 36, 172]
abbrev dktX0_bound_3 : List UInt8 := dkwX0_bound_3 ++ []
def dkwX0_bound_2 : List UInt8 := [180, 0, 86, 21, 5, 47, 182, 1, 36, 167, 0, 21, 42, 42, 180, 0, 77, 21, 5, 47, 42, 180, 0, 80]
abbrev dktX0_bound_2 : List UInt8 := dkwX0_bound_2 ++ dktX0_bound_3
def dkwX0_bound_1 : List UInt8 := [182, 1, 58, 28, 184, 1, 33, 54, 5, 29, 153, 0, 24, 42, 42, 180, 0, 83, 21, 5, 47, 42]
abbrev dktX0_bound_1 : List UInt8 := dkwX0_bound_1 ++ dktX0_bound_2
def dkwX0_bound_0 : List UInt8 := [42, 42, 28, 182, 1, 23, 27, 182, 1, 55, 54, 4, 21, 4, 156, 0, 6, 21, 4, 172, 42, 27, 3, 3]
abbrev dktX0_bound_0 : List UInt8 := dkwX0_bound_0 ++ dktX0_bound_1
theorem dksX0_bound_0 : cX0_bound.data.toList.drop 0 = dktX0_bound_0 := by decide +kernel
theorem dksX0_bound_1 : cX0_bound.data.toList.drop 24 = dktX0_bound_1 := dk_seg dksX0_bound_0 24 rfl rfl
theorem dksX0_bound_2 : cX0_bound.data.toList.drop 46 = dktX0_bound_2 := dk_seg dksX0_bound_1 22 rfl rfl
theorem dksX0_bound_3 : cX0_bound.data.toList.drop 70 = dktX0_bound_3 := dk_seg dksX0_bound_2 24 rfl rfl
theorem dX0_bound_0 : decode cX0_bound 0 = .ok (.aload_n 0, 1) := dk_42 (dk_at dksX0_bound_0 0 rfl rfl)
theorem dX0_bound_1 : decode cX0_bound 1 = .ok (.aload_n 0, 1) := dk_42 (dk_at dksX0_bound_0 1 rfl rfl)
theorem dX0_bound_2 : decode cX0_bound 2 = .ok (.iload_n 2, 1) := dk_28 (dk_at dksX0_bound_0 2 rfl rfl)
theorem dX0_bound_3 : decode cX0_bound 3 = .ok (.invokevirtual 279, 3) := dk_182 1 23 (dk_at dksX0_bound_0 3 rfl rfl)
theorem dX0_bound_6 : decode cX0_bound 6 = .ok (.iload_n 1, 1) := dk_27 (dk_at dksX0_bound_0 6 rfl rfl)
theorem dX0_bound_7 : decode cX0_bound 7 = .ok (.invokevirtual 311, 3) := dk_182 1 55 (dk_at dksX0_bound_0 7 rfl rfl)
theorem dX0_bound_10 : decode cX0_bound 10 = .ok (.istore 4, 2) := dk_54 4 (dk_at dksX0_bound_0 10 rfl rfl)
theorem dX0_bound_12 : decode cX0_bound 12 = .ok (.iload 4, 2) := dk_21 4 (dk_at dksX0_bound_0 12 rfl rfl)
theorem dX0_bound_14 : decode cX0_bound 14 = .ok (.ifCond .ge 6, 3) := dk_156 0 6 (dk_at dksX0_bound_0 14 rfl rfl)
theorem dX0_bound_17 : decode cX0_bound 17 = .ok (.iload 4, 2) := dk_21 4 (dk_at dksX0_bound_0 17 rfl rfl)
theorem dX0_bound_19 : decode cX0_bound 19 = .ok (.ireturn, 1) := dk_172 (dk_at dksX0_bound_0 19 rfl rfl)
theorem dX0_bound_20 : decode cX0_bound 20 = .ok (.aload_n 0, 1) := dk_42 (dk_at dksX0_bound_0 20 rfl rfl)
theorem dX0_bound_21 : decode cX0_bound 21 = .ok (.iload_n 1, 1) := dk_27 (dk_at dksX0_bound_0 21 rfl rfl)
theorem dX0_bound_22 : decode cX0_bound 22 = .ok (.iconst 0, 1) := dk_3 (dk_at dksX0_bound_0 22 rfl rfl)
theorem dX0_bound_23 : decode cX0_bound 23 = .ok (.iconst 0, 1) := dk_3 (dk_at dksX0_bound_0 23 rfl rfl)
theorem dX0_bound_24 : decode cX0_bound 24 = .ok (.invokevirtual 314, 3) := dk_182 1 58 (dk_at dksX0_bound_1 0 rfl rfl)
theorem dX0_bound_27 : decode cX0_bound 27 = .ok (.iload_n 2, 1) := dk_28 (dk_at dksX0_bound_1 3 rfl rfl)
theorem dX0_bound_28 : decode cX0_bound 28 = .ok (.invokestatic 289, 3) := dk_184 1 33 (dk_at dksX0_bound_1 4 rfl rfl)
theorem dX0_bound_31 : decode cX0_bound 31 = .ok (.istore 5, 2) := dk_54 5 (dk_at dksX0_bound_1 7 rfl rfl)
theorem dX0_bound_33 : decode cX0_bound 33 = .ok (.iload_n 3, 1) := dk_29 (dk_at dksX0_bound_1 9 rfl rfl)
theorem dX0_bound_34 : decode cX0_bound 34 = .ok (.ifCond .eq 24, 3) := dk_153 0 24 (dk_at dksX0_bound_1 10 rfl rfl)
theorem dX0_bound_37 : decode cX0_bound 37 = .ok (.aload_n 0, 1) := dk_42 (dk_at dksX0_bound_1 13 rfl rfl)
theorem dX0_bound_38 : decode cX0_bound 38 = .ok (.aload_n 0, 1) := dk_42 (dk_at dksX0_bound_1 14 rfl rfl)
theorem dX0_bound_39 : decode cX0_bound 39 = .ok (.getfield 83, 3) := dk_180 0 83 (dk_at dksX0_bound_1 15 rfl rfl)
theorem dX0_bound_42 : decode cX0_bound 42 = .ok (.iload 5, 2) := dk_21 5 (dk_at dksX0_bound_1 18 rfl rfl)
theorem dX0_bound_44 : decode cX0_bound 44 = .ok (.laload, 1) := dk_47 (dk_at dksX0_bound_1 20 rfl rfl)
theorem dX0_bound_45 : decode cX0_bound 45 = .ok (.aload_n 0, 1) := dk_42 (dk_at dksX0_bound_1 21 rfl rfl)
theorem dX0_bound_46 : decode cX0_bound 46 = .ok (.getfield 86, 3) := dk_180 0 86 (dk_at dksX0_bound_2 0 rfl rfl)
theorem dX0_bound_49 : decode cX0_bound 49 = .ok (.iload 5, 2) := dk_21 5 (dk_at dksX0_bound_2 3 rfl rfl)
theorem dX0_bound_51 : decode cX0_bound 51 = .ok (.laload, 1) := dk_47 (dk_at dksX0_bound_2 5 rfl rfl)
theorem dX0_bound_52 : decode cX0_bound 52 = .ok (.invokevirtual 292, 3) := dk_182 1 36 (dk_at dksX0_bound_2 6 rfl rfl)
theorem dX0_bound_55 : decode cX0_bound 55 = .ok (.goto 21, 3) := dk_167 0 21 (dk_at dksX0_bound_2 9 rfl rfl)
theorem dX0_bound_58 : decode cX0_bound 58 = .ok (.aload_n 0, 1) := dk_42 (dk_at dksX0_bound_2 12 rfl rfl)
theorem dX0_bound_59 : decode cX0_bound 59 = .ok (.aload_n 0, 1) := dk_42 (dk_at dksX0_bound_2 13 rfl rfl)
theorem dX0_bound_60 : decode cX0_bound 60 = .ok (.getfield 77, 3) := dk_180 0 77 (dk_at dksX0_bound_2 14 rfl rfl)
theorem dX0_bound_63 : decode cX0_bound 63 = .ok (.iload 5, 2) := dk_21 5 (dk_at dksX0_bound_2 17 rfl rfl)
theorem dX0_bound_65 : decode cX0_bound 65 = .ok (.laload, 1) := dk_47 (dk_at dksX0_bound_2 19 rfl rfl)
theorem dX0_bound_66 : decode cX0_bound 66 = .ok (.aload_n 0, 1) := dk_42 (dk_at dksX0_bound_2 20 rfl rfl)
theorem dX0_bound_67 : decode cX0_bound 67 = .ok (.getfield 80, 3) := dk_180 0 80 (dk_at dksX0_bound_2 21 rfl rfl)
theorem dX0_bound_70 : decode cX0_bound 70 = .ok (.iload 5, 2) := dk_21 5 (dk_at dksX0_bound_3 0 rfl rfl)
theorem dX0_bound_72 : decode cX0_bound 72 = .ok (.laload, 1) := dk_47 (dk_at dksX0_bound_3 2 rfl rfl)
theorem dX0_bound_73 : decode cX0_bound 73 = .ok (.invokevirtual 292, 3) := dk_182 1 36 (dk_at dksX0_bound_3 3 rfl rfl)
theorem dX0_bound_76 : decode cX0_bound 76 = .ok (.ireturn, 1) := dk_172 (dk_at dksX0_bound_3 6 rfl rfl)
abbrev cX0_needOpen : ByteArray := prog_1_method_52_code
def yX0_needOpen : MethodName := ⟨RX0, "needOpen", "(ZI)I"⟩
def dkwX0_needOpen_1 : List UInt8 := [164, 0, 8, 16, 250, 167, 0, 4, 3, 172]
abbrev dktX0_needOpen_1 : List UInt8 := dkwX0_needOpen_1 ++ []
def dkwX0_needOpen_0 : List UInt8 := [42, 27, 28, 182, 1, 19, 62, 29, 156, 0, 5, 29, 172, 42, 182, 1, 46, 42, 180, 1, 39, 16, 8]
abbrev dktX0_needOpen_0 : List UInt8 := dkwX0_needOpen_0 ++ dktX0_needOpen_1
theorem dksX0_needOpen_0 : cX0_needOpen.data.toList.drop 0 = dktX0_needOpen_0 := by decide +kernel
theorem dksX0_needOpen_1 : cX0_needOpen.data.toList.drop 23 = dktX0_needOpen_1 := dk_seg dksX0_needOpen_0 23 rfl rfl
theorem dX0_needOpen_0 : decode cX0_needOpen 0 = .ok (.aload_n 0, 1) := dk_42 (dk_at dksX0_needOpen_0 0 rfl rfl)
theorem dX0_needOpen_1 : decode cX0_needOpen 1 = .ok (.iload_n 1, 1) := dk_27 (dk_at dksX0_needOpen_0 1 rfl rfl)
theorem dX0_needOpen_2 : decode cX0_needOpen 2 = .ok (.iload_n 2, 1) := dk_28 (dk_at dksX0_needOpen_0 2 rfl rfl)
theorem dX0_needOpen_3 : decode cX0_needOpen 3 = .ok (.invokevirtual 275, 3) := dk_182 1 19 (dk_at dksX0_needOpen_0 3 rfl rfl)
theorem dX0_needOpen_6 : decode cX0_needOpen 6 = .ok (.istore_n 3, 1) := dk_62 (dk_at dksX0_needOpen_0 6 rfl rfl)
theorem dX0_needOpen_7 : decode cX0_needOpen 7 = .ok (.iload_n 3, 1) := dk_29 (dk_at dksX0_needOpen_0 7 rfl rfl)
theorem dX0_needOpen_8 : decode cX0_needOpen 8 = .ok (.ifCond .ge 5, 3) := dk_156 0 5 (dk_at dksX0_needOpen_0 8 rfl rfl)
theorem dX0_needOpen_11 : decode cX0_needOpen 11 = .ok (.iload_n 3, 1) := dk_29 (dk_at dksX0_needOpen_0 11 rfl rfl)
theorem dX0_needOpen_12 : decode cX0_needOpen 12 = .ok (.ireturn, 1) := dk_172 (dk_at dksX0_needOpen_0 12 rfl rfl)
theorem dX0_needOpen_13 : decode cX0_needOpen 13 = .ok (.aload_n 0, 1) := dk_42 (dk_at dksX0_needOpen_0 13 rfl rfl)
theorem dX0_needOpen_14 : decode cX0_needOpen 14 = .ok (.invokevirtual 302, 3) := dk_182 1 46 (dk_at dksX0_needOpen_0 14 rfl rfl)
theorem dX0_needOpen_17 : decode cX0_needOpen 17 = .ok (.aload_n 0, 1) := dk_42 (dk_at dksX0_needOpen_0 17 rfl rfl)
theorem dX0_needOpen_18 : decode cX0_needOpen 18 = .ok (.getfield 295, 3) := dk_180 1 39 (dk_at dksX0_needOpen_0 18 rfl rfl)
theorem dX0_needOpen_21 : decode cX0_needOpen 21 = .ok (.bipush 8, 2) := dk_16 8 (dk_at dksX0_needOpen_0 21 rfl rfl)
theorem dX0_needOpen_23 : decode cX0_needOpen 23 = .ok (.if_icmp .le 8, 3) := dk_164 0 8 (dk_at dksX0_needOpen_1 0 rfl rfl)
theorem dX0_needOpen_26 : decode cX0_needOpen 26 = .ok (.bipush (-6), 2) := dk_16 250 (dk_at dksX0_needOpen_1 3 rfl rfl)
theorem dX0_needOpen_28 : decode cX0_needOpen 28 = .ok (.goto 4, 3) := dk_167 0 4 (dk_at dksX0_needOpen_1 5 rfl rfl)
theorem dX0_needOpen_31 : decode cX0_needOpen 31 = .ok (.iconst 0, 1) := dk_3 (dk_at dksX0_needOpen_1 8 rfl rfl)
theorem dX0_needOpen_32 : decode cX0_needOpen 32 = .ok (.ireturn, 1) := dk_172 (dk_at dksX0_needOpen_1 9 rfl rfl)
abbrev cX0_layBounds : ByteArray := prog_1_method_53_code
def yX0_layBounds : MethodName := ⟨RX0, "layBounds", "(III)V"⟩
def dkwX0_layBounds_3 : List UInt8 := [167, 255, 216, 42, 27, 182, 1, 30, 42, 21, 4, 182, 1, 49, 4, 54, 4, 132, 5, 1, 167, 255, 174, 177]
abbrev dktX0_layBounds_3 : List UInt8 := dkwX0_layBounds_3 ++ []
def dkwX0_layBounds_2 : List UInt8 := [21, 6, 46, 21, 5, 21, 6, 122, 4, 126, 4, 160, 0, 7, 4, 167, 0, 4, 3, 84, 132, 6, 1]
abbrev dktX0_layBounds_2 : List UInt8 := dkwX0_layBounds_2 ++ dktX0_layBounds_3
def dkwX0_layBounds_1 : List UInt8 := [160, 0, 63, 3, 54, 6, 21, 6, 42, 180, 1, 39, 162, 0, 37, 42, 180, 0, 42, 42, 180, 0, 74]
abbrev dktX0_layBounds_1 : List UInt8 := dkwX0_layBounds_1 ++ dktX0_layBounds_2
def dkwX0_layBounds_0 : List UInt8 := [3, 54, 4, 3, 54, 5, 21, 5, 4, 42, 180, 1, 39, 120, 162, 0, 77, 21, 5, 28, 126, 29]
abbrev dktX0_layBounds_0 : List UInt8 := dkwX0_layBounds_0 ++ dktX0_layBounds_1
theorem dksX0_layBounds_0 : cX0_layBounds.data.toList.drop 0 = dktX0_layBounds_0 := by decide +kernel
theorem dksX0_layBounds_1 : cX0_layBounds.data.toList.drop 22 = dktX0_layBounds_1 := dk_seg dksX0_layBounds_0 22 rfl rfl
theorem dksX0_layBounds_2 : cX0_layBounds.data.toList.drop 45 = dktX0_layBounds_2 := dk_seg dksX0_layBounds_1 23 rfl rfl
theorem dksX0_layBounds_3 : cX0_layBounds.data.toList.drop 68 = dktX0_layBounds_3 := dk_seg dksX0_layBounds_2 23 rfl rfl
theorem dX0_layBounds_0 : decode cX0_layBounds 0 = .ok (.iconst 0, 1) := dk_3 (dk_at dksX0_layBounds_0 0 rfl rfl)
theorem dX0_layBounds_1 : decode cX0_layBounds 1 = .ok (.istore 4, 2) := dk_54 4 (dk_at dksX0_layBounds_0 1 rfl rfl)
theorem dX0_layBounds_3 : decode cX0_layBounds 3 = .ok (.iconst 0, 1) := dk_3 (dk_at dksX0_layBounds_0 3 rfl rfl)
theorem dX0_layBounds_4 : decode cX0_layBounds 4 = .ok (.istore 5, 2) := dk_54 5 (dk_at dksX0_layBounds_0 4 rfl rfl)
theorem dX0_layBounds_6 : decode cX0_layBounds 6 = .ok (.iload 5, 2) := dk_21 5 (dk_at dksX0_layBounds_0 6 rfl rfl)
theorem dX0_layBounds_8 : decode cX0_layBounds 8 = .ok (.iconst 1, 1) := dk_4 (dk_at dksX0_layBounds_0 8 rfl rfl)
theorem dX0_layBounds_9 : decode cX0_layBounds 9 = .ok (.aload_n 0, 1) := dk_42 (dk_at dksX0_layBounds_0 9 rfl rfl)
theorem dX0_layBounds_10 : decode cX0_layBounds 10 = .ok (.getfield 295, 3) := dk_180 1 39 (dk_at dksX0_layBounds_0 10 rfl rfl)
theorem dX0_layBounds_13 : decode cX0_layBounds 13 = .ok (.ishl, 1) := dk_120 (dk_at dksX0_layBounds_0 13 rfl rfl)
theorem dX0_layBounds_14 : decode cX0_layBounds 14 = .ok (.if_icmp .ge 77, 3) := dk_162 0 77 (dk_at dksX0_layBounds_0 14 rfl rfl)
theorem dX0_layBounds_17 : decode cX0_layBounds 17 = .ok (.iload 5, 2) := dk_21 5 (dk_at dksX0_layBounds_0 17 rfl rfl)
theorem dX0_layBounds_19 : decode cX0_layBounds 19 = .ok (.iload_n 2, 1) := dk_28 (dk_at dksX0_layBounds_0 19 rfl rfl)
theorem dX0_layBounds_20 : decode cX0_layBounds 20 = .ok (.iand, 1) := dk_126 (dk_at dksX0_layBounds_0 20 rfl rfl)
theorem dX0_layBounds_21 : decode cX0_layBounds 21 = .ok (.iload_n 3, 1) := dk_29 (dk_at dksX0_layBounds_0 21 rfl rfl)
theorem dX0_layBounds_22 : decode cX0_layBounds 22 = .ok (.if_icmp .ne 63, 3) := dk_160 0 63 (dk_at dksX0_layBounds_1 0 rfl rfl)
theorem dX0_layBounds_25 : decode cX0_layBounds 25 = .ok (.iconst 0, 1) := dk_3 (dk_at dksX0_layBounds_1 3 rfl rfl)
theorem dX0_layBounds_26 : decode cX0_layBounds 26 = .ok (.istore 6, 2) := dk_54 6 (dk_at dksX0_layBounds_1 4 rfl rfl)
theorem dX0_layBounds_28 : decode cX0_layBounds 28 = .ok (.iload 6, 2) := dk_21 6 (dk_at dksX0_layBounds_1 6 rfl rfl)
theorem dX0_layBounds_30 : decode cX0_layBounds 30 = .ok (.aload_n 0, 1) := dk_42 (dk_at dksX0_layBounds_1 8 rfl rfl)
theorem dX0_layBounds_31 : decode cX0_layBounds 31 = .ok (.getfield 295, 3) := dk_180 1 39 (dk_at dksX0_layBounds_1 9 rfl rfl)
theorem dX0_layBounds_34 : decode cX0_layBounds 34 = .ok (.if_icmp .ge 37, 3) := dk_162 0 37 (dk_at dksX0_layBounds_1 12 rfl rfl)
theorem dX0_layBounds_37 : decode cX0_layBounds 37 = .ok (.aload_n 0, 1) := dk_42 (dk_at dksX0_layBounds_1 15 rfl rfl)
theorem dX0_layBounds_38 : decode cX0_layBounds 38 = .ok (.getfield 42, 3) := dk_180 0 42 (dk_at dksX0_layBounds_1 16 rfl rfl)
theorem dX0_layBounds_41 : decode cX0_layBounds 41 = .ok (.aload_n 0, 1) := dk_42 (dk_at dksX0_layBounds_1 19 rfl rfl)
theorem dX0_layBounds_42 : decode cX0_layBounds 42 = .ok (.getfield 74, 3) := dk_180 0 74 (dk_at dksX0_layBounds_1 20 rfl rfl)
theorem dX0_layBounds_45 : decode cX0_layBounds 45 = .ok (.iload 6, 2) := dk_21 6 (dk_at dksX0_layBounds_2 0 rfl rfl)
theorem dX0_layBounds_47 : decode cX0_layBounds 47 = .ok (.iaload, 1) := dk_46 (dk_at dksX0_layBounds_2 2 rfl rfl)
theorem dX0_layBounds_48 : decode cX0_layBounds 48 = .ok (.iload 5, 2) := dk_21 5 (dk_at dksX0_layBounds_2 3 rfl rfl)
theorem dX0_layBounds_50 : decode cX0_layBounds 50 = .ok (.iload 6, 2) := dk_21 6 (dk_at dksX0_layBounds_2 5 rfl rfl)
theorem dX0_layBounds_52 : decode cX0_layBounds 52 = .ok (.ishr, 1) := dk_122 (dk_at dksX0_layBounds_2 7 rfl rfl)
theorem dX0_layBounds_53 : decode cX0_layBounds 53 = .ok (.iconst 1, 1) := dk_4 (dk_at dksX0_layBounds_2 8 rfl rfl)
theorem dX0_layBounds_54 : decode cX0_layBounds 54 = .ok (.iand, 1) := dk_126 (dk_at dksX0_layBounds_2 9 rfl rfl)
theorem dX0_layBounds_55 : decode cX0_layBounds 55 = .ok (.iconst 1, 1) := dk_4 (dk_at dksX0_layBounds_2 10 rfl rfl)
theorem dX0_layBounds_56 : decode cX0_layBounds 56 = .ok (.if_icmp .ne 7, 3) := dk_160 0 7 (dk_at dksX0_layBounds_2 11 rfl rfl)
theorem dX0_layBounds_59 : decode cX0_layBounds 59 = .ok (.iconst 1, 1) := dk_4 (dk_at dksX0_layBounds_2 14 rfl rfl)
theorem dX0_layBounds_60 : decode cX0_layBounds 60 = .ok (.goto 4, 3) := dk_167 0 4 (dk_at dksX0_layBounds_2 15 rfl rfl)
theorem dX0_layBounds_63 : decode cX0_layBounds 63 = .ok (.iconst 0, 1) := dk_3 (dk_at dksX0_layBounds_2 18 rfl rfl)
theorem dX0_layBounds_64 : decode cX0_layBounds 64 = .ok (.bastore, 1) := dk_84 (dk_at dksX0_layBounds_2 19 rfl rfl)
theorem dX0_layBounds_65 : decode cX0_layBounds 65 = .ok (.iinc 6 1, 3) := dk_132 6 1 (dk_at dksX0_layBounds_2 20 rfl rfl)
theorem dX0_layBounds_68 : decode cX0_layBounds 68 = .ok (.goto (-40), 3) := dk_167 255 216 (dk_at dksX0_layBounds_3 0 rfl rfl)
theorem dX0_layBounds_71 : decode cX0_layBounds 71 = .ok (.aload_n 0, 1) := dk_42 (dk_at dksX0_layBounds_3 3 rfl rfl)
theorem dX0_layBounds_72 : decode cX0_layBounds 72 = .ok (.iload_n 1, 1) := dk_27 (dk_at dksX0_layBounds_3 4 rfl rfl)
theorem dX0_layBounds_73 : decode cX0_layBounds 73 = .ok (.invokevirtual 286, 3) := dk_182 1 30 (dk_at dksX0_layBounds_3 5 rfl rfl)
theorem dX0_layBounds_76 : decode cX0_layBounds 76 = .ok (.aload_n 0, 1) := dk_42 (dk_at dksX0_layBounds_3 8 rfl rfl)
theorem dX0_layBounds_77 : decode cX0_layBounds 77 = .ok (.iload 4, 2) := dk_21 4 (dk_at dksX0_layBounds_3 9 rfl rfl)
theorem dX0_layBounds_79 : decode cX0_layBounds 79 = .ok (.invokevirtual 305, 3) := dk_182 1 49 (dk_at dksX0_layBounds_3 11 rfl rfl)
theorem dX0_layBounds_82 : decode cX0_layBounds 82 = .ok (.iconst 1, 1) := dk_4 (dk_at dksX0_layBounds_3 14 rfl rfl)
theorem dX0_layBounds_83 : decode cX0_layBounds 83 = .ok (.istore 4, 2) := dk_54 4 (dk_at dksX0_layBounds_3 15 rfl rfl)
theorem dX0_layBounds_85 : decode cX0_layBounds 85 = .ok (.iinc 5 1, 3) := dk_132 5 1 (dk_at dksX0_layBounds_3 17 rfl rfl)
theorem dX0_layBounds_88 : decode cX0_layBounds 88 = .ok (.goto (-82), 3) := dk_167 255 174 (dk_at dksX0_layBounds_3 20 rfl rfl)
theorem dX0_layBounds_91 : decode cX0_layBounds 91 = .ok (.return_, 1) := dk_177 (dk_at dksX0_layBounds_3 23 rfl rfl)
abbrev cX0_keep : ByteArray := prog_1_method_54_code
def yX0_keep : MethodName := ⟨RX0, "keep", "(Z)V"⟩
def dkwX0_keep_5 : List UInt8 := [180, 0, 59, 28, 47, 80, 132, 2, 1, 167, 255, 131, 177]
abbrev dktX0_keep_5 : List UInt8 := dkwX0_keep_5 ++ []
def dkwX0_keep_4 : List UInt8 := [184, 1, 52, 158, 0, 27, 42, 180, 0, 83, 28, 42, 180, 0, 55, 28, 47, 80, 42, 180, 0, 86, 28, 42]
abbrev dktX0_keep_4 : List UInt8 := dkwX0_keep_4 ++ dktX0_keep_5
def dkwX0_keep_3 : List UInt8 := [180, 0, 55, 28, 47, 42, 180, 0, 59, 28, 47, 42, 180, 0, 83, 28, 47, 42, 180, 0, 86, 28, 47]
abbrev dktX0_keep_3 : List UInt8 := dkwX0_keep_3 ++ dktX0_keep_4
def dkwX0_keep_2 : List UInt8 := [180, 0, 55, 28, 47, 80, 42, 180, 0, 80, 28, 42, 180, 0, 59, 28, 47, 80, 27, 153, 0, 33, 42]
abbrev dktX0_keep_2 : List UInt8 := dkwX0_keep_2 ++ dktX0_keep_3
def dkwX0_keep_1 : List UInt8 := [42, 180, 0, 77, 28, 47, 42, 180, 0, 80, 28, 47, 184, 1, 52, 156, 0, 27, 42, 180, 0, 77, 28, 42]
abbrev dktX0_keep_1 : List UInt8 := dkwX0_keep_1 ++ dktX0_keep_2
def dkwX0_keep_0 : List UInt8 := [3, 61, 28, 16, 24, 163, 0, 125, 27, 153, 0, 33, 42, 180, 0, 55, 28, 47, 42, 180, 0, 59, 28, 47]
abbrev dktX0_keep_0 : List UInt8 := dkwX0_keep_0 ++ dktX0_keep_1
theorem dksX0_keep_0 : cX0_keep.data.toList.drop 0 = dktX0_keep_0 := by decide +kernel
theorem dksX0_keep_1 : cX0_keep.data.toList.drop 24 = dktX0_keep_1 := dk_seg dksX0_keep_0 24 rfl rfl
theorem dksX0_keep_2 : cX0_keep.data.toList.drop 48 = dktX0_keep_2 := dk_seg dksX0_keep_1 24 rfl rfl
theorem dksX0_keep_3 : cX0_keep.data.toList.drop 71 = dktX0_keep_3 := dk_seg dksX0_keep_2 23 rfl rfl
theorem dksX0_keep_4 : cX0_keep.data.toList.drop 94 = dktX0_keep_4 := dk_seg dksX0_keep_3 23 rfl rfl
theorem dksX0_keep_5 : cX0_keep.data.toList.drop 118 = dktX0_keep_5 := dk_seg dksX0_keep_4 24 rfl rfl
theorem dX0_keep_0 : decode cX0_keep 0 = .ok (.iconst 0, 1) := dk_3 (dk_at dksX0_keep_0 0 rfl rfl)
theorem dX0_keep_1 : decode cX0_keep 1 = .ok (.istore_n 2, 1) := dk_61 (dk_at dksX0_keep_0 1 rfl rfl)
theorem dX0_keep_2 : decode cX0_keep 2 = .ok (.iload_n 2, 1) := dk_28 (dk_at dksX0_keep_0 2 rfl rfl)
theorem dX0_keep_3 : decode cX0_keep 3 = .ok (.bipush 24, 2) := dk_16 24 (dk_at dksX0_keep_0 3 rfl rfl)
theorem dX0_keep_5 : decode cX0_keep 5 = .ok (.if_icmp .gt 125, 3) := dk_163 0 125 (dk_at dksX0_keep_0 5 rfl rfl)
theorem dX0_keep_8 : decode cX0_keep 8 = .ok (.iload_n 1, 1) := dk_27 (dk_at dksX0_keep_0 8 rfl rfl)
theorem dX0_keep_9 : decode cX0_keep 9 = .ok (.ifCond .eq 33, 3) := dk_153 0 33 (dk_at dksX0_keep_0 9 rfl rfl)
theorem dX0_keep_12 : decode cX0_keep 12 = .ok (.aload_n 0, 1) := dk_42 (dk_at dksX0_keep_0 12 rfl rfl)
theorem dX0_keep_13 : decode cX0_keep 13 = .ok (.getfield 55, 3) := dk_180 0 55 (dk_at dksX0_keep_0 13 rfl rfl)
theorem dX0_keep_16 : decode cX0_keep 16 = .ok (.iload_n 2, 1) := dk_28 (dk_at dksX0_keep_0 16 rfl rfl)
theorem dX0_keep_17 : decode cX0_keep 17 = .ok (.laload, 1) := dk_47 (dk_at dksX0_keep_0 17 rfl rfl)
theorem dX0_keep_18 : decode cX0_keep 18 = .ok (.aload_n 0, 1) := dk_42 (dk_at dksX0_keep_0 18 rfl rfl)
theorem dX0_keep_19 : decode cX0_keep 19 = .ok (.getfield 59, 3) := dk_180 0 59 (dk_at dksX0_keep_0 19 rfl rfl)
theorem dX0_keep_22 : decode cX0_keep 22 = .ok (.iload_n 2, 1) := dk_28 (dk_at dksX0_keep_0 22 rfl rfl)
theorem dX0_keep_23 : decode cX0_keep 23 = .ok (.laload, 1) := dk_47 (dk_at dksX0_keep_0 23 rfl rfl)
theorem dX0_keep_24 : decode cX0_keep 24 = .ok (.aload_n 0, 1) := dk_42 (dk_at dksX0_keep_1 0 rfl rfl)
theorem dX0_keep_25 : decode cX0_keep 25 = .ok (.getfield 77, 3) := dk_180 0 77 (dk_at dksX0_keep_1 1 rfl rfl)
theorem dX0_keep_28 : decode cX0_keep 28 = .ok (.iload_n 2, 1) := dk_28 (dk_at dksX0_keep_1 4 rfl rfl)
theorem dX0_keep_29 : decode cX0_keep 29 = .ok (.laload, 1) := dk_47 (dk_at dksX0_keep_1 5 rfl rfl)
theorem dX0_keep_30 : decode cX0_keep 30 = .ok (.aload_n 0, 1) := dk_42 (dk_at dksX0_keep_1 6 rfl rfl)
theorem dX0_keep_31 : decode cX0_keep 31 = .ok (.getfield 80, 3) := dk_180 0 80 (dk_at dksX0_keep_1 7 rfl rfl)
theorem dX0_keep_34 : decode cX0_keep 34 = .ok (.iload_n 2, 1) := dk_28 (dk_at dksX0_keep_1 10 rfl rfl)
theorem dX0_keep_35 : decode cX0_keep 35 = .ok (.laload, 1) := dk_47 (dk_at dksX0_keep_1 11 rfl rfl)
theorem dX0_keep_36 : decode cX0_keep 36 = .ok (.invokestatic 308, 3) := dk_184 1 52 (dk_at dksX0_keep_1 12 rfl rfl)
theorem dX0_keep_39 : decode cX0_keep 39 = .ok (.ifCond .ge 27, 3) := dk_156 0 27 (dk_at dksX0_keep_1 15 rfl rfl)
theorem dX0_keep_42 : decode cX0_keep 42 = .ok (.aload_n 0, 1) := dk_42 (dk_at dksX0_keep_1 18 rfl rfl)
theorem dX0_keep_43 : decode cX0_keep 43 = .ok (.getfield 77, 3) := dk_180 0 77 (dk_at dksX0_keep_1 19 rfl rfl)
theorem dX0_keep_46 : decode cX0_keep 46 = .ok (.iload_n 2, 1) := dk_28 (dk_at dksX0_keep_1 22 rfl rfl)
theorem dX0_keep_47 : decode cX0_keep 47 = .ok (.aload_n 0, 1) := dk_42 (dk_at dksX0_keep_1 23 rfl rfl)
theorem dX0_keep_48 : decode cX0_keep 48 = .ok (.getfield 55, 3) := dk_180 0 55 (dk_at dksX0_keep_2 0 rfl rfl)
theorem dX0_keep_51 : decode cX0_keep 51 = .ok (.iload_n 2, 1) := dk_28 (dk_at dksX0_keep_2 3 rfl rfl)
theorem dX0_keep_52 : decode cX0_keep 52 = .ok (.laload, 1) := dk_47 (dk_at dksX0_keep_2 4 rfl rfl)
theorem dX0_keep_53 : decode cX0_keep 53 = .ok (.lastore, 1) := dk_80 (dk_at dksX0_keep_2 5 rfl rfl)
theorem dX0_keep_54 : decode cX0_keep 54 = .ok (.aload_n 0, 1) := dk_42 (dk_at dksX0_keep_2 6 rfl rfl)
theorem dX0_keep_55 : decode cX0_keep 55 = .ok (.getfield 80, 3) := dk_180 0 80 (dk_at dksX0_keep_2 7 rfl rfl)
theorem dX0_keep_58 : decode cX0_keep 58 = .ok (.iload_n 2, 1) := dk_28 (dk_at dksX0_keep_2 10 rfl rfl)
theorem dX0_keep_59 : decode cX0_keep 59 = .ok (.aload_n 0, 1) := dk_42 (dk_at dksX0_keep_2 11 rfl rfl)
theorem dX0_keep_60 : decode cX0_keep 60 = .ok (.getfield 59, 3) := dk_180 0 59 (dk_at dksX0_keep_2 12 rfl rfl)
theorem dX0_keep_63 : decode cX0_keep 63 = .ok (.iload_n 2, 1) := dk_28 (dk_at dksX0_keep_2 15 rfl rfl)
theorem dX0_keep_64 : decode cX0_keep 64 = .ok (.laload, 1) := dk_47 (dk_at dksX0_keep_2 16 rfl rfl)
theorem dX0_keep_65 : decode cX0_keep 65 = .ok (.lastore, 1) := dk_80 (dk_at dksX0_keep_2 17 rfl rfl)
theorem dX0_keep_66 : decode cX0_keep 66 = .ok (.iload_n 1, 1) := dk_27 (dk_at dksX0_keep_2 18 rfl rfl)
theorem dX0_keep_67 : decode cX0_keep 67 = .ok (.ifCond .eq 33, 3) := dk_153 0 33 (dk_at dksX0_keep_2 19 rfl rfl)
theorem dX0_keep_70 : decode cX0_keep 70 = .ok (.aload_n 0, 1) := dk_42 (dk_at dksX0_keep_2 22 rfl rfl)
theorem dX0_keep_71 : decode cX0_keep 71 = .ok (.getfield 55, 3) := dk_180 0 55 (dk_at dksX0_keep_3 0 rfl rfl)
theorem dX0_keep_74 : decode cX0_keep 74 = .ok (.iload_n 2, 1) := dk_28 (dk_at dksX0_keep_3 3 rfl rfl)
theorem dX0_keep_75 : decode cX0_keep 75 = .ok (.laload, 1) := dk_47 (dk_at dksX0_keep_3 4 rfl rfl)
theorem dX0_keep_76 : decode cX0_keep 76 = .ok (.aload_n 0, 1) := dk_42 (dk_at dksX0_keep_3 5 rfl rfl)
theorem dX0_keep_77 : decode cX0_keep 77 = .ok (.getfield 59, 3) := dk_180 0 59 (dk_at dksX0_keep_3 6 rfl rfl)
theorem dX0_keep_80 : decode cX0_keep 80 = .ok (.iload_n 2, 1) := dk_28 (dk_at dksX0_keep_3 9 rfl rfl)
theorem dX0_keep_81 : decode cX0_keep 81 = .ok (.laload, 1) := dk_47 (dk_at dksX0_keep_3 10 rfl rfl)
theorem dX0_keep_82 : decode cX0_keep 82 = .ok (.aload_n 0, 1) := dk_42 (dk_at dksX0_keep_3 11 rfl rfl)
theorem dX0_keep_83 : decode cX0_keep 83 = .ok (.getfield 83, 3) := dk_180 0 83 (dk_at dksX0_keep_3 12 rfl rfl)
theorem dX0_keep_86 : decode cX0_keep 86 = .ok (.iload_n 2, 1) := dk_28 (dk_at dksX0_keep_3 15 rfl rfl)
theorem dX0_keep_87 : decode cX0_keep 87 = .ok (.laload, 1) := dk_47 (dk_at dksX0_keep_3 16 rfl rfl)
theorem dX0_keep_88 : decode cX0_keep 88 = .ok (.aload_n 0, 1) := dk_42 (dk_at dksX0_keep_3 17 rfl rfl)
theorem dX0_keep_89 : decode cX0_keep 89 = .ok (.getfield 86, 3) := dk_180 0 86 (dk_at dksX0_keep_3 18 rfl rfl)
theorem dX0_keep_92 : decode cX0_keep 92 = .ok (.iload_n 2, 1) := dk_28 (dk_at dksX0_keep_3 21 rfl rfl)
theorem dX0_keep_93 : decode cX0_keep 93 = .ok (.laload, 1) := dk_47 (dk_at dksX0_keep_3 22 rfl rfl)
theorem dX0_keep_94 : decode cX0_keep 94 = .ok (.invokestatic 308, 3) := dk_184 1 52 (dk_at dksX0_keep_4 0 rfl rfl)
theorem dX0_keep_97 : decode cX0_keep 97 = .ok (.ifCond .le 27, 3) := dk_158 0 27 (dk_at dksX0_keep_4 3 rfl rfl)
theorem dX0_keep_100 : decode cX0_keep 100 = .ok (.aload_n 0, 1) := dk_42 (dk_at dksX0_keep_4 6 rfl rfl)
theorem dX0_keep_101 : decode cX0_keep 101 = .ok (.getfield 83, 3) := dk_180 0 83 (dk_at dksX0_keep_4 7 rfl rfl)
theorem dX0_keep_104 : decode cX0_keep 104 = .ok (.iload_n 2, 1) := dk_28 (dk_at dksX0_keep_4 10 rfl rfl)
theorem dX0_keep_105 : decode cX0_keep 105 = .ok (.aload_n 0, 1) := dk_42 (dk_at dksX0_keep_4 11 rfl rfl)
theorem dX0_keep_106 : decode cX0_keep 106 = .ok (.getfield 55, 3) := dk_180 0 55 (dk_at dksX0_keep_4 12 rfl rfl)
theorem dX0_keep_109 : decode cX0_keep 109 = .ok (.iload_n 2, 1) := dk_28 (dk_at dksX0_keep_4 15 rfl rfl)
theorem dX0_keep_110 : decode cX0_keep 110 = .ok (.laload, 1) := dk_47 (dk_at dksX0_keep_4 16 rfl rfl)
theorem dX0_keep_111 : decode cX0_keep 111 = .ok (.lastore, 1) := dk_80 (dk_at dksX0_keep_4 17 rfl rfl)
theorem dX0_keep_112 : decode cX0_keep 112 = .ok (.aload_n 0, 1) := dk_42 (dk_at dksX0_keep_4 18 rfl rfl)
theorem dX0_keep_113 : decode cX0_keep 113 = .ok (.getfield 86, 3) := dk_180 0 86 (dk_at dksX0_keep_4 19 rfl rfl)
theorem dX0_keep_116 : decode cX0_keep 116 = .ok (.iload_n 2, 1) := dk_28 (dk_at dksX0_keep_4 22 rfl rfl)
theorem dX0_keep_117 : decode cX0_keep 117 = .ok (.aload_n 0, 1) := dk_42 (dk_at dksX0_keep_4 23 rfl rfl)
theorem dX0_keep_118 : decode cX0_keep 118 = .ok (.getfield 59, 3) := dk_180 0 59 (dk_at dksX0_keep_5 0 rfl rfl)
theorem dX0_keep_121 : decode cX0_keep 121 = .ok (.iload_n 2, 1) := dk_28 (dk_at dksX0_keep_5 3 rfl rfl)
theorem dX0_keep_122 : decode cX0_keep 122 = .ok (.laload, 1) := dk_47 (dk_at dksX0_keep_5 4 rfl rfl)
theorem dX0_keep_123 : decode cX0_keep 123 = .ok (.lastore, 1) := dk_80 (dk_at dksX0_keep_5 5 rfl rfl)
theorem dX0_keep_124 : decode cX0_keep 124 = .ok (.iinc 2 1, 3) := dk_132 2 1 (dk_at dksX0_keep_5 6 rfl rfl)
theorem dX0_keep_127 : decode cX0_keep 127 = .ok (.goto (-125), 3) := dk_167 255 131 (dk_at dksX0_keep_5 9 rfl rfl)
theorem dX0_keep_130 : decode cX0_keep 130 = .ok (.return_, 1) := dk_177 (dk_at dksX0_keep_5 12 rfl rfl)
abbrev cX0_compare : ByteArray := prog_1_method_6_code
def yX0_compare : MethodName := ⟨RX0, "compare", "(JJJJ)I"⟩
def dkwX0_compare_1 : List UInt8 := [184, 0, 116, 172]
abbrev dktX0_compare_1 : List UInt8 := dkwX0_compare_1 ++ []
def dkwX0_compare_0 : List UInt8 := [32, 22, 6, 184, 0, 106, 55, 8, 30, 22, 6, 22, 8, 109, 105, 22, 4, 32, 22, 8, 109, 105]
abbrev dktX0_compare_0 : List UInt8 := dkwX0_compare_0 ++ dktX0_compare_1
theorem dksX0_compare_0 : cX0_compare.data.toList.drop 0 = dktX0_compare_0 := by decide +kernel
theorem dksX0_compare_1 : cX0_compare.data.toList.drop 22 = dktX0_compare_1 := dk_seg dksX0_compare_0 22 rfl rfl
theorem dX0_compare_0 : decode cX0_compare 0 = .ok (.lload_n 2, 1) := dk_32 (dk_at dksX0_compare_0 0 rfl rfl)
theorem dX0_compare_1 : decode cX0_compare 1 = .ok (.lload 6, 2) := dk_22 6 (dk_at dksX0_compare_0 1 rfl rfl)
theorem dX0_compare_3 : decode cX0_compare 3 = .ok (.invokestatic 106, 3) := dk_184 0 106 (dk_at dksX0_compare_0 3 rfl rfl)
theorem dX0_compare_6 : decode cX0_compare 6 = .ok (.lstore 8, 2) := dk_55 8 (dk_at dksX0_compare_0 6 rfl rfl)
theorem dX0_compare_8 : decode cX0_compare 8 = .ok (.lload_n 0, 1) := dk_30 (dk_at dksX0_compare_0 8 rfl rfl)
theorem dX0_compare_9 : decode cX0_compare 9 = .ok (.lload 6, 2) := dk_22 6 (dk_at dksX0_compare_0 9 rfl rfl)
theorem dX0_compare_11 : decode cX0_compare 11 = .ok (.lload 8, 2) := dk_22 8 (dk_at dksX0_compare_0 11 rfl rfl)
theorem dX0_compare_13 : decode cX0_compare 13 = .ok (.ldiv, 1) := dk_109 (dk_at dksX0_compare_0 13 rfl rfl)
theorem dX0_compare_14 : decode cX0_compare 14 = .ok (.lmul, 1) := dk_105 (dk_at dksX0_compare_0 14 rfl rfl)
theorem dX0_compare_15 : decode cX0_compare 15 = .ok (.lload 4, 2) := dk_22 4 (dk_at dksX0_compare_0 15 rfl rfl)
theorem dX0_compare_17 : decode cX0_compare 17 = .ok (.lload_n 2, 1) := dk_32 (dk_at dksX0_compare_0 17 rfl rfl)
theorem dX0_compare_18 : decode cX0_compare 18 = .ok (.lload 8, 2) := dk_22 8 (dk_at dksX0_compare_0 18 rfl rfl)
theorem dX0_compare_20 : decode cX0_compare 20 = .ok (.ldiv, 1) := dk_109 (dk_at dksX0_compare_0 20 rfl rfl)
theorem dX0_compare_21 : decode cX0_compare 21 = .ok (.lmul, 1) := dk_105 (dk_at dksX0_compare_0 21 rfl rfl)
theorem dX0_compare_22 : decode cX0_compare 22 = .ok (.invokestatic 116, 3) := dk_184 0 116 (dk_at dksX0_compare_1 0 rfl rfl)
theorem dX0_compare_25 : decode cX0_compare 25 = .ok (.ireturn, 1) := dk_172 (dk_at dksX0_compare_1 3 rfl rfl)
abbrev cX0_spread : ByteArray := prog_1_method_57_code
def yX0_spread : MethodName := ⟨RX0, "spread", "(I)I"⟩
def dkwX0_spread_1 : List UInt8 := [180, 0, 110, 42, 180, 0, 113, 182, 1, 36, 172]
abbrev dktX0_spread_1 : List UInt8 := dkwX0_spread_1 ++ []
def dkwX0_spread_0 : List UInt8 := [42, 4, 27, 182, 1, 55, 61, 28, 156, 0, 5, 28, 172, 42, 27, 3, 3, 182, 1, 62, 42, 42]
abbrev dktX0_spread_0 : List UInt8 := dkwX0_spread_0 ++ dktX0_spread_1
theorem dksX0_spread_0 : cX0_spread.data.toList.drop 0 = dktX0_spread_0 := by decide +kernel
theorem dksX0_spread_1 : cX0_spread.data.toList.drop 22 = dktX0_spread_1 := dk_seg dksX0_spread_0 22 rfl rfl
theorem dX0_spread_0 : decode cX0_spread 0 = .ok (.aload_n 0, 1) := dk_42 (dk_at dksX0_spread_0 0 rfl rfl)
theorem dX0_spread_1 : decode cX0_spread 1 = .ok (.iconst 1, 1) := dk_4 (dk_at dksX0_spread_0 1 rfl rfl)
theorem dX0_spread_2 : decode cX0_spread 2 = .ok (.iload_n 1, 1) := dk_27 (dk_at dksX0_spread_0 2 rfl rfl)
theorem dX0_spread_3 : decode cX0_spread 3 = .ok (.invokevirtual 311, 3) := dk_182 1 55 (dk_at dksX0_spread_0 3 rfl rfl)
theorem dX0_spread_6 : decode cX0_spread 6 = .ok (.istore_n 2, 1) := dk_61 (dk_at dksX0_spread_0 6 rfl rfl)
theorem dX0_spread_7 : decode cX0_spread 7 = .ok (.iload_n 2, 1) := dk_28 (dk_at dksX0_spread_0 7 rfl rfl)
theorem dX0_spread_8 : decode cX0_spread 8 = .ok (.ifCond .ge 5, 3) := dk_156 0 5 (dk_at dksX0_spread_0 8 rfl rfl)
theorem dX0_spread_11 : decode cX0_spread 11 = .ok (.iload_n 2, 1) := dk_28 (dk_at dksX0_spread_0 11 rfl rfl)
theorem dX0_spread_12 : decode cX0_spread 12 = .ok (.ireturn, 1) := dk_172 (dk_at dksX0_spread_0 12 rfl rfl)
theorem dX0_spread_13 : decode cX0_spread 13 = .ok (.aload_n 0, 1) := dk_42 (dk_at dksX0_spread_0 13 rfl rfl)
theorem dX0_spread_14 : decode cX0_spread 14 = .ok (.iload_n 1, 1) := dk_27 (dk_at dksX0_spread_0 14 rfl rfl)
theorem dX0_spread_15 : decode cX0_spread 15 = .ok (.iconst 0, 1) := dk_3 (dk_at dksX0_spread_0 15 rfl rfl)
theorem dX0_spread_16 : decode cX0_spread 16 = .ok (.iconst 0, 1) := dk_3 (dk_at dksX0_spread_0 16 rfl rfl)
theorem dX0_spread_17 : decode cX0_spread 17 = .ok (.invokevirtual 318, 3) := dk_182 1 62 (dk_at dksX0_spread_0 17 rfl rfl)
theorem dX0_spread_20 : decode cX0_spread 20 = .ok (.aload_n 0, 1) := dk_42 (dk_at dksX0_spread_0 20 rfl rfl)
theorem dX0_spread_21 : decode cX0_spread 21 = .ok (.aload_n 0, 1) := dk_42 (dk_at dksX0_spread_0 21 rfl rfl)
theorem dX0_spread_22 : decode cX0_spread 22 = .ok (.getfield 110, 3) := dk_180 0 110 (dk_at dksX0_spread_1 0 rfl rfl)
theorem dX0_spread_25 : decode cX0_spread 25 = .ok (.aload_n 0, 1) := dk_42 (dk_at dksX0_spread_1 3 rfl rfl)
theorem dX0_spread_26 : decode cX0_spread 26 = .ok (.getfield 113, 3) := dk_180 0 113 (dk_at dksX0_spread_1 4 rfl rfl)
theorem dX0_spread_29 : decode cX0_spread 29 = .ok (.invokevirtual 292, 3) := dk_182 1 36 (dk_at dksX0_spread_1 7 rfl rfl)
theorem dX0_spread_32 : decode cX0_spread 32 = .ok (.ireturn, 1) := dk_172 (dk_at dksX0_spread_1 10 rfl rfl)
abbrev cX0_laySpread : ByteArray := prog_1_method_56_code
def yX0_laySpread : MethodName := ⟨RX0, "laySpread", "(III)V"⟩
def dkwX0_laySpread_4 : List UInt8 := [42, 22, 4, 181, 0, 110, 42, 22, 6, 181, 0, 113, 177]
abbrev dktX0_laySpread_4 : List UInt8 := dkwX0_laySpread_4 ++ []
def dkwX0_laySpread_3 : List UInt8 := [21, 8, 47, 182, 0, 227, 42, 180, 0, 110, 55, 4, 42, 180, 0, 113, 55, 6, 132, 8, 1, 167, 255, 183]
abbrev dktX0_laySpread_3 : List UInt8 := dkwX0_laySpread_3 ++ dktX0_laySpread_4
def dkwX0_laySpread_2 : List UInt8 := [182, 0, 227, 42, 42, 180, 0, 110, 42, 180, 0, 113, 42, 180, 0, 77, 21, 8, 47, 117, 42, 180, 0, 80]
abbrev dktX0_laySpread_2 : List UInt8 := dkwX0_laySpread_2 ++ dktX0_laySpread_3
def dkwX0_laySpread_1 : List UInt8 := [162, 0, 70, 42, 22, 4, 22, 6, 42, 180, 0, 83, 21, 8, 47, 42, 180, 0, 86, 21, 8, 47]
abbrev dktX0_laySpread_1 : List UInt8 := dkwX0_laySpread_1 ++ dktX0_laySpread_2
def dkwX0_laySpread_0 : List UInt8 := [42, 27, 28, 29, 182, 1, 58, 9, 55, 4, 10, 55, 6, 3, 54, 8, 21, 8, 42, 180, 0, 125]
abbrev dktX0_laySpread_0 : List UInt8 := dkwX0_laySpread_0 ++ dktX0_laySpread_1
theorem dksX0_laySpread_0 : cX0_laySpread.data.toList.drop 0 = dktX0_laySpread_0 := by decide +kernel
theorem dksX0_laySpread_1 : cX0_laySpread.data.toList.drop 22 = dktX0_laySpread_1 := dk_seg dksX0_laySpread_0 22 rfl rfl
theorem dksX0_laySpread_2 : cX0_laySpread.data.toList.drop 44 = dktX0_laySpread_2 := dk_seg dksX0_laySpread_1 22 rfl rfl
theorem dksX0_laySpread_3 : cX0_laySpread.data.toList.drop 68 = dktX0_laySpread_3 := dk_seg dksX0_laySpread_2 24 rfl rfl
theorem dksX0_laySpread_4 : cX0_laySpread.data.toList.drop 92 = dktX0_laySpread_4 := dk_seg dksX0_laySpread_3 24 rfl rfl
theorem dX0_laySpread_0 : decode cX0_laySpread 0 = .ok (.aload_n 0, 1) := dk_42 (dk_at dksX0_laySpread_0 0 rfl rfl)
theorem dX0_laySpread_1 : decode cX0_laySpread 1 = .ok (.iload_n 1, 1) := dk_27 (dk_at dksX0_laySpread_0 1 rfl rfl)
theorem dX0_laySpread_2 : decode cX0_laySpread 2 = .ok (.iload_n 2, 1) := dk_28 (dk_at dksX0_laySpread_0 2 rfl rfl)
theorem dX0_laySpread_3 : decode cX0_laySpread 3 = .ok (.iload_n 3, 1) := dk_29 (dk_at dksX0_laySpread_0 3 rfl rfl)
theorem dX0_laySpread_4 : decode cX0_laySpread 4 = .ok (.invokevirtual 314, 3) := dk_182 1 58 (dk_at dksX0_laySpread_0 4 rfl rfl)
theorem dX0_laySpread_7 : decode cX0_laySpread 7 = .ok (.lconst 0, 1) := dk_9 (dk_at dksX0_laySpread_0 7 rfl rfl)
theorem dX0_laySpread_8 : decode cX0_laySpread 8 = .ok (.lstore 4, 2) := dk_55 4 (dk_at dksX0_laySpread_0 8 rfl rfl)
theorem dX0_laySpread_10 : decode cX0_laySpread 10 = .ok (.lconst 1, 1) := dk_10 (dk_at dksX0_laySpread_0 10 rfl rfl)
theorem dX0_laySpread_11 : decode cX0_laySpread 11 = .ok (.lstore 6, 2) := dk_55 6 (dk_at dksX0_laySpread_0 11 rfl rfl)
theorem dX0_laySpread_13 : decode cX0_laySpread 13 = .ok (.iconst 0, 1) := dk_3 (dk_at dksX0_laySpread_0 13 rfl rfl)
theorem dX0_laySpread_14 : decode cX0_laySpread 14 = .ok (.istore 8, 2) := dk_54 8 (dk_at dksX0_laySpread_0 14 rfl rfl)
theorem dX0_laySpread_16 : decode cX0_laySpread 16 = .ok (.iload 8, 2) := dk_21 8 (dk_at dksX0_laySpread_0 16 rfl rfl)
theorem dX0_laySpread_18 : decode cX0_laySpread 18 = .ok (.aload_n 0, 1) := dk_42 (dk_at dksX0_laySpread_0 18 rfl rfl)
theorem dX0_laySpread_19 : decode cX0_laySpread 19 = .ok (.getfield 125, 3) := dk_180 0 125 (dk_at dksX0_laySpread_0 19 rfl rfl)
theorem dX0_laySpread_22 : decode cX0_laySpread 22 = .ok (.if_icmp .ge 70, 3) := dk_162 0 70 (dk_at dksX0_laySpread_1 0 rfl rfl)
theorem dX0_laySpread_25 : decode cX0_laySpread 25 = .ok (.aload_n 0, 1) := dk_42 (dk_at dksX0_laySpread_1 3 rfl rfl)
theorem dX0_laySpread_26 : decode cX0_laySpread 26 = .ok (.lload 4, 2) := dk_22 4 (dk_at dksX0_laySpread_1 4 rfl rfl)
theorem dX0_laySpread_28 : decode cX0_laySpread 28 = .ok (.lload 6, 2) := dk_22 6 (dk_at dksX0_laySpread_1 6 rfl rfl)
theorem dX0_laySpread_30 : decode cX0_laySpread 30 = .ok (.aload_n 0, 1) := dk_42 (dk_at dksX0_laySpread_1 8 rfl rfl)
theorem dX0_laySpread_31 : decode cX0_laySpread 31 = .ok (.getfield 83, 3) := dk_180 0 83 (dk_at dksX0_laySpread_1 9 rfl rfl)
theorem dX0_laySpread_34 : decode cX0_laySpread 34 = .ok (.iload 8, 2) := dk_21 8 (dk_at dksX0_laySpread_1 12 rfl rfl)
theorem dX0_laySpread_36 : decode cX0_laySpread 36 = .ok (.laload, 1) := dk_47 (dk_at dksX0_laySpread_1 14 rfl rfl)
theorem dX0_laySpread_37 : decode cX0_laySpread 37 = .ok (.aload_n 0, 1) := dk_42 (dk_at dksX0_laySpread_1 15 rfl rfl)
theorem dX0_laySpread_38 : decode cX0_laySpread 38 = .ok (.getfield 86, 3) := dk_180 0 86 (dk_at dksX0_laySpread_1 16 rfl rfl)
theorem dX0_laySpread_41 : decode cX0_laySpread 41 = .ok (.iload 8, 2) := dk_21 8 (dk_at dksX0_laySpread_1 19 rfl rfl)
theorem dX0_laySpread_43 : decode cX0_laySpread 43 = .ok (.laload, 1) := dk_47 (dk_at dksX0_laySpread_1 21 rfl rfl)
theorem dX0_laySpread_44 : decode cX0_laySpread 44 = .ok (.invokevirtual 227, 3) := dk_182 0 227 (dk_at dksX0_laySpread_2 0 rfl rfl)
theorem dX0_laySpread_47 : decode cX0_laySpread 47 = .ok (.aload_n 0, 1) := dk_42 (dk_at dksX0_laySpread_2 3 rfl rfl)
theorem dX0_laySpread_48 : decode cX0_laySpread 48 = .ok (.aload_n 0, 1) := dk_42 (dk_at dksX0_laySpread_2 4 rfl rfl)
theorem dX0_laySpread_49 : decode cX0_laySpread 49 = .ok (.getfield 110, 3) := dk_180 0 110 (dk_at dksX0_laySpread_2 5 rfl rfl)
theorem dX0_laySpread_52 : decode cX0_laySpread 52 = .ok (.aload_n 0, 1) := dk_42 (dk_at dksX0_laySpread_2 8 rfl rfl)
theorem dX0_laySpread_53 : decode cX0_laySpread 53 = .ok (.getfield 113, 3) := dk_180 0 113 (dk_at dksX0_laySpread_2 9 rfl rfl)
theorem dX0_laySpread_56 : decode cX0_laySpread 56 = .ok (.aload_n 0, 1) := dk_42 (dk_at dksX0_laySpread_2 12 rfl rfl)
theorem dX0_laySpread_57 : decode cX0_laySpread 57 = .ok (.getfield 77, 3) := dk_180 0 77 (dk_at dksX0_laySpread_2 13 rfl rfl)
theorem dX0_laySpread_60 : decode cX0_laySpread 60 = .ok (.iload 8, 2) := dk_21 8 (dk_at dksX0_laySpread_2 16 rfl rfl)
theorem dX0_laySpread_62 : decode cX0_laySpread 62 = .ok (.laload, 1) := dk_47 (dk_at dksX0_laySpread_2 18 rfl rfl)
theorem dX0_laySpread_63 : decode cX0_laySpread 63 = .ok (.lneg, 1) := dk_117 (dk_at dksX0_laySpread_2 19 rfl rfl)
theorem dX0_laySpread_64 : decode cX0_laySpread 64 = .ok (.aload_n 0, 1) := dk_42 (dk_at dksX0_laySpread_2 20 rfl rfl)
theorem dX0_laySpread_65 : decode cX0_laySpread 65 = .ok (.getfield 80, 3) := dk_180 0 80 (dk_at dksX0_laySpread_2 21 rfl rfl)
theorem dX0_laySpread_68 : decode cX0_laySpread 68 = .ok (.iload 8, 2) := dk_21 8 (dk_at dksX0_laySpread_3 0 rfl rfl)
theorem dX0_laySpread_70 : decode cX0_laySpread 70 = .ok (.laload, 1) := dk_47 (dk_at dksX0_laySpread_3 2 rfl rfl)
theorem dX0_laySpread_71 : decode cX0_laySpread 71 = .ok (.invokevirtual 227, 3) := dk_182 0 227 (dk_at dksX0_laySpread_3 3 rfl rfl)
theorem dX0_laySpread_74 : decode cX0_laySpread 74 = .ok (.aload_n 0, 1) := dk_42 (dk_at dksX0_laySpread_3 6 rfl rfl)
theorem dX0_laySpread_75 : decode cX0_laySpread 75 = .ok (.getfield 110, 3) := dk_180 0 110 (dk_at dksX0_laySpread_3 7 rfl rfl)
theorem dX0_laySpread_78 : decode cX0_laySpread 78 = .ok (.lstore 4, 2) := dk_55 4 (dk_at dksX0_laySpread_3 10 rfl rfl)
theorem dX0_laySpread_80 : decode cX0_laySpread 80 = .ok (.aload_n 0, 1) := dk_42 (dk_at dksX0_laySpread_3 12 rfl rfl)
theorem dX0_laySpread_81 : decode cX0_laySpread 81 = .ok (.getfield 113, 3) := dk_180 0 113 (dk_at dksX0_laySpread_3 13 rfl rfl)
theorem dX0_laySpread_84 : decode cX0_laySpread 84 = .ok (.lstore 6, 2) := dk_55 6 (dk_at dksX0_laySpread_3 16 rfl rfl)
theorem dX0_laySpread_86 : decode cX0_laySpread 86 = .ok (.iinc 8 1, 3) := dk_132 8 1 (dk_at dksX0_laySpread_3 18 rfl rfl)
theorem dX0_laySpread_89 : decode cX0_laySpread 89 = .ok (.goto (-73), 3) := dk_167 255 183 (dk_at dksX0_laySpread_3 21 rfl rfl)
theorem dX0_laySpread_92 : decode cX0_laySpread 92 = .ok (.aload_n 0, 1) := dk_42 (dk_at dksX0_laySpread_4 0 rfl rfl)
theorem dX0_laySpread_93 : decode cX0_laySpread 93 = .ok (.lload 4, 2) := dk_22 4 (dk_at dksX0_laySpread_4 1 rfl rfl)
theorem dX0_laySpread_95 : decode cX0_laySpread 95 = .ok (.putfield 110, 3) := dk_181 0 110 (dk_at dksX0_laySpread_4 3 rfl rfl)
theorem dX0_laySpread_98 : decode cX0_laySpread 98 = .ok (.aload_n 0, 1) := dk_42 (dk_at dksX0_laySpread_4 6 rfl rfl)
theorem dX0_laySpread_99 : decode cX0_laySpread 99 = .ok (.lload 6, 2) := dk_22 6 (dk_at dksX0_laySpread_4 7 rfl rfl)
theorem dX0_laySpread_101 : decode cX0_laySpread 101 = .ok (.putfield 113, 3) := dk_181 0 113 (dk_at dksX0_laySpread_4 9 rfl rfl)
theorem dX0_laySpread_104 : decode cX0_laySpread 104 = .ok (.return_, 1) := dk_177 (dk_at dksX0_laySpread_4 12 rfl rfl)
abbrev cX0_worth : ByteArray := prog_1_method_59_code
def yX0_worth : MethodName := ⟨RX0, "worth", "(II)I"⟩
def dkwX0_worth_3 : List UInt8 := [172]
abbrev dktX0_worth_3 : List UInt8 := dkwX0_worth_3 ++ []
def dkwX0_worth_2 : List UInt8 := [42, 42, 180, 1, 66, 42, 180, 1, 69, 182, 1, 36, 172, 132, 4, 1, 167, 255, 213, 42, 6, 182, 0, 195]
abbrev dktX0_worth_2 : List UInt8 := dkwX0_worth_2 ++ dktX0_worth_3
def dkwX0_worth_1 : List UInt8 := [180, 1, 39, 162, 0, 40, 42, 180, 0, 74, 21, 4, 46, 28, 160, 0, 23, 42, 27, 21, 4, 182, 1, 72]
abbrev dktX0_worth_1 : List UInt8 := dkwX0_worth_1 ++ dktX0_worth_2
def dkwX0_worth_0 : List UInt8 := [42, 42, 28, 182, 0, 176, 27, 182, 1, 55, 62, 29, 156, 0, 5, 29, 172, 3, 54, 4, 21, 4, 42]
abbrev dktX0_worth_0 : List UInt8 := dkwX0_worth_0 ++ dktX0_worth_1
theorem dksX0_worth_0 : cX0_worth.data.toList.drop 0 = dktX0_worth_0 := by decide +kernel
theorem dksX0_worth_1 : cX0_worth.data.toList.drop 23 = dktX0_worth_1 := dk_seg dksX0_worth_0 23 rfl rfl
theorem dksX0_worth_2 : cX0_worth.data.toList.drop 47 = dktX0_worth_2 := dk_seg dksX0_worth_1 24 rfl rfl
theorem dksX0_worth_3 : cX0_worth.data.toList.drop 71 = dktX0_worth_3 := dk_seg dksX0_worth_2 24 rfl rfl
theorem dX0_worth_0 : decode cX0_worth 0 = .ok (.aload_n 0, 1) := dk_42 (dk_at dksX0_worth_0 0 rfl rfl)
theorem dX0_worth_1 : decode cX0_worth 1 = .ok (.aload_n 0, 1) := dk_42 (dk_at dksX0_worth_0 1 rfl rfl)
theorem dX0_worth_2 : decode cX0_worth 2 = .ok (.iload_n 2, 1) := dk_28 (dk_at dksX0_worth_0 2 rfl rfl)
theorem dX0_worth_3 : decode cX0_worth 3 = .ok (.invokevirtual 176, 3) := dk_182 0 176 (dk_at dksX0_worth_0 3 rfl rfl)
theorem dX0_worth_6 : decode cX0_worth 6 = .ok (.iload_n 1, 1) := dk_27 (dk_at dksX0_worth_0 6 rfl rfl)
theorem dX0_worth_7 : decode cX0_worth 7 = .ok (.invokevirtual 311, 3) := dk_182 1 55 (dk_at dksX0_worth_0 7 rfl rfl)
theorem dX0_worth_10 : decode cX0_worth 10 = .ok (.istore_n 3, 1) := dk_62 (dk_at dksX0_worth_0 10 rfl rfl)
theorem dX0_worth_11 : decode cX0_worth 11 = .ok (.iload_n 3, 1) := dk_29 (dk_at dksX0_worth_0 11 rfl rfl)
theorem dX0_worth_12 : decode cX0_worth 12 = .ok (.ifCond .ge 5, 3) := dk_156 0 5 (dk_at dksX0_worth_0 12 rfl rfl)
theorem dX0_worth_15 : decode cX0_worth 15 = .ok (.iload_n 3, 1) := dk_29 (dk_at dksX0_worth_0 15 rfl rfl)
theorem dX0_worth_16 : decode cX0_worth 16 = .ok (.ireturn, 1) := dk_172 (dk_at dksX0_worth_0 16 rfl rfl)
theorem dX0_worth_17 : decode cX0_worth 17 = .ok (.iconst 0, 1) := dk_3 (dk_at dksX0_worth_0 17 rfl rfl)
theorem dX0_worth_18 : decode cX0_worth 18 = .ok (.istore 4, 2) := dk_54 4 (dk_at dksX0_worth_0 18 rfl rfl)
theorem dX0_worth_20 : decode cX0_worth 20 = .ok (.iload 4, 2) := dk_21 4 (dk_at dksX0_worth_0 20 rfl rfl)
theorem dX0_worth_22 : decode cX0_worth 22 = .ok (.aload_n 0, 1) := dk_42 (dk_at dksX0_worth_0 22 rfl rfl)
theorem dX0_worth_23 : decode cX0_worth 23 = .ok (.getfield 295, 3) := dk_180 1 39 (dk_at dksX0_worth_1 0 rfl rfl)
theorem dX0_worth_26 : decode cX0_worth 26 = .ok (.if_icmp .ge 40, 3) := dk_162 0 40 (dk_at dksX0_worth_1 3 rfl rfl)
theorem dX0_worth_29 : decode cX0_worth 29 = .ok (.aload_n 0, 1) := dk_42 (dk_at dksX0_worth_1 6 rfl rfl)
theorem dX0_worth_30 : decode cX0_worth 30 = .ok (.getfield 74, 3) := dk_180 0 74 (dk_at dksX0_worth_1 7 rfl rfl)
theorem dX0_worth_33 : decode cX0_worth 33 = .ok (.iload 4, 2) := dk_21 4 (dk_at dksX0_worth_1 10 rfl rfl)
theorem dX0_worth_35 : decode cX0_worth 35 = .ok (.iaload, 1) := dk_46 (dk_at dksX0_worth_1 12 rfl rfl)
theorem dX0_worth_36 : decode cX0_worth 36 = .ok (.iload_n 2, 1) := dk_28 (dk_at dksX0_worth_1 13 rfl rfl)
theorem dX0_worth_37 : decode cX0_worth 37 = .ok (.if_icmp .ne 23, 3) := dk_160 0 23 (dk_at dksX0_worth_1 14 rfl rfl)
theorem dX0_worth_40 : decode cX0_worth 40 = .ok (.aload_n 0, 1) := dk_42 (dk_at dksX0_worth_1 17 rfl rfl)
theorem dX0_worth_41 : decode cX0_worth 41 = .ok (.iload_n 1, 1) := dk_27 (dk_at dksX0_worth_1 18 rfl rfl)
theorem dX0_worth_42 : decode cX0_worth 42 = .ok (.iload 4, 2) := dk_21 4 (dk_at dksX0_worth_1 19 rfl rfl)
theorem dX0_worth_44 : decode cX0_worth 44 = .ok (.invokevirtual 328, 3) := dk_182 1 72 (dk_at dksX0_worth_1 21 rfl rfl)
theorem dX0_worth_47 : decode cX0_worth 47 = .ok (.aload_n 0, 1) := dk_42 (dk_at dksX0_worth_2 0 rfl rfl)
theorem dX0_worth_48 : decode cX0_worth 48 = .ok (.aload_n 0, 1) := dk_42 (dk_at dksX0_worth_2 1 rfl rfl)
theorem dX0_worth_49 : decode cX0_worth 49 = .ok (.getfield 322, 3) := dk_180 1 66 (dk_at dksX0_worth_2 2 rfl rfl)
theorem dX0_worth_52 : decode cX0_worth 52 = .ok (.aload_n 0, 1) := dk_42 (dk_at dksX0_worth_2 5 rfl rfl)
theorem dX0_worth_53 : decode cX0_worth 53 = .ok (.getfield 325, 3) := dk_180 1 69 (dk_at dksX0_worth_2 6 rfl rfl)
theorem dX0_worth_56 : decode cX0_worth 56 = .ok (.invokevirtual 292, 3) := dk_182 1 36 (dk_at dksX0_worth_2 9 rfl rfl)
theorem dX0_worth_59 : decode cX0_worth 59 = .ok (.ireturn, 1) := dk_172 (dk_at dksX0_worth_2 12 rfl rfl)
theorem dX0_worth_60 : decode cX0_worth 60 = .ok (.iinc 4 1, 3) := dk_132 4 1 (dk_at dksX0_worth_2 13 rfl rfl)
theorem dX0_worth_63 : decode cX0_worth 63 = .ok (.goto (-43), 3) := dk_167 255 213 (dk_at dksX0_worth_2 16 rfl rfl)
theorem dX0_worth_66 : decode cX0_worth 66 = .ok (.aload_n 0, 1) := dk_42 (dk_at dksX0_worth_2 19 rfl rfl)
theorem dX0_worth_67 : decode cX0_worth 67 = .ok (.iconst 3, 1) := dk_6 (dk_at dksX0_worth_2 20 rfl rfl)
theorem dX0_worth_68 : decode cX0_worth 68 = .ok (.invokevirtual 195, 3) := dk_182 0 195 (dk_at dksX0_worth_2 21 rfl rfl)
theorem dX0_worth_71 : decode cX0_worth 71 = .ok (.ireturn, 1) := dk_172 (dk_at dksX0_worth_3 0 rfl rfl)
abbrev cX0_layWorth : ByteArray := prog_1_method_58_code
def yX0_layWorth : MethodName := ⟨RX0, "layWorth", "(II)V"⟩
def dkwX0_layWorth_4 : List UInt8 := [54, 7, 42, 42, 180, 0, 110, 181, 1, 66, 42, 42, 180, 0, 113, 21, 7, 133, 105, 181, 1, 69, 177]
abbrev dktX0_layWorth_4 : List UInt8 := dkwX0_layWorth_4 ++ []
def dkwX0_layWorth_3 : List UInt8 := [180, 0, 113, 33, 117, 22, 5, 182, 0, 227, 42, 180, 0, 32, 42, 180, 0, 74, 28, 46, 50, 182, 1, 65]
abbrev dktX0_layWorth_3 : List UInt8 := dkwX0_layWorth_3 ++ dktX0_layWorth_4
def dkwX0_layWorth_2 : List UInt8 := [42, 180, 0, 110, 66, 42, 180, 0, 113, 55, 5, 42, 27, 3, 3, 182, 1, 62, 42, 42, 180, 0, 110, 42]
abbrev dktX0_layWorth_2 : List UInt8 := dkwX0_layWorth_2 ++ dktX0_layWorth_3
def dkwX0_layWorth_1 : List UInt8 := [4, 28, 120, 3, 182, 1, 62, 42, 180, 0, 110, 42, 180, 0, 113, 33, 22, 5, 184, 1, 52, 158, 0, 14]
abbrev dktX0_layWorth_1 : List UInt8 := dkwX0_layWorth_1 ++ dktX0_layWorth_2
def dkwX0_layWorth_0 : List UInt8 := [42, 27, 4, 28, 120, 4, 28, 120, 182, 1, 62, 42, 180, 0, 110, 66, 42, 180, 0, 113, 55, 5, 42, 27]
abbrev dktX0_layWorth_0 : List UInt8 := dkwX0_layWorth_0 ++ dktX0_layWorth_1
theorem dksX0_layWorth_0 : cX0_layWorth.data.toList.drop 0 = dktX0_layWorth_0 := by decide +kernel
theorem dksX0_layWorth_1 : cX0_layWorth.data.toList.drop 24 = dktX0_layWorth_1 := dk_seg dksX0_layWorth_0 24 rfl rfl
theorem dksX0_layWorth_2 : cX0_layWorth.data.toList.drop 48 = dktX0_layWorth_2 := dk_seg dksX0_layWorth_1 24 rfl rfl
theorem dksX0_layWorth_3 : cX0_layWorth.data.toList.drop 72 = dktX0_layWorth_3 := dk_seg dksX0_layWorth_2 24 rfl rfl
theorem dksX0_layWorth_4 : cX0_layWorth.data.toList.drop 96 = dktX0_layWorth_4 := dk_seg dksX0_layWorth_3 24 rfl rfl
theorem dX0_layWorth_0 : decode cX0_layWorth 0 = .ok (.aload_n 0, 1) := dk_42 (dk_at dksX0_layWorth_0 0 rfl rfl)
theorem dX0_layWorth_1 : decode cX0_layWorth 1 = .ok (.iload_n 1, 1) := dk_27 (dk_at dksX0_layWorth_0 1 rfl rfl)
theorem dX0_layWorth_2 : decode cX0_layWorth 2 = .ok (.iconst 1, 1) := dk_4 (dk_at dksX0_layWorth_0 2 rfl rfl)
theorem dX0_layWorth_3 : decode cX0_layWorth 3 = .ok (.iload_n 2, 1) := dk_28 (dk_at dksX0_layWorth_0 3 rfl rfl)
theorem dX0_layWorth_4 : decode cX0_layWorth 4 = .ok (.ishl, 1) := dk_120 (dk_at dksX0_layWorth_0 4 rfl rfl)
theorem dX0_layWorth_5 : decode cX0_layWorth 5 = .ok (.iconst 1, 1) := dk_4 (dk_at dksX0_layWorth_0 5 rfl rfl)
theorem dX0_layWorth_6 : decode cX0_layWorth 6 = .ok (.iload_n 2, 1) := dk_28 (dk_at dksX0_layWorth_0 6 rfl rfl)
theorem dX0_layWorth_7 : decode cX0_layWorth 7 = .ok (.ishl, 1) := dk_120 (dk_at dksX0_layWorth_0 7 rfl rfl)
theorem dX0_layWorth_8 : decode cX0_layWorth 8 = .ok (.invokevirtual 318, 3) := dk_182 1 62 (dk_at dksX0_layWorth_0 8 rfl rfl)
theorem dX0_layWorth_11 : decode cX0_layWorth 11 = .ok (.aload_n 0, 1) := dk_42 (dk_at dksX0_layWorth_0 11 rfl rfl)
theorem dX0_layWorth_12 : decode cX0_layWorth 12 = .ok (.getfield 110, 3) := dk_180 0 110 (dk_at dksX0_layWorth_0 12 rfl rfl)
theorem dX0_layWorth_15 : decode cX0_layWorth 15 = .ok (.lstore_n 3, 1) := dk_66 (dk_at dksX0_layWorth_0 15 rfl rfl)
theorem dX0_layWorth_16 : decode cX0_layWorth 16 = .ok (.aload_n 0, 1) := dk_42 (dk_at dksX0_layWorth_0 16 rfl rfl)
theorem dX0_layWorth_17 : decode cX0_layWorth 17 = .ok (.getfield 113, 3) := dk_180 0 113 (dk_at dksX0_layWorth_0 17 rfl rfl)
theorem dX0_layWorth_20 : decode cX0_layWorth 20 = .ok (.lstore 5, 2) := dk_55 5 (dk_at dksX0_layWorth_0 20 rfl rfl)
theorem dX0_layWorth_22 : decode cX0_layWorth 22 = .ok (.aload_n 0, 1) := dk_42 (dk_at dksX0_layWorth_0 22 rfl rfl)
theorem dX0_layWorth_23 : decode cX0_layWorth 23 = .ok (.iload_n 1, 1) := dk_27 (dk_at dksX0_layWorth_0 23 rfl rfl)
theorem dX0_layWorth_24 : decode cX0_layWorth 24 = .ok (.iconst 1, 1) := dk_4 (dk_at dksX0_layWorth_1 0 rfl rfl)
theorem dX0_layWorth_25 : decode cX0_layWorth 25 = .ok (.iload_n 2, 1) := dk_28 (dk_at dksX0_layWorth_1 1 rfl rfl)
theorem dX0_layWorth_26 : decode cX0_layWorth 26 = .ok (.ishl, 1) := dk_120 (dk_at dksX0_layWorth_1 2 rfl rfl)
theorem dX0_layWorth_27 : decode cX0_layWorth 27 = .ok (.iconst 0, 1) := dk_3 (dk_at dksX0_layWorth_1 3 rfl rfl)
theorem dX0_layWorth_28 : decode cX0_layWorth 28 = .ok (.invokevirtual 318, 3) := dk_182 1 62 (dk_at dksX0_layWorth_1 4 rfl rfl)
theorem dX0_layWorth_31 : decode cX0_layWorth 31 = .ok (.aload_n 0, 1) := dk_42 (dk_at dksX0_layWorth_1 7 rfl rfl)
theorem dX0_layWorth_32 : decode cX0_layWorth 32 = .ok (.getfield 110, 3) := dk_180 0 110 (dk_at dksX0_layWorth_1 8 rfl rfl)
theorem dX0_layWorth_35 : decode cX0_layWorth 35 = .ok (.aload_n 0, 1) := dk_42 (dk_at dksX0_layWorth_1 11 rfl rfl)
theorem dX0_layWorth_36 : decode cX0_layWorth 36 = .ok (.getfield 113, 3) := dk_180 0 113 (dk_at dksX0_layWorth_1 12 rfl rfl)
theorem dX0_layWorth_39 : decode cX0_layWorth 39 = .ok (.lload_n 3, 1) := dk_33 (dk_at dksX0_layWorth_1 15 rfl rfl)
theorem dX0_layWorth_40 : decode cX0_layWorth 40 = .ok (.lload 5, 2) := dk_22 5 (dk_at dksX0_layWorth_1 16 rfl rfl)
theorem dX0_layWorth_42 : decode cX0_layWorth 42 = .ok (.invokestatic 308, 3) := dk_184 1 52 (dk_at dksX0_layWorth_1 18 rfl rfl)
theorem dX0_layWorth_45 : decode cX0_layWorth 45 = .ok (.ifCond .le 14, 3) := dk_158 0 14 (dk_at dksX0_layWorth_1 21 rfl rfl)
theorem dX0_layWorth_48 : decode cX0_layWorth 48 = .ok (.aload_n 0, 1) := dk_42 (dk_at dksX0_layWorth_2 0 rfl rfl)
theorem dX0_layWorth_49 : decode cX0_layWorth 49 = .ok (.getfield 110, 3) := dk_180 0 110 (dk_at dksX0_layWorth_2 1 rfl rfl)
theorem dX0_layWorth_52 : decode cX0_layWorth 52 = .ok (.lstore_n 3, 1) := dk_66 (dk_at dksX0_layWorth_2 4 rfl rfl)
theorem dX0_layWorth_53 : decode cX0_layWorth 53 = .ok (.aload_n 0, 1) := dk_42 (dk_at dksX0_layWorth_2 5 rfl rfl)
theorem dX0_layWorth_54 : decode cX0_layWorth 54 = .ok (.getfield 113, 3) := dk_180 0 113 (dk_at dksX0_layWorth_2 6 rfl rfl)
theorem dX0_layWorth_57 : decode cX0_layWorth 57 = .ok (.lstore 5, 2) := dk_55 5 (dk_at dksX0_layWorth_2 9 rfl rfl)
theorem dX0_layWorth_59 : decode cX0_layWorth 59 = .ok (.aload_n 0, 1) := dk_42 (dk_at dksX0_layWorth_2 11 rfl rfl)
theorem dX0_layWorth_60 : decode cX0_layWorth 60 = .ok (.iload_n 1, 1) := dk_27 (dk_at dksX0_layWorth_2 12 rfl rfl)
theorem dX0_layWorth_61 : decode cX0_layWorth 61 = .ok (.iconst 0, 1) := dk_3 (dk_at dksX0_layWorth_2 13 rfl rfl)
theorem dX0_layWorth_62 : decode cX0_layWorth 62 = .ok (.iconst 0, 1) := dk_3 (dk_at dksX0_layWorth_2 14 rfl rfl)
theorem dX0_layWorth_63 : decode cX0_layWorth 63 = .ok (.invokevirtual 318, 3) := dk_182 1 62 (dk_at dksX0_layWorth_2 15 rfl rfl)
theorem dX0_layWorth_66 : decode cX0_layWorth 66 = .ok (.aload_n 0, 1) := dk_42 (dk_at dksX0_layWorth_2 18 rfl rfl)
theorem dX0_layWorth_67 : decode cX0_layWorth 67 = .ok (.aload_n 0, 1) := dk_42 (dk_at dksX0_layWorth_2 19 rfl rfl)
theorem dX0_layWorth_68 : decode cX0_layWorth 68 = .ok (.getfield 110, 3) := dk_180 0 110 (dk_at dksX0_layWorth_2 20 rfl rfl)
theorem dX0_layWorth_71 : decode cX0_layWorth 71 = .ok (.aload_n 0, 1) := dk_42 (dk_at dksX0_layWorth_2 23 rfl rfl)
theorem dX0_layWorth_72 : decode cX0_layWorth 72 = .ok (.getfield 113, 3) := dk_180 0 113 (dk_at dksX0_layWorth_3 0 rfl rfl)
theorem dX0_layWorth_75 : decode cX0_layWorth 75 = .ok (.lload_n 3, 1) := dk_33 (dk_at dksX0_layWorth_3 3 rfl rfl)
theorem dX0_layWorth_76 : decode cX0_layWorth 76 = .ok (.lneg, 1) := dk_117 (dk_at dksX0_layWorth_3 4 rfl rfl)
theorem dX0_layWorth_77 : decode cX0_layWorth 77 = .ok (.lload 5, 2) := dk_22 5 (dk_at dksX0_layWorth_3 5 rfl rfl)
theorem dX0_layWorth_79 : decode cX0_layWorth 79 = .ok (.invokevirtual 227, 3) := dk_182 0 227 (dk_at dksX0_layWorth_3 7 rfl rfl)
theorem dX0_layWorth_82 : decode cX0_layWorth 82 = .ok (.aload_n 0, 1) := dk_42 (dk_at dksX0_layWorth_3 10 rfl rfl)
theorem dX0_layWorth_83 : decode cX0_layWorth 83 = .ok (.getfield 32, 3) := dk_180 0 32 (dk_at dksX0_layWorth_3 11 rfl rfl)
theorem dX0_layWorth_86 : decode cX0_layWorth 86 = .ok (.aload_n 0, 1) := dk_42 (dk_at dksX0_layWorth_3 14 rfl rfl)
theorem dX0_layWorth_87 : decode cX0_layWorth 87 = .ok (.getfield 74, 3) := dk_180 0 74 (dk_at dksX0_layWorth_3 15 rfl rfl)
theorem dX0_layWorth_90 : decode cX0_layWorth 90 = .ok (.iload_n 2, 1) := dk_28 (dk_at dksX0_layWorth_3 18 rfl rfl)
theorem dX0_layWorth_91 : decode cX0_layWorth 91 = .ok (.iaload, 1) := dk_46 (dk_at dksX0_layWorth_3 19 rfl rfl)
theorem dX0_layWorth_92 : decode cX0_layWorth 92 = .ok (.aaload, 1) := dk_50 (dk_at dksX0_layWorth_3 20 rfl rfl)
theorem dX0_layWorth_93 : decode cX0_layWorth 93 = .ok (.invokevirtual 321, 3) := dk_182 1 65 (dk_at dksX0_layWorth_3 21 rfl rfl)
theorem dX0_layWorth_96 : decode cX0_layWorth 96 = .ok (.istore 7, 2) := dk_54 7 (dk_at dksX0_layWorth_4 0 rfl rfl)
theorem dX0_layWorth_98 : decode cX0_layWorth 98 = .ok (.aload_n 0, 1) := dk_42 (dk_at dksX0_layWorth_4 2 rfl rfl)
theorem dX0_layWorth_99 : decode cX0_layWorth 99 = .ok (.aload_n 0, 1) := dk_42 (dk_at dksX0_layWorth_4 3 rfl rfl)
theorem dX0_layWorth_100 : decode cX0_layWorth 100 = .ok (.getfield 110, 3) := dk_180 0 110 (dk_at dksX0_layWorth_4 4 rfl rfl)
theorem dX0_layWorth_103 : decode cX0_layWorth 103 = .ok (.putfield 322, 3) := dk_181 1 66 (dk_at dksX0_layWorth_4 7 rfl rfl)
theorem dX0_layWorth_106 : decode cX0_layWorth 106 = .ok (.aload_n 0, 1) := dk_42 (dk_at dksX0_layWorth_4 10 rfl rfl)
theorem dX0_layWorth_107 : decode cX0_layWorth 107 = .ok (.aload_n 0, 1) := dk_42 (dk_at dksX0_layWorth_4 11 rfl rfl)
theorem dX0_layWorth_108 : decode cX0_layWorth 108 = .ok (.getfield 113, 3) := dk_180 0 113 (dk_at dksX0_layWorth_4 12 rfl rfl)
theorem dX0_layWorth_111 : decode cX0_layWorth 111 = .ok (.iload 7, 2) := dk_21 7 (dk_at dksX0_layWorth_4 15 rfl rfl)
theorem dX0_layWorth_113 : decode cX0_layWorth 113 = .ok (.i2l, 1) := dk_133 (dk_at dksX0_layWorth_4 17 rfl rfl)
theorem dX0_layWorth_114 : decode cX0_layWorth 114 = .ok (.lmul, 1) := dk_105 (dk_at dksX0_layWorth_4 18 rfl rfl)
theorem dX0_layWorth_115 : decode cX0_layWorth 115 = .ok (.putfield 325, 3) := dk_181 1 69 (dk_at dksX0_layWorth_4 19 rfl rfl)
theorem dX0_layWorth_118 : decode cX0_layWorth 118 = .ok (.return_, 1) := dk_177 (dk_at dksX0_layWorth_4 22 rfl rfl)
abbrev cX0_look : ByteArray := prog_1_method_60_code
def yX0_look : MethodName := ⟨RX0, "look", "(I)I"⟩
def dkwX0_look_3 : List UInt8 := [46, 62, 42, 180, 1, 66, 55, 4, 42, 180, 1, 69, 55, 6, 132, 8, 1, 167, 255, 193, 29, 172]
abbrev dktX0_look_3 : List UInt8 := dkwX0_look_3 ++ []
def dkwX0_look_2 : List UInt8 := [42, 180, 1, 66, 42, 180, 1, 69, 22, 4, 22, 6, 184, 1, 52, 158, 0, 23, 42, 180, 0, 74, 21, 8]
abbrev dktX0_look_2 : List UInt8 := dkwX0_look_2 ++ dktX0_look_3
def dkwX0_look_1 : List UInt8 := [54, 8, 21, 8, 42, 180, 1, 39, 162, 0, 60, 42, 27, 21, 8, 182, 1, 72, 29, 16, 247, 159, 0, 21]
abbrev dktX0_look_1 : List UInt8 := dkwX0_look_1 ++ dktX0_look_2
def dkwX0_look_0 : List UInt8 := [42, 4, 27, 182, 1, 55, 61, 28, 156, 0, 5, 28, 172, 16, 247, 62, 9, 55, 4, 10, 55, 6, 3]
abbrev dktX0_look_0 : List UInt8 := dkwX0_look_0 ++ dktX0_look_1
theorem dksX0_look_0 : cX0_look.data.toList.drop 0 = dktX0_look_0 := by decide +kernel
theorem dksX0_look_1 : cX0_look.data.toList.drop 23 = dktX0_look_1 := dk_seg dksX0_look_0 23 rfl rfl
theorem dksX0_look_2 : cX0_look.data.toList.drop 47 = dktX0_look_2 := dk_seg dksX0_look_1 24 rfl rfl
theorem dksX0_look_3 : cX0_look.data.toList.drop 71 = dktX0_look_3 := dk_seg dksX0_look_2 24 rfl rfl
theorem dX0_look_0 : decode cX0_look 0 = .ok (.aload_n 0, 1) := dk_42 (dk_at dksX0_look_0 0 rfl rfl)
theorem dX0_look_1 : decode cX0_look 1 = .ok (.iconst 1, 1) := dk_4 (dk_at dksX0_look_0 1 rfl rfl)
theorem dX0_look_2 : decode cX0_look 2 = .ok (.iload_n 1, 1) := dk_27 (dk_at dksX0_look_0 2 rfl rfl)
theorem dX0_look_3 : decode cX0_look 3 = .ok (.invokevirtual 311, 3) := dk_182 1 55 (dk_at dksX0_look_0 3 rfl rfl)
theorem dX0_look_6 : decode cX0_look 6 = .ok (.istore_n 2, 1) := dk_61 (dk_at dksX0_look_0 6 rfl rfl)
theorem dX0_look_7 : decode cX0_look 7 = .ok (.iload_n 2, 1) := dk_28 (dk_at dksX0_look_0 7 rfl rfl)
theorem dX0_look_8 : decode cX0_look 8 = .ok (.ifCond .ge 5, 3) := dk_156 0 5 (dk_at dksX0_look_0 8 rfl rfl)
theorem dX0_look_11 : decode cX0_look 11 = .ok (.iload_n 2, 1) := dk_28 (dk_at dksX0_look_0 11 rfl rfl)
theorem dX0_look_12 : decode cX0_look 12 = .ok (.ireturn, 1) := dk_172 (dk_at dksX0_look_0 12 rfl rfl)
theorem dX0_look_13 : decode cX0_look 13 = .ok (.bipush (-9), 2) := dk_16 247 (dk_at dksX0_look_0 13 rfl rfl)
theorem dX0_look_15 : decode cX0_look 15 = .ok (.istore_n 3, 1) := dk_62 (dk_at dksX0_look_0 15 rfl rfl)
theorem dX0_look_16 : decode cX0_look 16 = .ok (.lconst 0, 1) := dk_9 (dk_at dksX0_look_0 16 rfl rfl)
theorem dX0_look_17 : decode cX0_look 17 = .ok (.lstore 4, 2) := dk_55 4 (dk_at dksX0_look_0 17 rfl rfl)
theorem dX0_look_19 : decode cX0_look 19 = .ok (.lconst 1, 1) := dk_10 (dk_at dksX0_look_0 19 rfl rfl)
theorem dX0_look_20 : decode cX0_look 20 = .ok (.lstore 6, 2) := dk_55 6 (dk_at dksX0_look_0 20 rfl rfl)
theorem dX0_look_22 : decode cX0_look 22 = .ok (.iconst 0, 1) := dk_3 (dk_at dksX0_look_0 22 rfl rfl)
theorem dX0_look_23 : decode cX0_look 23 = .ok (.istore 8, 2) := dk_54 8 (dk_at dksX0_look_1 0 rfl rfl)
theorem dX0_look_25 : decode cX0_look 25 = .ok (.iload 8, 2) := dk_21 8 (dk_at dksX0_look_1 2 rfl rfl)
theorem dX0_look_27 : decode cX0_look 27 = .ok (.aload_n 0, 1) := dk_42 (dk_at dksX0_look_1 4 rfl rfl)
theorem dX0_look_28 : decode cX0_look 28 = .ok (.getfield 295, 3) := dk_180 1 39 (dk_at dksX0_look_1 5 rfl rfl)
theorem dX0_look_31 : decode cX0_look 31 = .ok (.if_icmp .ge 60, 3) := dk_162 0 60 (dk_at dksX0_look_1 8 rfl rfl)
theorem dX0_look_34 : decode cX0_look 34 = .ok (.aload_n 0, 1) := dk_42 (dk_at dksX0_look_1 11 rfl rfl)
theorem dX0_look_35 : decode cX0_look 35 = .ok (.iload_n 1, 1) := dk_27 (dk_at dksX0_look_1 12 rfl rfl)
theorem dX0_look_36 : decode cX0_look 36 = .ok (.iload 8, 2) := dk_21 8 (dk_at dksX0_look_1 13 rfl rfl)
theorem dX0_look_38 : decode cX0_look 38 = .ok (.invokevirtual 328, 3) := dk_182 1 72 (dk_at dksX0_look_1 15 rfl rfl)
theorem dX0_look_41 : decode cX0_look 41 = .ok (.iload_n 3, 1) := dk_29 (dk_at dksX0_look_1 18 rfl rfl)
theorem dX0_look_42 : decode cX0_look 42 = .ok (.bipush (-9), 2) := dk_16 247 (dk_at dksX0_look_1 19 rfl rfl)
theorem dX0_look_44 : decode cX0_look 44 = .ok (.if_icmp .eq 21, 3) := dk_159 0 21 (dk_at dksX0_look_1 21 rfl rfl)
theorem dX0_look_47 : decode cX0_look 47 = .ok (.aload_n 0, 1) := dk_42 (dk_at dksX0_look_2 0 rfl rfl)
theorem dX0_look_48 : decode cX0_look 48 = .ok (.getfield 322, 3) := dk_180 1 66 (dk_at dksX0_look_2 1 rfl rfl)
theorem dX0_look_51 : decode cX0_look 51 = .ok (.aload_n 0, 1) := dk_42 (dk_at dksX0_look_2 4 rfl rfl)
theorem dX0_look_52 : decode cX0_look 52 = .ok (.getfield 325, 3) := dk_180 1 69 (dk_at dksX0_look_2 5 rfl rfl)
theorem dX0_look_55 : decode cX0_look 55 = .ok (.lload 4, 2) := dk_22 4 (dk_at dksX0_look_2 8 rfl rfl)
theorem dX0_look_57 : decode cX0_look 57 = .ok (.lload 6, 2) := dk_22 6 (dk_at dksX0_look_2 10 rfl rfl)
theorem dX0_look_59 : decode cX0_look 59 = .ok (.invokestatic 308, 3) := dk_184 1 52 (dk_at dksX0_look_2 12 rfl rfl)
theorem dX0_look_62 : decode cX0_look 62 = .ok (.ifCond .le 23, 3) := dk_158 0 23 (dk_at dksX0_look_2 15 rfl rfl)
theorem dX0_look_65 : decode cX0_look 65 = .ok (.aload_n 0, 1) := dk_42 (dk_at dksX0_look_2 18 rfl rfl)
theorem dX0_look_66 : decode cX0_look 66 = .ok (.getfield 74, 3) := dk_180 0 74 (dk_at dksX0_look_2 19 rfl rfl)
theorem dX0_look_69 : decode cX0_look 69 = .ok (.iload 8, 2) := dk_21 8 (dk_at dksX0_look_2 22 rfl rfl)
theorem dX0_look_71 : decode cX0_look 71 = .ok (.iaload, 1) := dk_46 (dk_at dksX0_look_3 0 rfl rfl)
theorem dX0_look_72 : decode cX0_look 72 = .ok (.istore_n 3, 1) := dk_62 (dk_at dksX0_look_3 1 rfl rfl)
theorem dX0_look_73 : decode cX0_look 73 = .ok (.aload_n 0, 1) := dk_42 (dk_at dksX0_look_3 2 rfl rfl)
theorem dX0_look_74 : decode cX0_look 74 = .ok (.getfield 322, 3) := dk_180 1 66 (dk_at dksX0_look_3 3 rfl rfl)
theorem dX0_look_77 : decode cX0_look 77 = .ok (.lstore 4, 2) := dk_55 4 (dk_at dksX0_look_3 6 rfl rfl)
theorem dX0_look_79 : decode cX0_look 79 = .ok (.aload_n 0, 1) := dk_42 (dk_at dksX0_look_3 8 rfl rfl)
theorem dX0_look_80 : decode cX0_look 80 = .ok (.getfield 325, 3) := dk_180 1 69 (dk_at dksX0_look_3 9 rfl rfl)
theorem dX0_look_83 : decode cX0_look 83 = .ok (.lstore 6, 2) := dk_55 6 (dk_at dksX0_look_3 12 rfl rfl)
theorem dX0_look_85 : decode cX0_look 85 = .ok (.iinc 8 1, 3) := dk_132 8 1 (dk_at dksX0_look_3 14 rfl rfl)
theorem dX0_look_88 : decode cX0_look 88 = .ok (.goto (-63), 3) := dk_167 255 193 (dk_at dksX0_look_3 17 rfl rfl)
theorem dX0_look_91 : decode cX0_look 91 = .ok (.iload_n 3, 1) := dk_29 (dk_at dksX0_look_3 20 rfl rfl)
theorem dX0_look_92 : decode cX0_look 92 = .ok (.ireturn, 1) := dk_172 (dk_at dksX0_look_3 21 rfl rfl)
abbrev cX0_estate : ByteArray := prog_1_method_62_code
def yX0_estate : MethodName := ⟨RX0, "estate", "(II)I"⟩
def dkwX0_estate_1 : List UInt8 := [180, 0, 89, 27, 46, 62, 42, 180, 0, 89, 27, 28, 79, 29, 172]
abbrev dktX0_estate_1 : List UInt8 := dkwX0_estate_1 ++ []
def dkwX0_estate_0 : List UInt8 := [42, 27, 182, 1, 16, 153, 0, 14, 28, 3, 19, 1, 76, 184, 0, 128, 154, 0, 5, 2, 172, 42]
abbrev dktX0_estate_0 : List UInt8 := dkwX0_estate_0 ++ dktX0_estate_1
theorem dksX0_estate_0 : cX0_estate.data.toList.drop 0 = dktX0_estate_0 := by decide +kernel
theorem dksX0_estate_1 : cX0_estate.data.toList.drop 22 = dktX0_estate_1 := dk_seg dksX0_estate_0 22 rfl rfl
theorem dX0_estate_0 : decode cX0_estate 0 = .ok (.aload_n 0, 1) := dk_42 (dk_at dksX0_estate_0 0 rfl rfl)
theorem dX0_estate_1 : decode cX0_estate 1 = .ok (.iload_n 1, 1) := dk_27 (dk_at dksX0_estate_0 1 rfl rfl)
theorem dX0_estate_2 : decode cX0_estate 2 = .ok (.invokevirtual 272, 3) := dk_182 1 16 (dk_at dksX0_estate_0 2 rfl rfl)
theorem dX0_estate_5 : decode cX0_estate 5 = .ok (.ifCond .eq 14, 3) := dk_153 0 14 (dk_at dksX0_estate_0 5 rfl rfl)
theorem dX0_estate_8 : decode cX0_estate 8 = .ok (.iload_n 2, 1) := dk_28 (dk_at dksX0_estate_0 8 rfl rfl)
theorem dX0_estate_9 : decode cX0_estate 9 = .ok (.iconst 0, 1) := dk_3 (dk_at dksX0_estate_0 9 rfl rfl)
theorem dX0_estate_10 : decode cX0_estate 10 = .ok (.ldc_w 332, 3) := dk_19 1 76 (dk_at dksX0_estate_0 10 rfl rfl)
theorem dX0_estate_13 : decode cX0_estate 13 = .ok (.invokestatic 128, 3) := dk_184 0 128 (dk_at dksX0_estate_0 13 rfl rfl)
theorem dX0_estate_16 : decode cX0_estate 16 = .ok (.ifCond .ne 5, 3) := dk_154 0 5 (dk_at dksX0_estate_0 16 rfl rfl)
theorem dX0_estate_19 : decode cX0_estate 19 = .ok (.iconst (-1), 1) := dk_2 (dk_at dksX0_estate_0 19 rfl rfl)
theorem dX0_estate_20 : decode cX0_estate 20 = .ok (.ireturn, 1) := dk_172 (dk_at dksX0_estate_0 20 rfl rfl)
theorem dX0_estate_21 : decode cX0_estate 21 = .ok (.aload_n 0, 1) := dk_42 (dk_at dksX0_estate_0 21 rfl rfl)
theorem dX0_estate_22 : decode cX0_estate 22 = .ok (.getfield 89, 3) := dk_180 0 89 (dk_at dksX0_estate_1 0 rfl rfl)
theorem dX0_estate_25 : decode cX0_estate 25 = .ok (.iload_n 1, 1) := dk_27 (dk_at dksX0_estate_1 3 rfl rfl)
theorem dX0_estate_26 : decode cX0_estate 26 = .ok (.iaload, 1) := dk_46 (dk_at dksX0_estate_1 4 rfl rfl)
theorem dX0_estate_27 : decode cX0_estate 27 = .ok (.istore_n 3, 1) := dk_62 (dk_at dksX0_estate_1 5 rfl rfl)
theorem dX0_estate_28 : decode cX0_estate 28 = .ok (.aload_n 0, 1) := dk_42 (dk_at dksX0_estate_1 6 rfl rfl)
theorem dX0_estate_29 : decode cX0_estate 29 = .ok (.getfield 89, 3) := dk_180 0 89 (dk_at dksX0_estate_1 7 rfl rfl)
theorem dX0_estate_32 : decode cX0_estate 32 = .ok (.iload_n 1, 1) := dk_27 (dk_at dksX0_estate_1 10 rfl rfl)
theorem dX0_estate_33 : decode cX0_estate 33 = .ok (.iload_n 2, 1) := dk_28 (dk_at dksX0_estate_1 11 rfl rfl)
theorem dX0_estate_34 : decode cX0_estate 34 = .ok (.iastore, 1) := dk_79 (dk_at dksX0_estate_1 12 rfl rfl)
theorem dX0_estate_35 : decode cX0_estate 35 = .ok (.iload_n 3, 1) := dk_29 (dk_at dksX0_estate_1 13 rfl rfl)
theorem dX0_estate_36 : decode cX0_estate 36 = .ok (.ireturn, 1) := dk_172 (dk_at dksX0_estate_1 14 rfl rfl)
abbrev cX0_pay : ByteArray := prog_1_method_63_code
def yX0_pay : MethodName := ⟨RX0, "pay", "(III)I"⟩
def dkwX0_pay_3 : List UInt8 := [29, 133, 101, 136, 172]
abbrev dktX0_pay_3 : List UInt8 := dkwX0_pay_3 ++ []
def dkwX0_pay_2 : List UInt8 := [148, 156, 0, 6, 16, 252, 172, 42, 180, 0, 92, 16, 24, 27, 104, 28, 96, 92, 46, 29, 96, 79, 22, 4]
abbrev dktX0_pay_2 : List UInt8 := dkwX0_pay_2 ++ dktX0_pay_3
def dkwX0_pay_1 : List UInt8 := [154, 0, 5, 2, 172, 42, 180, 0, 89, 27, 46, 133, 42, 27, 182, 1, 77, 101, 55, 4, 22, 4, 29, 133]
abbrev dktX0_pay_1 : List UInt8 := dkwX0_pay_1 ++ dktX0_pay_2
def dkwX0_pay_0 : List UInt8 := [42, 27, 182, 1, 16, 153, 0, 22, 42, 28, 182, 0, 137, 153, 0, 14, 29, 4, 19, 1, 76, 184, 0, 128]
abbrev dktX0_pay_0 : List UInt8 := dkwX0_pay_0 ++ dktX0_pay_1
theorem dksX0_pay_0 : cX0_pay.data.toList.drop 0 = dktX0_pay_0 := by decide +kernel
theorem dksX0_pay_1 : cX0_pay.data.toList.drop 24 = dktX0_pay_1 := dk_seg dksX0_pay_0 24 rfl rfl
theorem dksX0_pay_2 : cX0_pay.data.toList.drop 48 = dktX0_pay_2 := dk_seg dksX0_pay_1 24 rfl rfl
theorem dksX0_pay_3 : cX0_pay.data.toList.drop 72 = dktX0_pay_3 := dk_seg dksX0_pay_2 24 rfl rfl
theorem dX0_pay_0 : decode cX0_pay 0 = .ok (.aload_n 0, 1) := dk_42 (dk_at dksX0_pay_0 0 rfl rfl)
theorem dX0_pay_1 : decode cX0_pay 1 = .ok (.iload_n 1, 1) := dk_27 (dk_at dksX0_pay_0 1 rfl rfl)
theorem dX0_pay_2 : decode cX0_pay 2 = .ok (.invokevirtual 272, 3) := dk_182 1 16 (dk_at dksX0_pay_0 2 rfl rfl)
theorem dX0_pay_5 : decode cX0_pay 5 = .ok (.ifCond .eq 22, 3) := dk_153 0 22 (dk_at dksX0_pay_0 5 rfl rfl)
theorem dX0_pay_8 : decode cX0_pay 8 = .ok (.aload_n 0, 1) := dk_42 (dk_at dksX0_pay_0 8 rfl rfl)
theorem dX0_pay_9 : decode cX0_pay 9 = .ok (.iload_n 2, 1) := dk_28 (dk_at dksX0_pay_0 9 rfl rfl)
theorem dX0_pay_10 : decode cX0_pay 10 = .ok (.invokevirtual 137, 3) := dk_182 0 137 (dk_at dksX0_pay_0 10 rfl rfl)
theorem dX0_pay_13 : decode cX0_pay 13 = .ok (.ifCond .eq 14, 3) := dk_153 0 14 (dk_at dksX0_pay_0 13 rfl rfl)
theorem dX0_pay_16 : decode cX0_pay 16 = .ok (.iload_n 3, 1) := dk_29 (dk_at dksX0_pay_0 16 rfl rfl)
theorem dX0_pay_17 : decode cX0_pay 17 = .ok (.iconst 1, 1) := dk_4 (dk_at dksX0_pay_0 17 rfl rfl)
theorem dX0_pay_18 : decode cX0_pay 18 = .ok (.ldc_w 332, 3) := dk_19 1 76 (dk_at dksX0_pay_0 18 rfl rfl)
theorem dX0_pay_21 : decode cX0_pay 21 = .ok (.invokestatic 128, 3) := dk_184 0 128 (dk_at dksX0_pay_0 21 rfl rfl)
theorem dX0_pay_24 : decode cX0_pay 24 = .ok (.ifCond .ne 5, 3) := dk_154 0 5 (dk_at dksX0_pay_1 0 rfl rfl)
theorem dX0_pay_27 : decode cX0_pay 27 = .ok (.iconst (-1), 1) := dk_2 (dk_at dksX0_pay_1 3 rfl rfl)
theorem dX0_pay_28 : decode cX0_pay 28 = .ok (.ireturn, 1) := dk_172 (dk_at dksX0_pay_1 4 rfl rfl)
theorem dX0_pay_29 : decode cX0_pay 29 = .ok (.aload_n 0, 1) := dk_42 (dk_at dksX0_pay_1 5 rfl rfl)
theorem dX0_pay_30 : decode cX0_pay 30 = .ok (.getfield 89, 3) := dk_180 0 89 (dk_at dksX0_pay_1 6 rfl rfl)
theorem dX0_pay_33 : decode cX0_pay 33 = .ok (.iload_n 1, 1) := dk_27 (dk_at dksX0_pay_1 9 rfl rfl)
theorem dX0_pay_34 : decode cX0_pay 34 = .ok (.iaload, 1) := dk_46 (dk_at dksX0_pay_1 10 rfl rfl)
theorem dX0_pay_35 : decode cX0_pay 35 = .ok (.i2l, 1) := dk_133 (dk_at dksX0_pay_1 11 rfl rfl)
theorem dX0_pay_36 : decode cX0_pay 36 = .ok (.aload_n 0, 1) := dk_42 (dk_at dksX0_pay_1 12 rfl rfl)
theorem dX0_pay_37 : decode cX0_pay 37 = .ok (.iload_n 1, 1) := dk_27 (dk_at dksX0_pay_1 13 rfl rfl)
theorem dX0_pay_38 : decode cX0_pay 38 = .ok (.invokevirtual 333, 3) := dk_182 1 77 (dk_at dksX0_pay_1 14 rfl rfl)
theorem dX0_pay_41 : decode cX0_pay 41 = .ok (.lsub, 1) := dk_101 (dk_at dksX0_pay_1 17 rfl rfl)
theorem dX0_pay_42 : decode cX0_pay 42 = .ok (.lstore 4, 2) := dk_55 4 (dk_at dksX0_pay_1 18 rfl rfl)
theorem dX0_pay_44 : decode cX0_pay 44 = .ok (.lload 4, 2) := dk_22 4 (dk_at dksX0_pay_1 20 rfl rfl)
theorem dX0_pay_46 : decode cX0_pay 46 = .ok (.iload_n 3, 1) := dk_29 (dk_at dksX0_pay_1 22 rfl rfl)
theorem dX0_pay_47 : decode cX0_pay 47 = .ok (.i2l, 1) := dk_133 (dk_at dksX0_pay_1 23 rfl rfl)
theorem dX0_pay_48 : decode cX0_pay 48 = .ok (.lcmp, 1) := dk_148 (dk_at dksX0_pay_2 0 rfl rfl)
theorem dX0_pay_49 : decode cX0_pay 49 = .ok (.ifCond .ge 6, 3) := dk_156 0 6 (dk_at dksX0_pay_2 1 rfl rfl)
theorem dX0_pay_52 : decode cX0_pay 52 = .ok (.bipush (-4), 2) := dk_16 252 (dk_at dksX0_pay_2 4 rfl rfl)
theorem dX0_pay_54 : decode cX0_pay 54 = .ok (.ireturn, 1) := dk_172 (dk_at dksX0_pay_2 6 rfl rfl)
theorem dX0_pay_55 : decode cX0_pay 55 = .ok (.aload_n 0, 1) := dk_42 (dk_at dksX0_pay_2 7 rfl rfl)
theorem dX0_pay_56 : decode cX0_pay 56 = .ok (.getfield 92, 3) := dk_180 0 92 (dk_at dksX0_pay_2 8 rfl rfl)
theorem dX0_pay_59 : decode cX0_pay 59 = .ok (.bipush 24, 2) := dk_16 24 (dk_at dksX0_pay_2 11 rfl rfl)
theorem dX0_pay_61 : decode cX0_pay 61 = .ok (.iload_n 1, 1) := dk_27 (dk_at dksX0_pay_2 13 rfl rfl)
theorem dX0_pay_62 : decode cX0_pay 62 = .ok (.imul, 1) := dk_104 (dk_at dksX0_pay_2 14 rfl rfl)
theorem dX0_pay_63 : decode cX0_pay 63 = .ok (.iload_n 2, 1) := dk_28 (dk_at dksX0_pay_2 15 rfl rfl)
theorem dX0_pay_64 : decode cX0_pay 64 = .ok (.iadd, 1) := dk_96 (dk_at dksX0_pay_2 16 rfl rfl)
theorem dX0_pay_65 : decode cX0_pay 65 = .ok (.dup2, 1) := dk_92 (dk_at dksX0_pay_2 17 rfl rfl)
theorem dX0_pay_66 : decode cX0_pay 66 = .ok (.iaload, 1) := dk_46 (dk_at dksX0_pay_2 18 rfl rfl)
theorem dX0_pay_67 : decode cX0_pay 67 = .ok (.iload_n 3, 1) := dk_29 (dk_at dksX0_pay_2 19 rfl rfl)
theorem dX0_pay_68 : decode cX0_pay 68 = .ok (.iadd, 1) := dk_96 (dk_at dksX0_pay_2 20 rfl rfl)
theorem dX0_pay_69 : decode cX0_pay 69 = .ok (.iastore, 1) := dk_79 (dk_at dksX0_pay_2 21 rfl rfl)
theorem dX0_pay_70 : decode cX0_pay 70 = .ok (.lload 4, 2) := dk_22 4 (dk_at dksX0_pay_2 22 rfl rfl)
theorem dX0_pay_72 : decode cX0_pay 72 = .ok (.iload_n 3, 1) := dk_29 (dk_at dksX0_pay_3 0 rfl rfl)
theorem dX0_pay_73 : decode cX0_pay 73 = .ok (.i2l, 1) := dk_133 (dk_at dksX0_pay_3 1 rfl rfl)
theorem dX0_pay_74 : decode cX0_pay 74 = .ok (.lsub, 1) := dk_101 (dk_at dksX0_pay_3 2 rfl rfl)
theorem dX0_pay_75 : decode cX0_pay 75 = .ok (.l2i, 1) := dk_136 (dk_at dksX0_pay_3 3 rfl rfl)
theorem dX0_pay_76 : decode cX0_pay 76 = .ok (.ireturn, 1) := dk_172 (dk_at dksX0_pay_3 4 rfl rfl)
abbrev cX0_paidOf : ByteArray := prog_1_method_61_code
def yX0_paidOf : MethodName := ⟨RX0, "paidOf", "(I)J"⟩
def dkwX0_paidOf_1 : List UInt8 := [46, 133, 97, 65, 132, 4, 1, 167, 255, 230, 32, 173]
abbrev dktX0_paidOf_1 : List UInt8 := dkwX0_paidOf_1 ++ []
def dkwX0_paidOf_0 : List UInt8 := [9, 65, 3, 54, 4, 21, 4, 16, 24, 162, 0, 25, 32, 42, 180, 0, 92, 16, 24, 27, 104, 21, 4, 96]
abbrev dktX0_paidOf_0 : List UInt8 := dkwX0_paidOf_0 ++ dktX0_paidOf_1
theorem dksX0_paidOf_0 : cX0_paidOf.data.toList.drop 0 = dktX0_paidOf_0 := by decide +kernel
theorem dksX0_paidOf_1 : cX0_paidOf.data.toList.drop 24 = dktX0_paidOf_1 := dk_seg dksX0_paidOf_0 24 rfl rfl
theorem dX0_paidOf_0 : decode cX0_paidOf 0 = .ok (.lconst 0, 1) := dk_9 (dk_at dksX0_paidOf_0 0 rfl rfl)
theorem dX0_paidOf_1 : decode cX0_paidOf 1 = .ok (.lstore_n 2, 1) := dk_65 (dk_at dksX0_paidOf_0 1 rfl rfl)
theorem dX0_paidOf_2 : decode cX0_paidOf 2 = .ok (.iconst 0, 1) := dk_3 (dk_at dksX0_paidOf_0 2 rfl rfl)
theorem dX0_paidOf_3 : decode cX0_paidOf 3 = .ok (.istore 4, 2) := dk_54 4 (dk_at dksX0_paidOf_0 3 rfl rfl)
theorem dX0_paidOf_5 : decode cX0_paidOf 5 = .ok (.iload 4, 2) := dk_21 4 (dk_at dksX0_paidOf_0 5 rfl rfl)
theorem dX0_paidOf_7 : decode cX0_paidOf 7 = .ok (.bipush 24, 2) := dk_16 24 (dk_at dksX0_paidOf_0 7 rfl rfl)
theorem dX0_paidOf_9 : decode cX0_paidOf 9 = .ok (.if_icmp .ge 25, 3) := dk_162 0 25 (dk_at dksX0_paidOf_0 9 rfl rfl)
theorem dX0_paidOf_12 : decode cX0_paidOf 12 = .ok (.lload_n 2, 1) := dk_32 (dk_at dksX0_paidOf_0 12 rfl rfl)
theorem dX0_paidOf_13 : decode cX0_paidOf 13 = .ok (.aload_n 0, 1) := dk_42 (dk_at dksX0_paidOf_0 13 rfl rfl)
theorem dX0_paidOf_14 : decode cX0_paidOf 14 = .ok (.getfield 92, 3) := dk_180 0 92 (dk_at dksX0_paidOf_0 14 rfl rfl)
theorem dX0_paidOf_17 : decode cX0_paidOf 17 = .ok (.bipush 24, 2) := dk_16 24 (dk_at dksX0_paidOf_0 17 rfl rfl)
theorem dX0_paidOf_19 : decode cX0_paidOf 19 = .ok (.iload_n 1, 1) := dk_27 (dk_at dksX0_paidOf_0 19 rfl rfl)
theorem dX0_paidOf_20 : decode cX0_paidOf 20 = .ok (.imul, 1) := dk_104 (dk_at dksX0_paidOf_0 20 rfl rfl)
theorem dX0_paidOf_21 : decode cX0_paidOf 21 = .ok (.iload 4, 2) := dk_21 4 (dk_at dksX0_paidOf_0 21 rfl rfl)
theorem dX0_paidOf_23 : decode cX0_paidOf 23 = .ok (.iadd, 1) := dk_96 (dk_at dksX0_paidOf_0 23 rfl rfl)
theorem dX0_paidOf_24 : decode cX0_paidOf 24 = .ok (.iaload, 1) := dk_46 (dk_at dksX0_paidOf_1 0 rfl rfl)
theorem dX0_paidOf_25 : decode cX0_paidOf 25 = .ok (.i2l, 1) := dk_133 (dk_at dksX0_paidOf_1 1 rfl rfl)
theorem dX0_paidOf_26 : decode cX0_paidOf 26 = .ok (.ladd, 1) := dk_97 (dk_at dksX0_paidOf_1 2 rfl rfl)
theorem dX0_paidOf_27 : decode cX0_paidOf 27 = .ok (.lstore_n 2, 1) := dk_65 (dk_at dksX0_paidOf_1 3 rfl rfl)
theorem dX0_paidOf_28 : decode cX0_paidOf 28 = .ok (.iinc 4 1, 3) := dk_132 4 1 (dk_at dksX0_paidOf_1 4 rfl rfl)
theorem dX0_paidOf_31 : decode cX0_paidOf 31 = .ok (.goto (-26), 3) := dk_167 255 230 (dk_at dksX0_paidOf_1 7 rfl rfl)
theorem dX0_paidOf_34 : decode cX0_paidOf 34 = .ok (.lload_n 2, 1) := dk_32 (dk_at dksX0_paidOf_1 10 rfl rfl)
theorem dX0_paidOf_35 : decode cX0_paidOf 35 = .ok (.lreturn, 1) := dk_173 (dk_at dksX0_paidOf_1 11 rfl rfl)
abbrev cX0_due : ByteArray := prog_1_method_65_code
def yX0_due : MethodName := ⟨RX0, "due", "(II)I"⟩
def dkwX0_due_1 : List UInt8 := [182, 1, 81, 136, 172]
abbrev dktX0_due_1 : List UInt8 := dkwX0_due_1 ++ []
def dkwX0_due_0 : List UInt8 := [42, 42, 28, 182, 0, 137, 27, 182, 1, 19, 62, 29, 156, 0, 7, 29, 167, 0, 10, 42, 27, 28]
abbrev dktX0_due_0 : List UInt8 := dkwX0_due_0 ++ dktX0_due_1
theorem dksX0_due_0 : cX0_due.data.toList.drop 0 = dktX0_due_0 := by decide +kernel
theorem dksX0_due_1 : cX0_due.data.toList.drop 22 = dktX0_due_1 := dk_seg dksX0_due_0 22 rfl rfl
theorem dX0_due_0 : decode cX0_due 0 = .ok (.aload_n 0, 1) := dk_42 (dk_at dksX0_due_0 0 rfl rfl)
theorem dX0_due_1 : decode cX0_due 1 = .ok (.aload_n 0, 1) := dk_42 (dk_at dksX0_due_0 1 rfl rfl)
theorem dX0_due_2 : decode cX0_due 2 = .ok (.iload_n 2, 1) := dk_28 (dk_at dksX0_due_0 2 rfl rfl)
theorem dX0_due_3 : decode cX0_due 3 = .ok (.invokevirtual 137, 3) := dk_182 0 137 (dk_at dksX0_due_0 3 rfl rfl)
theorem dX0_due_6 : decode cX0_due 6 = .ok (.iload_n 1, 1) := dk_27 (dk_at dksX0_due_0 6 rfl rfl)
theorem dX0_due_7 : decode cX0_due 7 = .ok (.invokevirtual 275, 3) := dk_182 1 19 (dk_at dksX0_due_0 7 rfl rfl)
theorem dX0_due_10 : decode cX0_due 10 = .ok (.istore_n 3, 1) := dk_62 (dk_at dksX0_due_0 10 rfl rfl)
theorem dX0_due_11 : decode cX0_due 11 = .ok (.iload_n 3, 1) := dk_29 (dk_at dksX0_due_0 11 rfl rfl)
theorem dX0_due_12 : decode cX0_due 12 = .ok (.ifCond .ge 7, 3) := dk_156 0 7 (dk_at dksX0_due_0 12 rfl rfl)
theorem dX0_due_15 : decode cX0_due 15 = .ok (.iload_n 3, 1) := dk_29 (dk_at dksX0_due_0 15 rfl rfl)
theorem dX0_due_16 : decode cX0_due 16 = .ok (.goto 10, 3) := dk_167 0 10 (dk_at dksX0_due_0 16 rfl rfl)
theorem dX0_due_19 : decode cX0_due 19 = .ok (.aload_n 0, 1) := dk_42 (dk_at dksX0_due_0 19 rfl rfl)
theorem dX0_due_20 : decode cX0_due 20 = .ok (.iload_n 1, 1) := dk_27 (dk_at dksX0_due_0 20 rfl rfl)
theorem dX0_due_21 : decode cX0_due 21 = .ok (.iload_n 2, 1) := dk_28 (dk_at dksX0_due_0 21 rfl rfl)
theorem dX0_due_22 : decode cX0_due 22 = .ok (.invokevirtual 337, 3) := dk_182 1 81 (dk_at dksX0_due_1 0 rfl rfl)
theorem dX0_due_25 : decode cX0_due 25 = .ok (.l2i, 1) := dk_136 (dk_at dksX0_due_1 3 rfl rfl)
theorem dX0_due_26 : decode cX0_due 26 = .ok (.ireturn, 1) := dk_172 (dk_at dksX0_due_1 4 rfl rfl)
abbrev cX0_dueOf : ByteArray := prog_1_method_64_code
def yX0_dueOf : MethodName := ⟨RX0, "dueOf", "(II)J"⟩
def dkwX0_dueOf_1 : List UInt8 := [42, 180, 0, 59, 28, 47, 109, 173]
abbrev dktX0_dueOf_1 : List UInt8 := dkwX0_dueOf_1 ++ []
def dkwX0_dueOf_0 : List UInt8 := [42, 3, 182, 1, 26, 42, 27, 182, 1, 30, 42, 180, 0, 89, 27, 46, 133, 42, 180, 0, 55, 28, 47, 105]
abbrev dktX0_dueOf_0 : List UInt8 := dkwX0_dueOf_0 ++ dktX0_dueOf_1
theorem dksX0_dueOf_0 : cX0_dueOf.data.toList.drop 0 = dktX0_dueOf_0 := by decide +kernel
theorem dksX0_dueOf_1 : cX0_dueOf.data.toList.drop 24 = dktX0_dueOf_1 := dk_seg dksX0_dueOf_0 24 rfl rfl
theorem dX0_dueOf_0 : decode cX0_dueOf 0 = .ok (.aload_n 0, 1) := dk_42 (dk_at dksX0_dueOf_0 0 rfl rfl)
theorem dX0_dueOf_1 : decode cX0_dueOf 1 = .ok (.iconst 0, 1) := dk_3 (dk_at dksX0_dueOf_0 1 rfl rfl)
theorem dX0_dueOf_2 : decode cX0_dueOf 2 = .ok (.invokevirtual 282, 3) := dk_182 1 26 (dk_at dksX0_dueOf_0 2 rfl rfl)
theorem dX0_dueOf_5 : decode cX0_dueOf 5 = .ok (.aload_n 0, 1) := dk_42 (dk_at dksX0_dueOf_0 5 rfl rfl)
theorem dX0_dueOf_6 : decode cX0_dueOf 6 = .ok (.iload_n 1, 1) := dk_27 (dk_at dksX0_dueOf_0 6 rfl rfl)
theorem dX0_dueOf_7 : decode cX0_dueOf 7 = .ok (.invokevirtual 286, 3) := dk_182 1 30 (dk_at dksX0_dueOf_0 7 rfl rfl)
theorem dX0_dueOf_10 : decode cX0_dueOf 10 = .ok (.aload_n 0, 1) := dk_42 (dk_at dksX0_dueOf_0 10 rfl rfl)
theorem dX0_dueOf_11 : decode cX0_dueOf 11 = .ok (.getfield 89, 3) := dk_180 0 89 (dk_at dksX0_dueOf_0 11 rfl rfl)
theorem dX0_dueOf_14 : decode cX0_dueOf 14 = .ok (.iload_n 1, 1) := dk_27 (dk_at dksX0_dueOf_0 14 rfl rfl)
theorem dX0_dueOf_15 : decode cX0_dueOf 15 = .ok (.iaload, 1) := dk_46 (dk_at dksX0_dueOf_0 15 rfl rfl)
theorem dX0_dueOf_16 : decode cX0_dueOf 16 = .ok (.i2l, 1) := dk_133 (dk_at dksX0_dueOf_0 16 rfl rfl)
theorem dX0_dueOf_17 : decode cX0_dueOf 17 = .ok (.aload_n 0, 1) := dk_42 (dk_at dksX0_dueOf_0 17 rfl rfl)
theorem dX0_dueOf_18 : decode cX0_dueOf 18 = .ok (.getfield 55, 3) := dk_180 0 55 (dk_at dksX0_dueOf_0 18 rfl rfl)
theorem dX0_dueOf_21 : decode cX0_dueOf 21 = .ok (.iload_n 2, 1) := dk_28 (dk_at dksX0_dueOf_0 21 rfl rfl)
theorem dX0_dueOf_22 : decode cX0_dueOf 22 = .ok (.laload, 1) := dk_47 (dk_at dksX0_dueOf_0 22 rfl rfl)
theorem dX0_dueOf_23 : decode cX0_dueOf 23 = .ok (.lmul, 1) := dk_105 (dk_at dksX0_dueOf_0 23 rfl rfl)
theorem dX0_dueOf_24 : decode cX0_dueOf 24 = .ok (.aload_n 0, 1) := dk_42 (dk_at dksX0_dueOf_1 0 rfl rfl)
theorem dX0_dueOf_25 : decode cX0_dueOf 25 = .ok (.getfield 59, 3) := dk_180 0 59 (dk_at dksX0_dueOf_1 1 rfl rfl)
theorem dX0_dueOf_28 : decode cX0_dueOf 28 = .ok (.iload_n 2, 1) := dk_28 (dk_at dksX0_dueOf_1 4 rfl rfl)
theorem dX0_dueOf_29 : decode cX0_dueOf 29 = .ok (.laload, 1) := dk_47 (dk_at dksX0_dueOf_1 5 rfl rfl)
theorem dX0_dueOf_30 : decode cX0_dueOf 30 = .ok (.ldiv, 1) := dk_109 (dk_at dksX0_dueOf_1 6 rfl rfl)
theorem dX0_dueOf_31 : decode cX0_dueOf 31 = .ok (.lreturn, 1) := dk_173 (dk_at dksX0_dueOf_1 7 rfl rfl)
abbrev cX0_paid : ByteArray := prog_1_method_66_code
def yX0_paid : MethodName := ⟨RX0, "paid", "(II)I"⟩
def dkwX0_paid_1 : List UInt8 := [28, 96, 46, 167, 0, 4, 2, 172]
abbrev dktX0_paid_1 : List UInt8 := dkwX0_paid_1 ++ []
def dkwX0_paid_0 : List UInt8 := [42, 27, 182, 1, 16, 153, 0, 25, 42, 28, 182, 0, 137, 153, 0, 17, 42, 180, 0, 92, 16, 24, 27, 104]
abbrev dktX0_paid_0 : List UInt8 := dkwX0_paid_0 ++ dktX0_paid_1
theorem dksX0_paid_0 : cX0_paid.data.toList.drop 0 = dktX0_paid_0 := by decide +kernel
theorem dksX0_paid_1 : cX0_paid.data.toList.drop 24 = dktX0_paid_1 := dk_seg dksX0_paid_0 24 rfl rfl
theorem dX0_paid_0 : decode cX0_paid 0 = .ok (.aload_n 0, 1) := dk_42 (dk_at dksX0_paid_0 0 rfl rfl)
theorem dX0_paid_1 : decode cX0_paid 1 = .ok (.iload_n 1, 1) := dk_27 (dk_at dksX0_paid_0 1 rfl rfl)
theorem dX0_paid_2 : decode cX0_paid 2 = .ok (.invokevirtual 272, 3) := dk_182 1 16 (dk_at dksX0_paid_0 2 rfl rfl)
theorem dX0_paid_5 : decode cX0_paid 5 = .ok (.ifCond .eq 25, 3) := dk_153 0 25 (dk_at dksX0_paid_0 5 rfl rfl)
theorem dX0_paid_8 : decode cX0_paid 8 = .ok (.aload_n 0, 1) := dk_42 (dk_at dksX0_paid_0 8 rfl rfl)
theorem dX0_paid_9 : decode cX0_paid 9 = .ok (.iload_n 2, 1) := dk_28 (dk_at dksX0_paid_0 9 rfl rfl)
theorem dX0_paid_10 : decode cX0_paid 10 = .ok (.invokevirtual 137, 3) := dk_182 0 137 (dk_at dksX0_paid_0 10 rfl rfl)
theorem dX0_paid_13 : decode cX0_paid 13 = .ok (.ifCond .eq 17, 3) := dk_153 0 17 (dk_at dksX0_paid_0 13 rfl rfl)
theorem dX0_paid_16 : decode cX0_paid 16 = .ok (.aload_n 0, 1) := dk_42 (dk_at dksX0_paid_0 16 rfl rfl)
theorem dX0_paid_17 : decode cX0_paid 17 = .ok (.getfield 92, 3) := dk_180 0 92 (dk_at dksX0_paid_0 17 rfl rfl)
theorem dX0_paid_20 : decode cX0_paid 20 = .ok (.bipush 24, 2) := dk_16 24 (dk_at dksX0_paid_0 20 rfl rfl)
theorem dX0_paid_22 : decode cX0_paid 22 = .ok (.iload_n 1, 1) := dk_27 (dk_at dksX0_paid_0 22 rfl rfl)
theorem dX0_paid_23 : decode cX0_paid 23 = .ok (.imul, 1) := dk_104 (dk_at dksX0_paid_0 23 rfl rfl)
theorem dX0_paid_24 : decode cX0_paid 24 = .ok (.iload_n 2, 1) := dk_28 (dk_at dksX0_paid_1 0 rfl rfl)
theorem dX0_paid_25 : decode cX0_paid 25 = .ok (.iadd, 1) := dk_96 (dk_at dksX0_paid_1 1 rfl rfl)
theorem dX0_paid_26 : decode cX0_paid 26 = .ok (.iaload, 1) := dk_46 (dk_at dksX0_paid_1 2 rfl rfl)
theorem dX0_paid_27 : decode cX0_paid 27 = .ok (.goto 4, 3) := dk_167 0 4 (dk_at dksX0_paid_1 3 rfl rfl)
theorem dX0_paid_30 : decode cX0_paid 30 = .ok (.iconst (-1), 1) := dk_2 (dk_at dksX0_paid_1 6 rfl rfl)
theorem dX0_paid_31 : decode cX0_paid 31 = .ok (.ireturn, 1) := dk_172 (dk_at dksX0_paid_1 7 rfl rfl)
abbrev cX0_owes : ByteArray := prog_1_method_67_code
def yX0_owes : MethodName := ⟨RX0, "owes", "(II)I"⟩
def dkwX0_owes_1 : List UInt8 := [16, 24, 27, 104, 28, 96, 46, 133, 42, 27, 28, 182, 1, 81, 101, 184, 1, 85, 136, 172]
abbrev dktX0_owes_1 : List UInt8 := dkwX0_owes_1 ++ []
def dkwX0_owes_0 : List UInt8 := [42, 42, 28, 182, 0, 137, 27, 182, 1, 19, 62, 29, 156, 0, 7, 29, 167, 0, 27, 9, 42, 180, 0, 92]
abbrev dktX0_owes_0 : List UInt8 := dkwX0_owes_0 ++ dktX0_owes_1
theorem dksX0_owes_0 : cX0_owes.data.toList.drop 0 = dktX0_owes_0 := by decide +kernel
theorem dksX0_owes_1 : cX0_owes.data.toList.drop 24 = dktX0_owes_1 := dk_seg dksX0_owes_0 24 rfl rfl
theorem dX0_owes_0 : decode cX0_owes 0 = .ok (.aload_n 0, 1) := dk_42 (dk_at dksX0_owes_0 0 rfl rfl)
theorem dX0_owes_1 : decode cX0_owes 1 = .ok (.aload_n 0, 1) := dk_42 (dk_at dksX0_owes_0 1 rfl rfl)
theorem dX0_owes_2 : decode cX0_owes 2 = .ok (.iload_n 2, 1) := dk_28 (dk_at dksX0_owes_0 2 rfl rfl)
theorem dX0_owes_3 : decode cX0_owes 3 = .ok (.invokevirtual 137, 3) := dk_182 0 137 (dk_at dksX0_owes_0 3 rfl rfl)
theorem dX0_owes_6 : decode cX0_owes 6 = .ok (.iload_n 1, 1) := dk_27 (dk_at dksX0_owes_0 6 rfl rfl)
theorem dX0_owes_7 : decode cX0_owes 7 = .ok (.invokevirtual 275, 3) := dk_182 1 19 (dk_at dksX0_owes_0 7 rfl rfl)
theorem dX0_owes_10 : decode cX0_owes 10 = .ok (.istore_n 3, 1) := dk_62 (dk_at dksX0_owes_0 10 rfl rfl)
theorem dX0_owes_11 : decode cX0_owes 11 = .ok (.iload_n 3, 1) := dk_29 (dk_at dksX0_owes_0 11 rfl rfl)
theorem dX0_owes_12 : decode cX0_owes 12 = .ok (.ifCond .ge 7, 3) := dk_156 0 7 (dk_at dksX0_owes_0 12 rfl rfl)
theorem dX0_owes_15 : decode cX0_owes 15 = .ok (.iload_n 3, 1) := dk_29 (dk_at dksX0_owes_0 15 rfl rfl)
theorem dX0_owes_16 : decode cX0_owes 16 = .ok (.goto 27, 3) := dk_167 0 27 (dk_at dksX0_owes_0 16 rfl rfl)
theorem dX0_owes_19 : decode cX0_owes 19 = .ok (.lconst 0, 1) := dk_9 (dk_at dksX0_owes_0 19 rfl rfl)
theorem dX0_owes_20 : decode cX0_owes 20 = .ok (.aload_n 0, 1) := dk_42 (dk_at dksX0_owes_0 20 rfl rfl)
theorem dX0_owes_21 : decode cX0_owes 21 = .ok (.getfield 92, 3) := dk_180 0 92 (dk_at dksX0_owes_0 21 rfl rfl)
theorem dX0_owes_24 : decode cX0_owes 24 = .ok (.bipush 24, 2) := dk_16 24 (dk_at dksX0_owes_1 0 rfl rfl)
theorem dX0_owes_26 : decode cX0_owes 26 = .ok (.iload_n 1, 1) := dk_27 (dk_at dksX0_owes_1 2 rfl rfl)
theorem dX0_owes_27 : decode cX0_owes 27 = .ok (.imul, 1) := dk_104 (dk_at dksX0_owes_1 3 rfl rfl)
theorem dX0_owes_28 : decode cX0_owes 28 = .ok (.iload_n 2, 1) := dk_28 (dk_at dksX0_owes_1 4 rfl rfl)
theorem dX0_owes_29 : decode cX0_owes 29 = .ok (.iadd, 1) := dk_96 (dk_at dksX0_owes_1 5 rfl rfl)
theorem dX0_owes_30 : decode cX0_owes 30 = .ok (.iaload, 1) := dk_46 (dk_at dksX0_owes_1 6 rfl rfl)
theorem dX0_owes_31 : decode cX0_owes 31 = .ok (.i2l, 1) := dk_133 (dk_at dksX0_owes_1 7 rfl rfl)
theorem dX0_owes_32 : decode cX0_owes 32 = .ok (.aload_n 0, 1) := dk_42 (dk_at dksX0_owes_1 8 rfl rfl)
theorem dX0_owes_33 : decode cX0_owes 33 = .ok (.iload_n 1, 1) := dk_27 (dk_at dksX0_owes_1 9 rfl rfl)
theorem dX0_owes_34 : decode cX0_owes 34 = .ok (.iload_n 2, 1) := dk_28 (dk_at dksX0_owes_1 10 rfl rfl)
theorem dX0_owes_35 : decode cX0_owes 35 = .ok (.invokevirtual 337, 3) := dk_182 1 81 (dk_at dksX0_owes_1 11 rfl rfl)
theorem dX0_owes_38 : decode cX0_owes 38 = .ok (.lsub, 1) := dk_101 (dk_at dksX0_owes_1 14 rfl rfl)
theorem dX0_owes_39 : decode cX0_owes 39 = .ok (.invokestatic 341, 3) := dk_184 1 85 (dk_at dksX0_owes_1 15 rfl rfl)
theorem dX0_owes_42 : decode cX0_owes 42 = .ok (.l2i, 1) := dk_136 (dk_at dksX0_owes_1 18 rfl rfl)
theorem dX0_owes_43 : decode cX0_owes 43 = .ok (.ireturn, 1) := dk_172 (dk_at dksX0_owes_1 19 rfl rfl)
abbrev cX0_mean : ByteArray := prog_1_method_68_code
def yX0_mean : MethodName := ⟨RX0, "mean", "(I)I"⟩
def dkwX0_mean_2 : List UInt8 := [167, 255, 225, 42, 27, 182, 1, 77, 28, 133, 109, 136, 172, 78, 42, 7, 182, 0, 195, 172]
abbrev dktX0_mean_2 : List UInt8 := dkwX0_mean_2 ++ []
def dkwX0_mean_1 : List UInt8 := [180, 0, 92, 16, 24, 27, 104, 29, 96, 46, 158, 0, 7, 4, 167, 0, 4, 3, 96, 61, 132, 3, 1]
abbrev dktX0_mean_1 : List UInt8 := dkwX0_mean_1 ++ dktX0_mean_2
def dkwX0_mean_0 : List UInt8 := [42, 27, 182, 1, 16, 154, 0, 5, 2, 172, 3, 61, 3, 62, 29, 16, 24, 162, 0, 31, 28, 42]
abbrev dktX0_mean_0 : List UInt8 := dkwX0_mean_0 ++ dktX0_mean_1
theorem dksX0_mean_0 : cX0_mean.data.toList.drop 0 = dktX0_mean_0 := by decide +kernel
theorem dksX0_mean_1 : cX0_mean.data.toList.drop 22 = dktX0_mean_1 := dk_seg dksX0_mean_0 22 rfl rfl
theorem dksX0_mean_2 : cX0_mean.data.toList.drop 45 = dktX0_mean_2 := dk_seg dksX0_mean_1 23 rfl rfl
theorem dX0_mean_0 : decode cX0_mean 0 = .ok (.aload_n 0, 1) := dk_42 (dk_at dksX0_mean_0 0 rfl rfl)
theorem dX0_mean_1 : decode cX0_mean 1 = .ok (.iload_n 1, 1) := dk_27 (dk_at dksX0_mean_0 1 rfl rfl)
theorem dX0_mean_2 : decode cX0_mean 2 = .ok (.invokevirtual 272, 3) := dk_182 1 16 (dk_at dksX0_mean_0 2 rfl rfl)
theorem dX0_mean_5 : decode cX0_mean 5 = .ok (.ifCond .ne 5, 3) := dk_154 0 5 (dk_at dksX0_mean_0 5 rfl rfl)
theorem dX0_mean_8 : decode cX0_mean 8 = .ok (.iconst (-1), 1) := dk_2 (dk_at dksX0_mean_0 8 rfl rfl)
theorem dX0_mean_9 : decode cX0_mean 9 = .ok (.ireturn, 1) := dk_172 (dk_at dksX0_mean_0 9 rfl rfl)
theorem dX0_mean_10 : decode cX0_mean 10 = .ok (.iconst 0, 1) := dk_3 (dk_at dksX0_mean_0 10 rfl rfl)
theorem dX0_mean_11 : decode cX0_mean 11 = .ok (.istore_n 2, 1) := dk_61 (dk_at dksX0_mean_0 11 rfl rfl)
theorem dX0_mean_12 : decode cX0_mean 12 = .ok (.iconst 0, 1) := dk_3 (dk_at dksX0_mean_0 12 rfl rfl)
theorem dX0_mean_13 : decode cX0_mean 13 = .ok (.istore_n 3, 1) := dk_62 (dk_at dksX0_mean_0 13 rfl rfl)
theorem dX0_mean_14 : decode cX0_mean 14 = .ok (.iload_n 3, 1) := dk_29 (dk_at dksX0_mean_0 14 rfl rfl)
theorem dX0_mean_15 : decode cX0_mean 15 = .ok (.bipush 24, 2) := dk_16 24 (dk_at dksX0_mean_0 15 rfl rfl)
theorem dX0_mean_17 : decode cX0_mean 17 = .ok (.if_icmp .ge 31, 3) := dk_162 0 31 (dk_at dksX0_mean_0 17 rfl rfl)
theorem dX0_mean_20 : decode cX0_mean 20 = .ok (.iload_n 2, 1) := dk_28 (dk_at dksX0_mean_0 20 rfl rfl)
theorem dX0_mean_21 : decode cX0_mean 21 = .ok (.aload_n 0, 1) := dk_42 (dk_at dksX0_mean_0 21 rfl rfl)
theorem dX0_mean_22 : decode cX0_mean 22 = .ok (.getfield 92, 3) := dk_180 0 92 (dk_at dksX0_mean_1 0 rfl rfl)
theorem dX0_mean_25 : decode cX0_mean 25 = .ok (.bipush 24, 2) := dk_16 24 (dk_at dksX0_mean_1 3 rfl rfl)
theorem dX0_mean_27 : decode cX0_mean 27 = .ok (.iload_n 1, 1) := dk_27 (dk_at dksX0_mean_1 5 rfl rfl)
theorem dX0_mean_28 : decode cX0_mean 28 = .ok (.imul, 1) := dk_104 (dk_at dksX0_mean_1 6 rfl rfl)
theorem dX0_mean_29 : decode cX0_mean 29 = .ok (.iload_n 3, 1) := dk_29 (dk_at dksX0_mean_1 7 rfl rfl)
theorem dX0_mean_30 : decode cX0_mean 30 = .ok (.iadd, 1) := dk_96 (dk_at dksX0_mean_1 8 rfl rfl)
theorem dX0_mean_31 : decode cX0_mean 31 = .ok (.iaload, 1) := dk_46 (dk_at dksX0_mean_1 9 rfl rfl)
theorem dX0_mean_32 : decode cX0_mean 32 = .ok (.ifCond .le 7, 3) := dk_158 0 7 (dk_at dksX0_mean_1 10 rfl rfl)
theorem dX0_mean_35 : decode cX0_mean 35 = .ok (.iconst 1, 1) := dk_4 (dk_at dksX0_mean_1 13 rfl rfl)
theorem dX0_mean_36 : decode cX0_mean 36 = .ok (.goto 4, 3) := dk_167 0 4 (dk_at dksX0_mean_1 14 rfl rfl)
theorem dX0_mean_39 : decode cX0_mean 39 = .ok (.iconst 0, 1) := dk_3 (dk_at dksX0_mean_1 17 rfl rfl)
theorem dX0_mean_40 : decode cX0_mean 40 = .ok (.iadd, 1) := dk_96 (dk_at dksX0_mean_1 18 rfl rfl)
theorem dX0_mean_41 : decode cX0_mean 41 = .ok (.istore_n 2, 1) := dk_61 (dk_at dksX0_mean_1 19 rfl rfl)
theorem dX0_mean_42 : decode cX0_mean 42 = .ok (.iinc 3 1, 3) := dk_132 3 1 (dk_at dksX0_mean_1 20 rfl rfl)
theorem dX0_mean_45 : decode cX0_mean 45 = .ok (.goto (-31), 3) := dk_167 255 225 (dk_at dksX0_mean_2 0 rfl rfl)
theorem dX0_mean_48 : decode cX0_mean 48 = .ok (.aload_n 0, 1) := dk_42 (dk_at dksX0_mean_2 3 rfl rfl)
theorem dX0_mean_49 : decode cX0_mean 49 = .ok (.iload_n 1, 1) := dk_27 (dk_at dksX0_mean_2 4 rfl rfl)
theorem dX0_mean_50 : decode cX0_mean 50 = .ok (.invokevirtual 333, 3) := dk_182 1 77 (dk_at dksX0_mean_2 5 rfl rfl)
theorem dX0_mean_53 : decode cX0_mean 53 = .ok (.iload_n 2, 1) := dk_28 (dk_at dksX0_mean_2 8 rfl rfl)
theorem dX0_mean_54 : decode cX0_mean 54 = .ok (.i2l, 1) := dk_133 (dk_at dksX0_mean_2 9 rfl rfl)
theorem dX0_mean_55 : decode cX0_mean 55 = .ok (.ldiv, 1) := dk_109 (dk_at dksX0_mean_2 10 rfl rfl)
theorem dX0_mean_56 : decode cX0_mean 56 = .ok (.l2i, 1) := dk_136 (dk_at dksX0_mean_2 11 rfl rfl)
theorem dX0_mean_57 : decode cX0_mean 57 = .ok (.ireturn, 1) := dk_172 (dk_at dksX0_mean_2 12 rfl rfl)
theorem dX0_mean_58 : decode cX0_mean 58 = .ok (.astore_n 3, 1) := dk_78 (dk_at dksX0_mean_2 13 rfl rfl)
theorem dX0_mean_59 : decode cX0_mean 59 = .ok (.aload_n 0, 1) := dk_42 (dk_at dksX0_mean_2 14 rfl rfl)
theorem dX0_mean_60 : decode cX0_mean 60 = .ok (.iconst 4, 1) := dk_7 (dk_at dksX0_mean_2 15 rfl rfl)
theorem dX0_mean_61 : decode cX0_mean 61 = .ok (.invokevirtual 195, 3) := dk_182 0 195 (dk_at dksX0_mean_2 16 rfl rfl)
theorem dX0_mean_64 : decode cX0_mean 64 = .ok (.ireturn, 1) := dk_172 (dk_at dksX0_mean_2 19 rfl rfl)
abbrev cX0_sheet : ByteArray := prog_1_method_70_code
def yX0_sheet : MethodName := ⟨RX0, "sheet", "(II)I"⟩
def dkwX0_sheet_1 : List UInt8 := [28, 172, 78, 42, 8, 182, 0, 195, 172]
abbrev dktX0_sheet_1 : List UInt8 := dkwX0_sheet_1 ++ []
def dkwX0_sheet_0 : List UInt8 := [27, 184, 1, 90, 153, 0, 9, 28, 16, 24, 164, 0, 5, 2, 172, 42, 180, 0, 96, 27, 28, 188, 10, 83]
abbrev dktX0_sheet_0 : List UInt8 := dkwX0_sheet_0 ++ dktX0_sheet_1
theorem dksX0_sheet_0 : cX0_sheet.data.toList.drop 0 = dktX0_sheet_0 := by decide +kernel
theorem dksX0_sheet_1 : cX0_sheet.data.toList.drop 24 = dktX0_sheet_1 := dk_seg dksX0_sheet_0 24 rfl rfl
theorem dX0_sheet_0 : decode cX0_sheet 0 = .ok (.iload_n 1, 1) := dk_27 (dk_at dksX0_sheet_0 0 rfl rfl)
theorem dX0_sheet_1 : decode cX0_sheet 1 = .ok (.invokestatic 346, 3) := dk_184 1 90 (dk_at dksX0_sheet_0 1 rfl rfl)
theorem dX0_sheet_4 : decode cX0_sheet 4 = .ok (.ifCond .eq 9, 3) := dk_153 0 9 (dk_at dksX0_sheet_0 4 rfl rfl)
theorem dX0_sheet_7 : decode cX0_sheet 7 = .ok (.iload_n 2, 1) := dk_28 (dk_at dksX0_sheet_0 7 rfl rfl)
theorem dX0_sheet_8 : decode cX0_sheet 8 = .ok (.bipush 24, 2) := dk_16 24 (dk_at dksX0_sheet_0 8 rfl rfl)
theorem dX0_sheet_10 : decode cX0_sheet 10 = .ok (.if_icmp .le 5, 3) := dk_164 0 5 (dk_at dksX0_sheet_0 10 rfl rfl)
theorem dX0_sheet_13 : decode cX0_sheet 13 = .ok (.iconst (-1), 1) := dk_2 (dk_at dksX0_sheet_0 13 rfl rfl)
theorem dX0_sheet_14 : decode cX0_sheet 14 = .ok (.ireturn, 1) := dk_172 (dk_at dksX0_sheet_0 14 rfl rfl)
theorem dX0_sheet_15 : decode cX0_sheet 15 = .ok (.aload_n 0, 1) := dk_42 (dk_at dksX0_sheet_0 15 rfl rfl)
theorem dX0_sheet_16 : decode cX0_sheet 16 = .ok (.getfield 96, 3) := dk_180 0 96 (dk_at dksX0_sheet_0 16 rfl rfl)
theorem dX0_sheet_19 : decode cX0_sheet 19 = .ok (.iload_n 1, 1) := dk_27 (dk_at dksX0_sheet_0 19 rfl rfl)
theorem dX0_sheet_20 : decode cX0_sheet 20 = .ok (.iload_n 2, 1) := dk_28 (dk_at dksX0_sheet_0 20 rfl rfl)
theorem dX0_sheet_21 : decode cX0_sheet 21 = .ok (.newarray .int, 2) := dk_188_10 (dk_at dksX0_sheet_0 21 rfl rfl)
theorem dX0_sheet_23 : decode cX0_sheet 23 = .ok (.aastore, 1) := dk_83 (dk_at dksX0_sheet_0 23 rfl rfl)
theorem dX0_sheet_24 : decode cX0_sheet 24 = .ok (.iload_n 2, 1) := dk_28 (dk_at dksX0_sheet_1 0 rfl rfl)
theorem dX0_sheet_25 : decode cX0_sheet 25 = .ok (.ireturn, 1) := dk_172 (dk_at dksX0_sheet_1 1 rfl rfl)
theorem dX0_sheet_26 : decode cX0_sheet 26 = .ok (.astore_n 3, 1) := dk_78 (dk_at dksX0_sheet_1 2 rfl rfl)
theorem dX0_sheet_27 : decode cX0_sheet 27 = .ok (.aload_n 0, 1) := dk_42 (dk_at dksX0_sheet_1 3 rfl rfl)
theorem dX0_sheet_28 : decode cX0_sheet 28 = .ok (.iconst 5, 1) := dk_8 (dk_at dksX0_sheet_1 4 rfl rfl)
theorem dX0_sheet_29 : decode cX0_sheet 29 = .ok (.invokevirtual 195, 3) := dk_182 0 195 (dk_at dksX0_sheet_1 5 rfl rfl)
theorem dX0_sheet_32 : decode cX0_sheet 32 = .ok (.ireturn, 1) := dk_172 (dk_at dksX0_sheet_1 8 rfl rfl)
abbrev cX0_isSheet : ByteArray := prog_1_method_69_code
def yX0_isSheet : MethodName := ⟨RX0, "isSheet", "(I)Z"⟩
def dkwX0_isSheet_0 : List UInt8 := [26, 3, 6, 184, 0, 128, 172]
abbrev dktX0_isSheet_0 : List UInt8 := dkwX0_isSheet_0 ++ []
theorem dksX0_isSheet_0 : cX0_isSheet.data.toList.drop 0 = dktX0_isSheet_0 := by decide +kernel
theorem dX0_isSheet_0 : decode cX0_isSheet 0 = .ok (.iload_n 0, 1) := dk_26 (dk_at dksX0_isSheet_0 0 rfl rfl)
theorem dX0_isSheet_1 : decode cX0_isSheet 1 = .ok (.iconst 0, 1) := dk_3 (dk_at dksX0_isSheet_0 1 rfl rfl)
theorem dX0_isSheet_2 : decode cX0_isSheet 2 = .ok (.iconst 3, 1) := dk_6 (dk_at dksX0_isSheet_0 2 rfl rfl)
theorem dX0_isSheet_3 : decode cX0_isSheet 3 = .ok (.invokestatic 128, 3) := dk_184 0 128 (dk_at dksX0_isSheet_0 3 rfl rfl)
theorem dX0_isSheet_6 : decode cX0_isSheet 6 = .ok (.ireturn, 1) := dk_172 (dk_at dksX0_isSheet_0 6 rfl rfl)
abbrev cX0_note : ByteArray := prog_1_method_71_code
def yX0_note : MethodName := ⟨RX0, "note", "(II)I"⟩
def dkwX0_note_2 : List UInt8 := [42, 180, 0, 92, 16, 24, 28, 104, 42, 180, 0, 96, 27, 50, 3, 29, 184, 1, 98, 29, 172]
abbrev dktX0_note_2 : List UInt8 := dkwX0_note_2 ++ []
def dkwX0_note_1 : List UInt8 := [199, 0, 9, 42, 4, 182, 0, 195, 172, 42, 180, 0, 125, 42, 180, 0, 96, 27, 50, 190, 184, 1, 95, 62]
abbrev dktX0_note_1 : List UInt8 := dkwX0_note_1 ++ dktX0_note_2
def dkwX0_note_0 : List UInt8 := [27, 184, 1, 90, 153, 0, 11, 42, 28, 182, 1, 16, 154, 0, 5, 2, 172, 42, 180, 0, 96, 27, 50]
abbrev dktX0_note_0 : List UInt8 := dkwX0_note_0 ++ dktX0_note_1
theorem dksX0_note_0 : cX0_note.data.toList.drop 0 = dktX0_note_0 := by decide +kernel
theorem dksX0_note_1 : cX0_note.data.toList.drop 23 = dktX0_note_1 := dk_seg dksX0_note_0 23 rfl rfl
theorem dksX0_note_2 : cX0_note.data.toList.drop 47 = dktX0_note_2 := dk_seg dksX0_note_1 24 rfl rfl
theorem dX0_note_0 : decode cX0_note 0 = .ok (.iload_n 1, 1) := dk_27 (dk_at dksX0_note_0 0 rfl rfl)
theorem dX0_note_1 : decode cX0_note 1 = .ok (.invokestatic 346, 3) := dk_184 1 90 (dk_at dksX0_note_0 1 rfl rfl)
theorem dX0_note_4 : decode cX0_note 4 = .ok (.ifCond .eq 11, 3) := dk_153 0 11 (dk_at dksX0_note_0 4 rfl rfl)
theorem dX0_note_7 : decode cX0_note 7 = .ok (.aload_n 0, 1) := dk_42 (dk_at dksX0_note_0 7 rfl rfl)
theorem dX0_note_8 : decode cX0_note 8 = .ok (.iload_n 2, 1) := dk_28 (dk_at dksX0_note_0 8 rfl rfl)
theorem dX0_note_9 : decode cX0_note 9 = .ok (.invokevirtual 272, 3) := dk_182 1 16 (dk_at dksX0_note_0 9 rfl rfl)
theorem dX0_note_12 : decode cX0_note 12 = .ok (.ifCond .ne 5, 3) := dk_154 0 5 (dk_at dksX0_note_0 12 rfl rfl)
theorem dX0_note_15 : decode cX0_note 15 = .ok (.iconst (-1), 1) := dk_2 (dk_at dksX0_note_0 15 rfl rfl)
theorem dX0_note_16 : decode cX0_note 16 = .ok (.ireturn, 1) := dk_172 (dk_at dksX0_note_0 16 rfl rfl)
theorem dX0_note_17 : decode cX0_note 17 = .ok (.aload_n 0, 1) := dk_42 (dk_at dksX0_note_0 17 rfl rfl)
theorem dX0_note_18 : decode cX0_note 18 = .ok (.getfield 96, 3) := dk_180 0 96 (dk_at dksX0_note_0 18 rfl rfl)
theorem dX0_note_21 : decode cX0_note 21 = .ok (.iload_n 1, 1) := dk_27 (dk_at dksX0_note_0 21 rfl rfl)
theorem dX0_note_22 : decode cX0_note 22 = .ok (.aaload, 1) := dk_50 (dk_at dksX0_note_0 22 rfl rfl)
theorem dX0_note_23 : decode cX0_note 23 = .ok (.ifnonnull 9, 3) := dk_199 0 9 (dk_at dksX0_note_1 0 rfl rfl)
theorem dX0_note_26 : decode cX0_note 26 = .ok (.aload_n 0, 1) := dk_42 (dk_at dksX0_note_1 3 rfl rfl)
theorem dX0_note_27 : decode cX0_note 27 = .ok (.iconst 1, 1) := dk_4 (dk_at dksX0_note_1 4 rfl rfl)
theorem dX0_note_28 : decode cX0_note 28 = .ok (.invokevirtual 195, 3) := dk_182 0 195 (dk_at dksX0_note_1 5 rfl rfl)
theorem dX0_note_31 : decode cX0_note 31 = .ok (.ireturn, 1) := dk_172 (dk_at dksX0_note_1 8 rfl rfl)
theorem dX0_note_32 : decode cX0_note 32 = .ok (.aload_n 0, 1) := dk_42 (dk_at dksX0_note_1 9 rfl rfl)
theorem dX0_note_33 : decode cX0_note 33 = .ok (.getfield 125, 3) := dk_180 0 125 (dk_at dksX0_note_1 10 rfl rfl)
theorem dX0_note_36 : decode cX0_note 36 = .ok (.aload_n 0, 1) := dk_42 (dk_at dksX0_note_1 13 rfl rfl)
theorem dX0_note_37 : decode cX0_note 37 = .ok (.getfield 96, 3) := dk_180 0 96 (dk_at dksX0_note_1 14 rfl rfl)
theorem dX0_note_40 : decode cX0_note 40 = .ok (.iload_n 1, 1) := dk_27 (dk_at dksX0_note_1 17 rfl rfl)
theorem dX0_note_41 : decode cX0_note 41 = .ok (.aaload, 1) := dk_50 (dk_at dksX0_note_1 18 rfl rfl)
theorem dX0_note_42 : decode cX0_note 42 = .ok (.arraylength, 1) := dk_190 (dk_at dksX0_note_1 19 rfl rfl)
theorem dX0_note_43 : decode cX0_note 43 = .ok (.invokestatic 351, 3) := dk_184 1 95 (dk_at dksX0_note_1 20 rfl rfl)
theorem dX0_note_46 : decode cX0_note 46 = .ok (.istore_n 3, 1) := dk_62 (dk_at dksX0_note_1 23 rfl rfl)
theorem dX0_note_47 : decode cX0_note 47 = .ok (.aload_n 0, 1) := dk_42 (dk_at dksX0_note_2 0 rfl rfl)
theorem dX0_note_48 : decode cX0_note 48 = .ok (.getfield 92, 3) := dk_180 0 92 (dk_at dksX0_note_2 1 rfl rfl)
theorem dX0_note_51 : decode cX0_note 51 = .ok (.bipush 24, 2) := dk_16 24 (dk_at dksX0_note_2 4 rfl rfl)
theorem dX0_note_53 : decode cX0_note 53 = .ok (.iload_n 2, 1) := dk_28 (dk_at dksX0_note_2 6 rfl rfl)
theorem dX0_note_54 : decode cX0_note 54 = .ok (.imul, 1) := dk_104 (dk_at dksX0_note_2 7 rfl rfl)
theorem dX0_note_55 : decode cX0_note 55 = .ok (.aload_n 0, 1) := dk_42 (dk_at dksX0_note_2 8 rfl rfl)
theorem dX0_note_56 : decode cX0_note 56 = .ok (.getfield 96, 3) := dk_180 0 96 (dk_at dksX0_note_2 9 rfl rfl)
theorem dX0_note_59 : decode cX0_note 59 = .ok (.iload_n 1, 1) := dk_27 (dk_at dksX0_note_2 12 rfl rfl)
theorem dX0_note_60 : decode cX0_note 60 = .ok (.aaload, 1) := dk_50 (dk_at dksX0_note_2 13 rfl rfl)
theorem dX0_note_61 : decode cX0_note 61 = .ok (.iconst 0, 1) := dk_3 (dk_at dksX0_note_2 14 rfl rfl)
theorem dX0_note_62 : decode cX0_note 62 = .ok (.iload_n 3, 1) := dk_29 (dk_at dksX0_note_2 15 rfl rfl)
theorem dX0_note_63 : decode cX0_note 63 = .ok (.invokestatic 354, 3) := dk_184 1 98 (dk_at dksX0_note_2 16 rfl rfl)
theorem dX0_note_66 : decode cX0_note 66 = .ok (.iload_n 3, 1) := dk_29 (dk_at dksX0_note_2 19 rfl rfl)
theorem dX0_note_67 : decode cX0_note 67 = .ok (.ireturn, 1) := dk_172 (dk_at dksX0_note_2 20 rfl rfl)
abbrev cX0_at : ByteArray := prog_1_method_72_code
def yX0_at : MethodName := ⟨RX0, "at", "(II)I"⟩
def dkwX0_at_1 : List UInt8 := [172, 78, 42, 5, 182, 0, 195, 172]
abbrev dktX0_at_1 : List UInt8 := dkwX0_at_1 ++ []
def dkwX0_at_0 : List UInt8 := [27, 184, 1, 90, 154, 0, 5, 2, 172, 42, 180, 0, 96, 27, 50, 28, 46, 172, 78, 42, 4, 182, 0, 195]
abbrev dktX0_at_0 : List UInt8 := dkwX0_at_0 ++ dktX0_at_1
theorem dksX0_at_0 : cX0_at.data.toList.drop 0 = dktX0_at_0 := by decide +kernel
theorem dksX0_at_1 : cX0_at.data.toList.drop 24 = dktX0_at_1 := dk_seg dksX0_at_0 24 rfl rfl
theorem dX0_at_0 : decode cX0_at 0 = .ok (.iload_n 1, 1) := dk_27 (dk_at dksX0_at_0 0 rfl rfl)
theorem dX0_at_1 : decode cX0_at 1 = .ok (.invokestatic 346, 3) := dk_184 1 90 (dk_at dksX0_at_0 1 rfl rfl)
theorem dX0_at_4 : decode cX0_at 4 = .ok (.ifCond .ne 5, 3) := dk_154 0 5 (dk_at dksX0_at_0 4 rfl rfl)
theorem dX0_at_7 : decode cX0_at 7 = .ok (.iconst (-1), 1) := dk_2 (dk_at dksX0_at_0 7 rfl rfl)
theorem dX0_at_8 : decode cX0_at 8 = .ok (.ireturn, 1) := dk_172 (dk_at dksX0_at_0 8 rfl rfl)
theorem dX0_at_9 : decode cX0_at 9 = .ok (.aload_n 0, 1) := dk_42 (dk_at dksX0_at_0 9 rfl rfl)
theorem dX0_at_10 : decode cX0_at 10 = .ok (.getfield 96, 3) := dk_180 0 96 (dk_at dksX0_at_0 10 rfl rfl)
theorem dX0_at_13 : decode cX0_at 13 = .ok (.iload_n 1, 1) := dk_27 (dk_at dksX0_at_0 13 rfl rfl)
theorem dX0_at_14 : decode cX0_at 14 = .ok (.aaload, 1) := dk_50 (dk_at dksX0_at_0 14 rfl rfl)
theorem dX0_at_15 : decode cX0_at 15 = .ok (.iload_n 2, 1) := dk_28 (dk_at dksX0_at_0 15 rfl rfl)
theorem dX0_at_16 : decode cX0_at 16 = .ok (.iaload, 1) := dk_46 (dk_at dksX0_at_0 16 rfl rfl)
theorem dX0_at_17 : decode cX0_at 17 = .ok (.ireturn, 1) := dk_172 (dk_at dksX0_at_0 17 rfl rfl)
theorem dX0_at_18 : decode cX0_at 18 = .ok (.astore_n 3, 1) := dk_78 (dk_at dksX0_at_0 18 rfl rfl)
theorem dX0_at_19 : decode cX0_at 19 = .ok (.aload_n 0, 1) := dk_42 (dk_at dksX0_at_0 19 rfl rfl)
theorem dX0_at_20 : decode cX0_at 20 = .ok (.iconst 1, 1) := dk_4 (dk_at dksX0_at_0 20 rfl rfl)
theorem dX0_at_21 : decode cX0_at 21 = .ok (.invokevirtual 195, 3) := dk_182 0 195 (dk_at dksX0_at_0 21 rfl rfl)
theorem dX0_at_24 : decode cX0_at 24 = .ok (.ireturn, 1) := dk_172 (dk_at dksX0_at_1 0 rfl rfl)
theorem dX0_at_25 : decode cX0_at 25 = .ok (.astore_n 3, 1) := dk_78 (dk_at dksX0_at_1 1 rfl rfl)
theorem dX0_at_26 : decode cX0_at 26 = .ok (.aload_n 0, 1) := dk_42 (dk_at dksX0_at_1 2 rfl rfl)
theorem dX0_at_27 : decode cX0_at 27 = .ok (.iconst 2, 1) := dk_5 (dk_at dksX0_at_1 3 rfl rfl)
theorem dX0_at_28 : decode cX0_at 28 = .ok (.invokevirtual 195, 3) := dk_182 0 195 (dk_at dksX0_at_1 4 rfl rfl)
theorem dX0_at_31 : decode cX0_at 31 = .ok (.ireturn, 1) := dk_172 (dk_at dksX0_at_1 7 rfl rfl)
abbrev cX0_tear : ByteArray := prog_1_method_73_code
def yX0_tear : MethodName := ⟨RX0, "tear", "(I)I"⟩
def dkwX0_tear_1 : List UInt8 := [42, 180, 0, 96, 27, 1, 83, 4, 172]
abbrev dktX0_tear_1 : List UInt8 := dkwX0_tear_1 ++ []
def dkwX0_tear_0 : List UInt8 := [27, 184, 1, 90, 154, 0, 5, 2, 172, 42, 180, 0, 96, 27, 50, 199, 0, 9, 42, 4, 182, 0, 195, 172]
abbrev dktX0_tear_0 : List UInt8 := dkwX0_tear_0 ++ dktX0_tear_1
theorem dksX0_tear_0 : cX0_tear.data.toList.drop 0 = dktX0_tear_0 := by decide +kernel
theorem dksX0_tear_1 : cX0_tear.data.toList.drop 24 = dktX0_tear_1 := dk_seg dksX0_tear_0 24 rfl rfl
theorem dX0_tear_0 : decode cX0_tear 0 = .ok (.iload_n 1, 1) := dk_27 (dk_at dksX0_tear_0 0 rfl rfl)
theorem dX0_tear_1 : decode cX0_tear 1 = .ok (.invokestatic 346, 3) := dk_184 1 90 (dk_at dksX0_tear_0 1 rfl rfl)
theorem dX0_tear_4 : decode cX0_tear 4 = .ok (.ifCond .ne 5, 3) := dk_154 0 5 (dk_at dksX0_tear_0 4 rfl rfl)
theorem dX0_tear_7 : decode cX0_tear 7 = .ok (.iconst (-1), 1) := dk_2 (dk_at dksX0_tear_0 7 rfl rfl)
theorem dX0_tear_8 : decode cX0_tear 8 = .ok (.ireturn, 1) := dk_172 (dk_at dksX0_tear_0 8 rfl rfl)
theorem dX0_tear_9 : decode cX0_tear 9 = .ok (.aload_n 0, 1) := dk_42 (dk_at dksX0_tear_0 9 rfl rfl)
theorem dX0_tear_10 : decode cX0_tear 10 = .ok (.getfield 96, 3) := dk_180 0 96 (dk_at dksX0_tear_0 10 rfl rfl)
theorem dX0_tear_13 : decode cX0_tear 13 = .ok (.iload_n 1, 1) := dk_27 (dk_at dksX0_tear_0 13 rfl rfl)
theorem dX0_tear_14 : decode cX0_tear 14 = .ok (.aaload, 1) := dk_50 (dk_at dksX0_tear_0 14 rfl rfl)
theorem dX0_tear_15 : decode cX0_tear 15 = .ok (.ifnonnull 9, 3) := dk_199 0 9 (dk_at dksX0_tear_0 15 rfl rfl)
theorem dX0_tear_18 : decode cX0_tear 18 = .ok (.aload_n 0, 1) := dk_42 (dk_at dksX0_tear_0 18 rfl rfl)
theorem dX0_tear_19 : decode cX0_tear 19 = .ok (.iconst 1, 1) := dk_4 (dk_at dksX0_tear_0 19 rfl rfl)
theorem dX0_tear_20 : decode cX0_tear 20 = .ok (.invokevirtual 195, 3) := dk_182 0 195 (dk_at dksX0_tear_0 20 rfl rfl)
theorem dX0_tear_23 : decode cX0_tear 23 = .ok (.ireturn, 1) := dk_172 (dk_at dksX0_tear_0 23 rfl rfl)
theorem dX0_tear_24 : decode cX0_tear 24 = .ok (.aload_n 0, 1) := dk_42 (dk_at dksX0_tear_1 0 rfl rfl)
theorem dX0_tear_25 : decode cX0_tear 25 = .ok (.getfield 96, 3) := dk_180 0 96 (dk_at dksX0_tear_1 1 rfl rfl)
theorem dX0_tear_28 : decode cX0_tear 28 = .ok (.iload_n 1, 1) := dk_27 (dk_at dksX0_tear_1 4 rfl rfl)
theorem dX0_tear_29 : decode cX0_tear 29 = .ok (.aconst_null, 1) := dk_1 (dk_at dksX0_tear_1 5 rfl rfl)
theorem dX0_tear_30 : decode cX0_tear 30 = .ok (.aastore, 1) := dk_83 (dk_at dksX0_tear_1 6 rfl rfl)
theorem dX0_tear_31 : decode cX0_tear 31 = .ok (.iconst 1, 1) := dk_4 (dk_at dksX0_tear_1 7 rfl rfl)
theorem dX0_tear_32 : decode cX0_tear 32 = .ok (.ireturn, 1) := dk_172 (dk_at dksX0_tear_1 8 rfl rfl)
abbrev cX0_copy : ByteArray := prog_1_method_74_code
def yX0_copy : MethodName := ⟨RX0, "copy", "(IIIII)I"⟩
def dkwX0_copy_2 : List UInt8 := [4, 172, 58, 6, 42, 4, 182, 0, 195, 172, 58, 6, 42, 5, 182, 0, 195, 172]
abbrev dktX0_copy_2 : List UInt8 := dkwX0_copy_2 ++ []
def dkwX0_copy_1 : List UInt8 := [182, 0, 195, 172, 42, 180, 0, 96, 27, 50, 28, 42, 180, 0, 96, 29, 50, 21, 4, 21, 5, 184, 1, 98]
abbrev dktX0_copy_1 : List UInt8 := dkwX0_copy_1 ++ dktX0_copy_2
def dkwX0_copy_0 : List UInt8 := [27, 184, 1, 90, 153, 0, 10, 29, 184, 1, 90, 154, 0, 5, 2, 172, 21, 5, 156, 0, 9, 42, 8]
abbrev dktX0_copy_0 : List UInt8 := dkwX0_copy_0 ++ dktX0_copy_1
theorem dksX0_copy_0 : cX0_copy.data.toList.drop 0 = dktX0_copy_0 := by decide +kernel
theorem dksX0_copy_1 : cX0_copy.data.toList.drop 23 = dktX0_copy_1 := dk_seg dksX0_copy_0 23 rfl rfl
theorem dksX0_copy_2 : cX0_copy.data.toList.drop 47 = dktX0_copy_2 := dk_seg dksX0_copy_1 24 rfl rfl
theorem dX0_copy_0 : decode cX0_copy 0 = .ok (.iload_n 1, 1) := dk_27 (dk_at dksX0_copy_0 0 rfl rfl)
theorem dX0_copy_1 : decode cX0_copy 1 = .ok (.invokestatic 346, 3) := dk_184 1 90 (dk_at dksX0_copy_0 1 rfl rfl)
theorem dX0_copy_4 : decode cX0_copy 4 = .ok (.ifCond .eq 10, 3) := dk_153 0 10 (dk_at dksX0_copy_0 4 rfl rfl)
theorem dX0_copy_7 : decode cX0_copy 7 = .ok (.iload_n 3, 1) := dk_29 (dk_at dksX0_copy_0 7 rfl rfl)
theorem dX0_copy_8 : decode cX0_copy 8 = .ok (.invokestatic 346, 3) := dk_184 1 90 (dk_at dksX0_copy_0 8 rfl rfl)
theorem dX0_copy_11 : decode cX0_copy 11 = .ok (.ifCond .ne 5, 3) := dk_154 0 5 (dk_at dksX0_copy_0 11 rfl rfl)
theorem dX0_copy_14 : decode cX0_copy 14 = .ok (.iconst (-1), 1) := dk_2 (dk_at dksX0_copy_0 14 rfl rfl)
theorem dX0_copy_15 : decode cX0_copy 15 = .ok (.ireturn, 1) := dk_172 (dk_at dksX0_copy_0 15 rfl rfl)
theorem dX0_copy_16 : decode cX0_copy 16 = .ok (.iload 5, 2) := dk_21 5 (dk_at dksX0_copy_0 16 rfl rfl)
theorem dX0_copy_18 : decode cX0_copy 18 = .ok (.ifCond .ge 9, 3) := dk_156 0 9 (dk_at dksX0_copy_0 18 rfl rfl)
theorem dX0_copy_21 : decode cX0_copy 21 = .ok (.aload_n 0, 1) := dk_42 (dk_at dksX0_copy_0 21 rfl rfl)
theorem dX0_copy_22 : decode cX0_copy 22 = .ok (.iconst 5, 1) := dk_8 (dk_at dksX0_copy_0 22 rfl rfl)
theorem dX0_copy_23 : decode cX0_copy 23 = .ok (.invokevirtual 195, 3) := dk_182 0 195 (dk_at dksX0_copy_1 0 rfl rfl)
theorem dX0_copy_26 : decode cX0_copy 26 = .ok (.ireturn, 1) := dk_172 (dk_at dksX0_copy_1 3 rfl rfl)
theorem dX0_copy_27 : decode cX0_copy 27 = .ok (.aload_n 0, 1) := dk_42 (dk_at dksX0_copy_1 4 rfl rfl)
theorem dX0_copy_28 : decode cX0_copy 28 = .ok (.getfield 96, 3) := dk_180 0 96 (dk_at dksX0_copy_1 5 rfl rfl)
theorem dX0_copy_31 : decode cX0_copy 31 = .ok (.iload_n 1, 1) := dk_27 (dk_at dksX0_copy_1 8 rfl rfl)
theorem dX0_copy_32 : decode cX0_copy 32 = .ok (.aaload, 1) := dk_50 (dk_at dksX0_copy_1 9 rfl rfl)
theorem dX0_copy_33 : decode cX0_copy 33 = .ok (.iload_n 2, 1) := dk_28 (dk_at dksX0_copy_1 10 rfl rfl)
theorem dX0_copy_34 : decode cX0_copy 34 = .ok (.aload_n 0, 1) := dk_42 (dk_at dksX0_copy_1 11 rfl rfl)
theorem dX0_copy_35 : decode cX0_copy 35 = .ok (.getfield 96, 3) := dk_180 0 96 (dk_at dksX0_copy_1 12 rfl rfl)
theorem dX0_copy_38 : decode cX0_copy 38 = .ok (.iload_n 3, 1) := dk_29 (dk_at dksX0_copy_1 15 rfl rfl)
theorem dX0_copy_39 : decode cX0_copy 39 = .ok (.aaload, 1) := dk_50 (dk_at dksX0_copy_1 16 rfl rfl)
theorem dX0_copy_40 : decode cX0_copy 40 = .ok (.iload 4, 2) := dk_21 4 (dk_at dksX0_copy_1 17 rfl rfl)
theorem dX0_copy_42 : decode cX0_copy 42 = .ok (.iload 5, 2) := dk_21 5 (dk_at dksX0_copy_1 19 rfl rfl)
theorem dX0_copy_44 : decode cX0_copy 44 = .ok (.invokestatic 354, 3) := dk_184 1 98 (dk_at dksX0_copy_1 21 rfl rfl)
theorem dX0_copy_47 : decode cX0_copy 47 = .ok (.iconst 1, 1) := dk_4 (dk_at dksX0_copy_2 0 rfl rfl)
theorem dX0_copy_48 : decode cX0_copy 48 = .ok (.ireturn, 1) := dk_172 (dk_at dksX0_copy_2 1 rfl rfl)
theorem dX0_copy_49 : decode cX0_copy 49 = .ok (.astore 6, 2) := dk_58 6 (dk_at dksX0_copy_2 2 rfl rfl)
theorem dX0_copy_51 : decode cX0_copy 51 = .ok (.aload_n 0, 1) := dk_42 (dk_at dksX0_copy_2 4 rfl rfl)
theorem dX0_copy_52 : decode cX0_copy 52 = .ok (.iconst 1, 1) := dk_4 (dk_at dksX0_copy_2 5 rfl rfl)
theorem dX0_copy_53 : decode cX0_copy 53 = .ok (.invokevirtual 195, 3) := dk_182 0 195 (dk_at dksX0_copy_2 6 rfl rfl)
theorem dX0_copy_56 : decode cX0_copy 56 = .ok (.ireturn, 1) := dk_172 (dk_at dksX0_copy_2 9 rfl rfl)
theorem dX0_copy_57 : decode cX0_copy 57 = .ok (.astore 6, 2) := dk_58 6 (dk_at dksX0_copy_2 10 rfl rfl)
theorem dX0_copy_59 : decode cX0_copy 59 = .ok (.aload_n 0, 1) := dk_42 (dk_at dksX0_copy_2 12 rfl rfl)
theorem dX0_copy_60 : decode cX0_copy 60 = .ok (.iconst 2, 1) := dk_5 (dk_at dksX0_copy_2 13 rfl rfl)
theorem dX0_copy_61 : decode cX0_copy 61 = .ok (.invokevirtual 195, 3) := dk_182 0 195 (dk_at dksX0_copy_2 14 rfl rfl)
theorem dX0_copy_64 : decode cX0_copy 64 = .ok (.ireturn, 1) := dk_172 (dk_at dksX0_copy_2 17 rfl rfl)
abbrev cX0_count : ByteArray := prog_1_method_75_code
def yX0_count : MethodName := ⟨RX0, "count", "(I)I"⟩
def dkwX0_count_2 : List UInt8 := [172]
abbrev dktX0_count_2 : List UInt8 := dkwX0_count_2 ++ []
def dkwX0_count_1 : List UInt8 := [5, 160, 0, 10, 42, 180, 0, 201, 167, 0, 16, 27, 6, 160, 0, 10, 42, 180, 0, 204, 167, 0, 4, 2]
abbrev dktX0_count_1 : List UInt8 := dkwX0_count_1 ++ dktX0_count_2
def dkwX0_count_0 : List UInt8 := [27, 154, 0, 10, 42, 180, 0, 125, 167, 0, 40, 27, 4, 160, 0, 10, 42, 180, 0, 144, 167, 0, 28, 27]
abbrev dktX0_count_0 : List UInt8 := dkwX0_count_0 ++ dktX0_count_1
theorem dksX0_count_0 : cX0_count.data.toList.drop 0 = dktX0_count_0 := by decide +kernel
theorem dksX0_count_1 : cX0_count.data.toList.drop 24 = dktX0_count_1 := dk_seg dksX0_count_0 24 rfl rfl
theorem dksX0_count_2 : cX0_count.data.toList.drop 48 = dktX0_count_2 := dk_seg dksX0_count_1 24 rfl rfl
theorem dX0_count_0 : decode cX0_count 0 = .ok (.iload_n 1, 1) := dk_27 (dk_at dksX0_count_0 0 rfl rfl)
theorem dX0_count_1 : decode cX0_count 1 = .ok (.ifCond .ne 10, 3) := dk_154 0 10 (dk_at dksX0_count_0 1 rfl rfl)
theorem dX0_count_4 : decode cX0_count 4 = .ok (.aload_n 0, 1) := dk_42 (dk_at dksX0_count_0 4 rfl rfl)
theorem dX0_count_5 : decode cX0_count 5 = .ok (.getfield 125, 3) := dk_180 0 125 (dk_at dksX0_count_0 5 rfl rfl)
theorem dX0_count_8 : decode cX0_count 8 = .ok (.goto 40, 3) := dk_167 0 40 (dk_at dksX0_count_0 8 rfl rfl)
theorem dX0_count_11 : decode cX0_count 11 = .ok (.iload_n 1, 1) := dk_27 (dk_at dksX0_count_0 11 rfl rfl)
theorem dX0_count_12 : decode cX0_count 12 = .ok (.iconst 1, 1) := dk_4 (dk_at dksX0_count_0 12 rfl rfl)
theorem dX0_count_13 : decode cX0_count 13 = .ok (.if_icmp .ne 10, 3) := dk_160 0 10 (dk_at dksX0_count_0 13 rfl rfl)
theorem dX0_count_16 : decode cX0_count 16 = .ok (.aload_n 0, 1) := dk_42 (dk_at dksX0_count_0 16 rfl rfl)
theorem dX0_count_17 : decode cX0_count 17 = .ok (.getfield 144, 3) := dk_180 0 144 (dk_at dksX0_count_0 17 rfl rfl)
theorem dX0_count_20 : decode cX0_count 20 = .ok (.goto 28, 3) := dk_167 0 28 (dk_at dksX0_count_0 20 rfl rfl)
theorem dX0_count_23 : decode cX0_count 23 = .ok (.iload_n 1, 1) := dk_27 (dk_at dksX0_count_0 23 rfl rfl)
theorem dX0_count_24 : decode cX0_count 24 = .ok (.iconst 2, 1) := dk_5 (dk_at dksX0_count_1 0 rfl rfl)
theorem dX0_count_25 : decode cX0_count 25 = .ok (.if_icmp .ne 10, 3) := dk_160 0 10 (dk_at dksX0_count_1 1 rfl rfl)
theorem dX0_count_28 : decode cX0_count 28 = .ok (.aload_n 0, 1) := dk_42 (dk_at dksX0_count_1 4 rfl rfl)
theorem dX0_count_29 : decode cX0_count 29 = .ok (.getfield 201, 3) := dk_180 0 201 (dk_at dksX0_count_1 5 rfl rfl)
theorem dX0_count_32 : decode cX0_count 32 = .ok (.goto 16, 3) := dk_167 0 16 (dk_at dksX0_count_1 8 rfl rfl)
theorem dX0_count_35 : decode cX0_count 35 = .ok (.iload_n 1, 1) := dk_27 (dk_at dksX0_count_1 11 rfl rfl)
theorem dX0_count_36 : decode cX0_count 36 = .ok (.iconst 3, 1) := dk_6 (dk_at dksX0_count_1 12 rfl rfl)
theorem dX0_count_37 : decode cX0_count 37 = .ok (.if_icmp .ne 10, 3) := dk_160 0 10 (dk_at dksX0_count_1 13 rfl rfl)
theorem dX0_count_40 : decode cX0_count 40 = .ok (.aload_n 0, 1) := dk_42 (dk_at dksX0_count_1 16 rfl rfl)
theorem dX0_count_41 : decode cX0_count 41 = .ok (.getfield 204, 3) := dk_180 0 204 (dk_at dksX0_count_1 17 rfl rfl)
theorem dX0_count_44 : decode cX0_count 44 = .ok (.goto 4, 3) := dk_167 0 4 (dk_at dksX0_count_1 20 rfl rfl)
theorem dX0_count_47 : decode cX0_count 47 = .ok (.iconst (-1), 1) := dk_2 (dk_at dksX0_count_1 23 rfl rfl)
theorem dX0_count_48 : decode cX0_count 48 = .ok (.ireturn, 1) := dk_172 (dk_at dksX0_count_2 0 rfl rfl)
abbrev cX0_finding : ByteArray := prog_1_method_76_code
def yX0_finding : MethodName := ⟨RX0, "finding", "()I"⟩
theorem dX0_finding_0 : decode cX0_finding 0 = .ok (.aload_n 0, 1) := by decide +kernel
theorem dX0_finding_1 : decode cX0_finding 1 = .ok (.getfield 1, 3) := by decide +kernel
theorem dX0_finding_4 : decode cX0_finding 4 = .ok (.ireturn, 1) := by decide +kernel
abbrev cX0_findings : ByteArray := prog_1_method_77_code
def yX0_findings : MethodName := ⟨RX0, "findings", "(I)I"⟩
def dkwX0_findings_0 : List UInt8 := [27, 4, 8, 184, 0, 128, 153, 0, 12, 42, 180, 0, 7, 27, 46, 167, 0, 4, 2, 172]
abbrev dktX0_findings_0 : List UInt8 := dkwX0_findings_0 ++ []
theorem dksX0_findings_0 : cX0_findings.data.toList.drop 0 = dktX0_findings_0 := by decide +kernel
theorem dX0_findings_0 : decode cX0_findings 0 = .ok (.iload_n 1, 1) := dk_27 (dk_at dksX0_findings_0 0 rfl rfl)
theorem dX0_findings_1 : decode cX0_findings 1 = .ok (.iconst 1, 1) := dk_4 (dk_at dksX0_findings_0 1 rfl rfl)
theorem dX0_findings_2 : decode cX0_findings 2 = .ok (.iconst 5, 1) := dk_8 (dk_at dksX0_findings_0 2 rfl rfl)
theorem dX0_findings_3 : decode cX0_findings 3 = .ok (.invokestatic 128, 3) := dk_184 0 128 (dk_at dksX0_findings_0 3 rfl rfl)
theorem dX0_findings_6 : decode cX0_findings 6 = .ok (.ifCond .eq 12, 3) := dk_153 0 12 (dk_at dksX0_findings_0 6 rfl rfl)
theorem dX0_findings_9 : decode cX0_findings 9 = .ok (.aload_n 0, 1) := dk_42 (dk_at dksX0_findings_0 9 rfl rfl)
theorem dX0_findings_10 : decode cX0_findings 10 = .ok (.getfield 7, 3) := dk_180 0 7 (dk_at dksX0_findings_0 10 rfl rfl)
theorem dX0_findings_13 : decode cX0_findings 13 = .ok (.iload_n 1, 1) := dk_27 (dk_at dksX0_findings_0 13 rfl rfl)
theorem dX0_findings_14 : decode cX0_findings 14 = .ok (.iaload, 1) := dk_46 (dk_at dksX0_findings_0 14 rfl rfl)
theorem dX0_findings_15 : decode cX0_findings 15 = .ok (.goto 4, 3) := dk_167 0 4 (dk_at dksX0_findings_0 15 rfl rfl)
theorem dX0_findings_18 : decode cX0_findings 18 = .ok (.iconst (-1), 1) := dk_2 (dk_at dksX0_findings_0 18 rfl rfl)
theorem dX0_findings_19 : decode cX0_findings 19 = .ok (.ireturn, 1) := dk_172 (dk_at dksX0_findings_0 19 rfl rfl)
abbrev cX0_digest : ByteArray := prog_1_method_78_code
def yX0_digest : MethodName := ⟨RX0, "digest", "()J"⟩
def dkwX0_digest_9 : List UInt8 := [167, 255, 227, 132, 3, 1, 167, 255, 185, 31, 173]
abbrev dktX0_digest_9 : List UInt8 := dkwX0_digest_9 ++ []
def dkwX0_digest_8 : List UInt8 := [21, 5, 25, 4, 190, 162, 0, 22, 20, 1, 110, 31, 105, 25, 4, 21, 5, 46, 133, 97, 64, 132, 5, 1]
abbrev dktX0_digest_8 : List UInt8 := dkwX0_digest_8 ++ dktX0_digest_9
def dkwX0_digest_7 : List UInt8 := [25, 4, 199, 0, 7, 2, 167, 0, 6, 25, 4, 190, 133, 97, 64, 3, 54, 5, 25, 4, 198, 0, 30]
abbrev dktX0_digest_7 : List UInt8 := dkwX0_digest_7 ++ dktX0_digest_8
def dkwX0_digest_6 : List UInt8 := [167, 255, 215, 3, 62, 29, 7, 162, 0, 72, 42, 180, 0, 96, 29, 50, 58, 4, 20, 1, 110, 31, 105]
abbrev dktX0_digest_6 : List UInt8 := dkwX0_digest_6 ++ dktX0_digest_7
def dkwX0_digest_5 : List UInt8 := [20, 1, 110, 31, 105, 42, 29, 21, 4, 182, 0, 179, 133, 97, 64, 132, 4, 1, 167, 255, 232, 132, 3, 1]
abbrev dktX0_digest_5 : List UInt8 := dkwX0_digest_5 ++ dktX0_digest_6
def dkwX0_digest_4 : List UInt8 := [167, 255, 195, 3, 62, 29, 42, 180, 0, 144, 162, 0, 39, 3, 54, 4, 21, 4, 7, 162, 0, 24]
abbrev dktX0_digest_4 : List UInt8 := dkwX0_digest_4 ++ dktX0_digest_5
def dkwX0_digest_3 : List UInt8 := [20, 1, 110, 31, 105, 42, 180, 0, 89, 29, 46, 133, 97, 42, 29, 182, 1, 77, 101, 64, 132, 3, 1]
abbrev dktX0_digest_3 : List UInt8 := dkwX0_digest_3 ++ dktX0_digest_4
def dkwX0_digest_2 : List UInt8 := [162, 0, 24, 20, 1, 110, 31, 105, 42, 29, 21, 4, 182, 1, 115, 133, 97, 64, 132, 4, 1, 167, 255, 232]
abbrev dktX0_digest_2 : List UInt8 := dkwX0_digest_2 ++ dktX0_digest_3
def dkwX0_digest_1 : List UInt8 := [132, 3, 1, 167, 255, 235, 3, 62, 29, 42, 180, 0, 125, 162, 0, 59, 3, 54, 4, 21, 4, 8]
abbrev dktX0_digest_1 : List UInt8 := dkwX0_digest_1 ++ dktX0_digest_2
def dkwX0_digest_0 : List UInt8 := [20, 1, 108, 64, 3, 62, 29, 7, 162, 0, 22, 20, 1, 110, 31, 105, 42, 29, 182, 1, 112, 133, 97, 64]
abbrev dktX0_digest_0 : List UInt8 := dkwX0_digest_0 ++ dktX0_digest_1
theorem dksX0_digest_0 : cX0_digest.data.toList.drop 0 = dktX0_digest_0 := by decide +kernel
theorem dksX0_digest_1 : cX0_digest.data.toList.drop 24 = dktX0_digest_1 := dk_seg dksX0_digest_0 24 rfl rfl
theorem dksX0_digest_2 : cX0_digest.data.toList.drop 46 = dktX0_digest_2 := dk_seg dksX0_digest_1 22 rfl rfl
theorem dksX0_digest_3 : cX0_digest.data.toList.drop 70 = dktX0_digest_3 := dk_seg dksX0_digest_2 24 rfl rfl
theorem dksX0_digest_4 : cX0_digest.data.toList.drop 93 = dktX0_digest_4 := dk_seg dksX0_digest_3 23 rfl rfl
theorem dksX0_digest_5 : cX0_digest.data.toList.drop 115 = dktX0_digest_5 := dk_seg dksX0_digest_4 22 rfl rfl
theorem dksX0_digest_6 : cX0_digest.data.toList.drop 139 = dktX0_digest_6 := dk_seg dksX0_digest_5 24 rfl rfl
theorem dksX0_digest_7 : cX0_digest.data.toList.drop 162 = dktX0_digest_7 := dk_seg dksX0_digest_6 23 rfl rfl
theorem dksX0_digest_8 : cX0_digest.data.toList.drop 185 = dktX0_digest_8 := dk_seg dksX0_digest_7 23 rfl rfl
theorem dksX0_digest_9 : cX0_digest.data.toList.drop 209 = dktX0_digest_9 := dk_seg dksX0_digest_8 24 rfl rfl
theorem dX0_digest_0 : decode cX0_digest 0 = .ok (.ldc2_w 364, 3) := dk_20 1 108 (dk_at dksX0_digest_0 0 rfl rfl)
theorem dX0_digest_3 : decode cX0_digest 3 = .ok (.lstore_n 1, 1) := dk_64 (dk_at dksX0_digest_0 3 rfl rfl)
theorem dX0_digest_4 : decode cX0_digest 4 = .ok (.iconst 0, 1) := dk_3 (dk_at dksX0_digest_0 4 rfl rfl)
theorem dX0_digest_5 : decode cX0_digest 5 = .ok (.istore_n 3, 1) := dk_62 (dk_at dksX0_digest_0 5 rfl rfl)
theorem dX0_digest_6 : decode cX0_digest 6 = .ok (.iload_n 3, 1) := dk_29 (dk_at dksX0_digest_0 6 rfl rfl)
theorem dX0_digest_7 : decode cX0_digest 7 = .ok (.iconst 4, 1) := dk_7 (dk_at dksX0_digest_0 7 rfl rfl)
theorem dX0_digest_8 : decode cX0_digest 8 = .ok (.if_icmp .ge 22, 3) := dk_162 0 22 (dk_at dksX0_digest_0 8 rfl rfl)
theorem dX0_digest_11 : decode cX0_digest 11 = .ok (.ldc2_w 366, 3) := dk_20 1 110 (dk_at dksX0_digest_0 11 rfl rfl)
theorem dX0_digest_14 : decode cX0_digest 14 = .ok (.lload_n 1, 1) := dk_31 (dk_at dksX0_digest_0 14 rfl rfl)
theorem dX0_digest_15 : decode cX0_digest 15 = .ok (.lmul, 1) := dk_105 (dk_at dksX0_digest_0 15 rfl rfl)
theorem dX0_digest_16 : decode cX0_digest 16 = .ok (.aload_n 0, 1) := dk_42 (dk_at dksX0_digest_0 16 rfl rfl)
theorem dX0_digest_17 : decode cX0_digest 17 = .ok (.iload_n 3, 1) := dk_29 (dk_at dksX0_digest_0 17 rfl rfl)
theorem dX0_digest_18 : decode cX0_digest 18 = .ok (.invokevirtual 368, 3) := dk_182 1 112 (dk_at dksX0_digest_0 18 rfl rfl)
theorem dX0_digest_21 : decode cX0_digest 21 = .ok (.i2l, 1) := dk_133 (dk_at dksX0_digest_0 21 rfl rfl)
theorem dX0_digest_22 : decode cX0_digest 22 = .ok (.ladd, 1) := dk_97 (dk_at dksX0_digest_0 22 rfl rfl)
theorem dX0_digest_23 : decode cX0_digest 23 = .ok (.lstore_n 1, 1) := dk_64 (dk_at dksX0_digest_0 23 rfl rfl)
theorem dX0_digest_24 : decode cX0_digest 24 = .ok (.iinc 3 1, 3) := dk_132 3 1 (dk_at dksX0_digest_1 0 rfl rfl)
theorem dX0_digest_27 : decode cX0_digest 27 = .ok (.goto (-21), 3) := dk_167 255 235 (dk_at dksX0_digest_1 3 rfl rfl)
theorem dX0_digest_30 : decode cX0_digest 30 = .ok (.iconst 0, 1) := dk_3 (dk_at dksX0_digest_1 6 rfl rfl)
theorem dX0_digest_31 : decode cX0_digest 31 = .ok (.istore_n 3, 1) := dk_62 (dk_at dksX0_digest_1 7 rfl rfl)
theorem dX0_digest_32 : decode cX0_digest 32 = .ok (.iload_n 3, 1) := dk_29 (dk_at dksX0_digest_1 8 rfl rfl)
theorem dX0_digest_33 : decode cX0_digest 33 = .ok (.aload_n 0, 1) := dk_42 (dk_at dksX0_digest_1 9 rfl rfl)
theorem dX0_digest_34 : decode cX0_digest 34 = .ok (.getfield 125, 3) := dk_180 0 125 (dk_at dksX0_digest_1 10 rfl rfl)
theorem dX0_digest_37 : decode cX0_digest 37 = .ok (.if_icmp .ge 59, 3) := dk_162 0 59 (dk_at dksX0_digest_1 13 rfl rfl)
theorem dX0_digest_40 : decode cX0_digest 40 = .ok (.iconst 0, 1) := dk_3 (dk_at dksX0_digest_1 16 rfl rfl)
theorem dX0_digest_41 : decode cX0_digest 41 = .ok (.istore 4, 2) := dk_54 4 (dk_at dksX0_digest_1 17 rfl rfl)
theorem dX0_digest_43 : decode cX0_digest 43 = .ok (.iload 4, 2) := dk_21 4 (dk_at dksX0_digest_1 19 rfl rfl)
theorem dX0_digest_45 : decode cX0_digest 45 = .ok (.iconst 5, 1) := dk_8 (dk_at dksX0_digest_1 21 rfl rfl)
theorem dX0_digest_46 : decode cX0_digest 46 = .ok (.if_icmp .ge 24, 3) := dk_162 0 24 (dk_at dksX0_digest_2 0 rfl rfl)
theorem dX0_digest_49 : decode cX0_digest 49 = .ok (.ldc2_w 366, 3) := dk_20 1 110 (dk_at dksX0_digest_2 3 rfl rfl)
theorem dX0_digest_52 : decode cX0_digest 52 = .ok (.lload_n 1, 1) := dk_31 (dk_at dksX0_digest_2 6 rfl rfl)
theorem dX0_digest_53 : decode cX0_digest 53 = .ok (.lmul, 1) := dk_105 (dk_at dksX0_digest_2 7 rfl rfl)
theorem dX0_digest_54 : decode cX0_digest 54 = .ok (.aload_n 0, 1) := dk_42 (dk_at dksX0_digest_2 8 rfl rfl)
theorem dX0_digest_55 : decode cX0_digest 55 = .ok (.iload_n 3, 1) := dk_29 (dk_at dksX0_digest_2 9 rfl rfl)
theorem dX0_digest_56 : decode cX0_digest 56 = .ok (.iload 4, 2) := dk_21 4 (dk_at dksX0_digest_2 10 rfl rfl)
theorem dX0_digest_58 : decode cX0_digest 58 = .ok (.invokevirtual 371, 3) := dk_182 1 115 (dk_at dksX0_digest_2 12 rfl rfl)
theorem dX0_digest_61 : decode cX0_digest 61 = .ok (.i2l, 1) := dk_133 (dk_at dksX0_digest_2 15 rfl rfl)
theorem dX0_digest_62 : decode cX0_digest 62 = .ok (.ladd, 1) := dk_97 (dk_at dksX0_digest_2 16 rfl rfl)
theorem dX0_digest_63 : decode cX0_digest 63 = .ok (.lstore_n 1, 1) := dk_64 (dk_at dksX0_digest_2 17 rfl rfl)
theorem dX0_digest_64 : decode cX0_digest 64 = .ok (.iinc 4 1, 3) := dk_132 4 1 (dk_at dksX0_digest_2 18 rfl rfl)
theorem dX0_digest_67 : decode cX0_digest 67 = .ok (.goto (-24), 3) := dk_167 255 232 (dk_at dksX0_digest_2 21 rfl rfl)
theorem dX0_digest_70 : decode cX0_digest 70 = .ok (.ldc2_w 366, 3) := dk_20 1 110 (dk_at dksX0_digest_3 0 rfl rfl)
theorem dX0_digest_73 : decode cX0_digest 73 = .ok (.lload_n 1, 1) := dk_31 (dk_at dksX0_digest_3 3 rfl rfl)
theorem dX0_digest_74 : decode cX0_digest 74 = .ok (.lmul, 1) := dk_105 (dk_at dksX0_digest_3 4 rfl rfl)
theorem dX0_digest_75 : decode cX0_digest 75 = .ok (.aload_n 0, 1) := dk_42 (dk_at dksX0_digest_3 5 rfl rfl)
theorem dX0_digest_76 : decode cX0_digest 76 = .ok (.getfield 89, 3) := dk_180 0 89 (dk_at dksX0_digest_3 6 rfl rfl)
theorem dX0_digest_79 : decode cX0_digest 79 = .ok (.iload_n 3, 1) := dk_29 (dk_at dksX0_digest_3 9 rfl rfl)
theorem dX0_digest_80 : decode cX0_digest 80 = .ok (.iaload, 1) := dk_46 (dk_at dksX0_digest_3 10 rfl rfl)
theorem dX0_digest_81 : decode cX0_digest 81 = .ok (.i2l, 1) := dk_133 (dk_at dksX0_digest_3 11 rfl rfl)
theorem dX0_digest_82 : decode cX0_digest 82 = .ok (.ladd, 1) := dk_97 (dk_at dksX0_digest_3 12 rfl rfl)
theorem dX0_digest_83 : decode cX0_digest 83 = .ok (.aload_n 0, 1) := dk_42 (dk_at dksX0_digest_3 13 rfl rfl)
theorem dX0_digest_84 : decode cX0_digest 84 = .ok (.iload_n 3, 1) := dk_29 (dk_at dksX0_digest_3 14 rfl rfl)
theorem dX0_digest_85 : decode cX0_digest 85 = .ok (.invokevirtual 333, 3) := dk_182 1 77 (dk_at dksX0_digest_3 15 rfl rfl)
theorem dX0_digest_88 : decode cX0_digest 88 = .ok (.lsub, 1) := dk_101 (dk_at dksX0_digest_3 18 rfl rfl)
theorem dX0_digest_89 : decode cX0_digest 89 = .ok (.lstore_n 1, 1) := dk_64 (dk_at dksX0_digest_3 19 rfl rfl)
theorem dX0_digest_90 : decode cX0_digest 90 = .ok (.iinc 3 1, 3) := dk_132 3 1 (dk_at dksX0_digest_3 20 rfl rfl)
theorem dX0_digest_93 : decode cX0_digest 93 = .ok (.goto (-61), 3) := dk_167 255 195 (dk_at dksX0_digest_4 0 rfl rfl)
theorem dX0_digest_96 : decode cX0_digest 96 = .ok (.iconst 0, 1) := dk_3 (dk_at dksX0_digest_4 3 rfl rfl)
theorem dX0_digest_97 : decode cX0_digest 97 = .ok (.istore_n 3, 1) := dk_62 (dk_at dksX0_digest_4 4 rfl rfl)
theorem dX0_digest_98 : decode cX0_digest 98 = .ok (.iload_n 3, 1) := dk_29 (dk_at dksX0_digest_4 5 rfl rfl)
theorem dX0_digest_99 : decode cX0_digest 99 = .ok (.aload_n 0, 1) := dk_42 (dk_at dksX0_digest_4 6 rfl rfl)
theorem dX0_digest_100 : decode cX0_digest 100 = .ok (.getfield 144, 3) := dk_180 0 144 (dk_at dksX0_digest_4 7 rfl rfl)
theorem dX0_digest_103 : decode cX0_digest 103 = .ok (.if_icmp .ge 39, 3) := dk_162 0 39 (dk_at dksX0_digest_4 10 rfl rfl)
theorem dX0_digest_106 : decode cX0_digest 106 = .ok (.iconst 0, 1) := dk_3 (dk_at dksX0_digest_4 13 rfl rfl)
theorem dX0_digest_107 : decode cX0_digest 107 = .ok (.istore 4, 2) := dk_54 4 (dk_at dksX0_digest_4 14 rfl rfl)
theorem dX0_digest_109 : decode cX0_digest 109 = .ok (.iload 4, 2) := dk_21 4 (dk_at dksX0_digest_4 16 rfl rfl)
theorem dX0_digest_111 : decode cX0_digest 111 = .ok (.iconst 4, 1) := dk_7 (dk_at dksX0_digest_4 18 rfl rfl)
theorem dX0_digest_112 : decode cX0_digest 112 = .ok (.if_icmp .ge 24, 3) := dk_162 0 24 (dk_at dksX0_digest_4 19 rfl rfl)
theorem dX0_digest_115 : decode cX0_digest 115 = .ok (.ldc2_w 366, 3) := dk_20 1 110 (dk_at dksX0_digest_5 0 rfl rfl)
theorem dX0_digest_118 : decode cX0_digest 118 = .ok (.lload_n 1, 1) := dk_31 (dk_at dksX0_digest_5 3 rfl rfl)
theorem dX0_digest_119 : decode cX0_digest 119 = .ok (.lmul, 1) := dk_105 (dk_at dksX0_digest_5 4 rfl rfl)
theorem dX0_digest_120 : decode cX0_digest 120 = .ok (.aload_n 0, 1) := dk_42 (dk_at dksX0_digest_5 5 rfl rfl)
theorem dX0_digest_121 : decode cX0_digest 121 = .ok (.iload_n 3, 1) := dk_29 (dk_at dksX0_digest_5 6 rfl rfl)
theorem dX0_digest_122 : decode cX0_digest 122 = .ok (.iload 4, 2) := dk_21 4 (dk_at dksX0_digest_5 7 rfl rfl)
theorem dX0_digest_124 : decode cX0_digest 124 = .ok (.invokevirtual 179, 3) := dk_182 0 179 (dk_at dksX0_digest_5 9 rfl rfl)
theorem dX0_digest_127 : decode cX0_digest 127 = .ok (.i2l, 1) := dk_133 (dk_at dksX0_digest_5 12 rfl rfl)
theorem dX0_digest_128 : decode cX0_digest 128 = .ok (.ladd, 1) := dk_97 (dk_at dksX0_digest_5 13 rfl rfl)
theorem dX0_digest_129 : decode cX0_digest 129 = .ok (.lstore_n 1, 1) := dk_64 (dk_at dksX0_digest_5 14 rfl rfl)
theorem dX0_digest_130 : decode cX0_digest 130 = .ok (.iinc 4 1, 3) := dk_132 4 1 (dk_at dksX0_digest_5 15 rfl rfl)
theorem dX0_digest_133 : decode cX0_digest 133 = .ok (.goto (-24), 3) := dk_167 255 232 (dk_at dksX0_digest_5 18 rfl rfl)
theorem dX0_digest_136 : decode cX0_digest 136 = .ok (.iinc 3 1, 3) := dk_132 3 1 (dk_at dksX0_digest_5 21 rfl rfl)
theorem dX0_digest_139 : decode cX0_digest 139 = .ok (.goto (-41), 3) := dk_167 255 215 (dk_at dksX0_digest_6 0 rfl rfl)
theorem dX0_digest_142 : decode cX0_digest 142 = .ok (.iconst 0, 1) := dk_3 (dk_at dksX0_digest_6 3 rfl rfl)
theorem dX0_digest_143 : decode cX0_digest 143 = .ok (.istore_n 3, 1) := dk_62 (dk_at dksX0_digest_6 4 rfl rfl)
theorem dX0_digest_144 : decode cX0_digest 144 = .ok (.iload_n 3, 1) := dk_29 (dk_at dksX0_digest_6 5 rfl rfl)
theorem dX0_digest_145 : decode cX0_digest 145 = .ok (.iconst 4, 1) := dk_7 (dk_at dksX0_digest_6 6 rfl rfl)
theorem dX0_digest_146 : decode cX0_digest 146 = .ok (.if_icmp .ge 72, 3) := dk_162 0 72 (dk_at dksX0_digest_6 7 rfl rfl)
theorem dX0_digest_149 : decode cX0_digest 149 = .ok (.aload_n 0, 1) := dk_42 (dk_at dksX0_digest_6 10 rfl rfl)
theorem dX0_digest_150 : decode cX0_digest 150 = .ok (.getfield 96, 3) := dk_180 0 96 (dk_at dksX0_digest_6 11 rfl rfl)
theorem dX0_digest_153 : decode cX0_digest 153 = .ok (.iload_n 3, 1) := dk_29 (dk_at dksX0_digest_6 14 rfl rfl)
theorem dX0_digest_154 : decode cX0_digest 154 = .ok (.aaload, 1) := dk_50 (dk_at dksX0_digest_6 15 rfl rfl)
theorem dX0_digest_155 : decode cX0_digest 155 = .ok (.astore 4, 2) := dk_58 4 (dk_at dksX0_digest_6 16 rfl rfl)
theorem dX0_digest_157 : decode cX0_digest 157 = .ok (.ldc2_w 366, 3) := dk_20 1 110 (dk_at dksX0_digest_6 18 rfl rfl)
theorem dX0_digest_160 : decode cX0_digest 160 = .ok (.lload_n 1, 1) := dk_31 (dk_at dksX0_digest_6 21 rfl rfl)
theorem dX0_digest_161 : decode cX0_digest 161 = .ok (.lmul, 1) := dk_105 (dk_at dksX0_digest_6 22 rfl rfl)
theorem dX0_digest_162 : decode cX0_digest 162 = .ok (.aload 4, 2) := dk_25 4 (dk_at dksX0_digest_7 0 rfl rfl)
theorem dX0_digest_164 : decode cX0_digest 164 = .ok (.ifnonnull 7, 3) := dk_199 0 7 (dk_at dksX0_digest_7 2 rfl rfl)
theorem dX0_digest_167 : decode cX0_digest 167 = .ok (.iconst (-1), 1) := dk_2 (dk_at dksX0_digest_7 5 rfl rfl)
theorem dX0_digest_168 : decode cX0_digest 168 = .ok (.goto 6, 3) := dk_167 0 6 (dk_at dksX0_digest_7 6 rfl rfl)
theorem dX0_digest_171 : decode cX0_digest 171 = .ok (.aload 4, 2) := dk_25 4 (dk_at dksX0_digest_7 9 rfl rfl)
theorem dX0_digest_173 : decode cX0_digest 173 = .ok (.arraylength, 1) := dk_190 (dk_at dksX0_digest_7 11 rfl rfl)
theorem dX0_digest_174 : decode cX0_digest 174 = .ok (.i2l, 1) := dk_133 (dk_at dksX0_digest_7 12 rfl rfl)
theorem dX0_digest_175 : decode cX0_digest 175 = .ok (.ladd, 1) := dk_97 (dk_at dksX0_digest_7 13 rfl rfl)
theorem dX0_digest_176 : decode cX0_digest 176 = .ok (.lstore_n 1, 1) := dk_64 (dk_at dksX0_digest_7 14 rfl rfl)
theorem dX0_digest_177 : decode cX0_digest 177 = .ok (.iconst 0, 1) := dk_3 (dk_at dksX0_digest_7 15 rfl rfl)
theorem dX0_digest_178 : decode cX0_digest 178 = .ok (.istore 5, 2) := dk_54 5 (dk_at dksX0_digest_7 16 rfl rfl)
theorem dX0_digest_180 : decode cX0_digest 180 = .ok (.aload 4, 2) := dk_25 4 (dk_at dksX0_digest_7 18 rfl rfl)
theorem dX0_digest_182 : decode cX0_digest 182 = .ok (.ifnull 30, 3) := dk_198 0 30 (dk_at dksX0_digest_7 20 rfl rfl)
theorem dX0_digest_185 : decode cX0_digest 185 = .ok (.iload 5, 2) := dk_21 5 (dk_at dksX0_digest_8 0 rfl rfl)
theorem dX0_digest_187 : decode cX0_digest 187 = .ok (.aload 4, 2) := dk_25 4 (dk_at dksX0_digest_8 2 rfl rfl)
theorem dX0_digest_189 : decode cX0_digest 189 = .ok (.arraylength, 1) := dk_190 (dk_at dksX0_digest_8 4 rfl rfl)
theorem dX0_digest_190 : decode cX0_digest 190 = .ok (.if_icmp .ge 22, 3) := dk_162 0 22 (dk_at dksX0_digest_8 5 rfl rfl)
theorem dX0_digest_193 : decode cX0_digest 193 = .ok (.ldc2_w 366, 3) := dk_20 1 110 (dk_at dksX0_digest_8 8 rfl rfl)
theorem dX0_digest_196 : decode cX0_digest 196 = .ok (.lload_n 1, 1) := dk_31 (dk_at dksX0_digest_8 11 rfl rfl)
theorem dX0_digest_197 : decode cX0_digest 197 = .ok (.lmul, 1) := dk_105 (dk_at dksX0_digest_8 12 rfl rfl)
theorem dX0_digest_198 : decode cX0_digest 198 = .ok (.aload 4, 2) := dk_25 4 (dk_at dksX0_digest_8 13 rfl rfl)
theorem dX0_digest_200 : decode cX0_digest 200 = .ok (.iload 5, 2) := dk_21 5 (dk_at dksX0_digest_8 15 rfl rfl)
theorem dX0_digest_202 : decode cX0_digest 202 = .ok (.iaload, 1) := dk_46 (dk_at dksX0_digest_8 17 rfl rfl)
theorem dX0_digest_203 : decode cX0_digest 203 = .ok (.i2l, 1) := dk_133 (dk_at dksX0_digest_8 18 rfl rfl)
theorem dX0_digest_204 : decode cX0_digest 204 = .ok (.ladd, 1) := dk_97 (dk_at dksX0_digest_8 19 rfl rfl)
theorem dX0_digest_205 : decode cX0_digest 205 = .ok (.lstore_n 1, 1) := dk_64 (dk_at dksX0_digest_8 20 rfl rfl)
theorem dX0_digest_206 : decode cX0_digest 206 = .ok (.iinc 5 1, 3) := dk_132 5 1 (dk_at dksX0_digest_8 21 rfl rfl)
theorem dX0_digest_209 : decode cX0_digest 209 = .ok (.goto (-29), 3) := dk_167 255 227 (dk_at dksX0_digest_9 0 rfl rfl)
theorem dX0_digest_212 : decode cX0_digest 212 = .ok (.iinc 3 1, 3) := dk_132 3 1 (dk_at dksX0_digest_9 3 rfl rfl)
theorem dX0_digest_215 : decode cX0_digest 215 = .ok (.goto (-71), 3) := dk_167 255 185 (dk_at dksX0_digest_9 6 rfl rfl)
theorem dX0_digest_218 : decode cX0_digest 218 = .ok (.lload_n 1, 1) := dk_31 (dk_at dksX0_digest_9 9 rfl rfl)
theorem dX0_digest_219 : decode cX0_digest 219 = .ok (.lreturn, 1) := dk_173 (dk_at dksX0_digest_9 10 rfl rfl)
theorem q70 : (Jvm.Cond.initialized "HeirHunters") ∈ lw_all := lw_g (lw_at lw_m1 1 rfl) rfl
theorem q90 : (Jvm.Cond.instantiable "HeirHunters" (41 : Nat)) ∈ lw_all := lw_g (lw_at lw_m1 21 rfl) rfl
theorem q92 : (Jvm.Cond.instanceMethod ({ cls := "HeirHunters", name := "<init>", desc := "()V" } : Jvm.MethodName)) ∈ lw_all := lw_g (lw_at lw_m1 23 rfl) rfl
theorem q93 : (Jvm.Cond.code ({ cls := "HeirHunters", name := "<init>", desc := "()V" } : Jvm.MethodName) prog_1_method_3_code (1 : Nat) (Option.none : Option Jvm.ClassFile.FieldType)) ∈ lw_all := lw_g (lw_at lw_m1 24 rfl) rfl
theorem q94 : (Jvm.Cond.methodLink "HeirHunters" (11 : Nat) ({ cls := "java/lang/Object", name := "<init>", desc := "()V" } : Jvm.MethodName)) ∈ lw_all := lw_g (lw_at lw_m1 25 rfl) rfl
theorem q97 : (Jvm.Cond.classLink "HeirHunters" (30 : Nat) "HeirHunters$Line") ∈ lw_all := lw_g (lw_at lw_m1 28 rfl) rfl
theorem q99 : (Jvm.Cond.classLink "HeirHunters" (95 : Nat) "[I") ∈ lw_all := lw_g (lw_at lw_m1 30 rfl) rfl
theorem q101 : (Jvm.Cond.fieldLink "HeirHunters" (1 : Nat) "HeirHunters" "latest" "I") ∈ lw_all := lw_g (lw_at lw_m1 32 rfl) rfl
theorem q102 : (Jvm.Cond.fieldLink "HeirHunters" (7 : Nat) "HeirHunters" "came" "[I") ∈ lw_all := lw_g (lw_at lw_m1 33 rfl) rfl
theorem q103 : (Jvm.Cond.fieldLink "HeirHunters" (122 : Nat) "HeirHunters" "upper" "J") ∈ lw_all := lw_g (lw_at lw_m1 34 rfl) rfl
theorem q104 : (Jvm.Cond.fieldLink "HeirHunters" (17 : Nat) "HeirHunters" "lower" "J") ∈ lw_all := lw_g (lw_at lw_m1 35 rfl) rfl
theorem q105 : (Jvm.Cond.fieldLink "HeirHunters" (110 : Nat) "HeirHunters" "sumUp" "J") ∈ lw_all := lw_g (lw_at lw_m1 36 rfl) rfl
theorem q106 : (Jvm.Cond.fieldLink "HeirHunters" (113 : Nat) "HeirHunters" "sumLow" "J") ∈ lw_all := lw_g (lw_at lw_m1 37 rfl) rfl
theorem q107 : (Jvm.Cond.fieldLink "HeirHunters" (125 : Nat) "HeirHunters" "personMany" "I") ∈ lw_all := lw_g (lw_at lw_m1 38 rfl) rfl
theorem q108 : (Jvm.Cond.fieldLink "HeirHunters" (21 : Nat) "HeirHunters" "lands" "[I") ∈ lw_all := lw_g (lw_at lw_m1 39 rfl) rfl
theorem q109 : (Jvm.Cond.fieldLink "HeirHunters" (24 : Nat) "HeirHunters" "born" "[I") ∈ lw_all := lw_g (lw_at lw_m1 40 rfl) rfl
theorem q110 : (Jvm.Cond.fieldLink "HeirHunters" (27 : Nat) "HeirHunters" "dead" "[I") ∈ lw_all := lw_g (lw_at lw_m1 41 rfl) rfl
theorem q111 : (Jvm.Cond.fieldLink "HeirHunters" (32 : Nat) "HeirHunters" "lines" "[LHeirHunters$Line;") ∈ lw_all := lw_g (lw_at lw_m1 42 rfl) rfl
theorem q112 : (Jvm.Cond.fieldLink "HeirHunters" (144 : Nat) "HeirHunters" "lineMany" "I") ∈ lw_all := lw_g (lw_at lw_m1 43 rfl) rfl
theorem q113 : (Jvm.Cond.fieldLink "HeirHunters" (201 : Nat) "HeirHunters" "coupleMany" "I") ∈ lw_all := lw_g (lw_at lw_m1 44 rfl) rfl
theorem q114 : (Jvm.Cond.fieldLink "HeirHunters" (36 : Nat) "HeirHunters" "couples" "[I") ∈ lw_all := lw_g (lw_at lw_m1 45 rfl) rfl
theorem q115 : (Jvm.Cond.fieldLink "HeirHunters" (204 : Nat) "HeirHunters" "lawMany" "I") ∈ lw_all := lw_g (lw_at lw_m1 46 rfl) rfl
theorem q116 : (Jvm.Cond.fieldLink "HeirHunters" (39 : Nat) "HeirHunters" "laws" "[I") ∈ lw_all := lw_g (lw_at lw_m1 47 rfl) rfl
theorem q117 : (Jvm.Cond.fieldLink "HeirHunters" (207 : Nat) "HeirHunters" "theDead" "I") ∈ lw_all := lw_g (lw_at lw_m1 48 rfl) rfl
theorem q118 : (Jvm.Cond.fieldLink "HeirHunters" (213 : Nat) "HeirHunters" "theLaw" "I") ∈ lw_all := lw_g (lw_at lw_m1 49 rfl) rfl
theorem q119 : (Jvm.Cond.fieldLink "HeirHunters" (42 : Nat) "HeirHunters" "isTrue" "[Z") ∈ lw_all := lw_g (lw_at lw_m1 50 rfl) rfl
theorem q120 : (Jvm.Cond.fieldLink "HeirHunters" (46 : Nat) "HeirHunters" "survives" "[Z") ∈ lw_all := lw_g (lw_at lw_m1 51 rfl) rfl
theorem q121 : (Jvm.Cond.fieldLink "HeirHunters" (49 : Nat) "HeirHunters" "counts" "[Z") ∈ lw_all := lw_g (lw_at lw_m1 52 rfl) rfl
theorem q122 : (Jvm.Cond.fieldLink "HeirHunters" (52 : Nat) "HeirHunters" "takes" "[I") ∈ lw_all := lw_g (lw_at lw_m1 53 rfl) rfl
theorem q123 : (Jvm.Cond.fieldLink "HeirHunters" (55 : Nat) "HeirHunters" "ups" "[J") ∈ lw_all := lw_g (lw_at lw_m1 54 rfl) rfl
theorem q124 : (Jvm.Cond.fieldLink "HeirHunters" (59 : Nat) "HeirHunters" "lows" "[J") ∈ lw_all := lw_g (lw_at lw_m1 55 rfl) rfl
theorem q125 : (Jvm.Cond.fieldLink "HeirHunters" (260 : Nat) "HeirHunters" "circle" "I") ∈ lw_all := lw_g (lw_at lw_m1 56 rfl) rfl
theorem q126 : (Jvm.Cond.fieldLink "HeirHunters" (62 : Nat) "HeirHunters" "dueUp" "[J") ∈ lw_all := lw_g (lw_at lw_m1 57 rfl) rfl
theorem q127 : (Jvm.Cond.fieldLink "HeirHunters" (65 : Nat) "HeirHunters" "dueLow" "[J") ∈ lw_all := lw_g (lw_at lw_m1 58 rfl) rfl
theorem q128 : (Jvm.Cond.fieldLink "HeirHunters" (68 : Nat) "HeirHunters" "byBirth" "[I") ∈ lw_all := lw_g (lw_at lw_m1 59 rfl) rfl
theorem q129 : (Jvm.Cond.fieldLink "HeirHunters" (71 : Nat) "HeirHunters" "heads" "[I") ∈ lw_all := lw_g (lw_at lw_m1 60 rfl) rfl
theorem q130 : (Jvm.Cond.fieldLink "HeirHunters" (241 : Nat) "HeirHunters" "headMany" "I") ∈ lw_all := lw_g (lw_at lw_m1 61 rfl) rfl
theorem q131 : (Jvm.Cond.fieldLink "HeirHunters" (74 : Nat) "HeirHunters" "openLines" "[I") ∈ lw_all := lw_g (lw_at lw_m1 62 rfl) rfl
theorem q132 : (Jvm.Cond.fieldLink "HeirHunters" (295 : Nat) "HeirHunters" "openMany" "I") ∈ lw_all := lw_g (lw_at lw_m1 63 rfl) rfl
theorem q133 : (Jvm.Cond.fieldLink "HeirHunters" (77 : Nat) "HeirHunters" "leastUp" "[J") ∈ lw_all := lw_g (lw_at lw_m1 64 rfl) rfl
theorem q134 : (Jvm.Cond.fieldLink "HeirHunters" (80 : Nat) "HeirHunters" "leastLow" "[J") ∈ lw_all := lw_g (lw_at lw_m1 65 rfl) rfl
theorem q135 : (Jvm.Cond.fieldLink "HeirHunters" (83 : Nat) "HeirHunters" "mostUp" "[J") ∈ lw_all := lw_g (lw_at lw_m1 66 rfl) rfl
theorem q136 : (Jvm.Cond.fieldLink "HeirHunters" (86 : Nat) "HeirHunters" "mostLow" "[J") ∈ lw_all := lw_g (lw_at lw_m1 67 rfl) rfl
theorem q137 : (Jvm.Cond.fieldLink "HeirHunters" (322 : Nat) "HeirHunters" "worthUp" "J") ∈ lw_all := lw_g (lw_at lw_m1 68 rfl) rfl
theorem q138 : (Jvm.Cond.fieldLink "HeirHunters" (325 : Nat) "HeirHunters" "worthLow" "J") ∈ lw_all := lw_g (lw_at lw_m1 69 rfl) rfl
theorem q139 : (Jvm.Cond.fieldLink "HeirHunters" (89 : Nat) "HeirHunters" "sums" "[I") ∈ lw_all := lw_g (lw_at lw_m1 70 rfl) rfl
theorem q140 : (Jvm.Cond.fieldLink "HeirHunters" (92 : Nat) "HeirHunters" "paid" "[I") ∈ lw_all := lw_g (lw_at lw_m1 71 rfl) rfl
theorem q141 : (Jvm.Cond.fieldLink "HeirHunters" (96 : Nat) "HeirHunters" "sheets" "[[I") ∈ lw_all := lw_g (lw_at lw_m1 72 rfl) rfl
theorem q142 : (Jvm.Cond.lays "HeirHunters" "HeirHunters" "latest" "I") ∈ lw_all := lw_g (lw_at lw_m1 73 rfl) rfl
theorem q143 : (Jvm.Cond.soleField "HeirHunters" "latest") ∈ lw_all := lw_g (lw_at lw_m1 74 rfl) rfl
theorem q144 : (Jvm.Cond.laysFinal "HeirHunters" "HeirHunters" "came" "[I") ∈ lw_all := lw_g (lw_at lw_m1 75 rfl) rfl
theorem q145 : (Jvm.Cond.soleField "HeirHunters" "came") ∈ lw_all := lw_g (lw_at lw_m1 76 rfl) rfl
theorem q146 : (Jvm.Cond.lays "HeirHunters" "HeirHunters" "upper" "J") ∈ lw_all := lw_g (lw_at lw_m1 77 rfl) rfl
theorem q147 : (Jvm.Cond.soleField "HeirHunters" "upper") ∈ lw_all := lw_g (lw_at lw_m1 78 rfl) rfl
theorem q148 : (Jvm.Cond.lays "HeirHunters" "HeirHunters" "lower" "J") ∈ lw_all := lw_g (lw_at lw_m1 79 rfl) rfl
theorem q149 : (Jvm.Cond.soleField "HeirHunters" "lower") ∈ lw_all := lw_g (lw_at lw_m1 80 rfl) rfl
theorem q150 : (Jvm.Cond.lays "HeirHunters" "HeirHunters" "sumUp" "J") ∈ lw_all := lw_g (lw_at lw_m1 81 rfl) rfl
theorem q151 : (Jvm.Cond.soleField "HeirHunters" "sumUp") ∈ lw_all := lw_g (lw_at lw_m1 82 rfl) rfl
theorem q152 : (Jvm.Cond.lays "HeirHunters" "HeirHunters" "sumLow" "J") ∈ lw_all := lw_g (lw_at lw_m1 83 rfl) rfl
theorem q153 : (Jvm.Cond.soleField "HeirHunters" "sumLow") ∈ lw_all := lw_g (lw_at lw_m1 84 rfl) rfl
theorem q154 : (Jvm.Cond.lays "HeirHunters" "HeirHunters" "personMany" "I") ∈ lw_all := lw_g (lw_at lw_m1 85 rfl) rfl
theorem q155 : (Jvm.Cond.soleField "HeirHunters" "personMany") ∈ lw_all := lw_g (lw_at lw_m1 86 rfl) rfl
theorem q156 : (Jvm.Cond.laysFinal "HeirHunters" "HeirHunters" "lands" "[I") ∈ lw_all := lw_g (lw_at lw_m1 87 rfl) rfl
theorem q157 : (Jvm.Cond.soleField "HeirHunters" "lands") ∈ lw_all := lw_g (lw_at lw_m1 88 rfl) rfl
theorem q158 : (Jvm.Cond.laysFinal "HeirHunters" "HeirHunters" "born" "[I") ∈ lw_all := lw_g (lw_at lw_m1 89 rfl) rfl
theorem q159 : (Jvm.Cond.soleField "HeirHunters" "born") ∈ lw_all := lw_g (lw_at lw_m1 90 rfl) rfl
theorem q160 : (Jvm.Cond.laysFinal "HeirHunters" "HeirHunters" "dead" "[I") ∈ lw_all := lw_g (lw_at lw_m1 91 rfl) rfl
theorem q161 : (Jvm.Cond.soleField "HeirHunters" "dead") ∈ lw_all := lw_g (lw_at lw_m1 92 rfl) rfl
theorem q162 : (Jvm.Cond.laysFinal "HeirHunters" "HeirHunters" "lines" "[LHeirHunters$Line;") ∈ lw_all := lw_g (lw_at lw_m1 93 rfl) rfl
theorem q163 : (Jvm.Cond.soleField "HeirHunters" "lines") ∈ lw_all := lw_g (lw_at lw_m1 94 rfl) rfl
theorem q164 : (Jvm.Cond.lays "HeirHunters" "HeirHunters" "lineMany" "I") ∈ lw_all := lw_g (lw_at lw_m1 95 rfl) rfl
theorem q165 : (Jvm.Cond.soleField "HeirHunters" "lineMany") ∈ lw_all := lw_g (lw_at lw_m1 96 rfl) rfl
theorem q166 : (Jvm.Cond.lays "HeirHunters" "HeirHunters" "coupleMany" "I") ∈ lw_all := lw_g (lw_at lw_m1 97 rfl) rfl
theorem q167 : (Jvm.Cond.soleField "HeirHunters" "coupleMany") ∈ lw_all := lw_g (lw_at lw_m1 98 rfl) rfl
theorem q168 : (Jvm.Cond.laysFinal "HeirHunters" "HeirHunters" "couples" "[I") ∈ lw_all := lw_g (lw_at lw_m1 99 rfl) rfl
theorem q169 : (Jvm.Cond.soleField "HeirHunters" "couples") ∈ lw_all := lw_g (lw_at lw_m1 100 rfl) rfl
theorem q170 : (Jvm.Cond.lays "HeirHunters" "HeirHunters" "lawMany" "I") ∈ lw_all := lw_g (lw_at lw_m1 101 rfl) rfl
theorem q171 : (Jvm.Cond.soleField "HeirHunters" "lawMany") ∈ lw_all := lw_g (lw_at lw_m1 102 rfl) rfl
theorem q172 : (Jvm.Cond.laysFinal "HeirHunters" "HeirHunters" "laws" "[I") ∈ lw_all := lw_g (lw_at lw_m1 103 rfl) rfl
theorem q173 : (Jvm.Cond.soleField "HeirHunters" "laws") ∈ lw_all := lw_g (lw_at lw_m1 104 rfl) rfl
theorem q174 : (Jvm.Cond.lays "HeirHunters" "HeirHunters" "theDead" "I") ∈ lw_all := lw_g (lw_at lw_m1 105 rfl) rfl
theorem q175 : (Jvm.Cond.soleField "HeirHunters" "theDead") ∈ lw_all := lw_g (lw_at lw_m1 106 rfl) rfl
theorem q176 : (Jvm.Cond.lays "HeirHunters" "HeirHunters" "theLaw" "I") ∈ lw_all := lw_g (lw_at lw_m1 107 rfl) rfl
theorem q177 : (Jvm.Cond.soleField "HeirHunters" "theLaw") ∈ lw_all := lw_g (lw_at lw_m1 108 rfl) rfl
theorem q178 : (Jvm.Cond.laysFinal "HeirHunters" "HeirHunters" "isTrue" "[Z") ∈ lw_all := lw_g (lw_at lw_m1 109 rfl) rfl
theorem q179 : (Jvm.Cond.soleField "HeirHunters" "isTrue") ∈ lw_all := lw_g (lw_at lw_m1 110 rfl) rfl
theorem q180 : (Jvm.Cond.laysFinal "HeirHunters" "HeirHunters" "survives" "[Z") ∈ lw_all := lw_g (lw_at lw_m1 111 rfl) rfl
theorem q181 : (Jvm.Cond.soleField "HeirHunters" "survives") ∈ lw_all := lw_g (lw_at lw_m1 112 rfl) rfl
theorem q182 : (Jvm.Cond.laysFinal "HeirHunters" "HeirHunters" "counts" "[Z") ∈ lw_all := lw_g (lw_at lw_m1 113 rfl) rfl
theorem q183 : (Jvm.Cond.soleField "HeirHunters" "counts") ∈ lw_all := lw_g (lw_at lw_m1 114 rfl) rfl
theorem q184 : (Jvm.Cond.laysFinal "HeirHunters" "HeirHunters" "takes" "[I") ∈ lw_all := lw_g (lw_at lw_m1 115 rfl) rfl
theorem q185 : (Jvm.Cond.soleField "HeirHunters" "takes") ∈ lw_all := lw_g (lw_at lw_m1 116 rfl) rfl
theorem q186 : (Jvm.Cond.laysFinal "HeirHunters" "HeirHunters" "ups" "[J") ∈ lw_all := lw_g (lw_at lw_m1 117 rfl) rfl
theorem q187 : (Jvm.Cond.soleField "HeirHunters" "ups") ∈ lw_all := lw_g (lw_at lw_m1 118 rfl) rfl
theorem q188 : (Jvm.Cond.laysFinal "HeirHunters" "HeirHunters" "lows" "[J") ∈ lw_all := lw_g (lw_at lw_m1 119 rfl) rfl
theorem q189 : (Jvm.Cond.soleField "HeirHunters" "lows") ∈ lw_all := lw_g (lw_at lw_m1 120 rfl) rfl
theorem q190 : (Jvm.Cond.lays "HeirHunters" "HeirHunters" "circle" "I") ∈ lw_all := lw_g (lw_at lw_m1 121 rfl) rfl
theorem q191 : (Jvm.Cond.soleField "HeirHunters" "circle") ∈ lw_all := lw_g (lw_at lw_m1 122 rfl) rfl
theorem q192 : (Jvm.Cond.laysFinal "HeirHunters" "HeirHunters" "dueUp" "[J") ∈ lw_all := lw_g (lw_at lw_m1 123 rfl) rfl
theorem q193 : (Jvm.Cond.soleField "HeirHunters" "dueUp") ∈ lw_all := lw_g (lw_at lw_m1 124 rfl) rfl
theorem q194 : (Jvm.Cond.laysFinal "HeirHunters" "HeirHunters" "dueLow" "[J") ∈ lw_all := lw_g (lw_at lw_m1 125 rfl) rfl
theorem q195 : (Jvm.Cond.soleField "HeirHunters" "dueLow") ∈ lw_all := lw_g (lw_at lw_m1 126 rfl) rfl
theorem q196 : (Jvm.Cond.laysFinal "HeirHunters" "HeirHunters" "byBirth" "[I") ∈ lw_all := lw_g (lw_at lw_m1 127 rfl) rfl
theorem q197 : (Jvm.Cond.soleField "HeirHunters" "byBirth") ∈ lw_all := lw_g (lw_at lw_m1 128 rfl) rfl
theorem q198 : (Jvm.Cond.laysFinal "HeirHunters" "HeirHunters" "heads" "[I") ∈ lw_all := lw_g (lw_at lw_m1 129 rfl) rfl
theorem q199 : (Jvm.Cond.soleField "HeirHunters" "heads") ∈ lw_all := lw_g (lw_at lw_m1 130 rfl) rfl
theorem q200 : (Jvm.Cond.lays "HeirHunters" "HeirHunters" "headMany" "I") ∈ lw_all := lw_g (lw_at lw_m1 131 rfl) rfl
theorem q201 : (Jvm.Cond.soleField "HeirHunters" "headMany") ∈ lw_all := lw_g (lw_at lw_m1 132 rfl) rfl
theorem q202 : (Jvm.Cond.laysFinal "HeirHunters" "HeirHunters" "openLines" "[I") ∈ lw_all := lw_g (lw_at lw_m1 133 rfl) rfl
theorem q203 : (Jvm.Cond.soleField "HeirHunters" "openLines") ∈ lw_all := lw_g (lw_at lw_m1 134 rfl) rfl
theorem q204 : (Jvm.Cond.lays "HeirHunters" "HeirHunters" "openMany" "I") ∈ lw_all := lw_g (lw_at lw_m1 135 rfl) rfl
theorem q205 : (Jvm.Cond.soleField "HeirHunters" "openMany") ∈ lw_all := lw_g (lw_at lw_m1 136 rfl) rfl
theorem q206 : (Jvm.Cond.laysFinal "HeirHunters" "HeirHunters" "leastUp" "[J") ∈ lw_all := lw_g (lw_at lw_m1 137 rfl) rfl
theorem q207 : (Jvm.Cond.soleField "HeirHunters" "leastUp") ∈ lw_all := lw_g (lw_at lw_m1 138 rfl) rfl
theorem q208 : (Jvm.Cond.laysFinal "HeirHunters" "HeirHunters" "leastLow" "[J") ∈ lw_all := lw_g (lw_at lw_m1 139 rfl) rfl
theorem q209 : (Jvm.Cond.soleField "HeirHunters" "leastLow") ∈ lw_all := lw_g (lw_at lw_m1 140 rfl) rfl
theorem q210 : (Jvm.Cond.laysFinal "HeirHunters" "HeirHunters" "mostUp" "[J") ∈ lw_all := lw_g (lw_at lw_m1 141 rfl) rfl
theorem q211 : (Jvm.Cond.soleField "HeirHunters" "mostUp") ∈ lw_all := lw_g (lw_at lw_m1 142 rfl) rfl
theorem q212 : (Jvm.Cond.laysFinal "HeirHunters" "HeirHunters" "mostLow" "[J") ∈ lw_all := lw_g (lw_at lw_m1 143 rfl) rfl
theorem q213 : (Jvm.Cond.soleField "HeirHunters" "mostLow") ∈ lw_all := lw_g (lw_at lw_m1 144 rfl) rfl
theorem q214 : (Jvm.Cond.lays "HeirHunters" "HeirHunters" "worthUp" "J") ∈ lw_all := lw_g (lw_at lw_m1 145 rfl) rfl
theorem q215 : (Jvm.Cond.soleField "HeirHunters" "worthUp") ∈ lw_all := lw_g (lw_at lw_m1 146 rfl) rfl
theorem q216 : (Jvm.Cond.lays "HeirHunters" "HeirHunters" "worthLow" "J") ∈ lw_all := lw_g (lw_at lw_m1 147 rfl) rfl
theorem q217 : (Jvm.Cond.soleField "HeirHunters" "worthLow") ∈ lw_all := lw_g (lw_at lw_m1 148 rfl) rfl
theorem q218 : (Jvm.Cond.laysFinal "HeirHunters" "HeirHunters" "sums" "[I") ∈ lw_all := lw_g (lw_at lw_m1 149 rfl) rfl
theorem q219 : (Jvm.Cond.soleField "HeirHunters" "sums") ∈ lw_all := lw_g (lw_at lw_m1 150 rfl) rfl
theorem q220 : (Jvm.Cond.laysFinal "HeirHunters" "HeirHunters" "paid" "[I") ∈ lw_all := lw_g (lw_at lw_m1 151 rfl) rfl
theorem q221 : (Jvm.Cond.soleField "HeirHunters" "paid") ∈ lw_all := lw_g (lw_at lw_m1 152 rfl) rfl
theorem q222 : (Jvm.Cond.laysFinal "HeirHunters" "HeirHunters" "sheets" "[[I") ∈ lw_all := lw_g (lw_at lw_m1 153 rfl) rfl
theorem q223 : (Jvm.Cond.soleField "HeirHunters" "sheets") ∈ lw_all := lw_g (lw_at lw_m1 154 rfl) rfl
theorem q224 : (Jvm.Cond.superclass "HeirHunters" "java/lang/Object") ∈ lw_all := lw_g (lw_at lw_m1 155 rfl) rfl
theorem q229 : (Jvm.Cond.instanceMethod ({ cls := "HeirHunters", name := "upper", desc := "()J" } : Jvm.MethodName)) ∈ lw_all := lw_g (lw_at lw_m1 160 rfl) rfl
theorem q230 : (Jvm.Cond.selects "HeirHunters" ({ cls := "HeirHunters", name := "upper", desc := "()J" } : Jvm.MethodName) ({ cls := "HeirHunters", name := "upper", desc := "()J" } : Jvm.MethodName)) ∈ lw_all := lw_g (lw_at lw_m1 161 rfl) rfl
theorem q231 : (Jvm.Cond.code ({ cls := "HeirHunters", name := "upper", desc := "()J" } : Jvm.MethodName) prog_1_method_8_code (1 : Nat) (Option.some Jvm.ClassFile.FieldType.long)) ∈ lw_all := lw_g (lw_at lw_m1 162 rfl) rfl
theorem q233 : (Jvm.Cond.instanceMethod ({ cls := "HeirHunters", name := "lower", desc := "()J" } : Jvm.MethodName)) ∈ lw_all := lw_g (lw_at lw_m1 164 rfl) rfl
theorem q234 : (Jvm.Cond.selects "HeirHunters" ({ cls := "HeirHunters", name := "lower", desc := "()J" } : Jvm.MethodName) ({ cls := "HeirHunters", name := "lower", desc := "()J" } : Jvm.MethodName)) ∈ lw_all := lw_g (lw_at lw_m1 165 rfl) rfl
theorem q235 : (Jvm.Cond.code ({ cls := "HeirHunters", name := "lower", desc := "()J" } : Jvm.MethodName) prog_1_method_9_code (1 : Nat) (Option.some Jvm.ClassFile.FieldType.long)) ∈ lw_all := lw_g (lw_at lw_m1 166 rfl) rfl
theorem q237 : (Jvm.Cond.instanceMethod ({ cls := "HeirHunters", name := "person", desc := "(III)I" } : Jvm.MethodName)) ∈ lw_all := lw_g (lw_at lw_m1 168 rfl) rfl
theorem q238 : (Jvm.Cond.selects "HeirHunters" ({ cls := "HeirHunters", name := "person", desc := "(III)I" } : Jvm.MethodName) ({ cls := "HeirHunters", name := "person", desc := "(III)I" } : Jvm.MethodName)) ∈ lw_all := lw_g (lw_at lw_m1 169 rfl) rfl
theorem q239 : (Jvm.Cond.code ({ cls := "HeirHunters", name := "person", desc := "(III)I" } : Jvm.MethodName) prog_1_method_12_code (4 : Nat) (Option.some Jvm.ClassFile.FieldType.int)) ∈ lw_all := lw_g (lw_at lw_m1 170 rfl) rfl
theorem q240 : (Jvm.Cond.methodLink "HeirHunters" (128 : Nat) ({ cls := "HeirHunters", name := "in", desc := "(III)Z" } : Jvm.MethodName)) ∈ lw_all := lw_g (lw_at lw_m1 171 rfl) rfl
theorem q241 : (Jvm.Cond.static ({ cls := "HeirHunters", name := "in", desc := "(III)Z" } : Jvm.MethodName)) ∈ lw_all := lw_g (lw_at lw_m1 172 rfl) rfl
theorem q242 : (Jvm.Cond.code ({ cls := "HeirHunters", name := "in", desc := "(III)Z" } : Jvm.MethodName) prog_1_method_1_code (3 : Nat) (Option.some Jvm.ClassFile.FieldType.boolean)) ∈ lw_all := lw_g (lw_at lw_m1 173 rfl) rfl
theorem q243 : (Jvm.Cond.methodLink "HeirHunters" (133 : Nat) ({ cls := "HeirHunters", name := "isDay", desc := "(I)Z" } : Jvm.MethodName)) ∈ lw_all := lw_g (lw_at lw_m1 174 rfl) rfl
theorem q244 : (Jvm.Cond.static ({ cls := "HeirHunters", name := "isDay", desc := "(I)Z" } : Jvm.MethodName)) ∈ lw_all := lw_g (lw_at lw_m1 175 rfl) rfl
theorem q245 : (Jvm.Cond.code ({ cls := "HeirHunters", name := "isDay", desc := "(I)Z" } : Jvm.MethodName) prog_1_method_11_code (1 : Nat) (Option.some Jvm.ClassFile.FieldType.boolean)) ∈ lw_all := lw_g (lw_at lw_m1 176 rfl) rfl
theorem q246 : (Jvm.Cond.constant "HeirHunters" (132 : Nat) (100000 : Int32)) ∈ lw_all := lw_g (lw_at lw_m1 177 rfl) rfl
theorem q248 : (Jvm.Cond.instanceMethod ({ cls := "HeirHunters", name := "told", desc := "(II)I" } : Jvm.MethodName)) ∈ lw_all := lw_g (lw_at lw_m1 179 rfl) rfl
theorem q249 : (Jvm.Cond.selects "HeirHunters" ({ cls := "HeirHunters", name := "told", desc := "(II)I" } : Jvm.MethodName) ({ cls := "HeirHunters", name := "told", desc := "(II)I" } : Jvm.MethodName)) ∈ lw_all := lw_g (lw_at lw_m1 180 rfl) rfl
theorem q250 : (Jvm.Cond.code ({ cls := "HeirHunters", name := "told", desc := "(II)I" } : Jvm.MethodName) prog_1_method_13_code (5 : Nat) (Option.some Jvm.ClassFile.FieldType.int)) ∈ lw_all := lw_g (lw_at lw_m1 181 rfl) rfl
theorem q251 : (Jvm.Cond.methodLink "HeirHunters" (137 : Nat) ({ cls := "HeirHunters", name := "isPerson", desc := "(I)Z" } : Jvm.MethodName)) ∈ lw_all := lw_g (lw_at lw_m1 182 rfl) rfl
theorem q252 : (Jvm.Cond.privateMethod ({ cls := "HeirHunters", name := "isPerson", desc := "(I)Z" } : Jvm.MethodName)) ∈ lw_tbl := lw_at lw_m1 183 rfl
theorem q253 : (Jvm.Cond.instanceMethod ({ cls := "HeirHunters", name := "isPerson", desc := "(I)Z" } : Jvm.MethodName)) ∈ lw_all := lw_g (lw_at lw_m1 184 rfl) rfl
theorem q254 : (Jvm.Cond.code ({ cls := "HeirHunters", name := "isPerson", desc := "(I)Z" } : Jvm.MethodName) prog_1_method_10_code (2 : Nat) (Option.some Jvm.ClassFile.FieldType.boolean)) ∈ lw_all := lw_g (lw_at lw_m1 185 rfl) rfl
theorem q255 : (Jvm.Cond.methodLink "HeirHunters" (140 : Nat) ({ cls := "HeirHunters", name := "linesTo", desc := "(I)I" } : Jvm.MethodName)) ∈ lw_all := lw_g (lw_at lw_m1 186 rfl) rfl
theorem q256 : (Jvm.Cond.privateMethod ({ cls := "HeirHunters", name := "linesTo", desc := "(I)I" } : Jvm.MethodName)) ∈ lw_tbl := lw_at lw_m1 187 rfl
theorem q257 : (Jvm.Cond.instanceMethod ({ cls := "HeirHunters", name := "linesTo", desc := "(I)I" } : Jvm.MethodName)) ∈ lw_all := lw_g (lw_at lw_m1 188 rfl) rfl
theorem q258 : (Jvm.Cond.code ({ cls := "HeirHunters", name := "linesTo", desc := "(I)I" } : Jvm.MethodName) prog_1_method_16_code (4 : Nat) (Option.some Jvm.ClassFile.FieldType.int)) ∈ lw_all := lw_g (lw_at lw_m1 189 rfl) rfl
theorem q260 : (Jvm.Cond.instanceMethod ({ cls := "HeirHunters", name := "die", desc := "(II)I" } : Jvm.MethodName)) ∈ lw_all := lw_g (lw_at lw_m1 191 rfl) rfl
theorem q261 : (Jvm.Cond.selects "HeirHunters" ({ cls := "HeirHunters", name := "die", desc := "(II)I" } : Jvm.MethodName) ({ cls := "HeirHunters", name := "die", desc := "(II)I" } : Jvm.MethodName)) ∈ lw_all := lw_g (lw_at lw_m1 192 rfl) rfl
theorem q262 : (Jvm.Cond.code ({ cls := "HeirHunters", name := "die", desc := "(II)I" } : Jvm.MethodName) prog_1_method_14_code (3 : Nat) (Option.some Jvm.ClassFile.FieldType.int)) ∈ lw_all := lw_g (lw_at lw_m1 193 rfl) rfl
theorem q264 : (Jvm.Cond.instanceMethod ({ cls := "HeirHunters", name := "line", desc := "(IIIII)I" } : Jvm.MethodName)) ∈ lw_all := lw_g (lw_at lw_m1 195 rfl) rfl
theorem q265 : (Jvm.Cond.selects "HeirHunters" ({ cls := "HeirHunters", name := "line", desc := "(IIIII)I" } : Jvm.MethodName) ({ cls := "HeirHunters", name := "line", desc := "(IIIII)I" } : Jvm.MethodName)) ∈ lw_all := lw_g (lw_at lw_m1 196 rfl) rfl
theorem q266 : (Jvm.Cond.code ({ cls := "HeirHunters", name := "line", desc := "(IIIII)I" } : Jvm.MethodName) prog_1_method_18_code (7 : Nat) (Option.some Jvm.ClassFile.FieldType.int)) ∈ lw_all := lw_g (lw_at lw_m1 197 rfl) rfl
theorem q267 : (Jvm.Cond.methodLink "HeirHunters" (157 : Nat) ({ cls := "HeirHunters", name := "hasLine", desc := "(II)Z" } : Jvm.MethodName)) ∈ lw_all := lw_g (lw_at lw_m1 198 rfl) rfl
theorem q268 : (Jvm.Cond.privateMethod ({ cls := "HeirHunters", name := "hasLine", desc := "(II)Z" } : Jvm.MethodName)) ∈ lw_tbl := lw_at lw_m1 199 rfl
theorem q269 : (Jvm.Cond.instanceMethod ({ cls := "HeirHunters", name := "hasLine", desc := "(II)Z" } : Jvm.MethodName)) ∈ lw_all := lw_g (lw_at lw_m1 200 rfl) rfl
theorem q270 : (Jvm.Cond.code ({ cls := "HeirHunters", name := "hasLine", desc := "(II)Z" } : Jvm.MethodName) prog_1_method_17_code (5 : Nat) (Option.some Jvm.ClassFile.FieldType.boolean)) ∈ lw_all := lw_g (lw_at lw_m1 201 rfl) rfl
theorem q272 : (Jvm.Cond.methodLink "HeirHunters" (161 : Nat) ({ cls := "HeirHunters$Line", name := "<init>", desc := "(LHeirHunters;II)V" } : Jvm.MethodName)) ∈ lw_all := lw_g (lw_at lw_m1 203 rfl) rfl
theorem q279 : (Jvm.Cond.fieldLink "HeirHunters" (151 : Nat) "HeirHunters$Line" "parent" "I") ∈ lw_all := lw_g (lw_at lw_m1 210 rfl) rfl
theorem q283 : (Jvm.Cond.fieldLink "HeirHunters" (154 : Nat) "HeirHunters$Line" "child" "I") ∈ lw_all := lw_g (lw_at lw_m1 214 rfl) rfl
theorem q286 : (Jvm.Cond.fieldLink "HeirHunters" (147 : Nat) "HeirHunters$Line" "isStruck" "Z") ∈ lw_all := lw_g (lw_at lw_m1 217 rfl) rfl
theorem q297 : (Jvm.Cond.classLink "HeirHunters" (164 : Nat) "HeirHunters$Claimed") ∈ lw_all := lw_g (lw_at lw_m1 228 rfl) rfl
theorem q299 : (Jvm.Cond.methodLink "HeirHunters" (166 : Nat) ({ cls := "HeirHunters$Claimed", name := "<init>", desc := "(LHeirHunters;III)V" } : Jvm.MethodName)) ∈ lw_all := lw_g (lw_at lw_m1 230 rfl) rfl
theorem q315 : (Jvm.Cond.classLink "HeirHunters" (169 : Nat) "HeirHunters$Adopted") ∈ lw_all := lw_g (lw_at lw_m2 6 rfl) rfl
theorem q317 : (Jvm.Cond.methodLink "HeirHunters" (171 : Nat) ({ cls := "HeirHunters$Adopted", name := "<init>", desc := "(LHeirHunters;III)V" } : Jvm.MethodName)) ∈ lw_all := lw_g (lw_at lw_m2 8 rfl) rfl
theorem q333 : (Jvm.Cond.instanceMethod ({ cls := "HeirHunters", name := "lineTold", desc := "(II)I" } : Jvm.MethodName)) ∈ lw_all := lw_g (lw_at lw_m2 24 rfl) rfl
theorem q334 : (Jvm.Cond.selects "HeirHunters" ({ cls := "HeirHunters", name := "lineTold", desc := "(II)I" } : Jvm.MethodName) ({ cls := "HeirHunters", name := "lineTold", desc := "(II)I" } : Jvm.MethodName)) ∈ lw_all := lw_g (lw_at lw_m2 25 rfl) rfl
theorem q335 : (Jvm.Cond.code ({ cls := "HeirHunters", name := "lineTold", desc := "(II)I" } : Jvm.MethodName) prog_1_method_20_code (3 : Nat) (Option.some Jvm.ClassFile.FieldType.int)) ∈ lw_all := lw_g (lw_at lw_m2 26 rfl) rfl
theorem q336 : (Jvm.Cond.methodLink "HeirHunters" (176 : Nat) ({ cls := "HeirHunters", name := "isLine", desc := "(I)Z" } : Jvm.MethodName)) ∈ lw_all := lw_g (lw_at lw_m2 27 rfl) rfl
theorem q337 : (Jvm.Cond.privateMethod ({ cls := "HeirHunters", name := "isLine", desc := "(I)Z" } : Jvm.MethodName)) ∈ lw_tbl := lw_at lw_m2 28 rfl
theorem q338 : (Jvm.Cond.instanceMethod ({ cls := "HeirHunters", name := "isLine", desc := "(I)Z" } : Jvm.MethodName)) ∈ lw_all := lw_g (lw_at lw_m2 29 rfl) rfl
theorem q339 : (Jvm.Cond.code ({ cls := "HeirHunters", name := "isLine", desc := "(I)Z" } : Jvm.MethodName) prog_1_method_15_code (2 : Nat) (Option.some Jvm.ClassFile.FieldType.boolean)) ∈ lw_all := lw_g (lw_at lw_m2 30 rfl) rfl
theorem q340 : (Jvm.Cond.methodLink "HeirHunters" (179 : Nat) ({ cls := "HeirHunters", name := "lineOf", desc := "(II)I" } : Jvm.MethodName)) ∈ lw_all := lw_g (lw_at lw_m2 31 rfl) rfl
theorem q341 : (Jvm.Cond.privateMethod ({ cls := "HeirHunters", name := "lineOf", desc := "(II)I" } : Jvm.MethodName)) ∈ lw_tbl := lw_at lw_m2 32 rfl
theorem q342 : (Jvm.Cond.instanceMethod ({ cls := "HeirHunters", name := "lineOf", desc := "(II)I" } : Jvm.MethodName)) ∈ lw_all := lw_g (lw_at lw_m2 33 rfl) rfl
theorem q343 : (Jvm.Cond.code ({ cls := "HeirHunters", name := "lineOf", desc := "(II)I" } : Jvm.MethodName) prog_1_method_19_code (4 : Nat) (Option.some Jvm.ClassFile.FieldType.int)) ∈ lw_all := lw_g (lw_at lw_m2 34 rfl) rfl
theorem q344 : (Jvm.Cond.methodLink "HeirHunters" (172 : Nat) ({ cls := "HeirHunters$Line", name := "kind", desc := "()I" } : Jvm.MethodName)) ∈ lw_all := lw_g (lw_at lw_m2 35 rfl) rfl
theorem q362 : (Jvm.Cond.instanceMethod ({ cls := "HeirHunters", name := "mark", desc := "(II)I" } : Jvm.MethodName)) ∈ lw_all := lw_g (lw_at lw_m2 53 rfl) rfl
theorem q363 : (Jvm.Cond.selects "HeirHunters" ({ cls := "HeirHunters", name := "mark", desc := "(II)I" } : Jvm.MethodName) ({ cls := "HeirHunters", name := "mark", desc := "(II)I" } : Jvm.MethodName)) ∈ lw_all := lw_g (lw_at lw_m2 54 rfl) rfl
theorem q364 : (Jvm.Cond.codeWith ({ cls := "HeirHunters", name := "mark", desc := "(II)I" } : Jvm.MethodName) prog_1_method_21_code (7 : Nat) (Option.some Jvm.ClassFile.FieldType.int) [((26 : Nat), (82 : Nat), (107 : Nat), (193 : Nat)), ((83 : Nat), (94 : Nat), (107 : Nat), (193 : Nat)), ((95 : Nat), (106 : Nat), (107 : Nat), (193 : Nat))]) ∈ lw_all := lw_g (lw_at lw_m2 55 rfl) rfl
theorem q365 : (Jvm.Cond.classLink "HeirHunters" (193 : Nat) "java/lang/ClassCastException") ∈ lw_all := lw_g (lw_at lw_m2 56 rfl) rfl
theorem q451 : (Jvm.Cond.classLink "HeirHunters" (183 : Nat) "HeirHunters$Proved") ∈ lw_all := lw_g (lw_at lw_m2 142 rfl) rfl
theorem q452 : (Jvm.Cond.methodLink "HeirHunters" (185 : Nat) ({ cls := "HeirHunters$Proved", name := "asClaimed", desc := "()I" } : Jvm.MethodName)) ∈ lw_all := lw_g (lw_at lw_m2 143 rfl) rfl
theorem q459 : (Jvm.Cond.methodLink "HeirHunters" (188 : Nat) ({ cls := "HeirHunters$Claimed", name := "mark", desc := "()I" } : Jvm.MethodName)) ∈ lw_all := lw_g (lw_at lw_m2 150 rfl) rfl
theorem q462 : (Jvm.Cond.methodLink "HeirHunters" (191 : Nat) ({ cls := "HeirHunters$Proved", name := "mark", desc := "()I" } : Jvm.MethodName)) ∈ lw_all := lw_g (lw_at lw_m2 153 rfl) rfl
theorem q463 : (Jvm.Cond.methodLink "HeirHunters" (192 : Nat) ({ cls := "HeirHunters$Adopted", name := "mark", desc := "()I" } : Jvm.MethodName)) ∈ lw_all := lw_g (lw_at lw_m2 154 rfl) rfl
theorem q467 : (Jvm.Cond.methodLink "HeirHunters" (195 : Nat) ({ cls := "HeirHunters", name := "found", desc := "(I)I" } : Jvm.MethodName)) ∈ lw_all := lw_g (lw_at lw_m2 158 rfl) rfl
theorem q468 : (Jvm.Cond.privateMethod ({ cls := "HeirHunters", name := "found", desc := "(I)I" } : Jvm.MethodName)) ∈ lw_tbl := lw_at lw_m2 159 rfl
theorem q469 : (Jvm.Cond.instanceMethod ({ cls := "HeirHunters", name := "found", desc := "(I)I" } : Jvm.MethodName)) ∈ lw_all := lw_g (lw_at lw_m2 160 rfl) rfl
theorem q470 : (Jvm.Cond.code ({ cls := "HeirHunters", name := "found", desc := "(I)I" } : Jvm.MethodName) prog_1_method_2_code (2 : Nat) (Option.some Jvm.ClassFile.FieldType.int)) ∈ lw_all := lw_g (lw_at lw_m2 161 rfl) rfl
theorem q472 : (Jvm.Cond.instanceMethod ({ cls := "HeirHunters", name := "prove", desc := "(II)I" } : Jvm.MethodName)) ∈ lw_all := lw_g (lw_at lw_m2 163 rfl) rfl
theorem q473 : (Jvm.Cond.selects "HeirHunters" ({ cls := "HeirHunters", name := "prove", desc := "(II)I" } : Jvm.MethodName) ({ cls := "HeirHunters", name := "prove", desc := "(II)I" } : Jvm.MethodName)) ∈ lw_all := lw_g (lw_at lw_m2 164 rfl) rfl
theorem q474 : (Jvm.Cond.code ({ cls := "HeirHunters", name := "prove", desc := "(II)I" } : Jvm.MethodName) prog_1_method_22_code (4 : Nat) (Option.some Jvm.ClassFile.FieldType.int)) ∈ lw_all := lw_g (lw_at lw_m2 165 rfl) rfl
theorem q476 : (Jvm.Cond.methodLink "HeirHunters" (198 : Nat) ({ cls := "HeirHunters$Proved", name := "<init>", desc := "(LHeirHunters;LHeirHunters$Claimed;I)V" } : Jvm.MethodName)) ∈ lw_all := lw_g (lw_at lw_m2 167 rfl) rfl
theorem q493 : (Jvm.Cond.instanceMethod ({ cls := "HeirHunters", name := "strike", desc := "(I)I" } : Jvm.MethodName)) ∈ lw_all := lw_g (lw_at lw_m2 184 rfl) rfl
theorem q494 : (Jvm.Cond.selects "HeirHunters" ({ cls := "HeirHunters", name := "strike", desc := "(I)I" } : Jvm.MethodName) ({ cls := "HeirHunters", name := "strike", desc := "(I)I" } : Jvm.MethodName)) ∈ lw_all := lw_g (lw_at lw_m2 185 rfl) rfl
theorem q495 : (Jvm.Cond.code ({ cls := "HeirHunters", name := "strike", desc := "(I)I" } : Jvm.MethodName) prog_1_method_23_code (2 : Nat) (Option.some Jvm.ClassFile.FieldType.int)) ∈ lw_all := lw_g (lw_at lw_m2 186 rfl) rfl
theorem q497 : (Jvm.Cond.instanceMethod ({ cls := "HeirHunters", name := "couple", desc := "(IIII)I" } : Jvm.MethodName)) ∈ lw_all := lw_g (lw_at lw_m2 188 rfl) rfl
theorem q498 : (Jvm.Cond.selects "HeirHunters" ({ cls := "HeirHunters", name := "couple", desc := "(IIII)I" } : Jvm.MethodName) ({ cls := "HeirHunters", name := "couple", desc := "(IIII)I" } : Jvm.MethodName)) ∈ lw_all := lw_g (lw_at lw_m2 189 rfl) rfl
theorem q499 : (Jvm.Cond.code ({ cls := "HeirHunters", name := "couple", desc := "(IIII)I" } : Jvm.MethodName) prog_1_method_24_code (5 : Nat) (Option.some Jvm.ClassFile.FieldType.int)) ∈ lw_all := lw_g (lw_at lw_m2 190 rfl) rfl
theorem q501 : (Jvm.Cond.instanceMethod ({ cls := "HeirHunters", name := "law", desc := "(IIIIZI)I" } : Jvm.MethodName)) ∈ lw_all := lw_g (lw_at lw_m2 192 rfl) rfl
theorem q502 : (Jvm.Cond.selects "HeirHunters" ({ cls := "HeirHunters", name := "law", desc := "(IIIIZI)I" } : Jvm.MethodName) ({ cls := "HeirHunters", name := "law", desc := "(IIIIZI)I" } : Jvm.MethodName)) ∈ lw_all := lw_g (lw_at lw_m2 193 rfl) rfl
theorem q503 : (Jvm.Cond.code ({ cls := "HeirHunters", name := "law", desc := "(IIIIZI)I" } : Jvm.MethodName) prog_1_method_25_code (8 : Nat) (Option.some Jvm.ClassFile.FieldType.int)) ∈ lw_all := lw_g (lw_at lw_m2 194 rfl) rfl
theorem q505 : (Jvm.Cond.instanceMethod ({ cls := "HeirHunters", name := "lawOf", desc := "(I)I" } : Jvm.MethodName)) ∈ lw_all := lw_g (lw_at lw_m2 196 rfl) rfl
theorem q506 : (Jvm.Cond.selects "HeirHunters" ({ cls := "HeirHunters", name := "lawOf", desc := "(I)I" } : Jvm.MethodName) ({ cls := "HeirHunters", name := "lawOf", desc := "(I)I" } : Jvm.MethodName)) ∈ lw_all := lw_g (lw_at lw_m2 197 rfl) rfl
theorem q507 : (Jvm.Cond.code ({ cls := "HeirHunters", name := "lawOf", desc := "(I)I" } : Jvm.MethodName) prog_1_method_46_code (3 : Nat) (Option.some Jvm.ClassFile.FieldType.int)) ∈ lw_all := lw_g (lw_at lw_m2 198 rfl) rfl
theorem q508 : (Jvm.Cond.methodLink "HeirHunters" (275 : Nat) ({ cls := "HeirHunters", name := "need", desc := "(ZI)I" } : Jvm.MethodName)) ∈ lw_all := lw_g (lw_at lw_m2 199 rfl) rfl
theorem q509 : (Jvm.Cond.privateMethod ({ cls := "HeirHunters", name := "need", desc := "(ZI)I" } : Jvm.MethodName)) ∈ lw_tbl := lw_at lw_m2 200 rfl
theorem q510 : (Jvm.Cond.instanceMethod ({ cls := "HeirHunters", name := "need", desc := "(ZI)I" } : Jvm.MethodName)) ∈ lw_all := lw_g (lw_at lw_m2 201 rfl) rfl
theorem q511 : (Jvm.Cond.code ({ cls := "HeirHunters", name := "need", desc := "(ZI)I" } : Jvm.MethodName) prog_1_method_42_code (3 : Nat) (Option.some Jvm.ClassFile.FieldType.int)) ∈ lw_all := lw_g (lw_at lw_m2 202 rfl) rfl
theorem q512 : (Jvm.Cond.methodLink "HeirHunters" (272 : Nat) ({ cls := "HeirHunters", name := "isDead", desc := "(I)Z" } : Jvm.MethodName)) ∈ lw_all := lw_g (lw_at lw_m2 203 rfl) rfl
theorem q513 : (Jvm.Cond.privateMethod ({ cls := "HeirHunters", name := "isDead", desc := "(I)Z" } : Jvm.MethodName)) ∈ lw_tbl := lw_at lw_m2 204 rfl
theorem q514 : (Jvm.Cond.instanceMethod ({ cls := "HeirHunters", name := "isDead", desc := "(I)Z" } : Jvm.MethodName)) ∈ lw_all := lw_g (lw_at lw_m2 205 rfl) rfl
theorem q515 : (Jvm.Cond.code ({ cls := "HeirHunters", name := "isDead", desc := "(I)Z" } : Jvm.MethodName) prog_1_method_41_code (2 : Nat) (Option.some Jvm.ClassFile.FieldType.boolean)) ∈ lw_all := lw_g (lw_at lw_m2 206 rfl) rfl
theorem q516 : (Jvm.Cond.methodLink "HeirHunters" (210 : Nat) ({ cls := "HeirHunters", name := "lawFor", desc := "(I)I" } : Jvm.MethodName)) ∈ lw_all := lw_g (lw_at lw_m2 207 rfl) rfl
theorem q517 : (Jvm.Cond.privateMethod ({ cls := "HeirHunters", name := "lawFor", desc := "(I)I" } : Jvm.MethodName)) ∈ lw_tbl := lw_at lw_m2 208 rfl
theorem q518 : (Jvm.Cond.instanceMethod ({ cls := "HeirHunters", name := "lawFor", desc := "(I)I" } : Jvm.MethodName)) ∈ lw_all := lw_g (lw_at lw_m2 209 rfl) rfl
theorem q519 : (Jvm.Cond.code ({ cls := "HeirHunters", name := "lawFor", desc := "(I)I" } : Jvm.MethodName) prog_1_method_26_code (5 : Nat) (Option.some Jvm.ClassFile.FieldType.int)) ∈ lw_all := lw_g (lw_at lw_m2 210 rfl) rfl
theorem q521 : (Jvm.Cond.instanceMethod ({ cls := "HeirHunters", name := "share", desc := "(IIZ)I" } : Jvm.MethodName)) ∈ lw_all := lw_g (lw_at lw_m2 212 rfl) rfl
theorem q522 : (Jvm.Cond.selects "HeirHunters" ({ cls := "HeirHunters", name := "share", desc := "(IIZ)I" } : Jvm.MethodName) ({ cls := "HeirHunters", name := "share", desc := "(IIZ)I" } : Jvm.MethodName)) ∈ lw_all := lw_g (lw_at lw_m2 213 rfl) rfl
theorem q523 : (Jvm.Cond.code ({ cls := "HeirHunters", name := "share", desc := "(IIZ)I" } : Jvm.MethodName) prog_1_method_47_code (5 : Nat) (Option.some Jvm.ClassFile.FieldType.int)) ∈ lw_all := lw_g (lw_at lw_m2 214 rfl) rfl
theorem q524 : (Jvm.Cond.methodLink "HeirHunters" (279 : Nat) ({ cls := "HeirHunters", name := "isOwner", desc := "(I)Z" } : Jvm.MethodName)) ∈ lw_all := lw_g (lw_at lw_m2 215 rfl) rfl
theorem q525 : (Jvm.Cond.privateMethod ({ cls := "HeirHunters", name := "isOwner", desc := "(I)Z" } : Jvm.MethodName)) ∈ lw_tbl := lw_at lw_m2 216 rfl
theorem q526 : (Jvm.Cond.instanceMethod ({ cls := "HeirHunters", name := "isOwner", desc := "(I)Z" } : Jvm.MethodName)) ∈ lw_all := lw_g (lw_at lw_m2 217 rfl) rfl
theorem q527 : (Jvm.Cond.code ({ cls := "HeirHunters", name := "isOwner", desc := "(I)Z" } : Jvm.MethodName) prog_1_method_44_code (2 : Nat) (Option.some Jvm.ClassFile.FieldType.boolean)) ∈ lw_all := lw_g (lw_at lw_m2 218 rfl) rfl
theorem q528 : (Jvm.Cond.methodLink "HeirHunters" (282 : Nat) ({ cls := "HeirHunters", name := "takeAll", desc := "(Z)V" } : Jvm.MethodName)) ∈ lw_all := lw_g (lw_at lw_m2 219 rfl) rfl
theorem q529 : (Jvm.Cond.privateMethod ({ cls := "HeirHunters", name := "takeAll", desc := "(Z)V" } : Jvm.MethodName)) ∈ lw_tbl := lw_at lw_m2 220 rfl
theorem q530 : (Jvm.Cond.instanceMethod ({ cls := "HeirHunters", name := "takeAll", desc := "(Z)V" } : Jvm.MethodName)) ∈ lw_all := lw_g (lw_at lw_m2 221 rfl) rfl
theorem q531 : (Jvm.Cond.code ({ cls := "HeirHunters", name := "takeAll", desc := "(Z)V" } : Jvm.MethodName) prog_1_method_43_code (3 : Nat) (Option.none : Option Jvm.ClassFile.FieldType)) ∈ lw_all := lw_g (lw_at lw_m2 222 rfl) rfl
theorem q532 : (Jvm.Cond.methodLink "HeirHunters" (286 : Nat) ({ cls := "HeirHunters", name := "share", desc := "(I)V" } : Jvm.MethodName)) ∈ lw_all := lw_g (lw_at lw_m2 223 rfl) rfl
theorem q533 : (Jvm.Cond.privateMethod ({ cls := "HeirHunters", name := "share", desc := "(I)V" } : Jvm.MethodName)) ∈ lw_tbl := lw_at lw_m2 224 rfl
theorem q534 : (Jvm.Cond.instanceMethod ({ cls := "HeirHunters", name := "share", desc := "(I)V" } : Jvm.MethodName)) ∈ lw_all := lw_g (lw_at lw_m2 225 rfl) rfl
theorem q535 : (Jvm.Cond.code ({ cls := "HeirHunters", name := "share", desc := "(I)V" } : Jvm.MethodName) prog_1_method_40_code (13 : Nat) (Option.none : Option Jvm.ClassFile.FieldType)) ∈ lw_all := lw_g (lw_at lw_m2 226 rfl) rfl
theorem q536 : (Jvm.Cond.methodLink "HeirHunters" (254 : Nat) ({ cls := "HeirHunters", name := "layEstate", desc := "(I)V" } : Jvm.MethodName)) ∈ lw_all := lw_g (lw_at lw_m2 227 rfl) rfl
theorem q537 : (Jvm.Cond.privateMethod ({ cls := "HeirHunters", name := "layEstate", desc := "(I)V" } : Jvm.MethodName)) ∈ lw_tbl := lw_at lw_m2 228 rfl
theorem q538 : (Jvm.Cond.instanceMethod ({ cls := "HeirHunters", name := "layEstate", desc := "(I)V" } : Jvm.MethodName)) ∈ lw_all := lw_g (lw_at lw_m2 229 rfl) rfl
theorem q539 : (Jvm.Cond.code ({ cls := "HeirHunters", name := "layEstate", desc := "(I)V" } : Jvm.MethodName) prog_1_method_27_code (4 : Nat) (Option.none : Option Jvm.ClassFile.FieldType)) ∈ lw_all := lw_g (lw_at lw_m2 230 rfl) rfl
theorem q540 : (Jvm.Cond.interfaceEntry "HeirHunters" (216 : Nat)) ∈ lw_tbl := lw_at lw_m2 231 rfl
theorem q541 : (Jvm.Cond.methodLink "HeirHunters" (216 : Nat) ({ cls := "HeirHunters$Counts", name := "counts", desc := "(ZI)Z" } : Jvm.MethodName)) ∈ lw_all := lw_g (lw_at lw_m2 232 rfl) rfl
theorem q559 : (Jvm.Cond.methodLink "HeirHunters" (257 : Nat) ({ cls := "HeirHunters", name := "findCircle", desc := "()I" } : Jvm.MethodName)) ∈ lw_all := lw_g (lw_at lw_m3 10 rfl) rfl
theorem q560 : (Jvm.Cond.privateMethod ({ cls := "HeirHunters", name := "findCircle", desc := "()I" } : Jvm.MethodName)) ∈ lw_tbl := lw_at lw_m3 11 rfl
theorem q561 : (Jvm.Cond.instanceMethod ({ cls := "HeirHunters", name := "findCircle", desc := "()I" } : Jvm.MethodName)) ∈ lw_all := lw_g (lw_at lw_m3 12 rfl) rfl
theorem q562 : (Jvm.Cond.code ({ cls := "HeirHunters", name := "findCircle", desc := "()I" } : Jvm.MethodName) prog_1_method_38_code (2 : Nat) (Option.some Jvm.ClassFile.FieldType.int)) ∈ lw_all := lw_g (lw_at lw_m3 13 rfl) rfl
theorem q563 : (Jvm.Cond.methodLink "HeirHunters" (221 : Nat) ({ cls := "HeirHunters", name := "issueTakes", desc := "(I)Z" } : Jvm.MethodName)) ∈ lw_all := lw_g (lw_at lw_m3 14 rfl) rfl
theorem q564 : (Jvm.Cond.privateMethod ({ cls := "HeirHunters", name := "issueTakes", desc := "(I)Z" } : Jvm.MethodName)) ∈ lw_tbl := lw_at lw_m3 15 rfl
theorem q565 : (Jvm.Cond.instanceMethod ({ cls := "HeirHunters", name := "issueTakes", desc := "(I)Z" } : Jvm.MethodName)) ∈ lw_all := lw_g (lw_at lw_m3 16 rfl) rfl
theorem q566 : (Jvm.Cond.code ({ cls := "HeirHunters", name := "issueTakes", desc := "(I)Z" } : Jvm.MethodName) prog_1_method_29_code (4 : Nat) (Option.some Jvm.ClassFile.FieldType.boolean)) ∈ lw_all := lw_g (lw_at lw_m3 17 rfl) rfl
theorem q567 : (Jvm.Cond.methodLink "HeirHunters" (224 : Nat) ({ cls := "HeirHunters", name := "isIn", desc := "(I)Z" } : Jvm.MethodName)) ∈ lw_all := lw_g (lw_at lw_m3 18 rfl) rfl
theorem q568 : (Jvm.Cond.privateMethod ({ cls := "HeirHunters", name := "isIn", desc := "(I)Z" } : Jvm.MethodName)) ∈ lw_tbl := lw_at lw_m3 19 rfl
theorem q569 : (Jvm.Cond.instanceMethod ({ cls := "HeirHunters", name := "isIn", desc := "(I)Z" } : Jvm.MethodName)) ∈ lw_all := lw_g (lw_at lw_m3 20 rfl) rfl
theorem q570 : (Jvm.Cond.code ({ cls := "HeirHunters", name := "isIn", desc := "(I)Z" } : Jvm.MethodName) prog_1_method_28_code (2 : Nat) (Option.some Jvm.ClassFile.FieldType.boolean)) ∈ lw_all := lw_g (lw_at lw_m3 21 rfl) rfl
theorem q571 : (Jvm.Cond.methodLink "HeirHunters" (248 : Nat) ({ cls := "HeirHunters", name := "layHeads", desc := "(I)V" } : Jvm.MethodName)) ∈ lw_all := lw_g (lw_at lw_m3 22 rfl) rfl
theorem q572 : (Jvm.Cond.privateMethod ({ cls := "HeirHunters", name := "layHeads", desc := "(I)V" } : Jvm.MethodName)) ∈ lw_tbl := lw_at lw_m3 23 rfl
theorem q573 : (Jvm.Cond.instanceMethod ({ cls := "HeirHunters", name := "layHeads", desc := "(I)V" } : Jvm.MethodName)) ∈ lw_all := lw_g (lw_at lw_m3 24 rfl) rfl
theorem q574 : (Jvm.Cond.code ({ cls := "HeirHunters", name := "layHeads", desc := "(I)V" } : Jvm.MethodName) prog_1_method_36_code (4 : Nat) (Option.none : Option Jvm.ClassFile.FieldType)) ∈ lw_all := lw_g (lw_at lw_m3 25 rfl) rfl
theorem q575 : (Jvm.Cond.methodLink "HeirHunters" (244 : Nat) ({ cls := "HeirHunters", name := "addParents", desc := "(I)V" } : Jvm.MethodName)) ∈ lw_all := lw_g (lw_at lw_m3 26 rfl) rfl
theorem q576 : (Jvm.Cond.privateMethod ({ cls := "HeirHunters", name := "addParents", desc := "(I)V" } : Jvm.MethodName)) ∈ lw_tbl := lw_at lw_m3 27 rfl
theorem q577 : (Jvm.Cond.instanceMethod ({ cls := "HeirHunters", name := "addParents", desc := "(I)V" } : Jvm.MethodName)) ∈ lw_all := lw_g (lw_at lw_m3 28 rfl) rfl
theorem q578 : (Jvm.Cond.code ({ cls := "HeirHunters", name := "addParents", desc := "(I)V" } : Jvm.MethodName) prog_1_method_35_code (3 : Nat) (Option.none : Option Jvm.ClassFile.FieldType)) ∈ lw_all := lw_g (lw_at lw_m3 29 rfl) rfl
theorem q579 : (Jvm.Cond.methodLink "HeirHunters" (251 : Nat) ({ cls := "HeirHunters", name := "headsIn", desc := "()I" } : Jvm.MethodName)) ∈ lw_all := lw_g (lw_at lw_m3 30 rfl) rfl
theorem q580 : (Jvm.Cond.privateMethod ({ cls := "HeirHunters", name := "headsIn", desc := "()I" } : Jvm.MethodName)) ∈ lw_tbl := lw_at lw_m3 31 rfl
theorem q581 : (Jvm.Cond.instanceMethod ({ cls := "HeirHunters", name := "headsIn", desc := "()I" } : Jvm.MethodName)) ∈ lw_all := lw_g (lw_at lw_m3 32 rfl) rfl
theorem q582 : (Jvm.Cond.code ({ cls := "HeirHunters", name := "headsIn", desc := "()I" } : Jvm.MethodName) prog_1_method_37_code (3 : Nat) (Option.some Jvm.ClassFile.FieldType.int)) ∈ lw_all := lw_g (lw_at lw_m3 33 rfl) rfl
theorem q583 : (Jvm.Cond.methodLink "HeirHunters" (263 : Nat) ({ cls := "HeirHunters", name := "coupled", desc := "()I" } : Jvm.MethodName)) ∈ lw_all := lw_g (lw_at lw_m3 34 rfl) rfl
theorem q584 : (Jvm.Cond.privateMethod ({ cls := "HeirHunters", name := "coupled", desc := "()I" } : Jvm.MethodName)) ∈ lw_tbl := lw_at lw_m3 35 rfl
theorem q585 : (Jvm.Cond.instanceMethod ({ cls := "HeirHunters", name := "coupled", desc := "()I" } : Jvm.MethodName)) ∈ lw_all := lw_g (lw_at lw_m3 36 rfl) rfl
theorem q586 : (Jvm.Cond.code ({ cls := "HeirHunters", name := "coupled", desc := "()I" } : Jvm.MethodName) prog_1_method_39_code (7 : Nat) (Option.some Jvm.ClassFile.FieldType.int)) ∈ lw_all := lw_g (lw_at lw_m3 37 rfl) rfl
theorem q587 : (Jvm.Cond.methodLink "HeirHunters" (231 : Nat) ({ cls := "HeirHunters", name := "gets", desc := "(IJJ)V" } : Jvm.MethodName)) ∈ lw_all := lw_g (lw_at lw_m3 38 rfl) rfl
theorem q588 : (Jvm.Cond.privateMethod ({ cls := "HeirHunters", name := "gets", desc := "(IJJ)V" } : Jvm.MethodName)) ∈ lw_tbl := lw_at lw_m3 39 rfl
theorem q589 : (Jvm.Cond.instanceMethod ({ cls := "HeirHunters", name := "gets", desc := "(IJJ)V" } : Jvm.MethodName)) ∈ lw_all := lw_g (lw_at lw_m3 40 rfl) rfl
theorem q590 : (Jvm.Cond.code ({ cls := "HeirHunters", name := "gets", desc := "(IJJ)V" } : Jvm.MethodName) prog_1_method_30_code (6 : Nat) (Option.none : Option Jvm.ClassFile.FieldType)) ∈ lw_all := lw_g (lw_at lw_m3 41 rfl) rfl
theorem q591 : (Jvm.Cond.methodLink "HeirHunters" (227 : Nat) ({ cls := "HeirHunters", name := "add", desc := "(JJJJ)V" } : Jvm.MethodName)) ∈ lw_all := lw_g (lw_at lw_m3 42 rfl) rfl
theorem q592 : (Jvm.Cond.privateMethod ({ cls := "HeirHunters", name := "add", desc := "(JJJJ)V" } : Jvm.MethodName)) ∈ lw_tbl := lw_at lw_m3 43 rfl
theorem q593 : (Jvm.Cond.instanceMethod ({ cls := "HeirHunters", name := "add", desc := "(JJJJ)V" } : Jvm.MethodName)) ∈ lw_all := lw_g (lw_at lw_m3 44 rfl) rfl
theorem q594 : (Jvm.Cond.code ({ cls := "HeirHunters", name := "add", desc := "(JJJJ)V" } : Jvm.MethodName) prog_1_method_5_code (17 : Nat) (Option.none : Option Jvm.ClassFile.FieldType)) ∈ lw_all := lw_g (lw_at lw_m3 45 rfl) rfl
theorem q595 : (Jvm.Cond.methodLink "HeirHunters" (106 : Nat) ({ cls := "HeirHunters", name := "gcd", desc := "(JJ)J" } : Jvm.MethodName)) ∈ lw_all := lw_g (lw_at lw_m3 46 rfl) rfl
theorem q596 : (Jvm.Cond.static ({ cls := "HeirHunters", name := "gcd", desc := "(JJ)J" } : Jvm.MethodName)) ∈ lw_all := lw_g (lw_at lw_m3 47 rfl) rfl
theorem q597 : (Jvm.Cond.code ({ cls := "HeirHunters", name := "gcd", desc := "(JJ)J" } : Jvm.MethodName) prog_1_method_4_code (10 : Nat) (Option.some Jvm.ClassFile.FieldType.long)) ∈ lw_all := lw_g (lw_at lw_m3 48 rfl) rfl
theorem q598 : (Jvm.Cond.methodLink "HeirHunters" (100 : Nat) ({ cls := "java/lang/Math", name := "abs", desc := "(J)J" } : Jvm.MethodName)) ∈ lw_all := lw_g (lw_at lw_m3 49 rfl) rfl
theorem q601 : (Jvm.Cond.methodLink "HeirHunters" (266 : Nat) ({ cls := "HeirHunters", name := "clearDues", desc := "()V" } : Jvm.MethodName)) ∈ lw_all := lw_g (lw_at lw_m3 52 rfl) rfl
theorem q602 : (Jvm.Cond.privateMethod ({ cls := "HeirHunters", name := "clearDues", desc := "()V" } : Jvm.MethodName)) ∈ lw_tbl := lw_at lw_m3 53 rfl
theorem q603 : (Jvm.Cond.instanceMethod ({ cls := "HeirHunters", name := "clearDues", desc := "()V" } : Jvm.MethodName)) ∈ lw_all := lw_g (lw_at lw_m3 54 rfl) rfl
theorem q604 : (Jvm.Cond.code ({ cls := "HeirHunters", name := "clearDues", desc := "()V" } : Jvm.MethodName) prog_1_method_32_code (3 : Nat) (Option.none : Option Jvm.ClassFile.FieldType)) ∈ lw_all := lw_g (lw_at lw_m3 55 rfl) rfl
theorem q605 : (Jvm.Cond.methodLink "HeirHunters" (235 : Nat) ({ cls := "HeirHunters", name := "partsAmong", desc := "(IJJ)V" } : Jvm.MethodName)) ∈ lw_all := lw_g (lw_at lw_m3 56 rfl) rfl
theorem q606 : (Jvm.Cond.privateMethod ({ cls := "HeirHunters", name := "partsAmong", desc := "(IJJ)V" } : Jvm.MethodName)) ∈ lw_tbl := lw_at lw_m3 57 rfl
theorem q607 : (Jvm.Cond.instanceMethod ({ cls := "HeirHunters", name := "partsAmong", desc := "(IJJ)V" } : Jvm.MethodName)) ∈ lw_all := lw_g (lw_at lw_m3 58 rfl) rfl
theorem q608 : (Jvm.Cond.code ({ cls := "HeirHunters", name := "partsAmong", desc := "(IJJ)V" } : Jvm.MethodName) prog_1_method_34_code (8 : Nat) (Option.none : Option Jvm.ClassFile.FieldType)) ∈ lw_all := lw_g (lw_at lw_m3 59 rfl) rfl
theorem q609 : (Jvm.Cond.methodLink "HeirHunters" (238 : Nat) ({ cls := "HeirHunters", name := "comesTo", desc := "(IJJ)V" } : Jvm.MethodName)) ∈ lw_all := lw_g (lw_at lw_m3 60 rfl) rfl
theorem q610 : (Jvm.Cond.privateMethod ({ cls := "HeirHunters", name := "comesTo", desc := "(IJJ)V" } : Jvm.MethodName)) ∈ lw_tbl := lw_at lw_m3 61 rfl
theorem q611 : (Jvm.Cond.instanceMethod ({ cls := "HeirHunters", name := "comesTo", desc := "(IJJ)V" } : Jvm.MethodName)) ∈ lw_all := lw_g (lw_at lw_m3 62 rfl) rfl
theorem q612 : (Jvm.Cond.code ({ cls := "HeirHunters", name := "comesTo", desc := "(IJJ)V" } : Jvm.MethodName) prog_1_method_31_code (6 : Nat) (Option.none : Option Jvm.ClassFile.FieldType)) ∈ lw_all := lw_g (lw_at lw_m3 63 rfl) rfl
theorem q613 : (Jvm.Cond.methodLink "HeirHunters" (269 : Nat) ({ cls := "HeirHunters", name := "handOn", desc := "()V" } : Jvm.MethodName)) ∈ lw_all := lw_g (lw_at lw_m3 64 rfl) rfl
theorem q614 : (Jvm.Cond.privateMethod ({ cls := "HeirHunters", name := "handOn", desc := "()V" } : Jvm.MethodName)) ∈ lw_tbl := lw_at lw_m3 65 rfl
theorem q615 : (Jvm.Cond.instanceMethod ({ cls := "HeirHunters", name := "handOn", desc := "()V" } : Jvm.MethodName)) ∈ lw_all := lw_g (lw_at lw_m3 66 rfl) rfl
theorem q616 : (Jvm.Cond.code ({ cls := "HeirHunters", name := "handOn", desc := "()V" } : Jvm.MethodName) prog_1_method_33_code (3 : Nat) (Option.none : Option Jvm.ClassFile.FieldType)) ∈ lw_all := lw_g (lw_at lw_m3 67 rfl) rfl
theorem q617 : (Jvm.Cond.methodLink "HeirHunters" (289 : Nat) ({ cls := "HeirHunters", name := "placeOf", desc := "(I)I" } : Jvm.MethodName)) ∈ lw_all := lw_g (lw_at lw_m3 68 rfl) rfl
theorem q618 : (Jvm.Cond.static ({ cls := "HeirHunters", name := "placeOf", desc := "(I)I" } : Jvm.MethodName)) ∈ lw_all := lw_g (lw_at lw_m3 69 rfl) rfl
theorem q619 : (Jvm.Cond.code ({ cls := "HeirHunters", name := "placeOf", desc := "(I)I" } : Jvm.MethodName) prog_1_method_45_code (1 : Nat) (Option.some Jvm.ClassFile.FieldType.int)) ∈ lw_all := lw_g (lw_at lw_m3 70 rfl) rfl
theorem q620 : (Jvm.Cond.methodLink "HeirHunters" (292 : Nat) ({ cls := "HeirHunters", name := "tells", desc := "(JJ)I" } : Jvm.MethodName)) ∈ lw_all := lw_g (lw_at lw_m3 71 rfl) rfl
theorem q621 : (Jvm.Cond.privateMethod ({ cls := "HeirHunters", name := "tells", desc := "(JJ)I" } : Jvm.MethodName)) ∈ lw_tbl := lw_at lw_m3 72 rfl
theorem q622 : (Jvm.Cond.instanceMethod ({ cls := "HeirHunters", name := "tells", desc := "(JJ)I" } : Jvm.MethodName)) ∈ lw_all := lw_g (lw_at lw_m3 73 rfl) rfl
theorem q623 : (Jvm.Cond.code ({ cls := "HeirHunters", name := "tells", desc := "(JJ)I" } : Jvm.MethodName) prog_1_method_7_code (7 : Nat) (Option.some Jvm.ClassFile.FieldType.int)) ∈ lw_all := lw_g (lw_at lw_m3 74 rfl) rfl
theorem q625 : (Jvm.Cond.instanceMethod ({ cls := "HeirHunters", name := "circle", desc := "(IZ)I" } : Jvm.MethodName)) ∈ lw_all := lw_g (lw_at lw_m3 76 rfl) rfl
theorem q626 : (Jvm.Cond.selects "HeirHunters" ({ cls := "HeirHunters", name := "circle", desc := "(IZ)I" } : Jvm.MethodName) ({ cls := "HeirHunters", name := "circle", desc := "(IZ)I" } : Jvm.MethodName)) ∈ lw_all := lw_g (lw_at lw_m3 77 rfl) rfl
theorem q627 : (Jvm.Cond.code ({ cls := "HeirHunters", name := "circle", desc := "(IZ)I" } : Jvm.MethodName) prog_1_method_48_code (4 : Nat) (Option.some Jvm.ClassFile.FieldType.int)) ∈ lw_all := lw_g (lw_at lw_m3 78 rfl) rfl
theorem q629 : (Jvm.Cond.instanceMethod ({ cls := "HeirHunters", name := "heirs", desc := "(IZ)I" } : Jvm.MethodName)) ∈ lw_all := lw_g (lw_at lw_m3 80 rfl) rfl
theorem q630 : (Jvm.Cond.selects "HeirHunters" ({ cls := "HeirHunters", name := "heirs", desc := "(IZ)I" } : Jvm.MethodName) ({ cls := "HeirHunters", name := "heirs", desc := "(IZ)I" } : Jvm.MethodName)) ∈ lw_all := lw_g (lw_at lw_m3 81 rfl) rfl
theorem q631 : (Jvm.Cond.code ({ cls := "HeirHunters", name := "heirs", desc := "(IZ)I" } : Jvm.MethodName) prog_1_method_49_code (6 : Nat) (Option.some Jvm.ClassFile.FieldType.int)) ∈ lw_all := lw_g (lw_at lw_m3 82 rfl) rfl
theorem q633 : (Jvm.Cond.instanceMethod ({ cls := "HeirHunters", name := "open", desc := "()I" } : Jvm.MethodName)) ∈ lw_all := lw_g (lw_at lw_m3 84 rfl) rfl
theorem q634 : (Jvm.Cond.selects "HeirHunters" ({ cls := "HeirHunters", name := "open", desc := "()I" } : Jvm.MethodName) ({ cls := "HeirHunters", name := "open", desc := "()I" } : Jvm.MethodName)) ∈ lw_all := lw_g (lw_at lw_m3 85 rfl) rfl
theorem q635 : (Jvm.Cond.code ({ cls := "HeirHunters", name := "open", desc := "()I" } : Jvm.MethodName) prog_1_method_51_code (1 : Nat) (Option.some Jvm.ClassFile.FieldType.int)) ∈ lw_all := lw_g (lw_at lw_m3 86 rfl) rfl
theorem q636 : (Jvm.Cond.methodLink "HeirHunters" (302 : Nat) ({ cls := "HeirHunters", name := "layOpen", desc := "()V" } : Jvm.MethodName)) ∈ lw_all := lw_g (lw_at lw_m3 87 rfl) rfl
theorem q637 : (Jvm.Cond.privateMethod ({ cls := "HeirHunters", name := "layOpen", desc := "()V" } : Jvm.MethodName)) ∈ lw_tbl := lw_at lw_m3 88 rfl
theorem q638 : (Jvm.Cond.instanceMethod ({ cls := "HeirHunters", name := "layOpen", desc := "()V" } : Jvm.MethodName)) ∈ lw_all := lw_g (lw_at lw_m3 89 rfl) rfl
theorem q639 : (Jvm.Cond.code ({ cls := "HeirHunters", name := "layOpen", desc := "()V" } : Jvm.MethodName) prog_1_method_50_code (2 : Nat) (Option.none : Option Jvm.ClassFile.FieldType)) ∈ lw_all := lw_g (lw_at lw_m3 90 rfl) rfl
theorem q640 : (Jvm.Cond.methodLink "HeirHunters" (298 : Nat) ({ cls := "HeirHunters$Line", name := "isOpen", desc := "()Z" } : Jvm.MethodName)) ∈ lw_all := lw_g (lw_at lw_m3 91 rfl) rfl
theorem q653 : (Jvm.Cond.instanceMethod ({ cls := "HeirHunters", name := "bound", desc := "(IIZ)I" } : Jvm.MethodName)) ∈ lw_all := lw_g (lw_at lw_m3 104 rfl) rfl
theorem q654 : (Jvm.Cond.selects "HeirHunters" ({ cls := "HeirHunters", name := "bound", desc := "(IIZ)I" } : Jvm.MethodName) ({ cls := "HeirHunters", name := "bound", desc := "(IIZ)I" } : Jvm.MethodName)) ∈ lw_all := lw_g (lw_at lw_m3 105 rfl) rfl
theorem q655 : (Jvm.Cond.code ({ cls := "HeirHunters", name := "bound", desc := "(IIZ)I" } : Jvm.MethodName) prog_1_method_55_code (6 : Nat) (Option.some Jvm.ClassFile.FieldType.int)) ∈ lw_all := lw_g (lw_at lw_m3 106 rfl) rfl
theorem q656 : (Jvm.Cond.methodLink "HeirHunters" (311 : Nat) ({ cls := "HeirHunters", name := "needOpen", desc := "(ZI)I" } : Jvm.MethodName)) ∈ lw_all := lw_g (lw_at lw_m3 107 rfl) rfl
theorem q657 : (Jvm.Cond.privateMethod ({ cls := "HeirHunters", name := "needOpen", desc := "(ZI)I" } : Jvm.MethodName)) ∈ lw_tbl := lw_at lw_m3 108 rfl
theorem q658 : (Jvm.Cond.instanceMethod ({ cls := "HeirHunters", name := "needOpen", desc := "(ZI)I" } : Jvm.MethodName)) ∈ lw_all := lw_g (lw_at lw_m3 109 rfl) rfl
theorem q659 : (Jvm.Cond.code ({ cls := "HeirHunters", name := "needOpen", desc := "(ZI)I" } : Jvm.MethodName) prog_1_method_52_code (4 : Nat) (Option.some Jvm.ClassFile.FieldType.int)) ∈ lw_all := lw_g (lw_at lw_m3 110 rfl) rfl
theorem q660 : (Jvm.Cond.methodLink "HeirHunters" (314 : Nat) ({ cls := "HeirHunters", name := "layBounds", desc := "(III)V" } : Jvm.MethodName)) ∈ lw_all := lw_g (lw_at lw_m3 111 rfl) rfl
theorem q661 : (Jvm.Cond.privateMethod ({ cls := "HeirHunters", name := "layBounds", desc := "(III)V" } : Jvm.MethodName)) ∈ lw_tbl := lw_at lw_m3 112 rfl
theorem q662 : (Jvm.Cond.instanceMethod ({ cls := "HeirHunters", name := "layBounds", desc := "(III)V" } : Jvm.MethodName)) ∈ lw_all := lw_g (lw_at lw_m3 113 rfl) rfl
theorem q663 : (Jvm.Cond.code ({ cls := "HeirHunters", name := "layBounds", desc := "(III)V" } : Jvm.MethodName) prog_1_method_53_code (7 : Nat) (Option.none : Option Jvm.ClassFile.FieldType)) ∈ lw_all := lw_g (lw_at lw_m3 114 rfl) rfl
theorem q664 : (Jvm.Cond.methodLink "HeirHunters" (305 : Nat) ({ cls := "HeirHunters", name := "keep", desc := "(Z)V" } : Jvm.MethodName)) ∈ lw_all := lw_g (lw_at lw_m3 115 rfl) rfl
theorem q665 : (Jvm.Cond.privateMethod ({ cls := "HeirHunters", name := "keep", desc := "(Z)V" } : Jvm.MethodName)) ∈ lw_tbl := lw_at lw_m3 116 rfl
theorem q666 : (Jvm.Cond.instanceMethod ({ cls := "HeirHunters", name := "keep", desc := "(Z)V" } : Jvm.MethodName)) ∈ lw_all := lw_g (lw_at lw_m3 117 rfl) rfl
theorem q667 : (Jvm.Cond.code ({ cls := "HeirHunters", name := "keep", desc := "(Z)V" } : Jvm.MethodName) prog_1_method_54_code (3 : Nat) (Option.none : Option Jvm.ClassFile.FieldType)) ∈ lw_all := lw_g (lw_at lw_m3 118 rfl) rfl
theorem q668 : (Jvm.Cond.methodLink "HeirHunters" (308 : Nat) ({ cls := "HeirHunters", name := "compare", desc := "(JJJJ)I" } : Jvm.MethodName)) ∈ lw_all := lw_g (lw_at lw_m3 119 rfl) rfl
theorem q669 : (Jvm.Cond.static ({ cls := "HeirHunters", name := "compare", desc := "(JJJJ)I" } : Jvm.MethodName)) ∈ lw_all := lw_g (lw_at lw_m3 120 rfl) rfl
theorem q670 : (Jvm.Cond.code ({ cls := "HeirHunters", name := "compare", desc := "(JJJJ)I" } : Jvm.MethodName) prog_1_method_6_code (10 : Nat) (Option.some Jvm.ClassFile.FieldType.int)) ∈ lw_all := lw_g (lw_at lw_m3 121 rfl) rfl
theorem q671 : (Jvm.Cond.methodLink "HeirHunters" (116 : Nat) ({ cls := "java/lang/Long", name := "compare", desc := "(JJ)I" } : Jvm.MethodName)) ∈ lw_all := lw_g (lw_at lw_m3 122 rfl) rfl
theorem q675 : (Jvm.Cond.instanceMethod ({ cls := "HeirHunters", name := "spread", desc := "(I)I" } : Jvm.MethodName)) ∈ lw_all := lw_g (lw_at lw_m3 126 rfl) rfl
theorem q676 : (Jvm.Cond.selects "HeirHunters" ({ cls := "HeirHunters", name := "spread", desc := "(I)I" } : Jvm.MethodName) ({ cls := "HeirHunters", name := "spread", desc := "(I)I" } : Jvm.MethodName)) ∈ lw_all := lw_g (lw_at lw_m3 127 rfl) rfl
theorem q677 : (Jvm.Cond.code ({ cls := "HeirHunters", name := "spread", desc := "(I)I" } : Jvm.MethodName) prog_1_method_57_code (3 : Nat) (Option.some Jvm.ClassFile.FieldType.int)) ∈ lw_all := lw_g (lw_at lw_m3 128 rfl) rfl
theorem q678 : (Jvm.Cond.methodLink "HeirHunters" (318 : Nat) ({ cls := "HeirHunters", name := "laySpread", desc := "(III)V" } : Jvm.MethodName)) ∈ lw_all := lw_g (lw_at lw_m3 129 rfl) rfl
theorem q679 : (Jvm.Cond.privateMethod ({ cls := "HeirHunters", name := "laySpread", desc := "(III)V" } : Jvm.MethodName)) ∈ lw_tbl := lw_at lw_m3 130 rfl
theorem q680 : (Jvm.Cond.instanceMethod ({ cls := "HeirHunters", name := "laySpread", desc := "(III)V" } : Jvm.MethodName)) ∈ lw_all := lw_g (lw_at lw_m3 131 rfl) rfl
theorem q681 : (Jvm.Cond.code ({ cls := "HeirHunters", name := "laySpread", desc := "(III)V" } : Jvm.MethodName) prog_1_method_56_code (9 : Nat) (Option.none : Option Jvm.ClassFile.FieldType)) ∈ lw_all := lw_g (lw_at lw_m3 132 rfl) rfl
theorem q683 : (Jvm.Cond.instanceMethod ({ cls := "HeirHunters", name := "worth", desc := "(II)I" } : Jvm.MethodName)) ∈ lw_all := lw_g (lw_at lw_m3 134 rfl) rfl
theorem q684 : (Jvm.Cond.selects "HeirHunters" ({ cls := "HeirHunters", name := "worth", desc := "(II)I" } : Jvm.MethodName) ({ cls := "HeirHunters", name := "worth", desc := "(II)I" } : Jvm.MethodName)) ∈ lw_all := lw_g (lw_at lw_m3 135 rfl) rfl
theorem q685 : (Jvm.Cond.code ({ cls := "HeirHunters", name := "worth", desc := "(II)I" } : Jvm.MethodName) prog_1_method_59_code (5 : Nat) (Option.some Jvm.ClassFile.FieldType.int)) ∈ lw_all := lw_g (lw_at lw_m3 136 rfl) rfl
theorem q686 : (Jvm.Cond.methodLink "HeirHunters" (328 : Nat) ({ cls := "HeirHunters", name := "layWorth", desc := "(II)V" } : Jvm.MethodName)) ∈ lw_all := lw_g (lw_at lw_m3 137 rfl) rfl
theorem q687 : (Jvm.Cond.privateMethod ({ cls := "HeirHunters", name := "layWorth", desc := "(II)V" } : Jvm.MethodName)) ∈ lw_tbl := lw_at lw_m3 138 rfl
theorem q688 : (Jvm.Cond.instanceMethod ({ cls := "HeirHunters", name := "layWorth", desc := "(II)V" } : Jvm.MethodName)) ∈ lw_all := lw_g (lw_at lw_m3 139 rfl) rfl
theorem q689 : (Jvm.Cond.code ({ cls := "HeirHunters", name := "layWorth", desc := "(II)V" } : Jvm.MethodName) prog_1_method_58_code (8 : Nat) (Option.none : Option Jvm.ClassFile.FieldType)) ∈ lw_all := lw_g (lw_at lw_m3 140 rfl) rfl
theorem q690 : (Jvm.Cond.methodLink "HeirHunters" (321 : Nat) ({ cls := "HeirHunters$Line", name := "mark", desc := "()I" } : Jvm.MethodName)) ∈ lw_all := lw_g (lw_at lw_m3 141 rfl) rfl
theorem q699 : (Jvm.Cond.instanceMethod ({ cls := "HeirHunters", name := "look", desc := "(I)I" } : Jvm.MethodName)) ∈ lw_all := lw_g (lw_at lw_m3 150 rfl) rfl
theorem q700 : (Jvm.Cond.selects "HeirHunters" ({ cls := "HeirHunters", name := "look", desc := "(I)I" } : Jvm.MethodName) ({ cls := "HeirHunters", name := "look", desc := "(I)I" } : Jvm.MethodName)) ∈ lw_all := lw_g (lw_at lw_m3 151 rfl) rfl
theorem q701 : (Jvm.Cond.code ({ cls := "HeirHunters", name := "look", desc := "(I)I" } : Jvm.MethodName) prog_1_method_60_code (9 : Nat) (Option.some Jvm.ClassFile.FieldType.int)) ∈ lw_all := lw_g (lw_at lw_m3 152 rfl) rfl
theorem q703 : (Jvm.Cond.instanceMethod ({ cls := "HeirHunters", name := "estate", desc := "(II)I" } : Jvm.MethodName)) ∈ lw_all := lw_g (lw_at lw_m3 154 rfl) rfl
theorem q704 : (Jvm.Cond.selects "HeirHunters" ({ cls := "HeirHunters", name := "estate", desc := "(II)I" } : Jvm.MethodName) ({ cls := "HeirHunters", name := "estate", desc := "(II)I" } : Jvm.MethodName)) ∈ lw_all := lw_g (lw_at lw_m3 155 rfl) rfl
theorem q705 : (Jvm.Cond.code ({ cls := "HeirHunters", name := "estate", desc := "(II)I" } : Jvm.MethodName) prog_1_method_62_code (4 : Nat) (Option.some Jvm.ClassFile.FieldType.int)) ∈ lw_all := lw_g (lw_at lw_m3 156 rfl) rfl
theorem q706 : (Jvm.Cond.constant "HeirHunters" (332 : Nat) (1000000000 : Int32)) ∈ lw_all := lw_g (lw_at lw_m3 157 rfl) rfl
theorem q708 : (Jvm.Cond.instanceMethod ({ cls := "HeirHunters", name := "pay", desc := "(III)I" } : Jvm.MethodName)) ∈ lw_all := lw_g (lw_at lw_m3 159 rfl) rfl
theorem q709 : (Jvm.Cond.selects "HeirHunters" ({ cls := "HeirHunters", name := "pay", desc := "(III)I" } : Jvm.MethodName) ({ cls := "HeirHunters", name := "pay", desc := "(III)I" } : Jvm.MethodName)) ∈ lw_all := lw_g (lw_at lw_m3 160 rfl) rfl
theorem q710 : (Jvm.Cond.code ({ cls := "HeirHunters", name := "pay", desc := "(III)I" } : Jvm.MethodName) prog_1_method_63_code (6 : Nat) (Option.some Jvm.ClassFile.FieldType.int)) ∈ lw_all := lw_g (lw_at lw_m3 161 rfl) rfl
theorem q711 : (Jvm.Cond.methodLink "HeirHunters" (333 : Nat) ({ cls := "HeirHunters", name := "paidOf", desc := "(I)J" } : Jvm.MethodName)) ∈ lw_all := lw_g (lw_at lw_m3 162 rfl) rfl
theorem q712 : (Jvm.Cond.privateMethod ({ cls := "HeirHunters", name := "paidOf", desc := "(I)J" } : Jvm.MethodName)) ∈ lw_tbl := lw_at lw_m3 163 rfl
theorem q713 : (Jvm.Cond.instanceMethod ({ cls := "HeirHunters", name := "paidOf", desc := "(I)J" } : Jvm.MethodName)) ∈ lw_all := lw_g (lw_at lw_m3 164 rfl) rfl
theorem q714 : (Jvm.Cond.code ({ cls := "HeirHunters", name := "paidOf", desc := "(I)J" } : Jvm.MethodName) prog_1_method_61_code (5 : Nat) (Option.some Jvm.ClassFile.FieldType.long)) ∈ lw_all := lw_g (lw_at lw_m3 165 rfl) rfl
theorem q716 : (Jvm.Cond.instanceMethod ({ cls := "HeirHunters", name := "due", desc := "(II)I" } : Jvm.MethodName)) ∈ lw_all := lw_g (lw_at lw_m3 167 rfl) rfl
theorem q717 : (Jvm.Cond.selects "HeirHunters" ({ cls := "HeirHunters", name := "due", desc := "(II)I" } : Jvm.MethodName) ({ cls := "HeirHunters", name := "due", desc := "(II)I" } : Jvm.MethodName)) ∈ lw_all := lw_g (lw_at lw_m3 168 rfl) rfl
theorem q718 : (Jvm.Cond.code ({ cls := "HeirHunters", name := "due", desc := "(II)I" } : Jvm.MethodName) prog_1_method_65_code (4 : Nat) (Option.some Jvm.ClassFile.FieldType.int)) ∈ lw_all := lw_g (lw_at lw_m3 169 rfl) rfl
theorem q719 : (Jvm.Cond.methodLink "HeirHunters" (337 : Nat) ({ cls := "HeirHunters", name := "dueOf", desc := "(II)J" } : Jvm.MethodName)) ∈ lw_all := lw_g (lw_at lw_m3 170 rfl) rfl
theorem q720 : (Jvm.Cond.privateMethod ({ cls := "HeirHunters", name := "dueOf", desc := "(II)J" } : Jvm.MethodName)) ∈ lw_tbl := lw_at lw_m3 171 rfl
theorem q721 : (Jvm.Cond.instanceMethod ({ cls := "HeirHunters", name := "dueOf", desc := "(II)J" } : Jvm.MethodName)) ∈ lw_all := lw_g (lw_at lw_m3 172 rfl) rfl
theorem q722 : (Jvm.Cond.code ({ cls := "HeirHunters", name := "dueOf", desc := "(II)J" } : Jvm.MethodName) prog_1_method_64_code (3 : Nat) (Option.some Jvm.ClassFile.FieldType.long)) ∈ lw_all := lw_g (lw_at lw_m3 173 rfl) rfl
theorem q724 : (Jvm.Cond.instanceMethod ({ cls := "HeirHunters", name := "paid", desc := "(II)I" } : Jvm.MethodName)) ∈ lw_all := lw_g (lw_at lw_m3 175 rfl) rfl
theorem q725 : (Jvm.Cond.selects "HeirHunters" ({ cls := "HeirHunters", name := "paid", desc := "(II)I" } : Jvm.MethodName) ({ cls := "HeirHunters", name := "paid", desc := "(II)I" } : Jvm.MethodName)) ∈ lw_all := lw_g (lw_at lw_m3 176 rfl) rfl
theorem q726 : (Jvm.Cond.code ({ cls := "HeirHunters", name := "paid", desc := "(II)I" } : Jvm.MethodName) prog_1_method_66_code (3 : Nat) (Option.some Jvm.ClassFile.FieldType.int)) ∈ lw_all := lw_g (lw_at lw_m3 177 rfl) rfl
theorem q728 : (Jvm.Cond.instanceMethod ({ cls := "HeirHunters", name := "owes", desc := "(II)I" } : Jvm.MethodName)) ∈ lw_all := lw_g (lw_at lw_m3 179 rfl) rfl
theorem q729 : (Jvm.Cond.selects "HeirHunters" ({ cls := "HeirHunters", name := "owes", desc := "(II)I" } : Jvm.MethodName) ({ cls := "HeirHunters", name := "owes", desc := "(II)I" } : Jvm.MethodName)) ∈ lw_all := lw_g (lw_at lw_m3 180 rfl) rfl
theorem q730 : (Jvm.Cond.code ({ cls := "HeirHunters", name := "owes", desc := "(II)I" } : Jvm.MethodName) prog_1_method_67_code (4 : Nat) (Option.some Jvm.ClassFile.FieldType.int)) ∈ lw_all := lw_g (lw_at lw_m3 181 rfl) rfl
theorem q731 : (Jvm.Cond.methodLink "HeirHunters" (341 : Nat) ({ cls := "java/lang/Math", name := "max", desc := "(JJ)J" } : Jvm.MethodName)) ∈ lw_all := lw_g (lw_at lw_m3 182 rfl) rfl
theorem q735 : (Jvm.Cond.instanceMethod ({ cls := "HeirHunters", name := "mean", desc := "(I)I" } : Jvm.MethodName)) ∈ lw_all := lw_g (lw_at lw_m3 186 rfl) rfl
theorem q736 : (Jvm.Cond.selects "HeirHunters" ({ cls := "HeirHunters", name := "mean", desc := "(I)I" } : Jvm.MethodName) ({ cls := "HeirHunters", name := "mean", desc := "(I)I" } : Jvm.MethodName)) ∈ lw_all := lw_g (lw_at lw_m3 187 rfl) rfl
theorem q737 : (Jvm.Cond.codeWith ({ cls := "HeirHunters", name := "mean", desc := "(I)I" } : Jvm.MethodName) prog_1_method_68_code (4 : Nat) (Option.some Jvm.ClassFile.FieldType.int) [((48 : Nat), (57 : Nat), (58 : Nat), (344 : Nat))]) ∈ lw_all := lw_g (lw_at lw_m3 188 rfl) rfl
theorem q738 : (Jvm.Cond.classLink "HeirHunters" (344 : Nat) "java/lang/ArithmeticException") ∈ lw_all := lw_g (lw_at lw_m3 189 rfl) rfl
theorem q753 : (Jvm.Cond.instanceMethod ({ cls := "HeirHunters", name := "sheet", desc := "(II)I" } : Jvm.MethodName)) ∈ lw_all := lw_g (lw_at lw_m3 204 rfl) rfl
theorem q754 : (Jvm.Cond.selects "HeirHunters" ({ cls := "HeirHunters", name := "sheet", desc := "(II)I" } : Jvm.MethodName) ({ cls := "HeirHunters", name := "sheet", desc := "(II)I" } : Jvm.MethodName)) ∈ lw_all := lw_g (lw_at lw_m3 205 rfl) rfl
theorem q755 : (Jvm.Cond.codeWith ({ cls := "HeirHunters", name := "sheet", desc := "(II)I" } : Jvm.MethodName) prog_1_method_70_code (4 : Nat) (Option.some Jvm.ClassFile.FieldType.int) [((15 : Nat), (25 : Nat), (26 : Nat), (349 : Nat))]) ∈ lw_all := lw_g (lw_at lw_m3 206 rfl) rfl
theorem q756 : (Jvm.Cond.classLink "HeirHunters" (349 : Nat) "java/lang/NegativeArraySizeException") ∈ lw_all := lw_g (lw_at lw_m3 207 rfl) rfl
theorem q770 : (Jvm.Cond.methodLink "HeirHunters" (346 : Nat) ({ cls := "HeirHunters", name := "isSheet", desc := "(I)Z" } : Jvm.MethodName)) ∈ lw_all := lw_g (lw_at lw_m3 221 rfl) rfl
theorem q771 : (Jvm.Cond.static ({ cls := "HeirHunters", name := "isSheet", desc := "(I)Z" } : Jvm.MethodName)) ∈ lw_all := lw_g (lw_at lw_m3 222 rfl) rfl
theorem q772 : (Jvm.Cond.code ({ cls := "HeirHunters", name := "isSheet", desc := "(I)Z" } : Jvm.MethodName) prog_1_method_69_code (1 : Nat) (Option.some Jvm.ClassFile.FieldType.boolean)) ∈ lw_all := lw_g (lw_at lw_m3 223 rfl) rfl
theorem q774 : (Jvm.Cond.instanceMethod ({ cls := "HeirHunters", name := "note", desc := "(II)I" } : Jvm.MethodName)) ∈ lw_all := lw_g (lw_at lw_m3 225 rfl) rfl
theorem q775 : (Jvm.Cond.selects "HeirHunters" ({ cls := "HeirHunters", name := "note", desc := "(II)I" } : Jvm.MethodName) ({ cls := "HeirHunters", name := "note", desc := "(II)I" } : Jvm.MethodName)) ∈ lw_all := lw_g (lw_at lw_m3 226 rfl) rfl
theorem q776 : (Jvm.Cond.code ({ cls := "HeirHunters", name := "note", desc := "(II)I" } : Jvm.MethodName) prog_1_method_71_code (4 : Nat) (Option.some Jvm.ClassFile.FieldType.int)) ∈ lw_all := lw_g (lw_at lw_m3 227 rfl) rfl
theorem q777 : (Jvm.Cond.methodLink "HeirHunters" (351 : Nat) ({ cls := "java/lang/Math", name := "min", desc := "(II)I" } : Jvm.MethodName)) ∈ lw_all := lw_g (lw_at lw_m3 228 rfl) rfl
theorem q780 : (Jvm.Cond.methodLink "HeirHunters" (354 : Nat) ({ cls := "java/lang/System", name := "arraycopy", desc := "(Ljava/lang/Object;ILjava/lang/Object;II)V" } : Jvm.MethodName)) ∈ lw_all := lw_g (lw_at lw_m3 231 rfl) rfl
theorem q784 : (Jvm.Cond.instanceMethod ({ cls := "HeirHunters", name := "at", desc := "(II)I" } : Jvm.MethodName)) ∈ lw_all := lw_g (lw_at lw_m3 235 rfl) rfl
theorem q785 : (Jvm.Cond.selects "HeirHunters" ({ cls := "HeirHunters", name := "at", desc := "(II)I" } : Jvm.MethodName) ({ cls := "HeirHunters", name := "at", desc := "(II)I" } : Jvm.MethodName)) ∈ lw_all := lw_g (lw_at lw_m3 236 rfl) rfl
theorem q786 : (Jvm.Cond.codeWith ({ cls := "HeirHunters", name := "at", desc := "(II)I" } : Jvm.MethodName) prog_1_method_72_code (4 : Nat) (Option.some Jvm.ClassFile.FieldType.int) [((9 : Nat), (17 : Nat), (18 : Nat), (360 : Nat)), ((9 : Nat), (17 : Nat), (25 : Nat), (362 : Nat))]) ∈ lw_all := lw_g (lw_at lw_m3 237 rfl) rfl
theorem q787 : (Jvm.Cond.classLink "HeirHunters" (360 : Nat) "java/lang/NullPointerException") ∈ lw_all := lw_g (lw_at lw_m3 238 rfl) rfl
theorem q812 : (Jvm.Cond.classLink "HeirHunters" (362 : Nat) "java/lang/IndexOutOfBoundsException") ∈ lw_all := lw_g (lw_at lw_m4 23 rfl) rfl
theorem q832 : (Jvm.Cond.instanceMethod ({ cls := "HeirHunters", name := "tear", desc := "(I)I" } : Jvm.MethodName)) ∈ lw_all := lw_g (lw_at lw_m4 43 rfl) rfl
theorem q833 : (Jvm.Cond.selects "HeirHunters" ({ cls := "HeirHunters", name := "tear", desc := "(I)I" } : Jvm.MethodName) ({ cls := "HeirHunters", name := "tear", desc := "(I)I" } : Jvm.MethodName)) ∈ lw_all := lw_g (lw_at lw_m4 44 rfl) rfl
theorem q834 : (Jvm.Cond.code ({ cls := "HeirHunters", name := "tear", desc := "(I)I" } : Jvm.MethodName) prog_1_method_73_code (2 : Nat) (Option.some Jvm.ClassFile.FieldType.int)) ∈ lw_all := lw_g (lw_at lw_m4 45 rfl) rfl
theorem q836 : (Jvm.Cond.instanceMethod ({ cls := "HeirHunters", name := "copy", desc := "(IIIII)I" } : Jvm.MethodName)) ∈ lw_all := lw_g (lw_at lw_m4 47 rfl) rfl
theorem q837 : (Jvm.Cond.selects "HeirHunters" ({ cls := "HeirHunters", name := "copy", desc := "(IIIII)I" } : Jvm.MethodName) ({ cls := "HeirHunters", name := "copy", desc := "(IIIII)I" } : Jvm.MethodName)) ∈ lw_all := lw_g (lw_at lw_m4 48 rfl) rfl
theorem q838 : (Jvm.Cond.codeWith ({ cls := "HeirHunters", name := "copy", desc := "(IIIII)I" } : Jvm.MethodName) prog_1_method_74_code (7 : Nat) (Option.some Jvm.ClassFile.FieldType.int) [((27 : Nat), (48 : Nat), (49 : Nat), (360 : Nat)), ((27 : Nat), (48 : Nat), (57 : Nat), (362 : Nat))]) ∈ lw_all := lw_g (lw_at lw_m4 49 rfl) rfl
theorem q840 : (Jvm.Cond.instanceMethod ({ cls := "HeirHunters", name := "count", desc := "(I)I" } : Jvm.MethodName)) ∈ lw_all := lw_g (lw_at lw_m4 51 rfl) rfl
theorem q841 : (Jvm.Cond.selects "HeirHunters" ({ cls := "HeirHunters", name := "count", desc := "(I)I" } : Jvm.MethodName) ({ cls := "HeirHunters", name := "count", desc := "(I)I" } : Jvm.MethodName)) ∈ lw_all := lw_g (lw_at lw_m4 52 rfl) rfl
theorem q842 : (Jvm.Cond.code ({ cls := "HeirHunters", name := "count", desc := "(I)I" } : Jvm.MethodName) prog_1_method_75_code (2 : Nat) (Option.some Jvm.ClassFile.FieldType.int)) ∈ lw_all := lw_g (lw_at lw_m4 53 rfl) rfl
theorem q844 : (Jvm.Cond.instanceMethod ({ cls := "HeirHunters", name := "finding", desc := "()I" } : Jvm.MethodName)) ∈ lw_all := lw_g (lw_at lw_m4 55 rfl) rfl
theorem q845 : (Jvm.Cond.selects "HeirHunters" ({ cls := "HeirHunters", name := "finding", desc := "()I" } : Jvm.MethodName) ({ cls := "HeirHunters", name := "finding", desc := "()I" } : Jvm.MethodName)) ∈ lw_all := lw_g (lw_at lw_m4 56 rfl) rfl
theorem q846 : (Jvm.Cond.code ({ cls := "HeirHunters", name := "finding", desc := "()I" } : Jvm.MethodName) prog_1_method_76_code (1 : Nat) (Option.some Jvm.ClassFile.FieldType.int)) ∈ lw_all := lw_g (lw_at lw_m4 57 rfl) rfl
theorem q848 : (Jvm.Cond.instanceMethod ({ cls := "HeirHunters", name := "findings", desc := "(I)I" } : Jvm.MethodName)) ∈ lw_all := lw_g (lw_at lw_m4 59 rfl) rfl
theorem q849 : (Jvm.Cond.selects "HeirHunters" ({ cls := "HeirHunters", name := "findings", desc := "(I)I" } : Jvm.MethodName) ({ cls := "HeirHunters", name := "findings", desc := "(I)I" } : Jvm.MethodName)) ∈ lw_all := lw_g (lw_at lw_m4 60 rfl) rfl
theorem q850 : (Jvm.Cond.code ({ cls := "HeirHunters", name := "findings", desc := "(I)I" } : Jvm.MethodName) prog_1_method_77_code (2 : Nat) (Option.some Jvm.ClassFile.FieldType.int)) ∈ lw_all := lw_g (lw_at lw_m4 61 rfl) rfl
theorem q852 : (Jvm.Cond.instanceMethod ({ cls := "HeirHunters", name := "digest", desc := "()J" } : Jvm.MethodName)) ∈ lw_all := lw_g (lw_at lw_m4 63 rfl) rfl
theorem q853 : (Jvm.Cond.selects "HeirHunters" ({ cls := "HeirHunters", name := "digest", desc := "()J" } : Jvm.MethodName) ({ cls := "HeirHunters", name := "digest", desc := "()J" } : Jvm.MethodName)) ∈ lw_all := lw_g (lw_at lw_m4 64 rfl) rfl
theorem q854 : (Jvm.Cond.code ({ cls := "HeirHunters", name := "digest", desc := "()J" } : Jvm.MethodName) prog_1_method_78_code (6 : Nat) (Option.some Jvm.ClassFile.FieldType.long)) ∈ lw_all := lw_g (lw_at lw_m4 65 rfl) rfl
theorem q855 : (Jvm.Cond.constantLong "HeirHunters" (364 : Nat) (17 : Int64)) ∈ lw_all := lw_g (lw_at lw_m4 66 rfl) rfl
theorem q856 : (Jvm.Cond.constantLong "HeirHunters" (366 : Nat) (31 : Int64)) ∈ lw_all := lw_g (lw_at lw_m4 67 rfl) rfl
theorem q857 : (Jvm.Cond.methodLink "HeirHunters" (368 : Nat) ({ cls := "HeirHunters", name := "count", desc := "(I)I" } : Jvm.MethodName)) ∈ lw_all := lw_g (lw_at lw_m4 68 rfl) rfl
theorem q858 : (Jvm.Cond.methodLink "HeirHunters" (371 : Nat) ({ cls := "HeirHunters", name := "told", desc := "(II)I" } : Jvm.MethodName)) ∈ lw_all := lw_g (lw_at lw_m4 69 rfl) rfl
theorem in_X0 : ∀ w ∈ wsX00, w ∈ lw_all := lw_in wsX00 [142, 144, 146, 148, 150, 152, 154, 156, 158, 160, 162, 164, 166, 168, 170, 172, 174, 176, 178, 180, 182, 184, 186, 188, 190, 192, 194, 196, 198, 200, 202, 204, 206, 208, 210, 212, 214, 216, 218, 220, 222] (by decide +kernel) (by decide +kernel)
end
