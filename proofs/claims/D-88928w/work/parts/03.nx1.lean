section
/-! HeirHuntersModel -/
set_option maxRecDepth 100000
def RX1 : String := "HeirHuntersModel"
def TX1 : u_T := fun k => match k with
  | 0 => ("HeirHuntersModel", "finding", "I", false)
  | 1 => ("HeirHuntersModel", "findings", "[I", true)
  | 2 => ("HeirHuntersModel", "persons", "I", false)
  | 3 => ("HeirHuntersModel", "lands", "[I", true)
  | 4 => ("HeirHuntersModel", "borns", "[I", true)
  | 5 => ("HeirHuntersModel", "deads", "[I", true)
  | 6 => ("HeirHuntersModel", "lines", "I", false)
  | 7 => ("HeirHuntersModel", "kinds", "[I", true)
  | 8 => ("HeirHuntersModel", "parents", "[I", true)
  | 9 => ("HeirHuntersModel", "children", "[I", true)
  | 10 => ("HeirHuntersModel", "acts", "[I", true)
  | 11 => ("HeirHuntersModel", "costs", "[I", true)
  | 12 => ("HeirHuntersModel", "proofs", "[I", true)
  | 13 => ("HeirHuntersModel", "isStruck", "[Z", true)
  | 14 => ("HeirHuntersModel", "couples", "I", false)
  | 15 => ("HeirHuntersModel", "firsts", "[I", true)
  | 16 => ("HeirHuntersModel", "seconds", "[I", true)
  | 17 => ("HeirHuntersModel", "coupleFrom", "[I", true)
  | 18 => ("HeirHuntersModel", "coupleTo", "[I", true)
  | 19 => ("HeirHuntersModel", "laws", "I", false)
  | 20 => ("HeirHuntersModel", "lawLand", "[I", true)
  | 21 => ("HeirHuntersModel", "lawDay", "[I", true)
  | 22 => ("HeirHuntersModel", "lawUp", "[I", true)
  | 23 => ("HeirHuntersModel", "lawLow", "[I", true)
  | 24 => ("HeirHuntersModel", "lawAdopts", "[Z", true)
  | 25 => ("HeirHuntersModel", "lawCircles", "[I", true)
  | 26 => ("HeirHuntersModel", "ups", "[J", true)
  | 27 => ("HeirHuntersModel", "lows", "[J", true)
  | 28 => ("HeirHuntersModel", "sumUp", "J", false)
  | 29 => ("HeirHuntersModel", "sumLow", "J", false)
  | 30 => ("HeirHuntersModel", "dead", "I", false)
  | 31 => ("HeirHuntersModel", "deathDay", "I", false)
  | 32 => ("HeirHuntersModel", "law", "I", false)
  | 33 => ("HeirHuntersModel", "counts", "[Z", true)
  | 34 => ("HeirHuntersModel", "survives", "[Z", true)
  | 35 => ("HeirHuntersModel", "takes", "[Z", true)
  | 36 => ("HeirHuntersModel", "opens", "I", false)
  | 37 => ("HeirHuntersModel", "openLines", "[I", true)
  | 38 => ("HeirHuntersModel", "order", "[I", true)
  | 39 => ("HeirHuntersModel", "partUps", "[J", true)
  | 40 => ("HeirHuntersModel", "partLows", "[J", true)
  | 41 => ("HeirHuntersModel", "many", "I", false)
  | 42 => ("HeirHuntersModel", "heads", "[I", true)
  | 43 => ("HeirHuntersModel", "circle", "I", false)
  | 44 => ("HeirHuntersModel", "upper", "J", false)
  | 45 => ("HeirHuntersModel", "lower", "J", false)
  | 46 => ("HeirHuntersModel", "wayUps", "[J", true)
  | 47 => ("HeirHuntersModel", "wayLows", "[J", true)
  | 48 => ("HeirHuntersModel", "worthUp", "J", false)
  | 49 => ("HeirHuntersModel", "worthLow", "J", false)
  | 50 => ("HeirHuntersModel", "sums", "[I", true)
  | 51 => ("HeirHuntersModel", "pays", "[I", true)
  | 52 => ("HeirHuntersModel", "sizes", "[I", true)
  | 53 => ("HeirHuntersModel", "sheets", "[I", true)
  | _ => ("HeirHuntersModel", "moving", "[I", true)
def tyX1 : Nat → FieldType := fun k => match k with
  | 0 => .int
  | 1 => .array .int
  | 2 => .int
  | 3 => .array .int
  | 4 => .array .int
  | 5 => .array .int
  | 6 => .int
  | 7 => .array .int
  | 8 => .array .int
  | 9 => .array .int
  | 10 => .array .int
  | 11 => .array .int
  | 12 => .array .int
  | 13 => .array .boolean
  | 14 => .int
  | 15 => .array .int
  | 16 => .array .int
  | 17 => .array .int
  | 18 => .array .int
  | 19 => .int
  | 20 => .array .int
  | 21 => .array .int
  | 22 => .array .int
  | 23 => .array .int
  | 24 => .array .boolean
  | 25 => .array .int
  | 26 => .array .long
  | 27 => .array .long
  | 28 => .long
  | 29 => .long
  | 30 => .int
  | 31 => .int
  | 32 => .int
  | 33 => .array .boolean
  | 34 => .array .boolean
  | 35 => .array .boolean
  | 36 => .int
  | 37 => .array .int
  | 38 => .array .int
  | 39 => .array .long
  | 40 => .array .long
  | 41 => .int
  | 42 => .array .int
  | 43 => .int
  | 44 => .long
  | 45 => .long
  | 46 => .array .long
  | 47 => .array .long
  | 48 => .long
  | 49 => .long
  | 50 => .array .int
  | 51 => .array .int
  | 52 => .array .int
  | 53 => .array .int
  | _ => .array .int
abbrev wsX10 : List Cond := u_ws RX1 TX1 55
set_option maxRecDepth 100000 in
theorem nmX1 : ∀ a, a < 55 → ∀ b, b < 55 → a ≠ b → (TX1 a).2.1 ≠ (TX1 b).2.1 := by decide +kernel
set_option maxRecDepth 100000 in
theorem tyX1_ok : ∀ k, k < 55 → parseFieldDescriptor (TX1 k).2.2.1 = some (tyX1 k) := by decide +kernel
abbrev cX1_init : ByteArray := prog_8_method_1_code
def yX1_init : MethodName := ⟨RX1, "<init>", "()V"⟩
def dkwX1_init_14 : List UInt8 := [167, 255, 240, 177]
abbrev dktX1_init_14 : List UInt8 := dkwX1_init_14 ++ []
def dkwX1_init_13 : List UInt8 := [188, 10, 181, 0, 127, 3, 60, 27, 7, 162, 0, 17, 42, 180, 0, 121, 27, 16, 247, 79, 132, 1, 1]
abbrev dktX1_init_13 : List UInt8 := dkwX1_init_13 ++ dktX1_init_14
def dkwX1_init_12 : List UInt8 := [188, 10, 181, 0, 118, 42, 7, 188, 10, 181, 0, 121, 42, 16, 96, 188, 10, 181, 0, 124, 42, 16, 24]
abbrev dktX1_init_12 : List UInt8 := dkwX1_init_12 ++ dktX1_init_13
def dkwX1_init_11 : List UInt8 := [181, 0, 109, 42, 17, 25, 0, 188, 11, 181, 0, 112, 42, 16, 24, 188, 10, 181, 0, 115, 42, 17, 2, 64]
abbrev dktX1_init_11 : List UInt8 := dkwX1_init_11 ++ dktX1_init_12
def dkwX1_init_10 : List UInt8 := [188, 11, 181, 0, 99, 42, 16, 64, 188, 10, 181, 0, 102, 42, 10, 181, 0, 105, 42, 17, 25, 0, 188, 11]
abbrev dktX1_init_10 : List UInt8 := dkwX1_init_10 ++ dktX1_init_11
def dkwX1_init_9 : List UInt8 := [188, 10, 181, 0, 90, 42, 16, 24, 188, 10, 181, 0, 93, 42, 16, 24, 188, 11, 181, 0, 96, 42, 16, 24]
abbrev dktX1_init_9 : List UInt8 := dkwX1_init_9 ++ dktX1_init_10
def dkwX1_init_8 : List UInt8 := [188, 4, 181, 0, 81, 42, 16, 24, 188, 4, 181, 0, 84, 42, 16, 24, 188, 4, 181, 0, 87, 42, 16, 40]
abbrev dktX1_init_8 : List UInt8 := dkwX1_init_8 ++ dktX1_init_9
def dkwX1_init_7 : List UInt8 := [188, 10, 181, 0, 71, 42, 16, 25, 188, 11, 181, 0, 74, 42, 16, 25, 188, 11, 181, 0, 78, 42, 16, 40]
abbrev dktX1_init_7 : List UInt8 := dkwX1_init_7 ++ dktX1_init_8
def dkwX1_init_6 : List UInt8 := [188, 10, 181, 0, 62, 42, 16, 16, 188, 10, 181, 0, 65, 42, 16, 16, 188, 4, 181, 0, 68, 42, 16, 16]
abbrev dktX1_init_6 : List UInt8 := dkwX1_init_6 ++ dktX1_init_7
def dkwX1_init_5 : List UInt8 := [188, 10, 181, 0, 53, 42, 16, 16, 188, 10, 181, 0, 56, 42, 16, 16, 188, 10, 181, 0, 59, 42, 16, 16]
abbrev dktX1_init_5 : List UInt8 := dkwX1_init_5 ++ dktX1_init_6
def dkwX1_init_4 : List UInt8 := [188, 10, 181, 0, 44, 42, 16, 20, 188, 10, 181, 0, 47, 42, 16, 20, 188, 10, 181, 0, 50, 42, 16, 20]
abbrev dktX1_init_4 : List UInt8 := dkwX1_init_4 ++ dktX1_init_5
def dkwX1_init_3 : List UInt8 := [188, 10, 181, 0, 34, 42, 16, 40, 188, 10, 181, 0, 37, 42, 16, 40, 188, 4, 181, 0, 40, 42, 16, 20]
abbrev dktX1_init_3 : List UInt8 := dkwX1_init_3 ++ dktX1_init_4
def dkwX1_init_2 : List UInt8 := [188, 10, 181, 0, 25, 42, 16, 40, 188, 10, 181, 0, 28, 42, 16, 40, 188, 10, 181, 0, 31, 42, 16, 40]
abbrev dktX1_init_2 : List UInt8 := dkwX1_init_2 ++ dktX1_init_3
def dkwX1_init_1 : List UInt8 := [188, 10, 181, 0, 16, 42, 16, 24, 188, 10, 181, 0, 19, 42, 16, 40, 188, 10, 181, 0, 22, 42, 16, 40]
abbrev dktX1_init_1 : List UInt8 := dkwX1_init_1 ++ dktX1_init_2
def dkwX1_init_0 : List UInt8 := [42, 183, 0, 1, 42, 16, 6, 188, 10, 181, 0, 7, 42, 16, 24, 188, 10, 181, 0, 13, 42, 16, 24]
abbrev dktX1_init_0 : List UInt8 := dkwX1_init_0 ++ dktX1_init_1
theorem dksX1_init_0 : cX1_init.data.toList.drop 0 = dktX1_init_0 := by decide +kernel
theorem dksX1_init_1 : cX1_init.data.toList.drop 23 = dktX1_init_1 := dk_seg dksX1_init_0 23 rfl rfl
theorem dksX1_init_2 : cX1_init.data.toList.drop 47 = dktX1_init_2 := dk_seg dksX1_init_1 24 rfl rfl
theorem dksX1_init_3 : cX1_init.data.toList.drop 71 = dktX1_init_3 := dk_seg dksX1_init_2 24 rfl rfl
theorem dksX1_init_4 : cX1_init.data.toList.drop 95 = dktX1_init_4 := dk_seg dksX1_init_3 24 rfl rfl
theorem dksX1_init_5 : cX1_init.data.toList.drop 119 = dktX1_init_5 := dk_seg dksX1_init_4 24 rfl rfl
theorem dksX1_init_6 : cX1_init.data.toList.drop 143 = dktX1_init_6 := dk_seg dksX1_init_5 24 rfl rfl
theorem dksX1_init_7 : cX1_init.data.toList.drop 167 = dktX1_init_7 := dk_seg dksX1_init_6 24 rfl rfl
theorem dksX1_init_8 : cX1_init.data.toList.drop 191 = dktX1_init_8 := dk_seg dksX1_init_7 24 rfl rfl
theorem dksX1_init_9 : cX1_init.data.toList.drop 215 = dktX1_init_9 := dk_seg dksX1_init_8 24 rfl rfl
theorem dksX1_init_10 : cX1_init.data.toList.drop 239 = dktX1_init_10 := dk_seg dksX1_init_9 24 rfl rfl
theorem dksX1_init_11 : cX1_init.data.toList.drop 263 = dktX1_init_11 := dk_seg dksX1_init_10 24 rfl rfl
theorem dksX1_init_12 : cX1_init.data.toList.drop 287 = dktX1_init_12 := dk_seg dksX1_init_11 24 rfl rfl
theorem dksX1_init_13 : cX1_init.data.toList.drop 310 = dktX1_init_13 := dk_seg dksX1_init_12 23 rfl rfl
theorem dksX1_init_14 : cX1_init.data.toList.drop 333 = dktX1_init_14 := dk_seg dksX1_init_13 23 rfl rfl
theorem dX1_init_0 : decode cX1_init 0 = .ok (.aload_n 0, 1) := dk_42 (dk_at dksX1_init_0 0 rfl rfl)
theorem dX1_init_1 : decode cX1_init 1 = .ok (.invokespecial 1, 3) := dk_183 0 1 (dk_at dksX1_init_0 1 rfl rfl)
theorem dX1_init_4 : decode cX1_init 4 = .ok (.aload_n 0, 1) := dk_42 (dk_at dksX1_init_0 4 rfl rfl)
theorem dX1_init_5 : decode cX1_init 5 = .ok (.bipush 6, 2) := dk_16 6 (dk_at dksX1_init_0 5 rfl rfl)
theorem dX1_init_7 : decode cX1_init 7 = .ok (.newarray .int, 2) := dk_188_10 (dk_at dksX1_init_0 7 rfl rfl)
theorem dX1_init_9 : decode cX1_init 9 = .ok (.putfield 7, 3) := dk_181 0 7 (dk_at dksX1_init_0 9 rfl rfl)
theorem dX1_init_12 : decode cX1_init 12 = .ok (.aload_n 0, 1) := dk_42 (dk_at dksX1_init_0 12 rfl rfl)
theorem dX1_init_13 : decode cX1_init 13 = .ok (.bipush 24, 2) := dk_16 24 (dk_at dksX1_init_0 13 rfl rfl)
theorem dX1_init_15 : decode cX1_init 15 = .ok (.newarray .int, 2) := dk_188_10 (dk_at dksX1_init_0 15 rfl rfl)
theorem dX1_init_17 : decode cX1_init 17 = .ok (.putfield 13, 3) := dk_181 0 13 (dk_at dksX1_init_0 17 rfl rfl)
theorem dX1_init_20 : decode cX1_init 20 = .ok (.aload_n 0, 1) := dk_42 (dk_at dksX1_init_0 20 rfl rfl)
theorem dX1_init_21 : decode cX1_init 21 = .ok (.bipush 24, 2) := dk_16 24 (dk_at dksX1_init_0 21 rfl rfl)
theorem dX1_init_23 : decode cX1_init 23 = .ok (.newarray .int, 2) := dk_188_10 (dk_at dksX1_init_1 0 rfl rfl)
theorem dX1_init_25 : decode cX1_init 25 = .ok (.putfield 16, 3) := dk_181 0 16 (dk_at dksX1_init_1 2 rfl rfl)
theorem dX1_init_28 : decode cX1_init 28 = .ok (.aload_n 0, 1) := dk_42 (dk_at dksX1_init_1 5 rfl rfl)
theorem dX1_init_29 : decode cX1_init 29 = .ok (.bipush 24, 2) := dk_16 24 (dk_at dksX1_init_1 6 rfl rfl)
theorem dX1_init_31 : decode cX1_init 31 = .ok (.newarray .int, 2) := dk_188_10 (dk_at dksX1_init_1 8 rfl rfl)
theorem dX1_init_33 : decode cX1_init 33 = .ok (.putfield 19, 3) := dk_181 0 19 (dk_at dksX1_init_1 10 rfl rfl)
theorem dX1_init_36 : decode cX1_init 36 = .ok (.aload_n 0, 1) := dk_42 (dk_at dksX1_init_1 13 rfl rfl)
theorem dX1_init_37 : decode cX1_init 37 = .ok (.bipush 40, 2) := dk_16 40 (dk_at dksX1_init_1 14 rfl rfl)
theorem dX1_init_39 : decode cX1_init 39 = .ok (.newarray .int, 2) := dk_188_10 (dk_at dksX1_init_1 16 rfl rfl)
theorem dX1_init_41 : decode cX1_init 41 = .ok (.putfield 22, 3) := dk_181 0 22 (dk_at dksX1_init_1 18 rfl rfl)
theorem dX1_init_44 : decode cX1_init 44 = .ok (.aload_n 0, 1) := dk_42 (dk_at dksX1_init_1 21 rfl rfl)
theorem dX1_init_45 : decode cX1_init 45 = .ok (.bipush 40, 2) := dk_16 40 (dk_at dksX1_init_1 22 rfl rfl)
theorem dX1_init_47 : decode cX1_init 47 = .ok (.newarray .int, 2) := dk_188_10 (dk_at dksX1_init_2 0 rfl rfl)
theorem dX1_init_49 : decode cX1_init 49 = .ok (.putfield 25, 3) := dk_181 0 25 (dk_at dksX1_init_2 2 rfl rfl)
theorem dX1_init_52 : decode cX1_init 52 = .ok (.aload_n 0, 1) := dk_42 (dk_at dksX1_init_2 5 rfl rfl)
theorem dX1_init_53 : decode cX1_init 53 = .ok (.bipush 40, 2) := dk_16 40 (dk_at dksX1_init_2 6 rfl rfl)
theorem dX1_init_55 : decode cX1_init 55 = .ok (.newarray .int, 2) := dk_188_10 (dk_at dksX1_init_2 8 rfl rfl)
theorem dX1_init_57 : decode cX1_init 57 = .ok (.putfield 28, 3) := dk_181 0 28 (dk_at dksX1_init_2 10 rfl rfl)
theorem dX1_init_60 : decode cX1_init 60 = .ok (.aload_n 0, 1) := dk_42 (dk_at dksX1_init_2 13 rfl rfl)
theorem dX1_init_61 : decode cX1_init 61 = .ok (.bipush 40, 2) := dk_16 40 (dk_at dksX1_init_2 14 rfl rfl)
theorem dX1_init_63 : decode cX1_init 63 = .ok (.newarray .int, 2) := dk_188_10 (dk_at dksX1_init_2 16 rfl rfl)
theorem dX1_init_65 : decode cX1_init 65 = .ok (.putfield 31, 3) := dk_181 0 31 (dk_at dksX1_init_2 18 rfl rfl)
theorem dX1_init_68 : decode cX1_init 68 = .ok (.aload_n 0, 1) := dk_42 (dk_at dksX1_init_2 21 rfl rfl)
theorem dX1_init_69 : decode cX1_init 69 = .ok (.bipush 40, 2) := dk_16 40 (dk_at dksX1_init_2 22 rfl rfl)
theorem dX1_init_71 : decode cX1_init 71 = .ok (.newarray .int, 2) := dk_188_10 (dk_at dksX1_init_3 0 rfl rfl)
theorem dX1_init_73 : decode cX1_init 73 = .ok (.putfield 34, 3) := dk_181 0 34 (dk_at dksX1_init_3 2 rfl rfl)
theorem dX1_init_76 : decode cX1_init 76 = .ok (.aload_n 0, 1) := dk_42 (dk_at dksX1_init_3 5 rfl rfl)
theorem dX1_init_77 : decode cX1_init 77 = .ok (.bipush 40, 2) := dk_16 40 (dk_at dksX1_init_3 6 rfl rfl)
theorem dX1_init_79 : decode cX1_init 79 = .ok (.newarray .int, 2) := dk_188_10 (dk_at dksX1_init_3 8 rfl rfl)
theorem dX1_init_81 : decode cX1_init 81 = .ok (.putfield 37, 3) := dk_181 0 37 (dk_at dksX1_init_3 10 rfl rfl)
theorem dX1_init_84 : decode cX1_init 84 = .ok (.aload_n 0, 1) := dk_42 (dk_at dksX1_init_3 13 rfl rfl)
theorem dX1_init_85 : decode cX1_init 85 = .ok (.bipush 40, 2) := dk_16 40 (dk_at dksX1_init_3 14 rfl rfl)
theorem dX1_init_87 : decode cX1_init 87 = .ok (.newarray .boolean, 2) := dk_188_4 (dk_at dksX1_init_3 16 rfl rfl)
theorem dX1_init_89 : decode cX1_init 89 = .ok (.putfield 40, 3) := dk_181 0 40 (dk_at dksX1_init_3 18 rfl rfl)
theorem dX1_init_92 : decode cX1_init 92 = .ok (.aload_n 0, 1) := dk_42 (dk_at dksX1_init_3 21 rfl rfl)
theorem dX1_init_93 : decode cX1_init 93 = .ok (.bipush 20, 2) := dk_16 20 (dk_at dksX1_init_3 22 rfl rfl)
theorem dX1_init_95 : decode cX1_init 95 = .ok (.newarray .int, 2) := dk_188_10 (dk_at dksX1_init_4 0 rfl rfl)
theorem dX1_init_97 : decode cX1_init 97 = .ok (.putfield 44, 3) := dk_181 0 44 (dk_at dksX1_init_4 2 rfl rfl)
theorem dX1_init_100 : decode cX1_init 100 = .ok (.aload_n 0, 1) := dk_42 (dk_at dksX1_init_4 5 rfl rfl)
theorem dX1_init_101 : decode cX1_init 101 = .ok (.bipush 20, 2) := dk_16 20 (dk_at dksX1_init_4 6 rfl rfl)
theorem dX1_init_103 : decode cX1_init 103 = .ok (.newarray .int, 2) := dk_188_10 (dk_at dksX1_init_4 8 rfl rfl)
theorem dX1_init_105 : decode cX1_init 105 = .ok (.putfield 47, 3) := dk_181 0 47 (dk_at dksX1_init_4 10 rfl rfl)
theorem dX1_init_108 : decode cX1_init 108 = .ok (.aload_n 0, 1) := dk_42 (dk_at dksX1_init_4 13 rfl rfl)
theorem dX1_init_109 : decode cX1_init 109 = .ok (.bipush 20, 2) := dk_16 20 (dk_at dksX1_init_4 14 rfl rfl)
theorem dX1_init_111 : decode cX1_init 111 = .ok (.newarray .int, 2) := dk_188_10 (dk_at dksX1_init_4 16 rfl rfl)
theorem dX1_init_113 : decode cX1_init 113 = .ok (.putfield 50, 3) := dk_181 0 50 (dk_at dksX1_init_4 18 rfl rfl)
theorem dX1_init_116 : decode cX1_init 116 = .ok (.aload_n 0, 1) := dk_42 (dk_at dksX1_init_4 21 rfl rfl)
theorem dX1_init_117 : decode cX1_init 117 = .ok (.bipush 20, 2) := dk_16 20 (dk_at dksX1_init_4 22 rfl rfl)
theorem dX1_init_119 : decode cX1_init 119 = .ok (.newarray .int, 2) := dk_188_10 (dk_at dksX1_init_5 0 rfl rfl)
theorem dX1_init_121 : decode cX1_init 121 = .ok (.putfield 53, 3) := dk_181 0 53 (dk_at dksX1_init_5 2 rfl rfl)
theorem dX1_init_124 : decode cX1_init 124 = .ok (.aload_n 0, 1) := dk_42 (dk_at dksX1_init_5 5 rfl rfl)
theorem dX1_init_125 : decode cX1_init 125 = .ok (.bipush 16, 2) := dk_16 16 (dk_at dksX1_init_5 6 rfl rfl)
theorem dX1_init_127 : decode cX1_init 127 = .ok (.newarray .int, 2) := dk_188_10 (dk_at dksX1_init_5 8 rfl rfl)
theorem dX1_init_129 : decode cX1_init 129 = .ok (.putfield 56, 3) := dk_181 0 56 (dk_at dksX1_init_5 10 rfl rfl)
theorem dX1_init_132 : decode cX1_init 132 = .ok (.aload_n 0, 1) := dk_42 (dk_at dksX1_init_5 13 rfl rfl)
theorem dX1_init_133 : decode cX1_init 133 = .ok (.bipush 16, 2) := dk_16 16 (dk_at dksX1_init_5 14 rfl rfl)
theorem dX1_init_135 : decode cX1_init 135 = .ok (.newarray .int, 2) := dk_188_10 (dk_at dksX1_init_5 16 rfl rfl)
theorem dX1_init_137 : decode cX1_init 137 = .ok (.putfield 59, 3) := dk_181 0 59 (dk_at dksX1_init_5 18 rfl rfl)
theorem dX1_init_140 : decode cX1_init 140 = .ok (.aload_n 0, 1) := dk_42 (dk_at dksX1_init_5 21 rfl rfl)
theorem dX1_init_141 : decode cX1_init 141 = .ok (.bipush 16, 2) := dk_16 16 (dk_at dksX1_init_5 22 rfl rfl)
theorem dX1_init_143 : decode cX1_init 143 = .ok (.newarray .int, 2) := dk_188_10 (dk_at dksX1_init_6 0 rfl rfl)
theorem dX1_init_145 : decode cX1_init 145 = .ok (.putfield 62, 3) := dk_181 0 62 (dk_at dksX1_init_6 2 rfl rfl)
theorem dX1_init_148 : decode cX1_init 148 = .ok (.aload_n 0, 1) := dk_42 (dk_at dksX1_init_6 5 rfl rfl)
theorem dX1_init_149 : decode cX1_init 149 = .ok (.bipush 16, 2) := dk_16 16 (dk_at dksX1_init_6 6 rfl rfl)
theorem dX1_init_151 : decode cX1_init 151 = .ok (.newarray .int, 2) := dk_188_10 (dk_at dksX1_init_6 8 rfl rfl)
theorem dX1_init_153 : decode cX1_init 153 = .ok (.putfield 65, 3) := dk_181 0 65 (dk_at dksX1_init_6 10 rfl rfl)
theorem dX1_init_156 : decode cX1_init 156 = .ok (.aload_n 0, 1) := dk_42 (dk_at dksX1_init_6 13 rfl rfl)
theorem dX1_init_157 : decode cX1_init 157 = .ok (.bipush 16, 2) := dk_16 16 (dk_at dksX1_init_6 14 rfl rfl)
theorem dX1_init_159 : decode cX1_init 159 = .ok (.newarray .boolean, 2) := dk_188_4 (dk_at dksX1_init_6 16 rfl rfl)
theorem dX1_init_161 : decode cX1_init 161 = .ok (.putfield 68, 3) := dk_181 0 68 (dk_at dksX1_init_6 18 rfl rfl)
theorem dX1_init_164 : decode cX1_init 164 = .ok (.aload_n 0, 1) := dk_42 (dk_at dksX1_init_6 21 rfl rfl)
theorem dX1_init_165 : decode cX1_init 165 = .ok (.bipush 16, 2) := dk_16 16 (dk_at dksX1_init_6 22 rfl rfl)
theorem dX1_init_167 : decode cX1_init 167 = .ok (.newarray .int, 2) := dk_188_10 (dk_at dksX1_init_7 0 rfl rfl)
theorem dX1_init_169 : decode cX1_init 169 = .ok (.putfield 71, 3) := dk_181 0 71 (dk_at dksX1_init_7 2 rfl rfl)
theorem dX1_init_172 : decode cX1_init 172 = .ok (.aload_n 0, 1) := dk_42 (dk_at dksX1_init_7 5 rfl rfl)
theorem dX1_init_173 : decode cX1_init 173 = .ok (.bipush 25, 2) := dk_16 25 (dk_at dksX1_init_7 6 rfl rfl)
theorem dX1_init_175 : decode cX1_init 175 = .ok (.newarray .long, 2) := dk_188_11 (dk_at dksX1_init_7 8 rfl rfl)
theorem dX1_init_177 : decode cX1_init 177 = .ok (.putfield 74, 3) := dk_181 0 74 (dk_at dksX1_init_7 10 rfl rfl)
theorem dX1_init_180 : decode cX1_init 180 = .ok (.aload_n 0, 1) := dk_42 (dk_at dksX1_init_7 13 rfl rfl)
theorem dX1_init_181 : decode cX1_init 181 = .ok (.bipush 25, 2) := dk_16 25 (dk_at dksX1_init_7 14 rfl rfl)
theorem dX1_init_183 : decode cX1_init 183 = .ok (.newarray .long, 2) := dk_188_11 (dk_at dksX1_init_7 16 rfl rfl)
theorem dX1_init_185 : decode cX1_init 185 = .ok (.putfield 78, 3) := dk_181 0 78 (dk_at dksX1_init_7 18 rfl rfl)
theorem dX1_init_188 : decode cX1_init 188 = .ok (.aload_n 0, 1) := dk_42 (dk_at dksX1_init_7 21 rfl rfl)
theorem dX1_init_189 : decode cX1_init 189 = .ok (.bipush 40, 2) := dk_16 40 (dk_at dksX1_init_7 22 rfl rfl)
theorem dX1_init_191 : decode cX1_init 191 = .ok (.newarray .boolean, 2) := dk_188_4 (dk_at dksX1_init_8 0 rfl rfl)
theorem dX1_init_193 : decode cX1_init 193 = .ok (.putfield 81, 3) := dk_181 0 81 (dk_at dksX1_init_8 2 rfl rfl)
theorem dX1_init_196 : decode cX1_init 196 = .ok (.aload_n 0, 1) := dk_42 (dk_at dksX1_init_8 5 rfl rfl)
theorem dX1_init_197 : decode cX1_init 197 = .ok (.bipush 24, 2) := dk_16 24 (dk_at dksX1_init_8 6 rfl rfl)
theorem dX1_init_199 : decode cX1_init 199 = .ok (.newarray .boolean, 2) := dk_188_4 (dk_at dksX1_init_8 8 rfl rfl)
theorem dX1_init_201 : decode cX1_init 201 = .ok (.putfield 84, 3) := dk_181 0 84 (dk_at dksX1_init_8 10 rfl rfl)
theorem dX1_init_204 : decode cX1_init 204 = .ok (.aload_n 0, 1) := dk_42 (dk_at dksX1_init_8 13 rfl rfl)
theorem dX1_init_205 : decode cX1_init 205 = .ok (.bipush 24, 2) := dk_16 24 (dk_at dksX1_init_8 14 rfl rfl)
theorem dX1_init_207 : decode cX1_init 207 = .ok (.newarray .boolean, 2) := dk_188_4 (dk_at dksX1_init_8 16 rfl rfl)
theorem dX1_init_209 : decode cX1_init 209 = .ok (.putfield 87, 3) := dk_181 0 87 (dk_at dksX1_init_8 18 rfl rfl)
theorem dX1_init_212 : decode cX1_init 212 = .ok (.aload_n 0, 1) := dk_42 (dk_at dksX1_init_8 21 rfl rfl)
theorem dX1_init_213 : decode cX1_init 213 = .ok (.bipush 40, 2) := dk_16 40 (dk_at dksX1_init_8 22 rfl rfl)
theorem dX1_init_215 : decode cX1_init 215 = .ok (.newarray .int, 2) := dk_188_10 (dk_at dksX1_init_9 0 rfl rfl)
theorem dX1_init_217 : decode cX1_init 217 = .ok (.putfield 90, 3) := dk_181 0 90 (dk_at dksX1_init_9 2 rfl rfl)
theorem dX1_init_220 : decode cX1_init 220 = .ok (.aload_n 0, 1) := dk_42 (dk_at dksX1_init_9 5 rfl rfl)
theorem dX1_init_221 : decode cX1_init 221 = .ok (.bipush 24, 2) := dk_16 24 (dk_at dksX1_init_9 6 rfl rfl)
theorem dX1_init_223 : decode cX1_init 223 = .ok (.newarray .int, 2) := dk_188_10 (dk_at dksX1_init_9 8 rfl rfl)
theorem dX1_init_225 : decode cX1_init 225 = .ok (.putfield 93, 3) := dk_181 0 93 (dk_at dksX1_init_9 10 rfl rfl)
theorem dX1_init_228 : decode cX1_init 228 = .ok (.aload_n 0, 1) := dk_42 (dk_at dksX1_init_9 13 rfl rfl)
theorem dX1_init_229 : decode cX1_init 229 = .ok (.bipush 24, 2) := dk_16 24 (dk_at dksX1_init_9 14 rfl rfl)
theorem dX1_init_231 : decode cX1_init 231 = .ok (.newarray .long, 2) := dk_188_11 (dk_at dksX1_init_9 16 rfl rfl)
theorem dX1_init_233 : decode cX1_init 233 = .ok (.putfield 96, 3) := dk_181 0 96 (dk_at dksX1_init_9 18 rfl rfl)
theorem dX1_init_236 : decode cX1_init 236 = .ok (.aload_n 0, 1) := dk_42 (dk_at dksX1_init_9 21 rfl rfl)
theorem dX1_init_237 : decode cX1_init 237 = .ok (.bipush 24, 2) := dk_16 24 (dk_at dksX1_init_9 22 rfl rfl)
theorem dX1_init_239 : decode cX1_init 239 = .ok (.newarray .long, 2) := dk_188_11 (dk_at dksX1_init_10 0 rfl rfl)
theorem dX1_init_241 : decode cX1_init 241 = .ok (.putfield 99, 3) := dk_181 0 99 (dk_at dksX1_init_10 2 rfl rfl)
theorem dX1_init_244 : decode cX1_init 244 = .ok (.aload_n 0, 1) := dk_42 (dk_at dksX1_init_10 5 rfl rfl)
theorem dX1_init_245 : decode cX1_init 245 = .ok (.bipush 64, 2) := dk_16 64 (dk_at dksX1_init_10 6 rfl rfl)
theorem dX1_init_247 : decode cX1_init 247 = .ok (.newarray .int, 2) := dk_188_10 (dk_at dksX1_init_10 8 rfl rfl)
theorem dX1_init_249 : decode cX1_init 249 = .ok (.putfield 102, 3) := dk_181 0 102 (dk_at dksX1_init_10 10 rfl rfl)
theorem dX1_init_252 : decode cX1_init 252 = .ok (.aload_n 0, 1) := dk_42 (dk_at dksX1_init_10 13 rfl rfl)
theorem dX1_init_253 : decode cX1_init 253 = .ok (.lconst 1, 1) := dk_10 (dk_at dksX1_init_10 14 rfl rfl)
theorem dX1_init_254 : decode cX1_init 254 = .ok (.putfield 105, 3) := dk_181 0 105 (dk_at dksX1_init_10 15 rfl rfl)
theorem dX1_init_257 : decode cX1_init 257 = .ok (.aload_n 0, 1) := dk_42 (dk_at dksX1_init_10 18 rfl rfl)
theorem dX1_init_258 : decode cX1_init 258 = .ok (.sipush 6400, 3) := dk_17 25 0 (dk_at dksX1_init_10 19 rfl rfl)
theorem dX1_init_261 : decode cX1_init 261 = .ok (.newarray .long, 2) := dk_188_11 (dk_at dksX1_init_10 22 rfl rfl)
theorem dX1_init_263 : decode cX1_init 263 = .ok (.putfield 109, 3) := dk_181 0 109 (dk_at dksX1_init_11 0 rfl rfl)
theorem dX1_init_266 : decode cX1_init 266 = .ok (.aload_n 0, 1) := dk_42 (dk_at dksX1_init_11 3 rfl rfl)
theorem dX1_init_267 : decode cX1_init 267 = .ok (.sipush 6400, 3) := dk_17 25 0 (dk_at dksX1_init_11 4 rfl rfl)
theorem dX1_init_270 : decode cX1_init 270 = .ok (.newarray .long, 2) := dk_188_11 (dk_at dksX1_init_11 7 rfl rfl)
theorem dX1_init_272 : decode cX1_init 272 = .ok (.putfield 112, 3) := dk_181 0 112 (dk_at dksX1_init_11 9 rfl rfl)
theorem dX1_init_275 : decode cX1_init 275 = .ok (.aload_n 0, 1) := dk_42 (dk_at dksX1_init_11 12 rfl rfl)
theorem dX1_init_276 : decode cX1_init 276 = .ok (.bipush 24, 2) := dk_16 24 (dk_at dksX1_init_11 13 rfl rfl)
theorem dX1_init_278 : decode cX1_init 278 = .ok (.newarray .int, 2) := dk_188_10 (dk_at dksX1_init_11 15 rfl rfl)
theorem dX1_init_280 : decode cX1_init 280 = .ok (.putfield 115, 3) := dk_181 0 115 (dk_at dksX1_init_11 17 rfl rfl)
theorem dX1_init_283 : decode cX1_init 283 = .ok (.aload_n 0, 1) := dk_42 (dk_at dksX1_init_11 20 rfl rfl)
theorem dX1_init_284 : decode cX1_init 284 = .ok (.sipush 576, 3) := dk_17 2 64 (dk_at dksX1_init_11 21 rfl rfl)
theorem dX1_init_287 : decode cX1_init 287 = .ok (.newarray .int, 2) := dk_188_10 (dk_at dksX1_init_12 0 rfl rfl)
theorem dX1_init_289 : decode cX1_init 289 = .ok (.putfield 118, 3) := dk_181 0 118 (dk_at dksX1_init_12 2 rfl rfl)
theorem dX1_init_292 : decode cX1_init 292 = .ok (.aload_n 0, 1) := dk_42 (dk_at dksX1_init_12 5 rfl rfl)
theorem dX1_init_293 : decode cX1_init 293 = .ok (.iconst 4, 1) := dk_7 (dk_at dksX1_init_12 6 rfl rfl)
theorem dX1_init_294 : decode cX1_init 294 = .ok (.newarray .int, 2) := dk_188_10 (dk_at dksX1_init_12 7 rfl rfl)
theorem dX1_init_296 : decode cX1_init 296 = .ok (.putfield 121, 3) := dk_181 0 121 (dk_at dksX1_init_12 9 rfl rfl)
theorem dX1_init_299 : decode cX1_init 299 = .ok (.aload_n 0, 1) := dk_42 (dk_at dksX1_init_12 12 rfl rfl)
theorem dX1_init_300 : decode cX1_init 300 = .ok (.bipush 96, 2) := dk_16 96 (dk_at dksX1_init_12 13 rfl rfl)
theorem dX1_init_302 : decode cX1_init 302 = .ok (.newarray .int, 2) := dk_188_10 (dk_at dksX1_init_12 15 rfl rfl)
theorem dX1_init_304 : decode cX1_init 304 = .ok (.putfield 124, 3) := dk_181 0 124 (dk_at dksX1_init_12 17 rfl rfl)
theorem dX1_init_307 : decode cX1_init 307 = .ok (.aload_n 0, 1) := dk_42 (dk_at dksX1_init_12 20 rfl rfl)
theorem dX1_init_308 : decode cX1_init 308 = .ok (.bipush 24, 2) := dk_16 24 (dk_at dksX1_init_12 21 rfl rfl)
theorem dX1_init_310 : decode cX1_init 310 = .ok (.newarray .int, 2) := dk_188_10 (dk_at dksX1_init_13 0 rfl rfl)
theorem dX1_init_312 : decode cX1_init 312 = .ok (.putfield 127, 3) := dk_181 0 127 (dk_at dksX1_init_13 2 rfl rfl)
theorem dX1_init_315 : decode cX1_init 315 = .ok (.iconst 0, 1) := dk_3 (dk_at dksX1_init_13 5 rfl rfl)
theorem dX1_init_316 : decode cX1_init 316 = .ok (.istore_n 1, 1) := dk_60 (dk_at dksX1_init_13 6 rfl rfl)
theorem dX1_init_317 : decode cX1_init 317 = .ok (.iload_n 1, 1) := dk_27 (dk_at dksX1_init_13 7 rfl rfl)
theorem dX1_init_318 : decode cX1_init 318 = .ok (.iconst 4, 1) := dk_7 (dk_at dksX1_init_13 8 rfl rfl)
theorem dX1_init_319 : decode cX1_init 319 = .ok (.if_icmp .ge 17, 3) := dk_162 0 17 (dk_at dksX1_init_13 9 rfl rfl)
theorem dX1_init_322 : decode cX1_init 322 = .ok (.aload_n 0, 1) := dk_42 (dk_at dksX1_init_13 12 rfl rfl)
theorem dX1_init_323 : decode cX1_init 323 = .ok (.getfield 121, 3) := dk_180 0 121 (dk_at dksX1_init_13 13 rfl rfl)
theorem dX1_init_326 : decode cX1_init 326 = .ok (.iload_n 1, 1) := dk_27 (dk_at dksX1_init_13 16 rfl rfl)
theorem dX1_init_327 : decode cX1_init 327 = .ok (.bipush (-9), 2) := dk_16 247 (dk_at dksX1_init_13 17 rfl rfl)
theorem dX1_init_329 : decode cX1_init 329 = .ok (.iastore, 1) := dk_79 (dk_at dksX1_init_13 19 rfl rfl)
theorem dX1_init_330 : decode cX1_init 330 = .ok (.iinc 1 1, 3) := dk_132 1 1 (dk_at dksX1_init_13 20 rfl rfl)
theorem dX1_init_333 : decode cX1_init 333 = .ok (.goto (-16), 3) := dk_167 255 240 (dk_at dksX1_init_14 0 rfl rfl)
theorem dX1_init_336 : decode cX1_init 336 = .ok (.return_, 1) := dk_177 (dk_at dksX1_init_14 3 rfl rfl)
abbrev cX1_person : ByteArray := prog_8_method_8_code
def yX1_person : MethodName := ⟨RX1, "person", "(III)I"⟩
def dkwX1_person_3 : List UInt8 := [180, 0, 139, 29, 79, 42, 89, 180, 0, 139, 4, 96, 181, 0, 139, 42, 180, 0, 139, 4, 100, 172]
abbrev dktX1_person_3 : List UInt8 := dkwX1_person_3 ++ []
def dkwX1_person_2 : List UInt8 := [180, 0, 13, 42, 180, 0, 139, 27, 79, 42, 180, 0, 16, 42, 180, 0, 139, 28, 79, 42, 180, 0, 19, 42]
abbrev dktX1_person_2 : List UInt8 := dkwX1_person_2 ++ dktX1_person_3
def dkwX1_person_1 : List UInt8 := [18, 130, 184, 0, 131, 154, 0, 5, 2, 172, 42, 180, 0, 139, 16, 24, 160, 0, 6, 16, 254, 172, 42]
abbrev dktX1_person_1 : List UInt8 := dkwX1_person_1 ++ dktX1_person_2
def dkwX1_person_0 : List UInt8 := [27, 3, 6, 184, 0, 131, 153, 0, 26, 28, 184, 0, 145, 153, 0, 19, 29, 16, 247, 159, 0, 15, 29, 28]
abbrev dktX1_person_0 : List UInt8 := dkwX1_person_0 ++ dktX1_person_1
theorem dksX1_person_0 : cX1_person.data.toList.drop 0 = dktX1_person_0 := by decide +kernel
theorem dksX1_person_1 : cX1_person.data.toList.drop 24 = dktX1_person_1 := dk_seg dksX1_person_0 24 rfl rfl
theorem dksX1_person_2 : cX1_person.data.toList.drop 47 = dktX1_person_2 := dk_seg dksX1_person_1 23 rfl rfl
theorem dksX1_person_3 : cX1_person.data.toList.drop 71 = dktX1_person_3 := dk_seg dksX1_person_2 24 rfl rfl
theorem dX1_person_0 : decode cX1_person 0 = .ok (.iload_n 1, 1) := dk_27 (dk_at dksX1_person_0 0 rfl rfl)
theorem dX1_person_1 : decode cX1_person 1 = .ok (.iconst 0, 1) := dk_3 (dk_at dksX1_person_0 1 rfl rfl)
theorem dX1_person_2 : decode cX1_person 2 = .ok (.iconst 3, 1) := dk_6 (dk_at dksX1_person_0 2 rfl rfl)
theorem dX1_person_3 : decode cX1_person 3 = .ok (.invokestatic 131, 3) := dk_184 0 131 (dk_at dksX1_person_0 3 rfl rfl)
theorem dX1_person_6 : decode cX1_person 6 = .ok (.ifCond .eq 26, 3) := dk_153 0 26 (dk_at dksX1_person_0 6 rfl rfl)
theorem dX1_person_9 : decode cX1_person 9 = .ok (.iload_n 2, 1) := dk_28 (dk_at dksX1_person_0 9 rfl rfl)
theorem dX1_person_10 : decode cX1_person 10 = .ok (.invokestatic 145, 3) := dk_184 0 145 (dk_at dksX1_person_0 10 rfl rfl)
theorem dX1_person_13 : decode cX1_person 13 = .ok (.ifCond .eq 19, 3) := dk_153 0 19 (dk_at dksX1_person_0 13 rfl rfl)
theorem dX1_person_16 : decode cX1_person 16 = .ok (.iload_n 3, 1) := dk_29 (dk_at dksX1_person_0 16 rfl rfl)
theorem dX1_person_17 : decode cX1_person 17 = .ok (.bipush (-9), 2) := dk_16 247 (dk_at dksX1_person_0 17 rfl rfl)
theorem dX1_person_19 : decode cX1_person 19 = .ok (.if_icmp .eq 15, 3) := dk_159 0 15 (dk_at dksX1_person_0 19 rfl rfl)
theorem dX1_person_22 : decode cX1_person 22 = .ok (.iload_n 3, 1) := dk_29 (dk_at dksX1_person_0 22 rfl rfl)
theorem dX1_person_23 : decode cX1_person 23 = .ok (.iload_n 2, 1) := dk_28 (dk_at dksX1_person_0 23 rfl rfl)
theorem dX1_person_24 : decode cX1_person 24 = .ok (.ldc 130, 2) := dk_18 130 (dk_at dksX1_person_1 0 rfl rfl)
theorem dX1_person_26 : decode cX1_person 26 = .ok (.invokestatic 131, 3) := dk_184 0 131 (dk_at dksX1_person_1 2 rfl rfl)
theorem dX1_person_29 : decode cX1_person 29 = .ok (.ifCond .ne 5, 3) := dk_154 0 5 (dk_at dksX1_person_1 5 rfl rfl)
theorem dX1_person_32 : decode cX1_person 32 = .ok (.iconst (-1), 1) := dk_2 (dk_at dksX1_person_1 8 rfl rfl)
theorem dX1_person_33 : decode cX1_person 33 = .ok (.ireturn, 1) := dk_172 (dk_at dksX1_person_1 9 rfl rfl)
theorem dX1_person_34 : decode cX1_person 34 = .ok (.aload_n 0, 1) := dk_42 (dk_at dksX1_person_1 10 rfl rfl)
theorem dX1_person_35 : decode cX1_person 35 = .ok (.getfield 139, 3) := dk_180 0 139 (dk_at dksX1_person_1 11 rfl rfl)
theorem dX1_person_38 : decode cX1_person 38 = .ok (.bipush 24, 2) := dk_16 24 (dk_at dksX1_person_1 14 rfl rfl)
theorem dX1_person_40 : decode cX1_person 40 = .ok (.if_icmp .ne 6, 3) := dk_160 0 6 (dk_at dksX1_person_1 16 rfl rfl)
theorem dX1_person_43 : decode cX1_person 43 = .ok (.bipush (-2), 2) := dk_16 254 (dk_at dksX1_person_1 19 rfl rfl)
theorem dX1_person_45 : decode cX1_person 45 = .ok (.ireturn, 1) := dk_172 (dk_at dksX1_person_1 21 rfl rfl)
theorem dX1_person_46 : decode cX1_person 46 = .ok (.aload_n 0, 1) := dk_42 (dk_at dksX1_person_1 22 rfl rfl)
theorem dX1_person_47 : decode cX1_person 47 = .ok (.getfield 13, 3) := dk_180 0 13 (dk_at dksX1_person_2 0 rfl rfl)
theorem dX1_person_50 : decode cX1_person 50 = .ok (.aload_n 0, 1) := dk_42 (dk_at dksX1_person_2 3 rfl rfl)
theorem dX1_person_51 : decode cX1_person 51 = .ok (.getfield 139, 3) := dk_180 0 139 (dk_at dksX1_person_2 4 rfl rfl)
theorem dX1_person_54 : decode cX1_person 54 = .ok (.iload_n 1, 1) := dk_27 (dk_at dksX1_person_2 7 rfl rfl)
theorem dX1_person_55 : decode cX1_person 55 = .ok (.iastore, 1) := dk_79 (dk_at dksX1_person_2 8 rfl rfl)
theorem dX1_person_56 : decode cX1_person 56 = .ok (.aload_n 0, 1) := dk_42 (dk_at dksX1_person_2 9 rfl rfl)
theorem dX1_person_57 : decode cX1_person 57 = .ok (.getfield 16, 3) := dk_180 0 16 (dk_at dksX1_person_2 10 rfl rfl)
theorem dX1_person_60 : decode cX1_person 60 = .ok (.aload_n 0, 1) := dk_42 (dk_at dksX1_person_2 13 rfl rfl)
theorem dX1_person_61 : decode cX1_person 61 = .ok (.getfield 139, 3) := dk_180 0 139 (dk_at dksX1_person_2 14 rfl rfl)
theorem dX1_person_64 : decode cX1_person 64 = .ok (.iload_n 2, 1) := dk_28 (dk_at dksX1_person_2 17 rfl rfl)
theorem dX1_person_65 : decode cX1_person 65 = .ok (.iastore, 1) := dk_79 (dk_at dksX1_person_2 18 rfl rfl)
theorem dX1_person_66 : decode cX1_person 66 = .ok (.aload_n 0, 1) := dk_42 (dk_at dksX1_person_2 19 rfl rfl)
theorem dX1_person_67 : decode cX1_person 67 = .ok (.getfield 19, 3) := dk_180 0 19 (dk_at dksX1_person_2 20 rfl rfl)
theorem dX1_person_70 : decode cX1_person 70 = .ok (.aload_n 0, 1) := dk_42 (dk_at dksX1_person_2 23 rfl rfl)
theorem dX1_person_71 : decode cX1_person 71 = .ok (.getfield 139, 3) := dk_180 0 139 (dk_at dksX1_person_3 0 rfl rfl)
theorem dX1_person_74 : decode cX1_person 74 = .ok (.iload_n 3, 1) := dk_29 (dk_at dksX1_person_3 3 rfl rfl)
theorem dX1_person_75 : decode cX1_person 75 = .ok (.iastore, 1) := dk_79 (dk_at dksX1_person_3 4 rfl rfl)
theorem dX1_person_76 : decode cX1_person 76 = .ok (.aload_n 0, 1) := dk_42 (dk_at dksX1_person_3 5 rfl rfl)
theorem dX1_person_77 : decode cX1_person 77 = .ok (.dup, 1) := dk_89 (dk_at dksX1_person_3 6 rfl rfl)
theorem dX1_person_78 : decode cX1_person 78 = .ok (.getfield 139, 3) := dk_180 0 139 (dk_at dksX1_person_3 7 rfl rfl)
theorem dX1_person_81 : decode cX1_person 81 = .ok (.iconst 1, 1) := dk_4 (dk_at dksX1_person_3 10 rfl rfl)
theorem dX1_person_82 : decode cX1_person 82 = .ok (.iadd, 1) := dk_96 (dk_at dksX1_person_3 11 rfl rfl)
theorem dX1_person_83 : decode cX1_person 83 = .ok (.putfield 139, 3) := dk_181 0 139 (dk_at dksX1_person_3 12 rfl rfl)
theorem dX1_person_86 : decode cX1_person 86 = .ok (.aload_n 0, 1) := dk_42 (dk_at dksX1_person_3 15 rfl rfl)
theorem dX1_person_87 : decode cX1_person 87 = .ok (.getfield 139, 3) := dk_180 0 139 (dk_at dksX1_person_3 16 rfl rfl)
theorem dX1_person_90 : decode cX1_person 90 = .ok (.iconst 1, 1) := dk_4 (dk_at dksX1_person_3 19 rfl rfl)
theorem dX1_person_91 : decode cX1_person 91 = .ok (.isub, 1) := dk_100 (dk_at dksX1_person_3 20 rfl rfl)
theorem dX1_person_92 : decode cX1_person 92 = .ok (.ireturn, 1) := dk_172 (dk_at dksX1_person_3 21 rfl rfl)
abbrev cX1_in : ByteArray := prog_8_method_3_code
def yX1_in : MethodName := ⟨RX1, "in", "(III)Z"⟩
def dkwX1_in_0 : List UInt8 := [26, 27, 161, 0, 12, 26, 28, 163, 0, 7, 4, 167, 0, 4, 3, 172]
abbrev dktX1_in_0 : List UInt8 := dkwX1_in_0 ++ []
theorem dksX1_in_0 : cX1_in.data.toList.drop 0 = dktX1_in_0 := by decide +kernel
theorem dX1_in_0 : decode cX1_in 0 = .ok (.iload_n 0, 1) := dk_26 (dk_at dksX1_in_0 0 rfl rfl)
theorem dX1_in_1 : decode cX1_in 1 = .ok (.iload_n 1, 1) := dk_27 (dk_at dksX1_in_0 1 rfl rfl)
theorem dX1_in_2 : decode cX1_in 2 = .ok (.if_icmp .lt 12, 3) := dk_161 0 12 (dk_at dksX1_in_0 2 rfl rfl)
theorem dX1_in_5 : decode cX1_in 5 = .ok (.iload_n 0, 1) := dk_26 (dk_at dksX1_in_0 5 rfl rfl)
theorem dX1_in_6 : decode cX1_in 6 = .ok (.iload_n 2, 1) := dk_28 (dk_at dksX1_in_0 6 rfl rfl)
theorem dX1_in_7 : decode cX1_in 7 = .ok (.if_icmp .gt 7, 3) := dk_163 0 7 (dk_at dksX1_in_0 7 rfl rfl)
theorem dX1_in_10 : decode cX1_in 10 = .ok (.iconst 1, 1) := dk_4 (dk_at dksX1_in_0 10 rfl rfl)
theorem dX1_in_11 : decode cX1_in 11 = .ok (.goto 4, 3) := dk_167 0 4 (dk_at dksX1_in_0 11 rfl rfl)
theorem dX1_in_14 : decode cX1_in 14 = .ok (.iconst 0, 1) := dk_3 (dk_at dksX1_in_0 14 rfl rfl)
theorem dX1_in_15 : decode cX1_in 15 = .ok (.ireturn, 1) := dk_172 (dk_at dksX1_in_0 15 rfl rfl)
abbrev cX1_isDay : ByteArray := prog_8_method_4_code
def yX1_isDay : MethodName := ⟨RX1, "isDay", "(I)Z"⟩
def dkwX1_isDay_0 : List UInt8 := [26, 4, 18, 130, 184, 0, 131, 172]
abbrev dktX1_isDay_0 : List UInt8 := dkwX1_isDay_0 ++ []
theorem dksX1_isDay_0 : cX1_isDay.data.toList.drop 0 = dktX1_isDay_0 := by decide +kernel
theorem dX1_isDay_0 : decode cX1_isDay 0 = .ok (.iload_n 0, 1) := dk_26 (dk_at dksX1_isDay_0 0 rfl rfl)
theorem dX1_isDay_1 : decode cX1_isDay 1 = .ok (.iconst 1, 1) := dk_4 (dk_at dksX1_isDay_0 1 rfl rfl)
theorem dX1_isDay_2 : decode cX1_isDay 2 = .ok (.ldc 130, 2) := dk_18 130 (dk_at dksX1_isDay_0 2 rfl rfl)
theorem dX1_isDay_4 : decode cX1_isDay 4 = .ok (.invokestatic 131, 3) := dk_184 0 131 (dk_at dksX1_isDay_0 4 rfl rfl)
theorem dX1_isDay_7 : decode cX1_isDay 7 = .ok (.ireturn, 1) := dk_172 (dk_at dksX1_isDay_0 7 rfl rfl)
abbrev cX1_told : ByteArray := prog_8_method_11_code
def yX1_told : MethodName := ⟨RX1, "told", "(II)I"⟩
def dkwX1_told_1 : List UInt8 := [167, 0, 4, 2, 172]
abbrev dktX1_told_1 : List UInt8 := dkwX1_told_1 ++ []
def dkwX1_told_0 : List UInt8 := [42, 27, 182, 0, 153, 153, 0, 21, 28, 3, 7, 184, 0, 131, 153, 0, 12, 42, 27, 28, 182, 0, 156]
abbrev dktX1_told_0 : List UInt8 := dkwX1_told_0 ++ dktX1_told_1
theorem dksX1_told_0 : cX1_told.data.toList.drop 0 = dktX1_told_0 := by decide +kernel
theorem dksX1_told_1 : cX1_told.data.toList.drop 23 = dktX1_told_1 := dk_seg dksX1_told_0 23 rfl rfl
theorem dX1_told_0 : decode cX1_told 0 = .ok (.aload_n 0, 1) := dk_42 (dk_at dksX1_told_0 0 rfl rfl)
theorem dX1_told_1 : decode cX1_told 1 = .ok (.iload_n 1, 1) := dk_27 (dk_at dksX1_told_0 1 rfl rfl)
theorem dX1_told_2 : decode cX1_told 2 = .ok (.invokevirtual 153, 3) := dk_182 0 153 (dk_at dksX1_told_0 2 rfl rfl)
theorem dX1_told_5 : decode cX1_told 5 = .ok (.ifCond .eq 21, 3) := dk_153 0 21 (dk_at dksX1_told_0 5 rfl rfl)
theorem dX1_told_8 : decode cX1_told 8 = .ok (.iload_n 2, 1) := dk_28 (dk_at dksX1_told_0 8 rfl rfl)
theorem dX1_told_9 : decode cX1_told 9 = .ok (.iconst 0, 1) := dk_3 (dk_at dksX1_told_0 9 rfl rfl)
theorem dX1_told_10 : decode cX1_told 10 = .ok (.iconst 4, 1) := dk_7 (dk_at dksX1_told_0 10 rfl rfl)
theorem dX1_told_11 : decode cX1_told 11 = .ok (.invokestatic 131, 3) := dk_184 0 131 (dk_at dksX1_told_0 11 rfl rfl)
theorem dX1_told_14 : decode cX1_told 14 = .ok (.ifCond .eq 12, 3) := dk_153 0 12 (dk_at dksX1_told_0 14 rfl rfl)
theorem dX1_told_17 : decode cX1_told 17 = .ok (.aload_n 0, 1) := dk_42 (dk_at dksX1_told_0 17 rfl rfl)
theorem dX1_told_18 : decode cX1_told 18 = .ok (.iload_n 1, 1) := dk_27 (dk_at dksX1_told_0 18 rfl rfl)
theorem dX1_told_19 : decode cX1_told 19 = .ok (.iload_n 2, 1) := dk_28 (dk_at dksX1_told_0 19 rfl rfl)
theorem dX1_told_20 : decode cX1_told 20 = .ok (.invokevirtual 156, 3) := dk_182 0 156 (dk_at dksX1_told_0 20 rfl rfl)
theorem dX1_told_23 : decode cX1_told 23 = .ok (.goto 4, 3) := dk_167 0 4 (dk_at dksX1_told_1 0 rfl rfl)
theorem dX1_told_26 : decode cX1_told 26 = .ok (.iconst (-1), 1) := dk_2 (dk_at dksX1_told_1 3 rfl rfl)
theorem dX1_told_27 : decode cX1_told 27 = .ok (.ireturn, 1) := dk_172 (dk_at dksX1_told_1 4 rfl rfl)
abbrev cX1_isPerson : ByteArray := prog_8_method_6_code
def yX1_isPerson : MethodName := ⟨RX1, "isPerson", "(I)Z"⟩
def dkwX1_isPerson_0 : List UInt8 := [27, 3, 42, 180, 0, 139, 4, 100, 184, 0, 131, 172]
abbrev dktX1_isPerson_0 : List UInt8 := dkwX1_isPerson_0 ++ []
theorem dksX1_isPerson_0 : cX1_isPerson.data.toList.drop 0 = dktX1_isPerson_0 := by decide +kernel
theorem dX1_isPerson_0 : decode cX1_isPerson 0 = .ok (.iload_n 1, 1) := dk_27 (dk_at dksX1_isPerson_0 0 rfl rfl)
theorem dX1_isPerson_1 : decode cX1_isPerson 1 = .ok (.iconst 0, 1) := dk_3 (dk_at dksX1_isPerson_0 1 rfl rfl)
theorem dX1_isPerson_2 : decode cX1_isPerson 2 = .ok (.aload_n 0, 1) := dk_42 (dk_at dksX1_isPerson_0 2 rfl rfl)
theorem dX1_isPerson_3 : decode cX1_isPerson 3 = .ok (.getfield 139, 3) := dk_180 0 139 (dk_at dksX1_isPerson_0 3 rfl rfl)
theorem dX1_isPerson_6 : decode cX1_isPerson 6 = .ok (.iconst 1, 1) := dk_4 (dk_at dksX1_isPerson_0 6 rfl rfl)
theorem dX1_isPerson_7 : decode cX1_isPerson 7 = .ok (.isub, 1) := dk_100 (dk_at dksX1_isPerson_0 7 rfl rfl)
theorem dX1_isPerson_8 : decode cX1_isPerson 8 = .ok (.invokestatic 131, 3) := dk_184 0 131 (dk_at dksX1_isPerson_0 8 rfl rfl)
theorem dX1_isPerson_11 : decode cX1_isPerson 11 = .ok (.ireturn, 1) := dk_172 (dk_at dksX1_isPerson_0 11 rfl rfl)
abbrev cX1_tells : ByteArray := prog_8_method_10_code
def yX1_tells : MethodName := ⟨RX1, "tells", "(II)I"⟩
def dkwX1_tells_3 : List UInt8 := [6, 160, 0, 7, 4, 167, 0, 4, 3, 182, 0, 149, 172]
abbrev dktX1_tells_3 : List UInt8 := dkwX1_tells_3 ++ []
def dkwX1_tells_2 : List UInt8 := [42, 180, 0, 13, 27, 46, 172, 42, 180, 0, 16, 27, 46, 172, 42, 180, 0, 19, 27, 46, 172, 42, 27, 28]
abbrev dktX1_tells_2 : List UInt8 := dkwX1_tells_2 ++ dktX1_tells_3
def dkwX1_tells_1 : List UInt8 := [170, 0, 0, 0, 0, 0, 48, 0, 0, 0, 0, 0, 0, 0, 2, 0, 0, 0, 27, 0, 0, 0, 34, 0, 0, 0, 41]
abbrev dktX1_tells_1 : List UInt8 := dkwX1_tells_1 ++ dktX1_tells_2
def dkwX1_tells_0 : List UInt8 := [28]
abbrev dktX1_tells_0 : List UInt8 := dkwX1_tells_0 ++ dktX1_tells_1
theorem dksX1_tells_0 : cX1_tells.data.toList.drop 0 = dktX1_tells_0 := by decide +kernel
theorem dksX1_tells_1 : cX1_tells.data.toList.drop 1 = dktX1_tells_1 := dk_seg dksX1_tells_0 1 rfl rfl
theorem dksX1_tells_2 : cX1_tells.data.toList.drop 28 = dktX1_tells_2 := dk_seg dksX1_tells_1 27 rfl rfl
theorem dksX1_tells_3 : cX1_tells.data.toList.drop 52 = dktX1_tells_3 := dk_seg dksX1_tells_2 24 rfl rfl
theorem dX1_tells_0 : decode cX1_tells 0 = .ok (.iload_n 2, 1) := dk_28 (dk_at dksX1_tells_0 0 rfl rfl)
theorem dX1_tells_1 : decode cX1_tells 1 = .ok (.tableswitch 48 0 2 #[27, 34, 41], 27) := by decide +kernel
theorem dX1_tells_28 : decode cX1_tells 28 = .ok (.aload_n 0, 1) := dk_42 (dk_at dksX1_tells_2 0 rfl rfl)
theorem dX1_tells_29 : decode cX1_tells 29 = .ok (.getfield 13, 3) := dk_180 0 13 (dk_at dksX1_tells_2 1 rfl rfl)
theorem dX1_tells_32 : decode cX1_tells 32 = .ok (.iload_n 1, 1) := dk_27 (dk_at dksX1_tells_2 4 rfl rfl)
theorem dX1_tells_33 : decode cX1_tells 33 = .ok (.iaload, 1) := dk_46 (dk_at dksX1_tells_2 5 rfl rfl)
theorem dX1_tells_34 : decode cX1_tells 34 = .ok (.ireturn, 1) := dk_172 (dk_at dksX1_tells_2 6 rfl rfl)
theorem dX1_tells_35 : decode cX1_tells 35 = .ok (.aload_n 0, 1) := dk_42 (dk_at dksX1_tells_2 7 rfl rfl)
theorem dX1_tells_36 : decode cX1_tells 36 = .ok (.getfield 16, 3) := dk_180 0 16 (dk_at dksX1_tells_2 8 rfl rfl)
theorem dX1_tells_39 : decode cX1_tells 39 = .ok (.iload_n 1, 1) := dk_27 (dk_at dksX1_tells_2 11 rfl rfl)
theorem dX1_tells_40 : decode cX1_tells 40 = .ok (.iaload, 1) := dk_46 (dk_at dksX1_tells_2 12 rfl rfl)
theorem dX1_tells_41 : decode cX1_tells 41 = .ok (.ireturn, 1) := dk_172 (dk_at dksX1_tells_2 13 rfl rfl)
theorem dX1_tells_42 : decode cX1_tells 42 = .ok (.aload_n 0, 1) := dk_42 (dk_at dksX1_tells_2 14 rfl rfl)
theorem dX1_tells_43 : decode cX1_tells 43 = .ok (.getfield 19, 3) := dk_180 0 19 (dk_at dksX1_tells_2 15 rfl rfl)
theorem dX1_tells_46 : decode cX1_tells 46 = .ok (.iload_n 1, 1) := dk_27 (dk_at dksX1_tells_2 18 rfl rfl)
theorem dX1_tells_47 : decode cX1_tells 47 = .ok (.iaload, 1) := dk_46 (dk_at dksX1_tells_2 19 rfl rfl)
theorem dX1_tells_48 : decode cX1_tells 48 = .ok (.ireturn, 1) := dk_172 (dk_at dksX1_tells_2 20 rfl rfl)
theorem dX1_tells_49 : decode cX1_tells 49 = .ok (.aload_n 0, 1) := dk_42 (dk_at dksX1_tells_2 21 rfl rfl)
theorem dX1_tells_50 : decode cX1_tells 50 = .ok (.iload_n 1, 1) := dk_27 (dk_at dksX1_tells_2 22 rfl rfl)
theorem dX1_tells_51 : decode cX1_tells 51 = .ok (.iload_n 2, 1) := dk_28 (dk_at dksX1_tells_2 23 rfl rfl)
theorem dX1_tells_52 : decode cX1_tells 52 = .ok (.iconst 3, 1) := dk_6 (dk_at dksX1_tells_3 0 rfl rfl)
theorem dX1_tells_53 : decode cX1_tells 53 = .ok (.if_icmp .ne 7, 3) := dk_160 0 7 (dk_at dksX1_tells_3 1 rfl rfl)
theorem dX1_tells_56 : decode cX1_tells 56 = .ok (.iconst 1, 1) := dk_4 (dk_at dksX1_tells_3 4 rfl rfl)
theorem dX1_tells_57 : decode cX1_tells 57 = .ok (.goto 4, 3) := dk_167 0 4 (dk_at dksX1_tells_3 5 rfl rfl)
theorem dX1_tells_60 : decode cX1_tells 60 = .ok (.iconst 0, 1) := dk_3 (dk_at dksX1_tells_3 8 rfl rfl)
theorem dX1_tells_61 : decode cX1_tells 61 = .ok (.invokevirtual 149, 3) := dk_182 0 149 (dk_at dksX1_tells_3 9 rfl rfl)
theorem dX1_tells_64 : decode cX1_tells 64 = .ok (.ireturn, 1) := dk_172 (dk_at dksX1_tells_3 12 rfl rfl)
abbrev cX1_linesOf : ByteArray := prog_8_method_9_code
def yX1_linesOf : MethodName := ⟨RX1, "linesOf", "(IZ)I"⟩
def dkwX1_linesOf_2 : List UInt8 := [27, 160, 0, 7, 4, 167, 0, 4, 3, 96, 62, 132, 4, 1, 167, 255, 201, 29, 172]
abbrev dktX1_linesOf_2 : List UInt8 := dkwX1_linesOf_2 ++ []
def dkwX1_linesOf_1 : List UInt8 := [154, 0, 32, 28, 153, 0, 13, 42, 180, 0, 28, 21, 4, 46, 167, 0, 10, 42, 180, 0, 25, 21, 4, 46]
abbrev dktX1_linesOf_1 : List UInt8 := dkwX1_linesOf_1 ++ dktX1_linesOf_2
def dkwX1_linesOf_0 : List UInt8 := [3, 62, 3, 54, 4, 21, 4, 42, 180, 0, 142, 162, 0, 52, 29, 42, 180, 0, 40, 21, 4, 51]
abbrev dktX1_linesOf_0 : List UInt8 := dkwX1_linesOf_0 ++ dktX1_linesOf_1
theorem dksX1_linesOf_0 : cX1_linesOf.data.toList.drop 0 = dktX1_linesOf_0 := by decide +kernel
theorem dksX1_linesOf_1 : cX1_linesOf.data.toList.drop 22 = dktX1_linesOf_1 := dk_seg dksX1_linesOf_0 22 rfl rfl
theorem dksX1_linesOf_2 : cX1_linesOf.data.toList.drop 46 = dktX1_linesOf_2 := dk_seg dksX1_linesOf_1 24 rfl rfl
theorem dX1_linesOf_0 : decode cX1_linesOf 0 = .ok (.iconst 0, 1) := dk_3 (dk_at dksX1_linesOf_0 0 rfl rfl)
theorem dX1_linesOf_1 : decode cX1_linesOf 1 = .ok (.istore_n 3, 1) := dk_62 (dk_at dksX1_linesOf_0 1 rfl rfl)
theorem dX1_linesOf_2 : decode cX1_linesOf 2 = .ok (.iconst 0, 1) := dk_3 (dk_at dksX1_linesOf_0 2 rfl rfl)
theorem dX1_linesOf_3 : decode cX1_linesOf 3 = .ok (.istore 4, 2) := dk_54 4 (dk_at dksX1_linesOf_0 3 rfl rfl)
theorem dX1_linesOf_5 : decode cX1_linesOf 5 = .ok (.iload 4, 2) := dk_21 4 (dk_at dksX1_linesOf_0 5 rfl rfl)
theorem dX1_linesOf_7 : decode cX1_linesOf 7 = .ok (.aload_n 0, 1) := dk_42 (dk_at dksX1_linesOf_0 7 rfl rfl)
theorem dX1_linesOf_8 : decode cX1_linesOf 8 = .ok (.getfield 142, 3) := dk_180 0 142 (dk_at dksX1_linesOf_0 8 rfl rfl)
theorem dX1_linesOf_11 : decode cX1_linesOf 11 = .ok (.if_icmp .ge 52, 3) := dk_162 0 52 (dk_at dksX1_linesOf_0 11 rfl rfl)
theorem dX1_linesOf_14 : decode cX1_linesOf 14 = .ok (.iload_n 3, 1) := dk_29 (dk_at dksX1_linesOf_0 14 rfl rfl)
theorem dX1_linesOf_15 : decode cX1_linesOf 15 = .ok (.aload_n 0, 1) := dk_42 (dk_at dksX1_linesOf_0 15 rfl rfl)
theorem dX1_linesOf_16 : decode cX1_linesOf 16 = .ok (.getfield 40, 3) := dk_180 0 40 (dk_at dksX1_linesOf_0 16 rfl rfl)
theorem dX1_linesOf_19 : decode cX1_linesOf 19 = .ok (.iload 4, 2) := dk_21 4 (dk_at dksX1_linesOf_0 19 rfl rfl)
theorem dX1_linesOf_21 : decode cX1_linesOf 21 = .ok (.baload, 1) := dk_51 (dk_at dksX1_linesOf_0 21 rfl rfl)
theorem dX1_linesOf_22 : decode cX1_linesOf 22 = .ok (.ifCond .ne 32, 3) := dk_154 0 32 (dk_at dksX1_linesOf_1 0 rfl rfl)
theorem dX1_linesOf_25 : decode cX1_linesOf 25 = .ok (.iload_n 2, 1) := dk_28 (dk_at dksX1_linesOf_1 3 rfl rfl)
theorem dX1_linesOf_26 : decode cX1_linesOf 26 = .ok (.ifCond .eq 13, 3) := dk_153 0 13 (dk_at dksX1_linesOf_1 4 rfl rfl)
theorem dX1_linesOf_29 : decode cX1_linesOf 29 = .ok (.aload_n 0, 1) := dk_42 (dk_at dksX1_linesOf_1 7 rfl rfl)
theorem dX1_linesOf_30 : decode cX1_linesOf 30 = .ok (.getfield 28, 3) := dk_180 0 28 (dk_at dksX1_linesOf_1 8 rfl rfl)
theorem dX1_linesOf_33 : decode cX1_linesOf 33 = .ok (.iload 4, 2) := dk_21 4 (dk_at dksX1_linesOf_1 11 rfl rfl)
theorem dX1_linesOf_35 : decode cX1_linesOf 35 = .ok (.iaload, 1) := dk_46 (dk_at dksX1_linesOf_1 13 rfl rfl)
theorem dX1_linesOf_36 : decode cX1_linesOf 36 = .ok (.goto 10, 3) := dk_167 0 10 (dk_at dksX1_linesOf_1 14 rfl rfl)
theorem dX1_linesOf_39 : decode cX1_linesOf 39 = .ok (.aload_n 0, 1) := dk_42 (dk_at dksX1_linesOf_1 17 rfl rfl)
theorem dX1_linesOf_40 : decode cX1_linesOf 40 = .ok (.getfield 25, 3) := dk_180 0 25 (dk_at dksX1_linesOf_1 18 rfl rfl)
theorem dX1_linesOf_43 : decode cX1_linesOf 43 = .ok (.iload 4, 2) := dk_21 4 (dk_at dksX1_linesOf_1 21 rfl rfl)
theorem dX1_linesOf_45 : decode cX1_linesOf 45 = .ok (.iaload, 1) := dk_46 (dk_at dksX1_linesOf_1 23 rfl rfl)
theorem dX1_linesOf_46 : decode cX1_linesOf 46 = .ok (.iload_n 1, 1) := dk_27 (dk_at dksX1_linesOf_2 0 rfl rfl)
theorem dX1_linesOf_47 : decode cX1_linesOf 47 = .ok (.if_icmp .ne 7, 3) := dk_160 0 7 (dk_at dksX1_linesOf_2 1 rfl rfl)
theorem dX1_linesOf_50 : decode cX1_linesOf 50 = .ok (.iconst 1, 1) := dk_4 (dk_at dksX1_linesOf_2 4 rfl rfl)
theorem dX1_linesOf_51 : decode cX1_linesOf 51 = .ok (.goto 4, 3) := dk_167 0 4 (dk_at dksX1_linesOf_2 5 rfl rfl)
theorem dX1_linesOf_54 : decode cX1_linesOf 54 = .ok (.iconst 0, 1) := dk_3 (dk_at dksX1_linesOf_2 8 rfl rfl)
theorem dX1_linesOf_55 : decode cX1_linesOf 55 = .ok (.iadd, 1) := dk_96 (dk_at dksX1_linesOf_2 9 rfl rfl)
theorem dX1_linesOf_56 : decode cX1_linesOf 56 = .ok (.istore_n 3, 1) := dk_62 (dk_at dksX1_linesOf_2 10 rfl rfl)
theorem dX1_linesOf_57 : decode cX1_linesOf 57 = .ok (.iinc 4 1, 3) := dk_132 4 1 (dk_at dksX1_linesOf_2 11 rfl rfl)
theorem dX1_linesOf_60 : decode cX1_linesOf 60 = .ok (.goto (-55), 3) := dk_167 255 201 (dk_at dksX1_linesOf_2 14 rfl rfl)
theorem dX1_linesOf_63 : decode cX1_linesOf 63 = .ok (.iload_n 3, 1) := dk_29 (dk_at dksX1_linesOf_2 17 rfl rfl)
theorem dX1_linesOf_64 : decode cX1_linesOf 64 = .ok (.ireturn, 1) := dk_172 (dk_at dksX1_linesOf_2 18 rfl rfl)
abbrev cX1_die : ByteArray := prog_8_method_12_code
def yX1_die : MethodName := ⟨RX1, "die", "(II)I"⟩
def dkwX1_die_1 : List UInt8 := [172, 42, 180, 0, 19, 27, 46, 16, 247, 159, 0, 6, 16, 252, 172, 42, 180, 0, 19, 27, 28, 79, 4, 172]
abbrev dktX1_die_1 : List UInt8 := dkwX1_die_1 ++ []
def dkwX1_die_0 : List UInt8 := [42, 27, 182, 0, 153, 153, 0, 18, 28, 42, 180, 0, 16, 27, 46, 18, 130, 184, 0, 131, 154, 0, 5, 2]
abbrev dktX1_die_0 : List UInt8 := dkwX1_die_0 ++ dktX1_die_1
theorem dksX1_die_0 : cX1_die.data.toList.drop 0 = dktX1_die_0 := by decide +kernel
theorem dksX1_die_1 : cX1_die.data.toList.drop 24 = dktX1_die_1 := dk_seg dksX1_die_0 24 rfl rfl
theorem dX1_die_0 : decode cX1_die 0 = .ok (.aload_n 0, 1) := dk_42 (dk_at dksX1_die_0 0 rfl rfl)
theorem dX1_die_1 : decode cX1_die 1 = .ok (.iload_n 1, 1) := dk_27 (dk_at dksX1_die_0 1 rfl rfl)
theorem dX1_die_2 : decode cX1_die 2 = .ok (.invokevirtual 153, 3) := dk_182 0 153 (dk_at dksX1_die_0 2 rfl rfl)
theorem dX1_die_5 : decode cX1_die 5 = .ok (.ifCond .eq 18, 3) := dk_153 0 18 (dk_at dksX1_die_0 5 rfl rfl)
theorem dX1_die_8 : decode cX1_die 8 = .ok (.iload_n 2, 1) := dk_28 (dk_at dksX1_die_0 8 rfl rfl)
theorem dX1_die_9 : decode cX1_die 9 = .ok (.aload_n 0, 1) := dk_42 (dk_at dksX1_die_0 9 rfl rfl)
theorem dX1_die_10 : decode cX1_die 10 = .ok (.getfield 16, 3) := dk_180 0 16 (dk_at dksX1_die_0 10 rfl rfl)
theorem dX1_die_13 : decode cX1_die 13 = .ok (.iload_n 1, 1) := dk_27 (dk_at dksX1_die_0 13 rfl rfl)
theorem dX1_die_14 : decode cX1_die 14 = .ok (.iaload, 1) := dk_46 (dk_at dksX1_die_0 14 rfl rfl)
theorem dX1_die_15 : decode cX1_die 15 = .ok (.ldc 130, 2) := dk_18 130 (dk_at dksX1_die_0 15 rfl rfl)
theorem dX1_die_17 : decode cX1_die 17 = .ok (.invokestatic 131, 3) := dk_184 0 131 (dk_at dksX1_die_0 17 rfl rfl)
theorem dX1_die_20 : decode cX1_die 20 = .ok (.ifCond .ne 5, 3) := dk_154 0 5 (dk_at dksX1_die_0 20 rfl rfl)
theorem dX1_die_23 : decode cX1_die 23 = .ok (.iconst (-1), 1) := dk_2 (dk_at dksX1_die_0 23 rfl rfl)
theorem dX1_die_24 : decode cX1_die 24 = .ok (.ireturn, 1) := dk_172 (dk_at dksX1_die_1 0 rfl rfl)
theorem dX1_die_25 : decode cX1_die 25 = .ok (.aload_n 0, 1) := dk_42 (dk_at dksX1_die_1 1 rfl rfl)
theorem dX1_die_26 : decode cX1_die 26 = .ok (.getfield 19, 3) := dk_180 0 19 (dk_at dksX1_die_1 2 rfl rfl)
theorem dX1_die_29 : decode cX1_die 29 = .ok (.iload_n 1, 1) := dk_27 (dk_at dksX1_die_1 5 rfl rfl)
theorem dX1_die_30 : decode cX1_die 30 = .ok (.iaload, 1) := dk_46 (dk_at dksX1_die_1 6 rfl rfl)
theorem dX1_die_31 : decode cX1_die 31 = .ok (.bipush (-9), 2) := dk_16 247 (dk_at dksX1_die_1 7 rfl rfl)
theorem dX1_die_33 : decode cX1_die 33 = .ok (.if_icmp .eq 6, 3) := dk_159 0 6 (dk_at dksX1_die_1 9 rfl rfl)
theorem dX1_die_36 : decode cX1_die 36 = .ok (.bipush (-4), 2) := dk_16 252 (dk_at dksX1_die_1 12 rfl rfl)
theorem dX1_die_38 : decode cX1_die 38 = .ok (.ireturn, 1) := dk_172 (dk_at dksX1_die_1 14 rfl rfl)
theorem dX1_die_39 : decode cX1_die 39 = .ok (.aload_n 0, 1) := dk_42 (dk_at dksX1_die_1 15 rfl rfl)
theorem dX1_die_40 : decode cX1_die 40 = .ok (.getfield 19, 3) := dk_180 0 19 (dk_at dksX1_die_1 16 rfl rfl)
theorem dX1_die_43 : decode cX1_die 43 = .ok (.iload_n 1, 1) := dk_27 (dk_at dksX1_die_1 19 rfl rfl)
theorem dX1_die_44 : decode cX1_die 44 = .ok (.iload_n 2, 1) := dk_28 (dk_at dksX1_die_1 20 rfl rfl)
theorem dX1_die_45 : decode cX1_die 45 = .ok (.iastore, 1) := dk_79 (dk_at dksX1_die_1 21 rfl rfl)
theorem dX1_die_46 : decode cX1_die 46 = .ok (.iconst 1, 1) := dk_4 (dk_at dksX1_die_1 22 rfl rfl)
theorem dX1_die_47 : decode cX1_die 47 = .ok (.ireturn, 1) := dk_172 (dk_at dksX1_die_1 23 rfl rfl)
abbrev cX1_line : ByteArray := prog_8_method_13_code
def yX1_line : MethodName := ⟨RX1, "line", "(IIIII)I"⟩
def dkwX1_line_10 : List UInt8 := [96, 181, 0, 142, 42, 180, 0, 142, 4, 100, 172]
abbrev dktX1_line_10 : List UInt8 := dkwX1_line_10 ++ []
def dkwX1_line_9 : List UInt8 := [42, 180, 0, 142, 21, 4, 79, 42, 180, 0, 34, 42, 180, 0, 142, 21, 5, 79, 42, 89, 180, 0, 142, 4]
abbrev dktX1_line_9 : List UInt8 := dkwX1_line_9 ++ dktX1_line_10
def dkwX1_line_8 : List UInt8 := [42, 180, 0, 25, 42, 180, 0, 142, 28, 79, 42, 180, 0, 28, 42, 180, 0, 142, 29, 79, 42, 180, 0, 31]
abbrev dktX1_line_8 : List UInt8 := dkwX1_line_8 ++ dktX1_line_9
def dkwX1_line_7 : List UInt8 := [132, 7, 1, 167, 255, 200, 21, 6, 153, 0, 6, 16, 252, 172, 42, 180, 0, 22, 42, 180, 0, 142, 27, 79]
abbrev dktX1_line_7 : List UInt8 := dkwX1_line_7 ++ dktX1_line_8
def dkwX1_line_6 : List UInt8 := [46, 28, 160, 0, 18, 42, 180, 0, 28, 21, 7, 46, 29, 160, 0, 7, 4, 167, 0, 4, 3, 54, 6]
abbrev dktX1_line_6 : List UInt8 := dkwX1_line_6 ++ dktX1_line_7
def dkwX1_line_5 : List UInt8 := [162, 0, 53, 21, 6, 154, 0, 35, 42, 180, 0, 40, 21, 7, 51, 154, 0, 29, 42, 180, 0, 25, 21, 7]
abbrev dktX1_line_5 : List UInt8 := dkwX1_line_5 ++ dktX1_line_6
def dkwX1_line_4 : List UInt8 := [182, 0, 149, 5, 161, 0, 7, 4, 167, 0, 4, 3, 54, 6, 3, 54, 7, 21, 7, 42, 180, 0, 142]
abbrev dktX1_line_4 : List UInt8 := dkwX1_line_4 ++ dktX1_line_5
def dkwX1_line_3 : List UInt8 := [184, 0, 131, 154, 0, 5, 2, 172, 42, 180, 0, 142, 16, 40, 160, 0, 6, 16, 254, 172, 42, 29, 4]
abbrev dktX1_line_3 : List UInt8 := dkwX1_line_3 ++ dktX1_line_4
def dkwX1_line_2 : List UInt8 := [160, 0, 11, 21, 4, 184, 0, 145, 153, 0, 20, 27, 4, 160, 0, 17, 21, 5, 4, 17, 3, 232]
abbrev dktX1_line_2 : List UInt8 := dkwX1_line_2 ++ dktX1_line_3
def dkwX1_line_1 : List UInt8 := [182, 0, 153, 153, 0, 48, 42, 180, 0, 16, 28, 46, 42, 180, 0, 16, 29, 46, 162, 0, 33, 27, 6]
abbrev dktX1_line_1 : List UInt8 := dkwX1_line_1 ++ dktX1_line_2
def dkwX1_line_0 : List UInt8 := [27, 3, 6, 184, 0, 131, 153, 0, 69, 27, 5, 159, 0, 64, 42, 28, 182, 0, 153, 153, 0, 56, 42, 29]
abbrev dktX1_line_0 : List UInt8 := dkwX1_line_0 ++ dktX1_line_1
theorem dksX1_line_0 : cX1_line.data.toList.drop 0 = dktX1_line_0 := by decide +kernel
theorem dksX1_line_1 : cX1_line.data.toList.drop 24 = dktX1_line_1 := dk_seg dksX1_line_0 24 rfl rfl
theorem dksX1_line_2 : cX1_line.data.toList.drop 47 = dktX1_line_2 := dk_seg dksX1_line_1 23 rfl rfl
theorem dksX1_line_3 : cX1_line.data.toList.drop 69 = dktX1_line_3 := dk_seg dksX1_line_2 22 rfl rfl
theorem dksX1_line_4 : cX1_line.data.toList.drop 92 = dktX1_line_4 := dk_seg dksX1_line_3 23 rfl rfl
theorem dksX1_line_5 : cX1_line.data.toList.drop 115 = dktX1_line_5 := dk_seg dksX1_line_4 23 rfl rfl
theorem dksX1_line_6 : cX1_line.data.toList.drop 139 = dktX1_line_6 := dk_seg dksX1_line_5 24 rfl rfl
theorem dksX1_line_7 : cX1_line.data.toList.drop 162 = dktX1_line_7 := dk_seg dksX1_line_6 23 rfl rfl
theorem dksX1_line_8 : cX1_line.data.toList.drop 186 = dktX1_line_8 := dk_seg dksX1_line_7 24 rfl rfl
theorem dksX1_line_9 : cX1_line.data.toList.drop 210 = dktX1_line_9 := dk_seg dksX1_line_8 24 rfl rfl
theorem dksX1_line_10 : cX1_line.data.toList.drop 234 = dktX1_line_10 := dk_seg dksX1_line_9 24 rfl rfl
theorem dX1_line_0 : decode cX1_line 0 = .ok (.iload_n 1, 1) := dk_27 (dk_at dksX1_line_0 0 rfl rfl)
theorem dX1_line_1 : decode cX1_line 1 = .ok (.iconst 0, 1) := dk_3 (dk_at dksX1_line_0 1 rfl rfl)
theorem dX1_line_2 : decode cX1_line 2 = .ok (.iconst 3, 1) := dk_6 (dk_at dksX1_line_0 2 rfl rfl)
theorem dX1_line_3 : decode cX1_line 3 = .ok (.invokestatic 131, 3) := dk_184 0 131 (dk_at dksX1_line_0 3 rfl rfl)
theorem dX1_line_6 : decode cX1_line 6 = .ok (.ifCond .eq 69, 3) := dk_153 0 69 (dk_at dksX1_line_0 6 rfl rfl)
theorem dX1_line_9 : decode cX1_line 9 = .ok (.iload_n 1, 1) := dk_27 (dk_at dksX1_line_0 9 rfl rfl)
theorem dX1_line_10 : decode cX1_line 10 = .ok (.iconst 2, 1) := dk_5 (dk_at dksX1_line_0 10 rfl rfl)
theorem dX1_line_11 : decode cX1_line 11 = .ok (.if_icmp .eq 64, 3) := dk_159 0 64 (dk_at dksX1_line_0 11 rfl rfl)
theorem dX1_line_14 : decode cX1_line 14 = .ok (.aload_n 0, 1) := dk_42 (dk_at dksX1_line_0 14 rfl rfl)
theorem dX1_line_15 : decode cX1_line 15 = .ok (.iload_n 2, 1) := dk_28 (dk_at dksX1_line_0 15 rfl rfl)
theorem dX1_line_16 : decode cX1_line 16 = .ok (.invokevirtual 153, 3) := dk_182 0 153 (dk_at dksX1_line_0 16 rfl rfl)
theorem dX1_line_19 : decode cX1_line 19 = .ok (.ifCond .eq 56, 3) := dk_153 0 56 (dk_at dksX1_line_0 19 rfl rfl)
theorem dX1_line_22 : decode cX1_line 22 = .ok (.aload_n 0, 1) := dk_42 (dk_at dksX1_line_0 22 rfl rfl)
theorem dX1_line_23 : decode cX1_line 23 = .ok (.iload_n 3, 1) := dk_29 (dk_at dksX1_line_0 23 rfl rfl)
theorem dX1_line_24 : decode cX1_line 24 = .ok (.invokevirtual 153, 3) := dk_182 0 153 (dk_at dksX1_line_1 0 rfl rfl)
theorem dX1_line_27 : decode cX1_line 27 = .ok (.ifCond .eq 48, 3) := dk_153 0 48 (dk_at dksX1_line_1 3 rfl rfl)
theorem dX1_line_30 : decode cX1_line 30 = .ok (.aload_n 0, 1) := dk_42 (dk_at dksX1_line_1 6 rfl rfl)
theorem dX1_line_31 : decode cX1_line 31 = .ok (.getfield 16, 3) := dk_180 0 16 (dk_at dksX1_line_1 7 rfl rfl)
theorem dX1_line_34 : decode cX1_line 34 = .ok (.iload_n 2, 1) := dk_28 (dk_at dksX1_line_1 10 rfl rfl)
theorem dX1_line_35 : decode cX1_line 35 = .ok (.iaload, 1) := dk_46 (dk_at dksX1_line_1 11 rfl rfl)
theorem dX1_line_36 : decode cX1_line 36 = .ok (.aload_n 0, 1) := dk_42 (dk_at dksX1_line_1 12 rfl rfl)
theorem dX1_line_37 : decode cX1_line 37 = .ok (.getfield 16, 3) := dk_180 0 16 (dk_at dksX1_line_1 13 rfl rfl)
theorem dX1_line_40 : decode cX1_line 40 = .ok (.iload_n 3, 1) := dk_29 (dk_at dksX1_line_1 16 rfl rfl)
theorem dX1_line_41 : decode cX1_line 41 = .ok (.iaload, 1) := dk_46 (dk_at dksX1_line_1 17 rfl rfl)
theorem dX1_line_42 : decode cX1_line 42 = .ok (.if_icmp .ge 33, 3) := dk_162 0 33 (dk_at dksX1_line_1 18 rfl rfl)
theorem dX1_line_45 : decode cX1_line 45 = .ok (.iload_n 1, 1) := dk_27 (dk_at dksX1_line_1 21 rfl rfl)
theorem dX1_line_46 : decode cX1_line 46 = .ok (.iconst 3, 1) := dk_6 (dk_at dksX1_line_1 22 rfl rfl)
theorem dX1_line_47 : decode cX1_line 47 = .ok (.if_icmp .ne 11, 3) := dk_160 0 11 (dk_at dksX1_line_2 0 rfl rfl)
theorem dX1_line_50 : decode cX1_line 50 = .ok (.iload 4, 2) := dk_21 4 (dk_at dksX1_line_2 3 rfl rfl)
theorem dX1_line_52 : decode cX1_line 52 = .ok (.invokestatic 145, 3) := dk_184 0 145 (dk_at dksX1_line_2 5 rfl rfl)
theorem dX1_line_55 : decode cX1_line 55 = .ok (.ifCond .eq 20, 3) := dk_153 0 20 (dk_at dksX1_line_2 8 rfl rfl)
theorem dX1_line_58 : decode cX1_line 58 = .ok (.iload_n 1, 1) := dk_27 (dk_at dksX1_line_2 11 rfl rfl)
theorem dX1_line_59 : decode cX1_line 59 = .ok (.iconst 1, 1) := dk_4 (dk_at dksX1_line_2 12 rfl rfl)
theorem dX1_line_60 : decode cX1_line 60 = .ok (.if_icmp .ne 17, 3) := dk_160 0 17 (dk_at dksX1_line_2 13 rfl rfl)
theorem dX1_line_63 : decode cX1_line 63 = .ok (.iload 5, 2) := dk_21 5 (dk_at dksX1_line_2 16 rfl rfl)
theorem dX1_line_65 : decode cX1_line 65 = .ok (.iconst 1, 1) := dk_4 (dk_at dksX1_line_2 18 rfl rfl)
theorem dX1_line_66 : decode cX1_line 66 = .ok (.sipush 1000, 3) := dk_17 3 232 (dk_at dksX1_line_2 19 rfl rfl)
theorem dX1_line_69 : decode cX1_line 69 = .ok (.invokestatic 131, 3) := dk_184 0 131 (dk_at dksX1_line_3 0 rfl rfl)
theorem dX1_line_72 : decode cX1_line 72 = .ok (.ifCond .ne 5, 3) := dk_154 0 5 (dk_at dksX1_line_3 3 rfl rfl)
theorem dX1_line_75 : decode cX1_line 75 = .ok (.iconst (-1), 1) := dk_2 (dk_at dksX1_line_3 6 rfl rfl)
theorem dX1_line_76 : decode cX1_line 76 = .ok (.ireturn, 1) := dk_172 (dk_at dksX1_line_3 7 rfl rfl)
theorem dX1_line_77 : decode cX1_line 77 = .ok (.aload_n 0, 1) := dk_42 (dk_at dksX1_line_3 8 rfl rfl)
theorem dX1_line_78 : decode cX1_line 78 = .ok (.getfield 142, 3) := dk_180 0 142 (dk_at dksX1_line_3 9 rfl rfl)
theorem dX1_line_81 : decode cX1_line 81 = .ok (.bipush 40, 2) := dk_16 40 (dk_at dksX1_line_3 12 rfl rfl)
theorem dX1_line_83 : decode cX1_line 83 = .ok (.if_icmp .ne 6, 3) := dk_160 0 6 (dk_at dksX1_line_3 14 rfl rfl)
theorem dX1_line_86 : decode cX1_line 86 = .ok (.bipush (-2), 2) := dk_16 254 (dk_at dksX1_line_3 17 rfl rfl)
theorem dX1_line_88 : decode cX1_line 88 = .ok (.ireturn, 1) := dk_172 (dk_at dksX1_line_3 19 rfl rfl)
theorem dX1_line_89 : decode cX1_line 89 = .ok (.aload_n 0, 1) := dk_42 (dk_at dksX1_line_3 20 rfl rfl)
theorem dX1_line_90 : decode cX1_line 90 = .ok (.iload_n 3, 1) := dk_29 (dk_at dksX1_line_3 21 rfl rfl)
theorem dX1_line_91 : decode cX1_line 91 = .ok (.iconst 1, 1) := dk_4 (dk_at dksX1_line_3 22 rfl rfl)
theorem dX1_line_92 : decode cX1_line 92 = .ok (.invokevirtual 149, 3) := dk_182 0 149 (dk_at dksX1_line_4 0 rfl rfl)
theorem dX1_line_95 : decode cX1_line 95 = .ok (.iconst 2, 1) := dk_5 (dk_at dksX1_line_4 3 rfl rfl)
theorem dX1_line_96 : decode cX1_line 96 = .ok (.if_icmp .lt 7, 3) := dk_161 0 7 (dk_at dksX1_line_4 4 rfl rfl)
theorem dX1_line_99 : decode cX1_line 99 = .ok (.iconst 1, 1) := dk_4 (dk_at dksX1_line_4 7 rfl rfl)
theorem dX1_line_100 : decode cX1_line 100 = .ok (.goto 4, 3) := dk_167 0 4 (dk_at dksX1_line_4 8 rfl rfl)
theorem dX1_line_103 : decode cX1_line 103 = .ok (.iconst 0, 1) := dk_3 (dk_at dksX1_line_4 11 rfl rfl)
theorem dX1_line_104 : decode cX1_line 104 = .ok (.istore 6, 2) := dk_54 6 (dk_at dksX1_line_4 12 rfl rfl)
theorem dX1_line_106 : decode cX1_line 106 = .ok (.iconst 0, 1) := dk_3 (dk_at dksX1_line_4 14 rfl rfl)
theorem dX1_line_107 : decode cX1_line 107 = .ok (.istore 7, 2) := dk_54 7 (dk_at dksX1_line_4 15 rfl rfl)
theorem dX1_line_109 : decode cX1_line 109 = .ok (.iload 7, 2) := dk_21 7 (dk_at dksX1_line_4 17 rfl rfl)
theorem dX1_line_111 : decode cX1_line 111 = .ok (.aload_n 0, 1) := dk_42 (dk_at dksX1_line_4 19 rfl rfl)
theorem dX1_line_112 : decode cX1_line 112 = .ok (.getfield 142, 3) := dk_180 0 142 (dk_at dksX1_line_4 20 rfl rfl)
theorem dX1_line_115 : decode cX1_line 115 = .ok (.if_icmp .ge 53, 3) := dk_162 0 53 (dk_at dksX1_line_5 0 rfl rfl)
theorem dX1_line_118 : decode cX1_line 118 = .ok (.iload 6, 2) := dk_21 6 (dk_at dksX1_line_5 3 rfl rfl)
theorem dX1_line_120 : decode cX1_line 120 = .ok (.ifCond .ne 35, 3) := dk_154 0 35 (dk_at dksX1_line_5 5 rfl rfl)
theorem dX1_line_123 : decode cX1_line 123 = .ok (.aload_n 0, 1) := dk_42 (dk_at dksX1_line_5 8 rfl rfl)
theorem dX1_line_124 : decode cX1_line 124 = .ok (.getfield 40, 3) := dk_180 0 40 (dk_at dksX1_line_5 9 rfl rfl)
theorem dX1_line_127 : decode cX1_line 127 = .ok (.iload 7, 2) := dk_21 7 (dk_at dksX1_line_5 12 rfl rfl)
theorem dX1_line_129 : decode cX1_line 129 = .ok (.baload, 1) := dk_51 (dk_at dksX1_line_5 14 rfl rfl)
theorem dX1_line_130 : decode cX1_line 130 = .ok (.ifCond .ne 29, 3) := dk_154 0 29 (dk_at dksX1_line_5 15 rfl rfl)
theorem dX1_line_133 : decode cX1_line 133 = .ok (.aload_n 0, 1) := dk_42 (dk_at dksX1_line_5 18 rfl rfl)
theorem dX1_line_134 : decode cX1_line 134 = .ok (.getfield 25, 3) := dk_180 0 25 (dk_at dksX1_line_5 19 rfl rfl)
theorem dX1_line_137 : decode cX1_line 137 = .ok (.iload 7, 2) := dk_21 7 (dk_at dksX1_line_5 22 rfl rfl)
theorem dX1_line_139 : decode cX1_line 139 = .ok (.iaload, 1) := dk_46 (dk_at dksX1_line_6 0 rfl rfl)
theorem dX1_line_140 : decode cX1_line 140 = .ok (.iload_n 2, 1) := dk_28 (dk_at dksX1_line_6 1 rfl rfl)
theorem dX1_line_141 : decode cX1_line 141 = .ok (.if_icmp .ne 18, 3) := dk_160 0 18 (dk_at dksX1_line_6 2 rfl rfl)
theorem dX1_line_144 : decode cX1_line 144 = .ok (.aload_n 0, 1) := dk_42 (dk_at dksX1_line_6 5 rfl rfl)
theorem dX1_line_145 : decode cX1_line 145 = .ok (.getfield 28, 3) := dk_180 0 28 (dk_at dksX1_line_6 6 rfl rfl)
theorem dX1_line_148 : decode cX1_line 148 = .ok (.iload 7, 2) := dk_21 7 (dk_at dksX1_line_6 9 rfl rfl)
theorem dX1_line_150 : decode cX1_line 150 = .ok (.iaload, 1) := dk_46 (dk_at dksX1_line_6 11 rfl rfl)
theorem dX1_line_151 : decode cX1_line 151 = .ok (.iload_n 3, 1) := dk_29 (dk_at dksX1_line_6 12 rfl rfl)
theorem dX1_line_152 : decode cX1_line 152 = .ok (.if_icmp .ne 7, 3) := dk_160 0 7 (dk_at dksX1_line_6 13 rfl rfl)
theorem dX1_line_155 : decode cX1_line 155 = .ok (.iconst 1, 1) := dk_4 (dk_at dksX1_line_6 16 rfl rfl)
theorem dX1_line_156 : decode cX1_line 156 = .ok (.goto 4, 3) := dk_167 0 4 (dk_at dksX1_line_6 17 rfl rfl)
theorem dX1_line_159 : decode cX1_line 159 = .ok (.iconst 0, 1) := dk_3 (dk_at dksX1_line_6 20 rfl rfl)
theorem dX1_line_160 : decode cX1_line 160 = .ok (.istore 6, 2) := dk_54 6 (dk_at dksX1_line_6 21 rfl rfl)
theorem dX1_line_162 : decode cX1_line 162 = .ok (.iinc 7 1, 3) := dk_132 7 1 (dk_at dksX1_line_7 0 rfl rfl)
theorem dX1_line_165 : decode cX1_line 165 = .ok (.goto (-56), 3) := dk_167 255 200 (dk_at dksX1_line_7 3 rfl rfl)
theorem dX1_line_168 : decode cX1_line 168 = .ok (.iload 6, 2) := dk_21 6 (dk_at dksX1_line_7 6 rfl rfl)
theorem dX1_line_170 : decode cX1_line 170 = .ok (.ifCond .eq 6, 3) := dk_153 0 6 (dk_at dksX1_line_7 8 rfl rfl)
theorem dX1_line_173 : decode cX1_line 173 = .ok (.bipush (-4), 2) := dk_16 252 (dk_at dksX1_line_7 11 rfl rfl)
theorem dX1_line_175 : decode cX1_line 175 = .ok (.ireturn, 1) := dk_172 (dk_at dksX1_line_7 13 rfl rfl)
theorem dX1_line_176 : decode cX1_line 176 = .ok (.aload_n 0, 1) := dk_42 (dk_at dksX1_line_7 14 rfl rfl)
theorem dX1_line_177 : decode cX1_line 177 = .ok (.getfield 22, 3) := dk_180 0 22 (dk_at dksX1_line_7 15 rfl rfl)
theorem dX1_line_180 : decode cX1_line 180 = .ok (.aload_n 0, 1) := dk_42 (dk_at dksX1_line_7 18 rfl rfl)
theorem dX1_line_181 : decode cX1_line 181 = .ok (.getfield 142, 3) := dk_180 0 142 (dk_at dksX1_line_7 19 rfl rfl)
theorem dX1_line_184 : decode cX1_line 184 = .ok (.iload_n 1, 1) := dk_27 (dk_at dksX1_line_7 22 rfl rfl)
theorem dX1_line_185 : decode cX1_line 185 = .ok (.iastore, 1) := dk_79 (dk_at dksX1_line_7 23 rfl rfl)
theorem dX1_line_186 : decode cX1_line 186 = .ok (.aload_n 0, 1) := dk_42 (dk_at dksX1_line_8 0 rfl rfl)
theorem dX1_line_187 : decode cX1_line 187 = .ok (.getfield 25, 3) := dk_180 0 25 (dk_at dksX1_line_8 1 rfl rfl)
theorem dX1_line_190 : decode cX1_line 190 = .ok (.aload_n 0, 1) := dk_42 (dk_at dksX1_line_8 4 rfl rfl)
theorem dX1_line_191 : decode cX1_line 191 = .ok (.getfield 142, 3) := dk_180 0 142 (dk_at dksX1_line_8 5 rfl rfl)
theorem dX1_line_194 : decode cX1_line 194 = .ok (.iload_n 2, 1) := dk_28 (dk_at dksX1_line_8 8 rfl rfl)
theorem dX1_line_195 : decode cX1_line 195 = .ok (.iastore, 1) := dk_79 (dk_at dksX1_line_8 9 rfl rfl)
theorem dX1_line_196 : decode cX1_line 196 = .ok (.aload_n 0, 1) := dk_42 (dk_at dksX1_line_8 10 rfl rfl)
theorem dX1_line_197 : decode cX1_line 197 = .ok (.getfield 28, 3) := dk_180 0 28 (dk_at dksX1_line_8 11 rfl rfl)
theorem dX1_line_200 : decode cX1_line 200 = .ok (.aload_n 0, 1) := dk_42 (dk_at dksX1_line_8 14 rfl rfl)
theorem dX1_line_201 : decode cX1_line 201 = .ok (.getfield 142, 3) := dk_180 0 142 (dk_at dksX1_line_8 15 rfl rfl)
theorem dX1_line_204 : decode cX1_line 204 = .ok (.iload_n 3, 1) := dk_29 (dk_at dksX1_line_8 18 rfl rfl)
theorem dX1_line_205 : decode cX1_line 205 = .ok (.iastore, 1) := dk_79 (dk_at dksX1_line_8 19 rfl rfl)
theorem dX1_line_206 : decode cX1_line 206 = .ok (.aload_n 0, 1) := dk_42 (dk_at dksX1_line_8 20 rfl rfl)
theorem dX1_line_207 : decode cX1_line 207 = .ok (.getfield 31, 3) := dk_180 0 31 (dk_at dksX1_line_8 21 rfl rfl)
theorem dX1_line_210 : decode cX1_line 210 = .ok (.aload_n 0, 1) := dk_42 (dk_at dksX1_line_9 0 rfl rfl)
theorem dX1_line_211 : decode cX1_line 211 = .ok (.getfield 142, 3) := dk_180 0 142 (dk_at dksX1_line_9 1 rfl rfl)
theorem dX1_line_214 : decode cX1_line 214 = .ok (.iload 4, 2) := dk_21 4 (dk_at dksX1_line_9 4 rfl rfl)
theorem dX1_line_216 : decode cX1_line 216 = .ok (.iastore, 1) := dk_79 (dk_at dksX1_line_9 6 rfl rfl)
theorem dX1_line_217 : decode cX1_line 217 = .ok (.aload_n 0, 1) := dk_42 (dk_at dksX1_line_9 7 rfl rfl)
theorem dX1_line_218 : decode cX1_line 218 = .ok (.getfield 34, 3) := dk_180 0 34 (dk_at dksX1_line_9 8 rfl rfl)
theorem dX1_line_221 : decode cX1_line 221 = .ok (.aload_n 0, 1) := dk_42 (dk_at dksX1_line_9 11 rfl rfl)
theorem dX1_line_222 : decode cX1_line 222 = .ok (.getfield 142, 3) := dk_180 0 142 (dk_at dksX1_line_9 12 rfl rfl)
theorem dX1_line_225 : decode cX1_line 225 = .ok (.iload 5, 2) := dk_21 5 (dk_at dksX1_line_9 15 rfl rfl)
theorem dX1_line_227 : decode cX1_line 227 = .ok (.iastore, 1) := dk_79 (dk_at dksX1_line_9 17 rfl rfl)
theorem dX1_line_228 : decode cX1_line 228 = .ok (.aload_n 0, 1) := dk_42 (dk_at dksX1_line_9 18 rfl rfl)
theorem dX1_line_229 : decode cX1_line 229 = .ok (.dup, 1) := dk_89 (dk_at dksX1_line_9 19 rfl rfl)
theorem dX1_line_230 : decode cX1_line 230 = .ok (.getfield 142, 3) := dk_180 0 142 (dk_at dksX1_line_9 20 rfl rfl)
theorem dX1_line_233 : decode cX1_line 233 = .ok (.iconst 1, 1) := dk_4 (dk_at dksX1_line_9 23 rfl rfl)
theorem dX1_line_234 : decode cX1_line 234 = .ok (.iadd, 1) := dk_96 (dk_at dksX1_line_10 0 rfl rfl)
theorem dX1_line_235 : decode cX1_line 235 = .ok (.putfield 142, 3) := dk_181 0 142 (dk_at dksX1_line_10 1 rfl rfl)
theorem dX1_line_238 : decode cX1_line 238 = .ok (.aload_n 0, 1) := dk_42 (dk_at dksX1_line_10 4 rfl rfl)
theorem dX1_line_239 : decode cX1_line 239 = .ok (.getfield 142, 3) := dk_180 0 142 (dk_at dksX1_line_10 5 rfl rfl)
theorem dX1_line_242 : decode cX1_line 242 = .ok (.iconst 1, 1) := dk_4 (dk_at dksX1_line_10 8 rfl rfl)
theorem dX1_line_243 : decode cX1_line 243 = .ok (.isub, 1) := dk_100 (dk_at dksX1_line_10 9 rfl rfl)
theorem dX1_line_244 : decode cX1_line 244 = .ok (.ireturn, 1) := dk_172 (dk_at dksX1_line_10 10 rfl rfl)
abbrev cX1_lineTold : ByteArray := prog_8_method_15_code
def yX1_lineTold : MethodName := ⟨RX1, "lineTold", "(II)I"⟩
def dkwX1_lineTold_1 : List UInt8 := [167, 0, 4, 2, 172]
abbrev dktX1_lineTold_1 : List UInt8 := dkwX1_lineTold_1 ++ []
def dkwX1_lineTold_0 : List UInt8 := [42, 27, 182, 0, 160, 153, 0, 21, 28, 3, 6, 184, 0, 131, 153, 0, 12, 42, 27, 28, 182, 0, 163]
abbrev dktX1_lineTold_0 : List UInt8 := dkwX1_lineTold_0 ++ dktX1_lineTold_1
theorem dksX1_lineTold_0 : cX1_lineTold.data.toList.drop 0 = dktX1_lineTold_0 := by decide +kernel
theorem dksX1_lineTold_1 : cX1_lineTold.data.toList.drop 23 = dktX1_lineTold_1 := dk_seg dksX1_lineTold_0 23 rfl rfl
theorem dX1_lineTold_0 : decode cX1_lineTold 0 = .ok (.aload_n 0, 1) := dk_42 (dk_at dksX1_lineTold_0 0 rfl rfl)
theorem dX1_lineTold_1 : decode cX1_lineTold 1 = .ok (.iload_n 1, 1) := dk_27 (dk_at dksX1_lineTold_0 1 rfl rfl)
theorem dX1_lineTold_2 : decode cX1_lineTold 2 = .ok (.invokevirtual 160, 3) := dk_182 0 160 (dk_at dksX1_lineTold_0 2 rfl rfl)
theorem dX1_lineTold_5 : decode cX1_lineTold 5 = .ok (.ifCond .eq 21, 3) := dk_153 0 21 (dk_at dksX1_lineTold_0 5 rfl rfl)
theorem dX1_lineTold_8 : decode cX1_lineTold 8 = .ok (.iload_n 2, 1) := dk_28 (dk_at dksX1_lineTold_0 8 rfl rfl)
theorem dX1_lineTold_9 : decode cX1_lineTold 9 = .ok (.iconst 0, 1) := dk_3 (dk_at dksX1_lineTold_0 9 rfl rfl)
theorem dX1_lineTold_10 : decode cX1_lineTold 10 = .ok (.iconst 3, 1) := dk_6 (dk_at dksX1_lineTold_0 10 rfl rfl)
theorem dX1_lineTold_11 : decode cX1_lineTold 11 = .ok (.invokestatic 131, 3) := dk_184 0 131 (dk_at dksX1_lineTold_0 11 rfl rfl)
theorem dX1_lineTold_14 : decode cX1_lineTold 14 = .ok (.ifCond .eq 12, 3) := dk_153 0 12 (dk_at dksX1_lineTold_0 14 rfl rfl)
theorem dX1_lineTold_17 : decode cX1_lineTold 17 = .ok (.aload_n 0, 1) := dk_42 (dk_at dksX1_lineTold_0 17 rfl rfl)
theorem dX1_lineTold_18 : decode cX1_lineTold 18 = .ok (.iload_n 1, 1) := dk_27 (dk_at dksX1_lineTold_0 18 rfl rfl)
theorem dX1_lineTold_19 : decode cX1_lineTold 19 = .ok (.iload_n 2, 1) := dk_28 (dk_at dksX1_lineTold_0 19 rfl rfl)
theorem dX1_lineTold_20 : decode cX1_lineTold 20 = .ok (.invokevirtual 163, 3) := dk_182 0 163 (dk_at dksX1_lineTold_0 20 rfl rfl)
theorem dX1_lineTold_23 : decode cX1_lineTold 23 = .ok (.goto 4, 3) := dk_167 0 4 (dk_at dksX1_lineTold_1 0 rfl rfl)
theorem dX1_lineTold_26 : decode cX1_lineTold 26 = .ok (.iconst (-1), 1) := dk_2 (dk_at dksX1_lineTold_1 3 rfl rfl)
theorem dX1_lineTold_27 : decode cX1_lineTold 27 = .ok (.ireturn, 1) := dk_172 (dk_at dksX1_lineTold_1 4 rfl rfl)
abbrev cX1_isLine : ByteArray := prog_8_method_7_code
def yX1_isLine : MethodName := ⟨RX1, "isLine", "(I)Z"⟩
def dkwX1_isLine_0 : List UInt8 := [27, 3, 42, 180, 0, 142, 4, 100, 184, 0, 131, 172]
abbrev dktX1_isLine_0 : List UInt8 := dkwX1_isLine_0 ++ []
theorem dksX1_isLine_0 : cX1_isLine.data.toList.drop 0 = dktX1_isLine_0 := by decide +kernel
theorem dX1_isLine_0 : decode cX1_isLine 0 = .ok (.iload_n 1, 1) := dk_27 (dk_at dksX1_isLine_0 0 rfl rfl)
theorem dX1_isLine_1 : decode cX1_isLine 1 = .ok (.iconst 0, 1) := dk_3 (dk_at dksX1_isLine_0 1 rfl rfl)
theorem dX1_isLine_2 : decode cX1_isLine 2 = .ok (.aload_n 0, 1) := dk_42 (dk_at dksX1_isLine_0 2 rfl rfl)
theorem dX1_isLine_3 : decode cX1_isLine 3 = .ok (.getfield 142, 3) := dk_180 0 142 (dk_at dksX1_isLine_0 3 rfl rfl)
theorem dX1_isLine_6 : decode cX1_isLine 6 = .ok (.iconst 1, 1) := dk_4 (dk_at dksX1_isLine_0 6 rfl rfl)
theorem dX1_isLine_7 : decode cX1_isLine 7 = .ok (.isub, 1) := dk_100 (dk_at dksX1_isLine_0 7 rfl rfl)
theorem dX1_isLine_8 : decode cX1_isLine 8 = .ok (.invokestatic 131, 3) := dk_184 0 131 (dk_at dksX1_isLine_0 8 rfl rfl)
theorem dX1_isLine_11 : decode cX1_isLine 11 = .ok (.ireturn, 1) := dk_172 (dk_at dksX1_isLine_0 11 rfl rfl)
abbrev cX1_tellsLine : ByteArray := prog_8_method_14_code
def yX1_tellsLine : MethodName := ⟨RX1, "tellsLine", "(II)I"⟩
def dkwX1_tellsLine_2 : List UInt8 := [153, 0, 7, 4, 167, 0, 4, 3, 172]
abbrev dktX1_tellsLine_2 : List UInt8 := dkwX1_tellsLine_2 ++ []
def dkwX1_tellsLine_1 : List UInt8 := [167, 0, 31, 28, 5, 160, 0, 12, 42, 180, 0, 28, 27, 46, 167, 0, 17, 42, 180, 0, 40, 27, 51]
abbrev dktX1_tellsLine_1 : List UInt8 := dkwX1_tellsLine_1 ++ dktX1_tellsLine_2
def dkwX1_tellsLine_0 : List UInt8 := [28, 154, 0, 12, 42, 180, 0, 22, 27, 46, 167, 0, 45, 28, 4, 160, 0, 12, 42, 180, 0, 25, 27, 46]
abbrev dktX1_tellsLine_0 : List UInt8 := dkwX1_tellsLine_0 ++ dktX1_tellsLine_1
theorem dksX1_tellsLine_0 : cX1_tellsLine.data.toList.drop 0 = dktX1_tellsLine_0 := by decide +kernel
theorem dksX1_tellsLine_1 : cX1_tellsLine.data.toList.drop 24 = dktX1_tellsLine_1 := dk_seg dksX1_tellsLine_0 24 rfl rfl
theorem dksX1_tellsLine_2 : cX1_tellsLine.data.toList.drop 47 = dktX1_tellsLine_2 := dk_seg dksX1_tellsLine_1 23 rfl rfl
theorem dX1_tellsLine_0 : decode cX1_tellsLine 0 = .ok (.iload_n 2, 1) := dk_28 (dk_at dksX1_tellsLine_0 0 rfl rfl)
theorem dX1_tellsLine_1 : decode cX1_tellsLine 1 = .ok (.ifCond .ne 12, 3) := dk_154 0 12 (dk_at dksX1_tellsLine_0 1 rfl rfl)
theorem dX1_tellsLine_4 : decode cX1_tellsLine 4 = .ok (.aload_n 0, 1) := dk_42 (dk_at dksX1_tellsLine_0 4 rfl rfl)
theorem dX1_tellsLine_5 : decode cX1_tellsLine 5 = .ok (.getfield 22, 3) := dk_180 0 22 (dk_at dksX1_tellsLine_0 5 rfl rfl)
theorem dX1_tellsLine_8 : decode cX1_tellsLine 8 = .ok (.iload_n 1, 1) := dk_27 (dk_at dksX1_tellsLine_0 8 rfl rfl)
theorem dX1_tellsLine_9 : decode cX1_tellsLine 9 = .ok (.iaload, 1) := dk_46 (dk_at dksX1_tellsLine_0 9 rfl rfl)
theorem dX1_tellsLine_10 : decode cX1_tellsLine 10 = .ok (.goto 45, 3) := dk_167 0 45 (dk_at dksX1_tellsLine_0 10 rfl rfl)
theorem dX1_tellsLine_13 : decode cX1_tellsLine 13 = .ok (.iload_n 2, 1) := dk_28 (dk_at dksX1_tellsLine_0 13 rfl rfl)
theorem dX1_tellsLine_14 : decode cX1_tellsLine 14 = .ok (.iconst 1, 1) := dk_4 (dk_at dksX1_tellsLine_0 14 rfl rfl)
theorem dX1_tellsLine_15 : decode cX1_tellsLine 15 = .ok (.if_icmp .ne 12, 3) := dk_160 0 12 (dk_at dksX1_tellsLine_0 15 rfl rfl)
theorem dX1_tellsLine_18 : decode cX1_tellsLine 18 = .ok (.aload_n 0, 1) := dk_42 (dk_at dksX1_tellsLine_0 18 rfl rfl)
theorem dX1_tellsLine_19 : decode cX1_tellsLine 19 = .ok (.getfield 25, 3) := dk_180 0 25 (dk_at dksX1_tellsLine_0 19 rfl rfl)
theorem dX1_tellsLine_22 : decode cX1_tellsLine 22 = .ok (.iload_n 1, 1) := dk_27 (dk_at dksX1_tellsLine_0 22 rfl rfl)
theorem dX1_tellsLine_23 : decode cX1_tellsLine 23 = .ok (.iaload, 1) := dk_46 (dk_at dksX1_tellsLine_0 23 rfl rfl)
theorem dX1_tellsLine_24 : decode cX1_tellsLine 24 = .ok (.goto 31, 3) := dk_167 0 31 (dk_at dksX1_tellsLine_1 0 rfl rfl)
theorem dX1_tellsLine_27 : decode cX1_tellsLine 27 = .ok (.iload_n 2, 1) := dk_28 (dk_at dksX1_tellsLine_1 3 rfl rfl)
theorem dX1_tellsLine_28 : decode cX1_tellsLine 28 = .ok (.iconst 2, 1) := dk_5 (dk_at dksX1_tellsLine_1 4 rfl rfl)
theorem dX1_tellsLine_29 : decode cX1_tellsLine 29 = .ok (.if_icmp .ne 12, 3) := dk_160 0 12 (dk_at dksX1_tellsLine_1 5 rfl rfl)
theorem dX1_tellsLine_32 : decode cX1_tellsLine 32 = .ok (.aload_n 0, 1) := dk_42 (dk_at dksX1_tellsLine_1 8 rfl rfl)
theorem dX1_tellsLine_33 : decode cX1_tellsLine 33 = .ok (.getfield 28, 3) := dk_180 0 28 (dk_at dksX1_tellsLine_1 9 rfl rfl)
theorem dX1_tellsLine_36 : decode cX1_tellsLine 36 = .ok (.iload_n 1, 1) := dk_27 (dk_at dksX1_tellsLine_1 12 rfl rfl)
theorem dX1_tellsLine_37 : decode cX1_tellsLine 37 = .ok (.iaload, 1) := dk_46 (dk_at dksX1_tellsLine_1 13 rfl rfl)
theorem dX1_tellsLine_38 : decode cX1_tellsLine 38 = .ok (.goto 17, 3) := dk_167 0 17 (dk_at dksX1_tellsLine_1 14 rfl rfl)
theorem dX1_tellsLine_41 : decode cX1_tellsLine 41 = .ok (.aload_n 0, 1) := dk_42 (dk_at dksX1_tellsLine_1 17 rfl rfl)
theorem dX1_tellsLine_42 : decode cX1_tellsLine 42 = .ok (.getfield 40, 3) := dk_180 0 40 (dk_at dksX1_tellsLine_1 18 rfl rfl)
theorem dX1_tellsLine_45 : decode cX1_tellsLine 45 = .ok (.iload_n 1, 1) := dk_27 (dk_at dksX1_tellsLine_1 21 rfl rfl)
theorem dX1_tellsLine_46 : decode cX1_tellsLine 46 = .ok (.baload, 1) := dk_51 (dk_at dksX1_tellsLine_1 22 rfl rfl)
theorem dX1_tellsLine_47 : decode cX1_tellsLine 47 = .ok (.ifCond .eq 7, 3) := dk_153 0 7 (dk_at dksX1_tellsLine_2 0 rfl rfl)
theorem dX1_tellsLine_50 : decode cX1_tellsLine 50 = .ok (.iconst 1, 1) := dk_4 (dk_at dksX1_tellsLine_2 3 rfl rfl)
theorem dX1_tellsLine_51 : decode cX1_tellsLine 51 = .ok (.goto 4, 3) := dk_167 0 4 (dk_at dksX1_tellsLine_2 4 rfl rfl)
theorem dX1_tellsLine_54 : decode cX1_tellsLine 54 = .ok (.iconst 0, 1) := dk_3 (dk_at dksX1_tellsLine_2 7 rfl rfl)
theorem dX1_tellsLine_55 : decode cX1_tellsLine 55 = .ok (.ireturn, 1) := dk_172 (dk_at dksX1_tellsLine_2 8 rfl rfl)
abbrev cX1_mark : ByteArray := prog_8_method_16_code
def yX1_mark : MethodName := ⟨RX1, "mark", "(II)I"⟩
def dkwX1_mark_3 : List UInt8 := [167, 0, 9, 42, 180, 0, 31, 27, 46, 172]
abbrev dktX1_mark_3 : List UInt8 := dkwX1_mark_3 ++ []
def dkwX1_mark_2 : List UInt8 := [4, 160, 0, 12, 42, 180, 0, 34, 27, 46, 167, 0, 23, 28, 5, 160, 0, 12, 42, 180, 0, 37, 27, 46]
abbrev dktX1_mark_2 : List UInt8 := dkwX1_mark_2 ++ dktX1_mark_3
def dkwX1_mark_1 : List UInt8 := [46, 62, 28, 29, 159, 0, 19, 28, 4, 160, 0, 8, 29, 5, 159, 0, 9, 42, 6, 182, 0, 166, 172, 28]
abbrev dktX1_mark_1 : List UInt8 := dkwX1_mark_1 ++ dktX1_mark_2
def dkwX1_mark_0 : List UInt8 := [42, 27, 182, 0, 160, 153, 0, 12, 28, 4, 6, 184, 0, 131, 154, 0, 5, 2, 172, 42, 180, 0, 22, 27]
abbrev dktX1_mark_0 : List UInt8 := dkwX1_mark_0 ++ dktX1_mark_1
theorem dksX1_mark_0 : cX1_mark.data.toList.drop 0 = dktX1_mark_0 := by decide +kernel
theorem dksX1_mark_1 : cX1_mark.data.toList.drop 24 = dktX1_mark_1 := dk_seg dksX1_mark_0 24 rfl rfl
theorem dksX1_mark_2 : cX1_mark.data.toList.drop 48 = dktX1_mark_2 := dk_seg dksX1_mark_1 24 rfl rfl
theorem dksX1_mark_3 : cX1_mark.data.toList.drop 72 = dktX1_mark_3 := dk_seg dksX1_mark_2 24 rfl rfl
theorem dX1_mark_0 : decode cX1_mark 0 = .ok (.aload_n 0, 1) := dk_42 (dk_at dksX1_mark_0 0 rfl rfl)
theorem dX1_mark_1 : decode cX1_mark 1 = .ok (.iload_n 1, 1) := dk_27 (dk_at dksX1_mark_0 1 rfl rfl)
theorem dX1_mark_2 : decode cX1_mark 2 = .ok (.invokevirtual 160, 3) := dk_182 0 160 (dk_at dksX1_mark_0 2 rfl rfl)
theorem dX1_mark_5 : decode cX1_mark 5 = .ok (.ifCond .eq 12, 3) := dk_153 0 12 (dk_at dksX1_mark_0 5 rfl rfl)
theorem dX1_mark_8 : decode cX1_mark 8 = .ok (.iload_n 2, 1) := dk_28 (dk_at dksX1_mark_0 8 rfl rfl)
theorem dX1_mark_9 : decode cX1_mark 9 = .ok (.iconst 1, 1) := dk_4 (dk_at dksX1_mark_0 9 rfl rfl)
theorem dX1_mark_10 : decode cX1_mark 10 = .ok (.iconst 3, 1) := dk_6 (dk_at dksX1_mark_0 10 rfl rfl)
theorem dX1_mark_11 : decode cX1_mark 11 = .ok (.invokestatic 131, 3) := dk_184 0 131 (dk_at dksX1_mark_0 11 rfl rfl)
theorem dX1_mark_14 : decode cX1_mark 14 = .ok (.ifCond .ne 5, 3) := dk_154 0 5 (dk_at dksX1_mark_0 14 rfl rfl)
theorem dX1_mark_17 : decode cX1_mark 17 = .ok (.iconst (-1), 1) := dk_2 (dk_at dksX1_mark_0 17 rfl rfl)
theorem dX1_mark_18 : decode cX1_mark 18 = .ok (.ireturn, 1) := dk_172 (dk_at dksX1_mark_0 18 rfl rfl)
theorem dX1_mark_19 : decode cX1_mark 19 = .ok (.aload_n 0, 1) := dk_42 (dk_at dksX1_mark_0 19 rfl rfl)
theorem dX1_mark_20 : decode cX1_mark 20 = .ok (.getfield 22, 3) := dk_180 0 22 (dk_at dksX1_mark_0 20 rfl rfl)
theorem dX1_mark_23 : decode cX1_mark 23 = .ok (.iload_n 1, 1) := dk_27 (dk_at dksX1_mark_0 23 rfl rfl)
theorem dX1_mark_24 : decode cX1_mark 24 = .ok (.iaload, 1) := dk_46 (dk_at dksX1_mark_1 0 rfl rfl)
theorem dX1_mark_25 : decode cX1_mark 25 = .ok (.istore_n 3, 1) := dk_62 (dk_at dksX1_mark_1 1 rfl rfl)
theorem dX1_mark_26 : decode cX1_mark 26 = .ok (.iload_n 2, 1) := dk_28 (dk_at dksX1_mark_1 2 rfl rfl)
theorem dX1_mark_27 : decode cX1_mark 27 = .ok (.iload_n 3, 1) := dk_29 (dk_at dksX1_mark_1 3 rfl rfl)
theorem dX1_mark_28 : decode cX1_mark 28 = .ok (.if_icmp .eq 19, 3) := dk_159 0 19 (dk_at dksX1_mark_1 4 rfl rfl)
theorem dX1_mark_31 : decode cX1_mark 31 = .ok (.iload_n 2, 1) := dk_28 (dk_at dksX1_mark_1 7 rfl rfl)
theorem dX1_mark_32 : decode cX1_mark 32 = .ok (.iconst 1, 1) := dk_4 (dk_at dksX1_mark_1 8 rfl rfl)
theorem dX1_mark_33 : decode cX1_mark 33 = .ok (.if_icmp .ne 8, 3) := dk_160 0 8 (dk_at dksX1_mark_1 9 rfl rfl)
theorem dX1_mark_36 : decode cX1_mark 36 = .ok (.iload_n 3, 1) := dk_29 (dk_at dksX1_mark_1 12 rfl rfl)
theorem dX1_mark_37 : decode cX1_mark 37 = .ok (.iconst 2, 1) := dk_5 (dk_at dksX1_mark_1 13 rfl rfl)
theorem dX1_mark_38 : decode cX1_mark 38 = .ok (.if_icmp .eq 9, 3) := dk_159 0 9 (dk_at dksX1_mark_1 14 rfl rfl)
theorem dX1_mark_41 : decode cX1_mark 41 = .ok (.aload_n 0, 1) := dk_42 (dk_at dksX1_mark_1 17 rfl rfl)
theorem dX1_mark_42 : decode cX1_mark 42 = .ok (.iconst 3, 1) := dk_6 (dk_at dksX1_mark_1 18 rfl rfl)
theorem dX1_mark_43 : decode cX1_mark 43 = .ok (.invokevirtual 166, 3) := dk_182 0 166 (dk_at dksX1_mark_1 19 rfl rfl)
theorem dX1_mark_46 : decode cX1_mark 46 = .ok (.ireturn, 1) := dk_172 (dk_at dksX1_mark_1 22 rfl rfl)
theorem dX1_mark_47 : decode cX1_mark 47 = .ok (.iload_n 2, 1) := dk_28 (dk_at dksX1_mark_1 23 rfl rfl)
theorem dX1_mark_48 : decode cX1_mark 48 = .ok (.iconst 1, 1) := dk_4 (dk_at dksX1_mark_2 0 rfl rfl)
theorem dX1_mark_49 : decode cX1_mark 49 = .ok (.if_icmp .ne 12, 3) := dk_160 0 12 (dk_at dksX1_mark_2 1 rfl rfl)
theorem dX1_mark_52 : decode cX1_mark 52 = .ok (.aload_n 0, 1) := dk_42 (dk_at dksX1_mark_2 4 rfl rfl)
theorem dX1_mark_53 : decode cX1_mark 53 = .ok (.getfield 34, 3) := dk_180 0 34 (dk_at dksX1_mark_2 5 rfl rfl)
theorem dX1_mark_56 : decode cX1_mark 56 = .ok (.iload_n 1, 1) := dk_27 (dk_at dksX1_mark_2 8 rfl rfl)
theorem dX1_mark_57 : decode cX1_mark 57 = .ok (.iaload, 1) := dk_46 (dk_at dksX1_mark_2 9 rfl rfl)
theorem dX1_mark_58 : decode cX1_mark 58 = .ok (.goto 23, 3) := dk_167 0 23 (dk_at dksX1_mark_2 10 rfl rfl)
theorem dX1_mark_61 : decode cX1_mark 61 = .ok (.iload_n 2, 1) := dk_28 (dk_at dksX1_mark_2 13 rfl rfl)
theorem dX1_mark_62 : decode cX1_mark 62 = .ok (.iconst 2, 1) := dk_5 (dk_at dksX1_mark_2 14 rfl rfl)
theorem dX1_mark_63 : decode cX1_mark 63 = .ok (.if_icmp .ne 12, 3) := dk_160 0 12 (dk_at dksX1_mark_2 15 rfl rfl)
theorem dX1_mark_66 : decode cX1_mark 66 = .ok (.aload_n 0, 1) := dk_42 (dk_at dksX1_mark_2 18 rfl rfl)
theorem dX1_mark_67 : decode cX1_mark 67 = .ok (.getfield 37, 3) := dk_180 0 37 (dk_at dksX1_mark_2 19 rfl rfl)
theorem dX1_mark_70 : decode cX1_mark 70 = .ok (.iload_n 1, 1) := dk_27 (dk_at dksX1_mark_2 22 rfl rfl)
theorem dX1_mark_71 : decode cX1_mark 71 = .ok (.iaload, 1) := dk_46 (dk_at dksX1_mark_2 23 rfl rfl)
theorem dX1_mark_72 : decode cX1_mark 72 = .ok (.goto 9, 3) := dk_167 0 9 (dk_at dksX1_mark_3 0 rfl rfl)
theorem dX1_mark_75 : decode cX1_mark 75 = .ok (.aload_n 0, 1) := dk_42 (dk_at dksX1_mark_3 3 rfl rfl)
theorem dX1_mark_76 : decode cX1_mark 76 = .ok (.getfield 31, 3) := dk_180 0 31 (dk_at dksX1_mark_3 4 rfl rfl)
theorem dX1_mark_79 : decode cX1_mark 79 = .ok (.iload_n 1, 1) := dk_27 (dk_at dksX1_mark_3 7 rfl rfl)
theorem dX1_mark_80 : decode cX1_mark 80 = .ok (.iaload, 1) := dk_46 (dk_at dksX1_mark_3 8 rfl rfl)
theorem dX1_mark_81 : decode cX1_mark 81 = .ok (.ireturn, 1) := dk_172 (dk_at dksX1_mark_3 9 rfl rfl)
abbrev cX1_meets : ByteArray := prog_8_method_5_code
def yX1_meets : MethodName := ⟨RX1, "meets", "(I)I"⟩
def dkwX1_meets_0 : List UInt8 := [42, 27, 181, 0, 135, 42, 180, 0, 7, 27, 92, 46, 4, 96, 79, 16, 253, 172]
abbrev dktX1_meets_0 : List UInt8 := dkwX1_meets_0 ++ []
theorem dksX1_meets_0 : cX1_meets.data.toList.drop 0 = dktX1_meets_0 := by decide +kernel
theorem dX1_meets_0 : decode cX1_meets 0 = .ok (.aload_n 0, 1) := dk_42 (dk_at dksX1_meets_0 0 rfl rfl)
theorem dX1_meets_1 : decode cX1_meets 1 = .ok (.iload_n 1, 1) := dk_27 (dk_at dksX1_meets_0 1 rfl rfl)
theorem dX1_meets_2 : decode cX1_meets 2 = .ok (.putfield 135, 3) := dk_181 0 135 (dk_at dksX1_meets_0 2 rfl rfl)
theorem dX1_meets_5 : decode cX1_meets 5 = .ok (.aload_n 0, 1) := dk_42 (dk_at dksX1_meets_0 5 rfl rfl)
theorem dX1_meets_6 : decode cX1_meets 6 = .ok (.getfield 7, 3) := dk_180 0 7 (dk_at dksX1_meets_0 6 rfl rfl)
theorem dX1_meets_9 : decode cX1_meets 9 = .ok (.iload_n 1, 1) := dk_27 (dk_at dksX1_meets_0 9 rfl rfl)
theorem dX1_meets_10 : decode cX1_meets 10 = .ok (.dup2, 1) := dk_92 (dk_at dksX1_meets_0 10 rfl rfl)
theorem dX1_meets_11 : decode cX1_meets 11 = .ok (.iaload, 1) := dk_46 (dk_at dksX1_meets_0 11 rfl rfl)
theorem dX1_meets_12 : decode cX1_meets 12 = .ok (.iconst 1, 1) := dk_4 (dk_at dksX1_meets_0 12 rfl rfl)
theorem dX1_meets_13 : decode cX1_meets 13 = .ok (.iadd, 1) := dk_96 (dk_at dksX1_meets_0 13 rfl rfl)
theorem dX1_meets_14 : decode cX1_meets 14 = .ok (.iastore, 1) := dk_79 (dk_at dksX1_meets_0 14 rfl rfl)
theorem dX1_meets_15 : decode cX1_meets 15 = .ok (.bipush (-3), 2) := dk_16 253 (dk_at dksX1_meets_0 15 rfl rfl)
theorem dX1_meets_17 : decode cX1_meets 17 = .ok (.ireturn, 1) := dk_172 (dk_at dksX1_meets_0 17 rfl rfl)
abbrev cX1_prove : ByteArray := prog_8_method_17_code
def yX1_prove : MethodName := ⟨RX1, "prove", "(II)I"⟩
def dkwX1_prove_2 : List UInt8 := [180, 0, 22, 27, 5, 79, 42, 180, 0, 37, 27, 28, 79, 4, 172]
abbrev dktX1_prove_2 : List UInt8 := dkwX1_prove_2 ++ []
def dkwX1_prove_1 : List UInt8 := [153, 0, 6, 16, 252, 172, 42, 180, 0, 22, 27, 46, 4, 159, 0, 9, 42, 6, 182, 0, 166, 172, 42]
abbrev dktX1_prove_1 : List UInt8 := dkwX1_prove_1 ++ dktX1_prove_2
def dkwX1_prove_0 : List UInt8 := [42, 27, 182, 0, 160, 153, 0, 10, 28, 184, 0, 145, 154, 0, 5, 2, 172, 42, 180, 0, 40, 27, 51]
abbrev dktX1_prove_0 : List UInt8 := dkwX1_prove_0 ++ dktX1_prove_1
theorem dksX1_prove_0 : cX1_prove.data.toList.drop 0 = dktX1_prove_0 := by decide +kernel
theorem dksX1_prove_1 : cX1_prove.data.toList.drop 23 = dktX1_prove_1 := dk_seg dksX1_prove_0 23 rfl rfl
theorem dksX1_prove_2 : cX1_prove.data.toList.drop 46 = dktX1_prove_2 := dk_seg dksX1_prove_1 23 rfl rfl
theorem dX1_prove_0 : decode cX1_prove 0 = .ok (.aload_n 0, 1) := dk_42 (dk_at dksX1_prove_0 0 rfl rfl)
theorem dX1_prove_1 : decode cX1_prove 1 = .ok (.iload_n 1, 1) := dk_27 (dk_at dksX1_prove_0 1 rfl rfl)
theorem dX1_prove_2 : decode cX1_prove 2 = .ok (.invokevirtual 160, 3) := dk_182 0 160 (dk_at dksX1_prove_0 2 rfl rfl)
theorem dX1_prove_5 : decode cX1_prove 5 = .ok (.ifCond .eq 10, 3) := dk_153 0 10 (dk_at dksX1_prove_0 5 rfl rfl)
theorem dX1_prove_8 : decode cX1_prove 8 = .ok (.iload_n 2, 1) := dk_28 (dk_at dksX1_prove_0 8 rfl rfl)
theorem dX1_prove_9 : decode cX1_prove 9 = .ok (.invokestatic 145, 3) := dk_184 0 145 (dk_at dksX1_prove_0 9 rfl rfl)
theorem dX1_prove_12 : decode cX1_prove 12 = .ok (.ifCond .ne 5, 3) := dk_154 0 5 (dk_at dksX1_prove_0 12 rfl rfl)
theorem dX1_prove_15 : decode cX1_prove 15 = .ok (.iconst (-1), 1) := dk_2 (dk_at dksX1_prove_0 15 rfl rfl)
theorem dX1_prove_16 : decode cX1_prove 16 = .ok (.ireturn, 1) := dk_172 (dk_at dksX1_prove_0 16 rfl rfl)
theorem dX1_prove_17 : decode cX1_prove 17 = .ok (.aload_n 0, 1) := dk_42 (dk_at dksX1_prove_0 17 rfl rfl)
theorem dX1_prove_18 : decode cX1_prove 18 = .ok (.getfield 40, 3) := dk_180 0 40 (dk_at dksX1_prove_0 18 rfl rfl)
theorem dX1_prove_21 : decode cX1_prove 21 = .ok (.iload_n 1, 1) := dk_27 (dk_at dksX1_prove_0 21 rfl rfl)
theorem dX1_prove_22 : decode cX1_prove 22 = .ok (.baload, 1) := dk_51 (dk_at dksX1_prove_0 22 rfl rfl)
theorem dX1_prove_23 : decode cX1_prove 23 = .ok (.ifCond .eq 6, 3) := dk_153 0 6 (dk_at dksX1_prove_1 0 rfl rfl)
theorem dX1_prove_26 : decode cX1_prove 26 = .ok (.bipush (-4), 2) := dk_16 252 (dk_at dksX1_prove_1 3 rfl rfl)
theorem dX1_prove_28 : decode cX1_prove 28 = .ok (.ireturn, 1) := dk_172 (dk_at dksX1_prove_1 5 rfl rfl)
theorem dX1_prove_29 : decode cX1_prove 29 = .ok (.aload_n 0, 1) := dk_42 (dk_at dksX1_prove_1 6 rfl rfl)
theorem dX1_prove_30 : decode cX1_prove 30 = .ok (.getfield 22, 3) := dk_180 0 22 (dk_at dksX1_prove_1 7 rfl rfl)
theorem dX1_prove_33 : decode cX1_prove 33 = .ok (.iload_n 1, 1) := dk_27 (dk_at dksX1_prove_1 10 rfl rfl)
theorem dX1_prove_34 : decode cX1_prove 34 = .ok (.iaload, 1) := dk_46 (dk_at dksX1_prove_1 11 rfl rfl)
theorem dX1_prove_35 : decode cX1_prove 35 = .ok (.iconst 1, 1) := dk_4 (dk_at dksX1_prove_1 12 rfl rfl)
theorem dX1_prove_36 : decode cX1_prove 36 = .ok (.if_icmp .eq 9, 3) := dk_159 0 9 (dk_at dksX1_prove_1 13 rfl rfl)
theorem dX1_prove_39 : decode cX1_prove 39 = .ok (.aload_n 0, 1) := dk_42 (dk_at dksX1_prove_1 16 rfl rfl)
theorem dX1_prove_40 : decode cX1_prove 40 = .ok (.iconst 3, 1) := dk_6 (dk_at dksX1_prove_1 17 rfl rfl)
theorem dX1_prove_41 : decode cX1_prove 41 = .ok (.invokevirtual 166, 3) := dk_182 0 166 (dk_at dksX1_prove_1 18 rfl rfl)
theorem dX1_prove_44 : decode cX1_prove 44 = .ok (.ireturn, 1) := dk_172 (dk_at dksX1_prove_1 21 rfl rfl)
theorem dX1_prove_45 : decode cX1_prove 45 = .ok (.aload_n 0, 1) := dk_42 (dk_at dksX1_prove_1 22 rfl rfl)
theorem dX1_prove_46 : decode cX1_prove 46 = .ok (.getfield 22, 3) := dk_180 0 22 (dk_at dksX1_prove_2 0 rfl rfl)
theorem dX1_prove_49 : decode cX1_prove 49 = .ok (.iload_n 1, 1) := dk_27 (dk_at dksX1_prove_2 3 rfl rfl)
theorem dX1_prove_50 : decode cX1_prove 50 = .ok (.iconst 2, 1) := dk_5 (dk_at dksX1_prove_2 4 rfl rfl)
theorem dX1_prove_51 : decode cX1_prove 51 = .ok (.iastore, 1) := dk_79 (dk_at dksX1_prove_2 5 rfl rfl)
theorem dX1_prove_52 : decode cX1_prove 52 = .ok (.aload_n 0, 1) := dk_42 (dk_at dksX1_prove_2 6 rfl rfl)
theorem dX1_prove_53 : decode cX1_prove 53 = .ok (.getfield 37, 3) := dk_180 0 37 (dk_at dksX1_prove_2 7 rfl rfl)
theorem dX1_prove_56 : decode cX1_prove 56 = .ok (.iload_n 1, 1) := dk_27 (dk_at dksX1_prove_2 10 rfl rfl)
theorem dX1_prove_57 : decode cX1_prove 57 = .ok (.iload_n 2, 1) := dk_28 (dk_at dksX1_prove_2 11 rfl rfl)
theorem dX1_prove_58 : decode cX1_prove 58 = .ok (.iastore, 1) := dk_79 (dk_at dksX1_prove_2 12 rfl rfl)
theorem dX1_prove_59 : decode cX1_prove 59 = .ok (.iconst 1, 1) := dk_4 (dk_at dksX1_prove_2 13 rfl rfl)
theorem dX1_prove_60 : decode cX1_prove 60 = .ok (.ireturn, 1) := dk_172 (dk_at dksX1_prove_2 14 rfl rfl)
abbrev cX1_strike : ByteArray := prog_8_method_18_code
def yX1_strike : MethodName := ⟨RX1, "strike", "(I)I"⟩
def dkwX1_strike_1 : List UInt8 := [180, 0, 40, 27, 4, 84, 4, 172]
abbrev dktX1_strike_1 : List UInt8 := dkwX1_strike_1 ++ []
def dkwX1_strike_0 : List UInt8 := [42, 27, 182, 0, 160, 154, 0, 5, 2, 172, 42, 180, 0, 40, 27, 51, 153, 0, 6, 16, 252, 172, 42]
abbrev dktX1_strike_0 : List UInt8 := dkwX1_strike_0 ++ dktX1_strike_1
theorem dksX1_strike_0 : cX1_strike.data.toList.drop 0 = dktX1_strike_0 := by decide +kernel
theorem dksX1_strike_1 : cX1_strike.data.toList.drop 23 = dktX1_strike_1 := dk_seg dksX1_strike_0 23 rfl rfl
theorem dX1_strike_0 : decode cX1_strike 0 = .ok (.aload_n 0, 1) := dk_42 (dk_at dksX1_strike_0 0 rfl rfl)
theorem dX1_strike_1 : decode cX1_strike 1 = .ok (.iload_n 1, 1) := dk_27 (dk_at dksX1_strike_0 1 rfl rfl)
theorem dX1_strike_2 : decode cX1_strike 2 = .ok (.invokevirtual 160, 3) := dk_182 0 160 (dk_at dksX1_strike_0 2 rfl rfl)
theorem dX1_strike_5 : decode cX1_strike 5 = .ok (.ifCond .ne 5, 3) := dk_154 0 5 (dk_at dksX1_strike_0 5 rfl rfl)
theorem dX1_strike_8 : decode cX1_strike 8 = .ok (.iconst (-1), 1) := dk_2 (dk_at dksX1_strike_0 8 rfl rfl)
theorem dX1_strike_9 : decode cX1_strike 9 = .ok (.ireturn, 1) := dk_172 (dk_at dksX1_strike_0 9 rfl rfl)
theorem dX1_strike_10 : decode cX1_strike 10 = .ok (.aload_n 0, 1) := dk_42 (dk_at dksX1_strike_0 10 rfl rfl)
theorem dX1_strike_11 : decode cX1_strike 11 = .ok (.getfield 40, 3) := dk_180 0 40 (dk_at dksX1_strike_0 11 rfl rfl)
theorem dX1_strike_14 : decode cX1_strike 14 = .ok (.iload_n 1, 1) := dk_27 (dk_at dksX1_strike_0 14 rfl rfl)
theorem dX1_strike_15 : decode cX1_strike 15 = .ok (.baload, 1) := dk_51 (dk_at dksX1_strike_0 15 rfl rfl)
theorem dX1_strike_16 : decode cX1_strike 16 = .ok (.ifCond .eq 6, 3) := dk_153 0 6 (dk_at dksX1_strike_0 16 rfl rfl)
theorem dX1_strike_19 : decode cX1_strike 19 = .ok (.bipush (-4), 2) := dk_16 252 (dk_at dksX1_strike_0 19 rfl rfl)
theorem dX1_strike_21 : decode cX1_strike 21 = .ok (.ireturn, 1) := dk_172 (dk_at dksX1_strike_0 21 rfl rfl)
theorem dX1_strike_22 : decode cX1_strike 22 = .ok (.aload_n 0, 1) := dk_42 (dk_at dksX1_strike_0 22 rfl rfl)
theorem dX1_strike_23 : decode cX1_strike 23 = .ok (.getfield 40, 3) := dk_180 0 40 (dk_at dksX1_strike_1 0 rfl rfl)
theorem dX1_strike_26 : decode cX1_strike 26 = .ok (.iload_n 1, 1) := dk_27 (dk_at dksX1_strike_1 3 rfl rfl)
theorem dX1_strike_27 : decode cX1_strike 27 = .ok (.iconst 1, 1) := dk_4 (dk_at dksX1_strike_1 4 rfl rfl)
theorem dX1_strike_28 : decode cX1_strike 28 = .ok (.bastore, 1) := dk_84 (dk_at dksX1_strike_1 5 rfl rfl)
theorem dX1_strike_29 : decode cX1_strike 29 = .ok (.iconst 1, 1) := dk_4 (dk_at dksX1_strike_1 6 rfl rfl)
theorem dX1_strike_30 : decode cX1_strike 30 = .ok (.ireturn, 1) := dk_172 (dk_at dksX1_strike_1 7 rfl rfl)
abbrev cX1_couple : ByteArray := prog_8_method_19_code
def yX1_couple : MethodName := ⟨RX1, "couple", "(IIII)I"⟩
def dkwX1_couple_4 : List UInt8 := [42, 180, 0, 170, 21, 4, 79, 42, 89, 180, 0, 170, 4, 96, 181, 0, 170, 42, 180, 0, 170, 172]
abbrev dktX1_couple_4 : List UInt8 := dkwX1_couple_4 ++ []
def dkwX1_couple_3 : List UInt8 := [42, 180, 0, 47, 42, 180, 0, 170, 28, 79, 42, 180, 0, 50, 42, 180, 0, 170, 29, 79, 42, 180, 0, 53]
abbrev dktX1_couple_3 : List UInt8 := dkwX1_couple_3 ++ dktX1_couple_4
def dkwX1_couple_2 : List UInt8 := [2, 172, 42, 180, 0, 170, 16, 20, 160, 0, 6, 16, 254, 172, 42, 180, 0, 44, 42, 180, 0, 170, 27, 79]
abbrev dktX1_couple_2 : List UInt8 := dkwX1_couple_2 ++ dktX1_couple_3
def dkwX1_couple_1 : List UInt8 := [184, 0, 145, 153, 0, 21, 21, 4, 16, 247, 159, 0, 16, 21, 4, 29, 18, 130, 184, 0, 131, 154, 0, 5]
abbrev dktX1_couple_1 : List UInt8 := dkwX1_couple_1 ++ dktX1_couple_2
def dkwX1_couple_0 : List UInt8 := [42, 27, 182, 0, 153, 153, 0, 41, 42, 28, 182, 0, 153, 153, 0, 33, 27, 28, 159, 0, 28, 29]
abbrev dktX1_couple_0 : List UInt8 := dkwX1_couple_0 ++ dktX1_couple_1
theorem dksX1_couple_0 : cX1_couple.data.toList.drop 0 = dktX1_couple_0 := by decide +kernel
theorem dksX1_couple_1 : cX1_couple.data.toList.drop 22 = dktX1_couple_1 := dk_seg dksX1_couple_0 22 rfl rfl
theorem dksX1_couple_2 : cX1_couple.data.toList.drop 46 = dktX1_couple_2 := dk_seg dksX1_couple_1 24 rfl rfl
theorem dksX1_couple_3 : cX1_couple.data.toList.drop 70 = dktX1_couple_3 := dk_seg dksX1_couple_2 24 rfl rfl
theorem dksX1_couple_4 : cX1_couple.data.toList.drop 94 = dktX1_couple_4 := dk_seg dksX1_couple_3 24 rfl rfl
theorem dX1_couple_0 : decode cX1_couple 0 = .ok (.aload_n 0, 1) := dk_42 (dk_at dksX1_couple_0 0 rfl rfl)
theorem dX1_couple_1 : decode cX1_couple 1 = .ok (.iload_n 1, 1) := dk_27 (dk_at dksX1_couple_0 1 rfl rfl)
theorem dX1_couple_2 : decode cX1_couple 2 = .ok (.invokevirtual 153, 3) := dk_182 0 153 (dk_at dksX1_couple_0 2 rfl rfl)
theorem dX1_couple_5 : decode cX1_couple 5 = .ok (.ifCond .eq 41, 3) := dk_153 0 41 (dk_at dksX1_couple_0 5 rfl rfl)
theorem dX1_couple_8 : decode cX1_couple 8 = .ok (.aload_n 0, 1) := dk_42 (dk_at dksX1_couple_0 8 rfl rfl)
theorem dX1_couple_9 : decode cX1_couple 9 = .ok (.iload_n 2, 1) := dk_28 (dk_at dksX1_couple_0 9 rfl rfl)
theorem dX1_couple_10 : decode cX1_couple 10 = .ok (.invokevirtual 153, 3) := dk_182 0 153 (dk_at dksX1_couple_0 10 rfl rfl)
theorem dX1_couple_13 : decode cX1_couple 13 = .ok (.ifCond .eq 33, 3) := dk_153 0 33 (dk_at dksX1_couple_0 13 rfl rfl)
theorem dX1_couple_16 : decode cX1_couple 16 = .ok (.iload_n 1, 1) := dk_27 (dk_at dksX1_couple_0 16 rfl rfl)
theorem dX1_couple_17 : decode cX1_couple 17 = .ok (.iload_n 2, 1) := dk_28 (dk_at dksX1_couple_0 17 rfl rfl)
theorem dX1_couple_18 : decode cX1_couple 18 = .ok (.if_icmp .eq 28, 3) := dk_159 0 28 (dk_at dksX1_couple_0 18 rfl rfl)
theorem dX1_couple_21 : decode cX1_couple 21 = .ok (.iload_n 3, 1) := dk_29 (dk_at dksX1_couple_0 21 rfl rfl)
theorem dX1_couple_22 : decode cX1_couple 22 = .ok (.invokestatic 145, 3) := dk_184 0 145 (dk_at dksX1_couple_1 0 rfl rfl)
theorem dX1_couple_25 : decode cX1_couple 25 = .ok (.ifCond .eq 21, 3) := dk_153 0 21 (dk_at dksX1_couple_1 3 rfl rfl)
theorem dX1_couple_28 : decode cX1_couple 28 = .ok (.iload 4, 2) := dk_21 4 (dk_at dksX1_couple_1 6 rfl rfl)
theorem dX1_couple_30 : decode cX1_couple 30 = .ok (.bipush (-9), 2) := dk_16 247 (dk_at dksX1_couple_1 8 rfl rfl)
theorem dX1_couple_32 : decode cX1_couple 32 = .ok (.if_icmp .eq 16, 3) := dk_159 0 16 (dk_at dksX1_couple_1 10 rfl rfl)
theorem dX1_couple_35 : decode cX1_couple 35 = .ok (.iload 4, 2) := dk_21 4 (dk_at dksX1_couple_1 13 rfl rfl)
theorem dX1_couple_37 : decode cX1_couple 37 = .ok (.iload_n 3, 1) := dk_29 (dk_at dksX1_couple_1 15 rfl rfl)
theorem dX1_couple_38 : decode cX1_couple 38 = .ok (.ldc 130, 2) := dk_18 130 (dk_at dksX1_couple_1 16 rfl rfl)
theorem dX1_couple_40 : decode cX1_couple 40 = .ok (.invokestatic 131, 3) := dk_184 0 131 (dk_at dksX1_couple_1 18 rfl rfl)
theorem dX1_couple_43 : decode cX1_couple 43 = .ok (.ifCond .ne 5, 3) := dk_154 0 5 (dk_at dksX1_couple_1 21 rfl rfl)
theorem dX1_couple_46 : decode cX1_couple 46 = .ok (.iconst (-1), 1) := dk_2 (dk_at dksX1_couple_2 0 rfl rfl)
theorem dX1_couple_47 : decode cX1_couple 47 = .ok (.ireturn, 1) := dk_172 (dk_at dksX1_couple_2 1 rfl rfl)
theorem dX1_couple_48 : decode cX1_couple 48 = .ok (.aload_n 0, 1) := dk_42 (dk_at dksX1_couple_2 2 rfl rfl)
theorem dX1_couple_49 : decode cX1_couple 49 = .ok (.getfield 170, 3) := dk_180 0 170 (dk_at dksX1_couple_2 3 rfl rfl)
theorem dX1_couple_52 : decode cX1_couple 52 = .ok (.bipush 20, 2) := dk_16 20 (dk_at dksX1_couple_2 6 rfl rfl)
theorem dX1_couple_54 : decode cX1_couple 54 = .ok (.if_icmp .ne 6, 3) := dk_160 0 6 (dk_at dksX1_couple_2 8 rfl rfl)
theorem dX1_couple_57 : decode cX1_couple 57 = .ok (.bipush (-2), 2) := dk_16 254 (dk_at dksX1_couple_2 11 rfl rfl)
theorem dX1_couple_59 : decode cX1_couple 59 = .ok (.ireturn, 1) := dk_172 (dk_at dksX1_couple_2 13 rfl rfl)
theorem dX1_couple_60 : decode cX1_couple 60 = .ok (.aload_n 0, 1) := dk_42 (dk_at dksX1_couple_2 14 rfl rfl)
theorem dX1_couple_61 : decode cX1_couple 61 = .ok (.getfield 44, 3) := dk_180 0 44 (dk_at dksX1_couple_2 15 rfl rfl)
theorem dX1_couple_64 : decode cX1_couple 64 = .ok (.aload_n 0, 1) := dk_42 (dk_at dksX1_couple_2 18 rfl rfl)
theorem dX1_couple_65 : decode cX1_couple 65 = .ok (.getfield 170, 3) := dk_180 0 170 (dk_at dksX1_couple_2 19 rfl rfl)
theorem dX1_couple_68 : decode cX1_couple 68 = .ok (.iload_n 1, 1) := dk_27 (dk_at dksX1_couple_2 22 rfl rfl)
theorem dX1_couple_69 : decode cX1_couple 69 = .ok (.iastore, 1) := dk_79 (dk_at dksX1_couple_2 23 rfl rfl)
theorem dX1_couple_70 : decode cX1_couple 70 = .ok (.aload_n 0, 1) := dk_42 (dk_at dksX1_couple_3 0 rfl rfl)
theorem dX1_couple_71 : decode cX1_couple 71 = .ok (.getfield 47, 3) := dk_180 0 47 (dk_at dksX1_couple_3 1 rfl rfl)
theorem dX1_couple_74 : decode cX1_couple 74 = .ok (.aload_n 0, 1) := dk_42 (dk_at dksX1_couple_3 4 rfl rfl)
theorem dX1_couple_75 : decode cX1_couple 75 = .ok (.getfield 170, 3) := dk_180 0 170 (dk_at dksX1_couple_3 5 rfl rfl)
theorem dX1_couple_78 : decode cX1_couple 78 = .ok (.iload_n 2, 1) := dk_28 (dk_at dksX1_couple_3 8 rfl rfl)
theorem dX1_couple_79 : decode cX1_couple 79 = .ok (.iastore, 1) := dk_79 (dk_at dksX1_couple_3 9 rfl rfl)
theorem dX1_couple_80 : decode cX1_couple 80 = .ok (.aload_n 0, 1) := dk_42 (dk_at dksX1_couple_3 10 rfl rfl)
theorem dX1_couple_81 : decode cX1_couple 81 = .ok (.getfield 50, 3) := dk_180 0 50 (dk_at dksX1_couple_3 11 rfl rfl)
theorem dX1_couple_84 : decode cX1_couple 84 = .ok (.aload_n 0, 1) := dk_42 (dk_at dksX1_couple_3 14 rfl rfl)
theorem dX1_couple_85 : decode cX1_couple 85 = .ok (.getfield 170, 3) := dk_180 0 170 (dk_at dksX1_couple_3 15 rfl rfl)
theorem dX1_couple_88 : decode cX1_couple 88 = .ok (.iload_n 3, 1) := dk_29 (dk_at dksX1_couple_3 18 rfl rfl)
theorem dX1_couple_89 : decode cX1_couple 89 = .ok (.iastore, 1) := dk_79 (dk_at dksX1_couple_3 19 rfl rfl)
theorem dX1_couple_90 : decode cX1_couple 90 = .ok (.aload_n 0, 1) := dk_42 (dk_at dksX1_couple_3 20 rfl rfl)
theorem dX1_couple_91 : decode cX1_couple 91 = .ok (.getfield 53, 3) := dk_180 0 53 (dk_at dksX1_couple_3 21 rfl rfl)
theorem dX1_couple_94 : decode cX1_couple 94 = .ok (.aload_n 0, 1) := dk_42 (dk_at dksX1_couple_4 0 rfl rfl)
theorem dX1_couple_95 : decode cX1_couple 95 = .ok (.getfield 170, 3) := dk_180 0 170 (dk_at dksX1_couple_4 1 rfl rfl)
theorem dX1_couple_98 : decode cX1_couple 98 = .ok (.iload 4, 2) := dk_21 4 (dk_at dksX1_couple_4 4 rfl rfl)
theorem dX1_couple_100 : decode cX1_couple 100 = .ok (.iastore, 1) := dk_79 (dk_at dksX1_couple_4 6 rfl rfl)
theorem dX1_couple_101 : decode cX1_couple 101 = .ok (.aload_n 0, 1) := dk_42 (dk_at dksX1_couple_4 7 rfl rfl)
theorem dX1_couple_102 : decode cX1_couple 102 = .ok (.dup, 1) := dk_89 (dk_at dksX1_couple_4 8 rfl rfl)
theorem dX1_couple_103 : decode cX1_couple 103 = .ok (.getfield 170, 3) := dk_180 0 170 (dk_at dksX1_couple_4 9 rfl rfl)
theorem dX1_couple_106 : decode cX1_couple 106 = .ok (.iconst 1, 1) := dk_4 (dk_at dksX1_couple_4 12 rfl rfl)
theorem dX1_couple_107 : decode cX1_couple 107 = .ok (.iadd, 1) := dk_96 (dk_at dksX1_couple_4 13 rfl rfl)
theorem dX1_couple_108 : decode cX1_couple 108 = .ok (.putfield 170, 3) := dk_181 0 170 (dk_at dksX1_couple_4 14 rfl rfl)
theorem dX1_couple_111 : decode cX1_couple 111 = .ok (.aload_n 0, 1) := dk_42 (dk_at dksX1_couple_4 17 rfl rfl)
theorem dX1_couple_112 : decode cX1_couple 112 = .ok (.getfield 170, 3) := dk_180 0 170 (dk_at dksX1_couple_4 18 rfl rfl)
theorem dX1_couple_115 : decode cX1_couple 115 = .ok (.ireturn, 1) := dk_172 (dk_at dksX1_couple_4 21 rfl rfl)
abbrev cX1_law : ByteArray := prog_8_method_20_code
def yX1_law : MethodName := ⟨RX1, "law", "(IIIIZI)I"⟩
def dkwX1_law_5 : List UInt8 := [180, 0, 173, 21, 6, 79, 42, 89, 180, 0, 173, 4, 96, 181, 0, 173, 42, 180, 0, 173, 4, 100, 172]
abbrev dktX1_law_5 : List UInt8 := dkwX1_law_5 ++ []
def dkwX1_law_4 : List UInt8 := [180, 0, 173, 21, 4, 79, 42, 180, 0, 68, 42, 180, 0, 173, 21, 5, 84, 42, 180, 0, 71, 42]
abbrev dktX1_law_4 : List UInt8 := dkwX1_law_4 ++ dktX1_law_5
def dkwX1_law_3 : List UInt8 := [180, 0, 59, 42, 180, 0, 173, 28, 79, 42, 180, 0, 62, 42, 180, 0, 173, 29, 79, 42, 180, 0, 65, 42]
abbrev dktX1_law_3 : List UInt8 := dkwX1_law_3 ++ dktX1_law_4
def dkwX1_law_2 : List UInt8 := [172, 42, 180, 0, 173, 16, 16, 160, 0, 6, 16, 254, 172, 42, 180, 0, 56, 42, 180, 0, 173, 27, 79, 42]
abbrev dktX1_law_2 : List UInt8 := dkwX1_law_2 ++ dktX1_law_3
def dkwX1_law_1 : List UInt8 := [153, 0, 23, 29, 3, 21, 4, 184, 0, 131, 153, 0, 13, 21, 6, 4, 6, 184, 0, 131, 154, 0, 5, 2]
abbrev dktX1_law_1 : List UInt8 := dkwX1_law_1 ++ dktX1_law_2
def dkwX1_law_0 : List UInt8 := [27, 3, 6, 184, 0, 131, 153, 0, 41, 28, 184, 0, 145, 153, 0, 34, 21, 4, 4, 16, 12, 184, 0, 131]
abbrev dktX1_law_0 : List UInt8 := dkwX1_law_0 ++ dktX1_law_1
theorem dksX1_law_0 : cX1_law.data.toList.drop 0 = dktX1_law_0 := by decide +kernel
theorem dksX1_law_1 : cX1_law.data.toList.drop 24 = dktX1_law_1 := dk_seg dksX1_law_0 24 rfl rfl
theorem dksX1_law_2 : cX1_law.data.toList.drop 48 = dktX1_law_2 := dk_seg dksX1_law_1 24 rfl rfl
theorem dksX1_law_3 : cX1_law.data.toList.drop 72 = dktX1_law_3 := dk_seg dksX1_law_2 24 rfl rfl
theorem dksX1_law_4 : cX1_law.data.toList.drop 96 = dktX1_law_4 := dk_seg dksX1_law_3 24 rfl rfl
theorem dksX1_law_5 : cX1_law.data.toList.drop 118 = dktX1_law_5 := dk_seg dksX1_law_4 22 rfl rfl
theorem dX1_law_0 : decode cX1_law 0 = .ok (.iload_n 1, 1) := dk_27 (dk_at dksX1_law_0 0 rfl rfl)
theorem dX1_law_1 : decode cX1_law 1 = .ok (.iconst 0, 1) := dk_3 (dk_at dksX1_law_0 1 rfl rfl)
theorem dX1_law_2 : decode cX1_law 2 = .ok (.iconst 3, 1) := dk_6 (dk_at dksX1_law_0 2 rfl rfl)
theorem dX1_law_3 : decode cX1_law 3 = .ok (.invokestatic 131, 3) := dk_184 0 131 (dk_at dksX1_law_0 3 rfl rfl)
theorem dX1_law_6 : decode cX1_law 6 = .ok (.ifCond .eq 41, 3) := dk_153 0 41 (dk_at dksX1_law_0 6 rfl rfl)
theorem dX1_law_9 : decode cX1_law 9 = .ok (.iload_n 2, 1) := dk_28 (dk_at dksX1_law_0 9 rfl rfl)
theorem dX1_law_10 : decode cX1_law 10 = .ok (.invokestatic 145, 3) := dk_184 0 145 (dk_at dksX1_law_0 10 rfl rfl)
theorem dX1_law_13 : decode cX1_law 13 = .ok (.ifCond .eq 34, 3) := dk_153 0 34 (dk_at dksX1_law_0 13 rfl rfl)
theorem dX1_law_16 : decode cX1_law 16 = .ok (.iload 4, 2) := dk_21 4 (dk_at dksX1_law_0 16 rfl rfl)
theorem dX1_law_18 : decode cX1_law 18 = .ok (.iconst 1, 1) := dk_4 (dk_at dksX1_law_0 18 rfl rfl)
theorem dX1_law_19 : decode cX1_law 19 = .ok (.bipush 12, 2) := dk_16 12 (dk_at dksX1_law_0 19 rfl rfl)
theorem dX1_law_21 : decode cX1_law 21 = .ok (.invokestatic 131, 3) := dk_184 0 131 (dk_at dksX1_law_0 21 rfl rfl)
theorem dX1_law_24 : decode cX1_law 24 = .ok (.ifCond .eq 23, 3) := dk_153 0 23 (dk_at dksX1_law_1 0 rfl rfl)
theorem dX1_law_27 : decode cX1_law 27 = .ok (.iload_n 3, 1) := dk_29 (dk_at dksX1_law_1 3 rfl rfl)
theorem dX1_law_28 : decode cX1_law 28 = .ok (.iconst 0, 1) := dk_3 (dk_at dksX1_law_1 4 rfl rfl)
theorem dX1_law_29 : decode cX1_law 29 = .ok (.iload 4, 2) := dk_21 4 (dk_at dksX1_law_1 5 rfl rfl)
theorem dX1_law_31 : decode cX1_law 31 = .ok (.invokestatic 131, 3) := dk_184 0 131 (dk_at dksX1_law_1 7 rfl rfl)
theorem dX1_law_34 : decode cX1_law 34 = .ok (.ifCond .eq 13, 3) := dk_153 0 13 (dk_at dksX1_law_1 10 rfl rfl)
theorem dX1_law_37 : decode cX1_law 37 = .ok (.iload 6, 2) := dk_21 6 (dk_at dksX1_law_1 13 rfl rfl)
theorem dX1_law_39 : decode cX1_law 39 = .ok (.iconst 1, 1) := dk_4 (dk_at dksX1_law_1 15 rfl rfl)
theorem dX1_law_40 : decode cX1_law 40 = .ok (.iconst 3, 1) := dk_6 (dk_at dksX1_law_1 16 rfl rfl)
theorem dX1_law_41 : decode cX1_law 41 = .ok (.invokestatic 131, 3) := dk_184 0 131 (dk_at dksX1_law_1 17 rfl rfl)
theorem dX1_law_44 : decode cX1_law 44 = .ok (.ifCond .ne 5, 3) := dk_154 0 5 (dk_at dksX1_law_1 20 rfl rfl)
theorem dX1_law_47 : decode cX1_law 47 = .ok (.iconst (-1), 1) := dk_2 (dk_at dksX1_law_1 23 rfl rfl)
theorem dX1_law_48 : decode cX1_law 48 = .ok (.ireturn, 1) := dk_172 (dk_at dksX1_law_2 0 rfl rfl)
theorem dX1_law_49 : decode cX1_law 49 = .ok (.aload_n 0, 1) := dk_42 (dk_at dksX1_law_2 1 rfl rfl)
theorem dX1_law_50 : decode cX1_law 50 = .ok (.getfield 173, 3) := dk_180 0 173 (dk_at dksX1_law_2 2 rfl rfl)
theorem dX1_law_53 : decode cX1_law 53 = .ok (.bipush 16, 2) := dk_16 16 (dk_at dksX1_law_2 5 rfl rfl)
theorem dX1_law_55 : decode cX1_law 55 = .ok (.if_icmp .ne 6, 3) := dk_160 0 6 (dk_at dksX1_law_2 7 rfl rfl)
theorem dX1_law_58 : decode cX1_law 58 = .ok (.bipush (-2), 2) := dk_16 254 (dk_at dksX1_law_2 10 rfl rfl)
theorem dX1_law_60 : decode cX1_law 60 = .ok (.ireturn, 1) := dk_172 (dk_at dksX1_law_2 12 rfl rfl)
theorem dX1_law_61 : decode cX1_law 61 = .ok (.aload_n 0, 1) := dk_42 (dk_at dksX1_law_2 13 rfl rfl)
theorem dX1_law_62 : decode cX1_law 62 = .ok (.getfield 56, 3) := dk_180 0 56 (dk_at dksX1_law_2 14 rfl rfl)
theorem dX1_law_65 : decode cX1_law 65 = .ok (.aload_n 0, 1) := dk_42 (dk_at dksX1_law_2 17 rfl rfl)
theorem dX1_law_66 : decode cX1_law 66 = .ok (.getfield 173, 3) := dk_180 0 173 (dk_at dksX1_law_2 18 rfl rfl)
theorem dX1_law_69 : decode cX1_law 69 = .ok (.iload_n 1, 1) := dk_27 (dk_at dksX1_law_2 21 rfl rfl)
theorem dX1_law_70 : decode cX1_law 70 = .ok (.iastore, 1) := dk_79 (dk_at dksX1_law_2 22 rfl rfl)
theorem dX1_law_71 : decode cX1_law 71 = .ok (.aload_n 0, 1) := dk_42 (dk_at dksX1_law_2 23 rfl rfl)
theorem dX1_law_72 : decode cX1_law 72 = .ok (.getfield 59, 3) := dk_180 0 59 (dk_at dksX1_law_3 0 rfl rfl)
theorem dX1_law_75 : decode cX1_law 75 = .ok (.aload_n 0, 1) := dk_42 (dk_at dksX1_law_3 3 rfl rfl)
theorem dX1_law_76 : decode cX1_law 76 = .ok (.getfield 173, 3) := dk_180 0 173 (dk_at dksX1_law_3 4 rfl rfl)
theorem dX1_law_79 : decode cX1_law 79 = .ok (.iload_n 2, 1) := dk_28 (dk_at dksX1_law_3 7 rfl rfl)
theorem dX1_law_80 : decode cX1_law 80 = .ok (.iastore, 1) := dk_79 (dk_at dksX1_law_3 8 rfl rfl)
theorem dX1_law_81 : decode cX1_law 81 = .ok (.aload_n 0, 1) := dk_42 (dk_at dksX1_law_3 9 rfl rfl)
theorem dX1_law_82 : decode cX1_law 82 = .ok (.getfield 62, 3) := dk_180 0 62 (dk_at dksX1_law_3 10 rfl rfl)
theorem dX1_law_85 : decode cX1_law 85 = .ok (.aload_n 0, 1) := dk_42 (dk_at dksX1_law_3 13 rfl rfl)
theorem dX1_law_86 : decode cX1_law 86 = .ok (.getfield 173, 3) := dk_180 0 173 (dk_at dksX1_law_3 14 rfl rfl)
theorem dX1_law_89 : decode cX1_law 89 = .ok (.iload_n 3, 1) := dk_29 (dk_at dksX1_law_3 17 rfl rfl)
theorem dX1_law_90 : decode cX1_law 90 = .ok (.iastore, 1) := dk_79 (dk_at dksX1_law_3 18 rfl rfl)
theorem dX1_law_91 : decode cX1_law 91 = .ok (.aload_n 0, 1) := dk_42 (dk_at dksX1_law_3 19 rfl rfl)
theorem dX1_law_92 : decode cX1_law 92 = .ok (.getfield 65, 3) := dk_180 0 65 (dk_at dksX1_law_3 20 rfl rfl)
theorem dX1_law_95 : decode cX1_law 95 = .ok (.aload_n 0, 1) := dk_42 (dk_at dksX1_law_3 23 rfl rfl)
theorem dX1_law_96 : decode cX1_law 96 = .ok (.getfield 173, 3) := dk_180 0 173 (dk_at dksX1_law_4 0 rfl rfl)
theorem dX1_law_99 : decode cX1_law 99 = .ok (.iload 4, 2) := dk_21 4 (dk_at dksX1_law_4 3 rfl rfl)
theorem dX1_law_101 : decode cX1_law 101 = .ok (.iastore, 1) := dk_79 (dk_at dksX1_law_4 5 rfl rfl)
theorem dX1_law_102 : decode cX1_law 102 = .ok (.aload_n 0, 1) := dk_42 (dk_at dksX1_law_4 6 rfl rfl)
theorem dX1_law_103 : decode cX1_law 103 = .ok (.getfield 68, 3) := dk_180 0 68 (dk_at dksX1_law_4 7 rfl rfl)
theorem dX1_law_106 : decode cX1_law 106 = .ok (.aload_n 0, 1) := dk_42 (dk_at dksX1_law_4 10 rfl rfl)
theorem dX1_law_107 : decode cX1_law 107 = .ok (.getfield 173, 3) := dk_180 0 173 (dk_at dksX1_law_4 11 rfl rfl)
theorem dX1_law_110 : decode cX1_law 110 = .ok (.iload 5, 2) := dk_21 5 (dk_at dksX1_law_4 14 rfl rfl)
theorem dX1_law_112 : decode cX1_law 112 = .ok (.bastore, 1) := dk_84 (dk_at dksX1_law_4 16 rfl rfl)
theorem dX1_law_113 : decode cX1_law 113 = .ok (.aload_n 0, 1) := dk_42 (dk_at dksX1_law_4 17 rfl rfl)
theorem dX1_law_114 : decode cX1_law 114 = .ok (.getfield 71, 3) := dk_180 0 71 (dk_at dksX1_law_4 18 rfl rfl)
theorem dX1_law_117 : decode cX1_law 117 = .ok (.aload_n 0, 1) := dk_42 (dk_at dksX1_law_4 21 rfl rfl)
theorem dX1_law_118 : decode cX1_law 118 = .ok (.getfield 173, 3) := dk_180 0 173 (dk_at dksX1_law_5 0 rfl rfl)
theorem dX1_law_121 : decode cX1_law 121 = .ok (.iload 6, 2) := dk_21 6 (dk_at dksX1_law_5 3 rfl rfl)
theorem dX1_law_123 : decode cX1_law 123 = .ok (.iastore, 1) := dk_79 (dk_at dksX1_law_5 5 rfl rfl)
theorem dX1_law_124 : decode cX1_law 124 = .ok (.aload_n 0, 1) := dk_42 (dk_at dksX1_law_5 6 rfl rfl)
theorem dX1_law_125 : decode cX1_law 125 = .ok (.dup, 1) := dk_89 (dk_at dksX1_law_5 7 rfl rfl)
theorem dX1_law_126 : decode cX1_law 126 = .ok (.getfield 173, 3) := dk_180 0 173 (dk_at dksX1_law_5 8 rfl rfl)
theorem dX1_law_129 : decode cX1_law 129 = .ok (.iconst 1, 1) := dk_4 (dk_at dksX1_law_5 11 rfl rfl)
theorem dX1_law_130 : decode cX1_law 130 = .ok (.iadd, 1) := dk_96 (dk_at dksX1_law_5 12 rfl rfl)
theorem dX1_law_131 : decode cX1_law 131 = .ok (.putfield 173, 3) := dk_181 0 173 (dk_at dksX1_law_5 13 rfl rfl)
theorem dX1_law_134 : decode cX1_law 134 = .ok (.aload_n 0, 1) := dk_42 (dk_at dksX1_law_5 16 rfl rfl)
theorem dX1_law_135 : decode cX1_law 135 = .ok (.getfield 173, 3) := dk_180 0 173 (dk_at dksX1_law_5 17 rfl rfl)
theorem dX1_law_138 : decode cX1_law 138 = .ok (.iconst 1, 1) := dk_4 (dk_at dksX1_law_5 20 rfl rfl)
theorem dX1_law_139 : decode cX1_law 139 = .ok (.isub, 1) := dk_100 (dk_at dksX1_law_5 21 rfl rfl)
theorem dX1_law_140 : decode cX1_law 140 = .ok (.ireturn, 1) := dk_172 (dk_at dksX1_law_5 22 rfl rfl)
abbrev cX1_lawOf : ByteArray := prog_8_method_27_code
def yX1_lawOf : MethodName := ⟨RX1, "lawOf", "(I)I"⟩
def dkwX1_lawOf_0 : List UInt8 := [42, 27, 182, 0, 196, 61, 28, 156, 0, 7, 28, 167, 0, 8, 42, 27, 182, 0, 193, 172]
abbrev dktX1_lawOf_0 : List UInt8 := dkwX1_lawOf_0 ++ []
theorem dksX1_lawOf_0 : cX1_lawOf.data.toList.drop 0 = dktX1_lawOf_0 := by decide +kernel
theorem dX1_lawOf_0 : decode cX1_lawOf 0 = .ok (.aload_n 0, 1) := dk_42 (dk_at dksX1_lawOf_0 0 rfl rfl)
theorem dX1_lawOf_1 : decode cX1_lawOf 1 = .ok (.iload_n 1, 1) := dk_27 (dk_at dksX1_lawOf_0 1 rfl rfl)
theorem dX1_lawOf_2 : decode cX1_lawOf 2 = .ok (.invokevirtual 196, 3) := dk_182 0 196 (dk_at dksX1_lawOf_0 2 rfl rfl)
theorem dX1_lawOf_5 : decode cX1_lawOf 5 = .ok (.istore_n 2, 1) := dk_61 (dk_at dksX1_lawOf_0 5 rfl rfl)
theorem dX1_lawOf_6 : decode cX1_lawOf 6 = .ok (.iload_n 2, 1) := dk_28 (dk_at dksX1_lawOf_0 6 rfl rfl)
theorem dX1_lawOf_7 : decode cX1_lawOf 7 = .ok (.ifCond .ge 7, 3) := dk_156 0 7 (dk_at dksX1_lawOf_0 7 rfl rfl)
theorem dX1_lawOf_10 : decode cX1_lawOf 10 = .ok (.iload_n 2, 1) := dk_28 (dk_at dksX1_lawOf_0 10 rfl rfl)
theorem dX1_lawOf_11 : decode cX1_lawOf 11 = .ok (.goto 8, 3) := dk_167 0 8 (dk_at dksX1_lawOf_0 11 rfl rfl)
theorem dX1_lawOf_14 : decode cX1_lawOf 14 = .ok (.aload_n 0, 1) := dk_42 (dk_at dksX1_lawOf_0 14 rfl rfl)
theorem dX1_lawOf_15 : decode cX1_lawOf 15 = .ok (.iload_n 1, 1) := dk_27 (dk_at dksX1_lawOf_0 15 rfl rfl)
theorem dX1_lawOf_16 : decode cX1_lawOf 16 = .ok (.invokevirtual 193, 3) := dk_182 0 193 (dk_at dksX1_lawOf_0 16 rfl rfl)
theorem dX1_lawOf_19 : decode cX1_lawOf 19 = .ok (.ireturn, 1) := dk_172 (dk_at dksX1_lawOf_0 19 rfl rfl)
abbrev cX1_asked : ByteArray := prog_8_method_26_code
def yX1_asked : MethodName := ⟨RX1, "asked", "(I)I"⟩
def dkwX1_asked_1 : List UInt8 := [167, 0, 4, 3, 172]
abbrev dktX1_asked_1 : List UInt8 := dkwX1_asked_1 ++ []
def dkwX1_asked_0 : List UInt8 := [42, 27, 182, 0, 190, 154, 0, 7, 2, 167, 0, 17, 42, 27, 182, 0, 193, 156, 0, 8, 16, 252]
abbrev dktX1_asked_0 : List UInt8 := dkwX1_asked_0 ++ dktX1_asked_1
theorem dksX1_asked_0 : cX1_asked.data.toList.drop 0 = dktX1_asked_0 := by decide +kernel
theorem dksX1_asked_1 : cX1_asked.data.toList.drop 22 = dktX1_asked_1 := dk_seg dksX1_asked_0 22 rfl rfl
theorem dX1_asked_0 : decode cX1_asked 0 = .ok (.aload_n 0, 1) := dk_42 (dk_at dksX1_asked_0 0 rfl rfl)
theorem dX1_asked_1 : decode cX1_asked 1 = .ok (.iload_n 1, 1) := dk_27 (dk_at dksX1_asked_0 1 rfl rfl)
theorem dX1_asked_2 : decode cX1_asked 2 = .ok (.invokevirtual 190, 3) := dk_182 0 190 (dk_at dksX1_asked_0 2 rfl rfl)
theorem dX1_asked_5 : decode cX1_asked 5 = .ok (.ifCond .ne 7, 3) := dk_154 0 7 (dk_at dksX1_asked_0 5 rfl rfl)
theorem dX1_asked_8 : decode cX1_asked 8 = .ok (.iconst (-1), 1) := dk_2 (dk_at dksX1_asked_0 8 rfl rfl)
theorem dX1_asked_9 : decode cX1_asked 9 = .ok (.goto 17, 3) := dk_167 0 17 (dk_at dksX1_asked_0 9 rfl rfl)
theorem dX1_asked_12 : decode cX1_asked 12 = .ok (.aload_n 0, 1) := dk_42 (dk_at dksX1_asked_0 12 rfl rfl)
theorem dX1_asked_13 : decode cX1_asked 13 = .ok (.iload_n 1, 1) := dk_27 (dk_at dksX1_asked_0 13 rfl rfl)
theorem dX1_asked_14 : decode cX1_asked 14 = .ok (.invokevirtual 193, 3) := dk_182 0 193 (dk_at dksX1_asked_0 14 rfl rfl)
theorem dX1_asked_17 : decode cX1_asked 17 = .ok (.ifCond .ge 8, 3) := dk_156 0 8 (dk_at dksX1_asked_0 17 rfl rfl)
theorem dX1_asked_20 : decode cX1_asked 20 = .ok (.bipush (-4), 2) := dk_16 252 (dk_at dksX1_asked_0 20 rfl rfl)
theorem dX1_asked_22 : decode cX1_asked 22 = .ok (.goto 4, 3) := dk_167 0 4 (dk_at dksX1_asked_1 0 rfl rfl)
theorem dX1_asked_25 : decode cX1_asked 25 = .ok (.iconst 0, 1) := dk_3 (dk_at dksX1_asked_1 3 rfl rfl)
theorem dX1_asked_26 : decode cX1_asked 26 = .ok (.ireturn, 1) := dk_172 (dk_at dksX1_asked_1 4 rfl rfl)
abbrev cX1_isDead : ByteArray := prog_8_method_24_code
def yX1_isDead : MethodName := ⟨RX1, "isDead", "(I)Z"⟩
def dkwX1_isDead_1 : List UInt8 := [172]
abbrev dktX1_isDead_1 : List UInt8 := dkwX1_isDead_1 ++ []
def dkwX1_isDead_0 : List UInt8 := [42, 27, 182, 0, 153, 153, 0, 18, 42, 180, 0, 19, 27, 46, 16, 247, 159, 0, 7, 4, 167, 0, 4, 3]
abbrev dktX1_isDead_0 : List UInt8 := dkwX1_isDead_0 ++ dktX1_isDead_1
theorem dksX1_isDead_0 : cX1_isDead.data.toList.drop 0 = dktX1_isDead_0 := by decide +kernel
theorem dksX1_isDead_1 : cX1_isDead.data.toList.drop 24 = dktX1_isDead_1 := dk_seg dksX1_isDead_0 24 rfl rfl
theorem dX1_isDead_0 : decode cX1_isDead 0 = .ok (.aload_n 0, 1) := dk_42 (dk_at dksX1_isDead_0 0 rfl rfl)
theorem dX1_isDead_1 : decode cX1_isDead 1 = .ok (.iload_n 1, 1) := dk_27 (dk_at dksX1_isDead_0 1 rfl rfl)
theorem dX1_isDead_2 : decode cX1_isDead 2 = .ok (.invokevirtual 153, 3) := dk_182 0 153 (dk_at dksX1_isDead_0 2 rfl rfl)
theorem dX1_isDead_5 : decode cX1_isDead 5 = .ok (.ifCond .eq 18, 3) := dk_153 0 18 (dk_at dksX1_isDead_0 5 rfl rfl)
theorem dX1_isDead_8 : decode cX1_isDead 8 = .ok (.aload_n 0, 1) := dk_42 (dk_at dksX1_isDead_0 8 rfl rfl)
theorem dX1_isDead_9 : decode cX1_isDead 9 = .ok (.getfield 19, 3) := dk_180 0 19 (dk_at dksX1_isDead_0 9 rfl rfl)
theorem dX1_isDead_12 : decode cX1_isDead 12 = .ok (.iload_n 1, 1) := dk_27 (dk_at dksX1_isDead_0 12 rfl rfl)
theorem dX1_isDead_13 : decode cX1_isDead 13 = .ok (.iaload, 1) := dk_46 (dk_at dksX1_isDead_0 13 rfl rfl)
theorem dX1_isDead_14 : decode cX1_isDead 14 = .ok (.bipush (-9), 2) := dk_16 247 (dk_at dksX1_isDead_0 14 rfl rfl)
theorem dX1_isDead_16 : decode cX1_isDead 16 = .ok (.if_icmp .eq 7, 3) := dk_159 0 7 (dk_at dksX1_isDead_0 16 rfl rfl)
theorem dX1_isDead_19 : decode cX1_isDead 19 = .ok (.iconst 1, 1) := dk_4 (dk_at dksX1_isDead_0 19 rfl rfl)
theorem dX1_isDead_20 : decode cX1_isDead 20 = .ok (.goto 4, 3) := dk_167 0 4 (dk_at dksX1_isDead_0 20 rfl rfl)
theorem dX1_isDead_23 : decode cX1_isDead 23 = .ok (.iconst 0, 1) := dk_3 (dk_at dksX1_isDead_0 23 rfl rfl)
theorem dX1_isDead_24 : decode cX1_isDead 24 = .ok (.ireturn, 1) := dk_172 (dk_at dksX1_isDead_1 0 rfl rfl)
abbrev cX1_lawFor : ByteArray := prog_8_method_25_code
def yX1_lawFor : MethodName := ⟨RX1, "lawFor", "(I)I"⟩
def dkwX1_lawFor_3 : List UInt8 := [161, 0, 7, 29, 167, 0, 4, 28, 61, 132, 3, 1, 167, 255, 178, 28, 172]
abbrev dktX1_lawFor_3 : List UInt8 := dkwX1_lawFor_3 ++ []
def dkwX1_lawFor_2 : List UInt8 := [54, 4, 21, 4, 153, 0, 26, 28, 155, 0, 18, 42, 180, 0, 59, 29, 46, 42, 180, 0, 59, 28, 46]
abbrev dktX1_lawFor_2 : List UInt8 := dkwX1_lawFor_2 ++ dktX1_lawFor_3
def dkwX1_lawFor_1 : List UInt8 := [46, 160, 0, 22, 42, 180, 0, 59, 29, 46, 42, 180, 0, 19, 27, 46, 163, 0, 7, 4, 167, 0, 4, 3]
abbrev dktX1_lawFor_1 : List UInt8 := dkwX1_lawFor_1 ++ dktX1_lawFor_2
def dkwX1_lawFor_0 : List UInt8 := [16, 247, 61, 3, 62, 29, 42, 180, 0, 173, 162, 0, 76, 42, 180, 0, 56, 29, 46, 42, 180, 0, 13, 27]
abbrev dktX1_lawFor_0 : List UInt8 := dkwX1_lawFor_0 ++ dktX1_lawFor_1
theorem dksX1_lawFor_0 : cX1_lawFor.data.toList.drop 0 = dktX1_lawFor_0 := by decide +kernel
theorem dksX1_lawFor_1 : cX1_lawFor.data.toList.drop 24 = dktX1_lawFor_1 := dk_seg dksX1_lawFor_0 24 rfl rfl
theorem dksX1_lawFor_2 : cX1_lawFor.data.toList.drop 48 = dktX1_lawFor_2 := dk_seg dksX1_lawFor_1 24 rfl rfl
theorem dksX1_lawFor_3 : cX1_lawFor.data.toList.drop 71 = dktX1_lawFor_3 := dk_seg dksX1_lawFor_2 23 rfl rfl
theorem dX1_lawFor_0 : decode cX1_lawFor 0 = .ok (.bipush (-9), 2) := dk_16 247 (dk_at dksX1_lawFor_0 0 rfl rfl)
theorem dX1_lawFor_2 : decode cX1_lawFor 2 = .ok (.istore_n 2, 1) := dk_61 (dk_at dksX1_lawFor_0 2 rfl rfl)
theorem dX1_lawFor_3 : decode cX1_lawFor 3 = .ok (.iconst 0, 1) := dk_3 (dk_at dksX1_lawFor_0 3 rfl rfl)
theorem dX1_lawFor_4 : decode cX1_lawFor 4 = .ok (.istore_n 3, 1) := dk_62 (dk_at dksX1_lawFor_0 4 rfl rfl)
theorem dX1_lawFor_5 : decode cX1_lawFor 5 = .ok (.iload_n 3, 1) := dk_29 (dk_at dksX1_lawFor_0 5 rfl rfl)
theorem dX1_lawFor_6 : decode cX1_lawFor 6 = .ok (.aload_n 0, 1) := dk_42 (dk_at dksX1_lawFor_0 6 rfl rfl)
theorem dX1_lawFor_7 : decode cX1_lawFor 7 = .ok (.getfield 173, 3) := dk_180 0 173 (dk_at dksX1_lawFor_0 7 rfl rfl)
theorem dX1_lawFor_10 : decode cX1_lawFor 10 = .ok (.if_icmp .ge 76, 3) := dk_162 0 76 (dk_at dksX1_lawFor_0 10 rfl rfl)
theorem dX1_lawFor_13 : decode cX1_lawFor 13 = .ok (.aload_n 0, 1) := dk_42 (dk_at dksX1_lawFor_0 13 rfl rfl)
theorem dX1_lawFor_14 : decode cX1_lawFor 14 = .ok (.getfield 56, 3) := dk_180 0 56 (dk_at dksX1_lawFor_0 14 rfl rfl)
theorem dX1_lawFor_17 : decode cX1_lawFor 17 = .ok (.iload_n 3, 1) := dk_29 (dk_at dksX1_lawFor_0 17 rfl rfl)
theorem dX1_lawFor_18 : decode cX1_lawFor 18 = .ok (.iaload, 1) := dk_46 (dk_at dksX1_lawFor_0 18 rfl rfl)
theorem dX1_lawFor_19 : decode cX1_lawFor 19 = .ok (.aload_n 0, 1) := dk_42 (dk_at dksX1_lawFor_0 19 rfl rfl)
theorem dX1_lawFor_20 : decode cX1_lawFor 20 = .ok (.getfield 13, 3) := dk_180 0 13 (dk_at dksX1_lawFor_0 20 rfl rfl)
theorem dX1_lawFor_23 : decode cX1_lawFor 23 = .ok (.iload_n 1, 1) := dk_27 (dk_at dksX1_lawFor_0 23 rfl rfl)
theorem dX1_lawFor_24 : decode cX1_lawFor 24 = .ok (.iaload, 1) := dk_46 (dk_at dksX1_lawFor_1 0 rfl rfl)
theorem dX1_lawFor_25 : decode cX1_lawFor 25 = .ok (.if_icmp .ne 22, 3) := dk_160 0 22 (dk_at dksX1_lawFor_1 1 rfl rfl)
theorem dX1_lawFor_28 : decode cX1_lawFor 28 = .ok (.aload_n 0, 1) := dk_42 (dk_at dksX1_lawFor_1 4 rfl rfl)
theorem dX1_lawFor_29 : decode cX1_lawFor 29 = .ok (.getfield 59, 3) := dk_180 0 59 (dk_at dksX1_lawFor_1 5 rfl rfl)
theorem dX1_lawFor_32 : decode cX1_lawFor 32 = .ok (.iload_n 3, 1) := dk_29 (dk_at dksX1_lawFor_1 8 rfl rfl)
theorem dX1_lawFor_33 : decode cX1_lawFor 33 = .ok (.iaload, 1) := dk_46 (dk_at dksX1_lawFor_1 9 rfl rfl)
theorem dX1_lawFor_34 : decode cX1_lawFor 34 = .ok (.aload_n 0, 1) := dk_42 (dk_at dksX1_lawFor_1 10 rfl rfl)
theorem dX1_lawFor_35 : decode cX1_lawFor 35 = .ok (.getfield 19, 3) := dk_180 0 19 (dk_at dksX1_lawFor_1 11 rfl rfl)
theorem dX1_lawFor_38 : decode cX1_lawFor 38 = .ok (.iload_n 1, 1) := dk_27 (dk_at dksX1_lawFor_1 14 rfl rfl)
theorem dX1_lawFor_39 : decode cX1_lawFor 39 = .ok (.iaload, 1) := dk_46 (dk_at dksX1_lawFor_1 15 rfl rfl)
theorem dX1_lawFor_40 : decode cX1_lawFor 40 = .ok (.if_icmp .gt 7, 3) := dk_163 0 7 (dk_at dksX1_lawFor_1 16 rfl rfl)
theorem dX1_lawFor_43 : decode cX1_lawFor 43 = .ok (.iconst 1, 1) := dk_4 (dk_at dksX1_lawFor_1 19 rfl rfl)
theorem dX1_lawFor_44 : decode cX1_lawFor 44 = .ok (.goto 4, 3) := dk_167 0 4 (dk_at dksX1_lawFor_1 20 rfl rfl)
theorem dX1_lawFor_47 : decode cX1_lawFor 47 = .ok (.iconst 0, 1) := dk_3 (dk_at dksX1_lawFor_1 23 rfl rfl)
theorem dX1_lawFor_48 : decode cX1_lawFor 48 = .ok (.istore 4, 2) := dk_54 4 (dk_at dksX1_lawFor_2 0 rfl rfl)
theorem dX1_lawFor_50 : decode cX1_lawFor 50 = .ok (.iload 4, 2) := dk_21 4 (dk_at dksX1_lawFor_2 2 rfl rfl)
theorem dX1_lawFor_52 : decode cX1_lawFor 52 = .ok (.ifCond .eq 26, 3) := dk_153 0 26 (dk_at dksX1_lawFor_2 4 rfl rfl)
theorem dX1_lawFor_55 : decode cX1_lawFor 55 = .ok (.iload_n 2, 1) := dk_28 (dk_at dksX1_lawFor_2 7 rfl rfl)
theorem dX1_lawFor_56 : decode cX1_lawFor 56 = .ok (.ifCond .lt 18, 3) := dk_155 0 18 (dk_at dksX1_lawFor_2 8 rfl rfl)
theorem dX1_lawFor_59 : decode cX1_lawFor 59 = .ok (.aload_n 0, 1) := dk_42 (dk_at dksX1_lawFor_2 11 rfl rfl)
theorem dX1_lawFor_60 : decode cX1_lawFor 60 = .ok (.getfield 59, 3) := dk_180 0 59 (dk_at dksX1_lawFor_2 12 rfl rfl)
theorem dX1_lawFor_63 : decode cX1_lawFor 63 = .ok (.iload_n 3, 1) := dk_29 (dk_at dksX1_lawFor_2 15 rfl rfl)
theorem dX1_lawFor_64 : decode cX1_lawFor 64 = .ok (.iaload, 1) := dk_46 (dk_at dksX1_lawFor_2 16 rfl rfl)
theorem dX1_lawFor_65 : decode cX1_lawFor 65 = .ok (.aload_n 0, 1) := dk_42 (dk_at dksX1_lawFor_2 17 rfl rfl)
theorem dX1_lawFor_66 : decode cX1_lawFor 66 = .ok (.getfield 59, 3) := dk_180 0 59 (dk_at dksX1_lawFor_2 18 rfl rfl)
theorem dX1_lawFor_69 : decode cX1_lawFor 69 = .ok (.iload_n 2, 1) := dk_28 (dk_at dksX1_lawFor_2 21 rfl rfl)
theorem dX1_lawFor_70 : decode cX1_lawFor 70 = .ok (.iaload, 1) := dk_46 (dk_at dksX1_lawFor_2 22 rfl rfl)
theorem dX1_lawFor_71 : decode cX1_lawFor 71 = .ok (.if_icmp .lt 7, 3) := dk_161 0 7 (dk_at dksX1_lawFor_3 0 rfl rfl)
theorem dX1_lawFor_74 : decode cX1_lawFor 74 = .ok (.iload_n 3, 1) := dk_29 (dk_at dksX1_lawFor_3 3 rfl rfl)
theorem dX1_lawFor_75 : decode cX1_lawFor 75 = .ok (.goto 4, 3) := dk_167 0 4 (dk_at dksX1_lawFor_3 4 rfl rfl)
theorem dX1_lawFor_78 : decode cX1_lawFor 78 = .ok (.iload_n 2, 1) := dk_28 (dk_at dksX1_lawFor_3 7 rfl rfl)
theorem dX1_lawFor_79 : decode cX1_lawFor 79 = .ok (.istore_n 2, 1) := dk_61 (dk_at dksX1_lawFor_3 8 rfl rfl)
theorem dX1_lawFor_80 : decode cX1_lawFor 80 = .ok (.iinc 3 1, 3) := dk_132 3 1 (dk_at dksX1_lawFor_3 9 rfl rfl)
theorem dX1_lawFor_83 : decode cX1_lawFor 83 = .ok (.goto (-78), 3) := dk_167 255 178 (dk_at dksX1_lawFor_3 12 rfl rfl)
theorem dX1_lawFor_86 : decode cX1_lawFor 86 = .ok (.iload_n 2, 1) := dk_28 (dk_at dksX1_lawFor_3 15 rfl rfl)
theorem dX1_lawFor_87 : decode cX1_lawFor 87 = .ok (.ireturn, 1) := dk_172 (dk_at dksX1_lawFor_3 16 rfl rfl)
abbrev cX1_share : ByteArray := prog_8_method_41_code
def yX1_share : MethodName := ⟨RX1, "share", "(IIZ)I"⟩
def dkwX1_share_2 : List UInt8 := [54, 5, 42, 42, 180, 0, 74, 21, 5, 47, 42, 180, 0, 78, 21, 5, 47, 182, 1, 8, 172]
abbrev dktX1_share_2 : List UInt8 := dkwX1_share_2 ++ []
def dkwX1_share_1 : List UInt8 := [172, 42, 182, 1, 2, 42, 27, 29, 3, 182, 1, 5, 28, 16, 247, 160, 0, 8, 16, 24, 167, 0, 4, 28]
abbrev dktX1_share_1 : List UInt8 := dkwX1_share_1 ++ dktX1_share_2
def dkwX1_share_0 : List UInt8 := [42, 28, 182, 0, 255, 154, 0, 5, 2, 172, 42, 27, 182, 0, 196, 54, 4, 21, 4, 156, 0, 6, 21, 4]
abbrev dktX1_share_0 : List UInt8 := dkwX1_share_0 ++ dktX1_share_1
theorem dksX1_share_0 : cX1_share.data.toList.drop 0 = dktX1_share_0 := by decide +kernel
theorem dksX1_share_1 : cX1_share.data.toList.drop 24 = dktX1_share_1 := dk_seg dksX1_share_0 24 rfl rfl
theorem dksX1_share_2 : cX1_share.data.toList.drop 48 = dktX1_share_2 := dk_seg dksX1_share_1 24 rfl rfl
theorem dX1_share_0 : decode cX1_share 0 = .ok (.aload_n 0, 1) := dk_42 (dk_at dksX1_share_0 0 rfl rfl)
theorem dX1_share_1 : decode cX1_share 1 = .ok (.iload_n 2, 1) := dk_28 (dk_at dksX1_share_0 1 rfl rfl)
theorem dX1_share_2 : decode cX1_share 2 = .ok (.invokevirtual 255, 3) := dk_182 0 255 (dk_at dksX1_share_0 2 rfl rfl)
theorem dX1_share_5 : decode cX1_share 5 = .ok (.ifCond .ne 5, 3) := dk_154 0 5 (dk_at dksX1_share_0 5 rfl rfl)
theorem dX1_share_8 : decode cX1_share 8 = .ok (.iconst (-1), 1) := dk_2 (dk_at dksX1_share_0 8 rfl rfl)
theorem dX1_share_9 : decode cX1_share 9 = .ok (.ireturn, 1) := dk_172 (dk_at dksX1_share_0 9 rfl rfl)
theorem dX1_share_10 : decode cX1_share 10 = .ok (.aload_n 0, 1) := dk_42 (dk_at dksX1_share_0 10 rfl rfl)
theorem dX1_share_11 : decode cX1_share 11 = .ok (.iload_n 1, 1) := dk_27 (dk_at dksX1_share_0 11 rfl rfl)
theorem dX1_share_12 : decode cX1_share 12 = .ok (.invokevirtual 196, 3) := dk_182 0 196 (dk_at dksX1_share_0 12 rfl rfl)
theorem dX1_share_15 : decode cX1_share 15 = .ok (.istore 4, 2) := dk_54 4 (dk_at dksX1_share_0 15 rfl rfl)
theorem dX1_share_17 : decode cX1_share 17 = .ok (.iload 4, 2) := dk_21 4 (dk_at dksX1_share_0 17 rfl rfl)
theorem dX1_share_19 : decode cX1_share 19 = .ok (.ifCond .ge 6, 3) := dk_156 0 6 (dk_at dksX1_share_0 19 rfl rfl)
theorem dX1_share_22 : decode cX1_share 22 = .ok (.iload 4, 2) := dk_21 4 (dk_at dksX1_share_0 22 rfl rfl)
theorem dX1_share_24 : decode cX1_share 24 = .ok (.ireturn, 1) := dk_172 (dk_at dksX1_share_1 0 rfl rfl)
theorem dX1_share_25 : decode cX1_share 25 = .ok (.aload_n 0, 1) := dk_42 (dk_at dksX1_share_1 1 rfl rfl)
theorem dX1_share_26 : decode cX1_share 26 = .ok (.invokevirtual 258, 3) := dk_182 1 2 (dk_at dksX1_share_1 2 rfl rfl)
theorem dX1_share_29 : decode cX1_share 29 = .ok (.aload_n 0, 1) := dk_42 (dk_at dksX1_share_1 5 rfl rfl)
theorem dX1_share_30 : decode cX1_share 30 = .ok (.iload_n 1, 1) := dk_27 (dk_at dksX1_share_1 6 rfl rfl)
theorem dX1_share_31 : decode cX1_share 31 = .ok (.iload_n 3, 1) := dk_29 (dk_at dksX1_share_1 7 rfl rfl)
theorem dX1_share_32 : decode cX1_share 32 = .ok (.iconst 0, 1) := dk_3 (dk_at dksX1_share_1 8 rfl rfl)
theorem dX1_share_33 : decode cX1_share 33 = .ok (.invokevirtual 261, 3) := dk_182 1 5 (dk_at dksX1_share_1 9 rfl rfl)
theorem dX1_share_36 : decode cX1_share 36 = .ok (.iload_n 2, 1) := dk_28 (dk_at dksX1_share_1 12 rfl rfl)
theorem dX1_share_37 : decode cX1_share 37 = .ok (.bipush (-9), 2) := dk_16 247 (dk_at dksX1_share_1 13 rfl rfl)
theorem dX1_share_39 : decode cX1_share 39 = .ok (.if_icmp .ne 8, 3) := dk_160 0 8 (dk_at dksX1_share_1 15 rfl rfl)
theorem dX1_share_42 : decode cX1_share 42 = .ok (.bipush 24, 2) := dk_16 24 (dk_at dksX1_share_1 18 rfl rfl)
theorem dX1_share_44 : decode cX1_share 44 = .ok (.goto 4, 3) := dk_167 0 4 (dk_at dksX1_share_1 20 rfl rfl)
theorem dX1_share_47 : decode cX1_share 47 = .ok (.iload_n 2, 1) := dk_28 (dk_at dksX1_share_1 23 rfl rfl)
theorem dX1_share_48 : decode cX1_share 48 = .ok (.istore 5, 2) := dk_54 5 (dk_at dksX1_share_2 0 rfl rfl)
theorem dX1_share_50 : decode cX1_share 50 = .ok (.aload_n 0, 1) := dk_42 (dk_at dksX1_share_2 2 rfl rfl)
theorem dX1_share_51 : decode cX1_share 51 = .ok (.aload_n 0, 1) := dk_42 (dk_at dksX1_share_2 3 rfl rfl)
theorem dX1_share_52 : decode cX1_share 52 = .ok (.getfield 74, 3) := dk_180 0 74 (dk_at dksX1_share_2 4 rfl rfl)
theorem dX1_share_55 : decode cX1_share 55 = .ok (.iload 5, 2) := dk_21 5 (dk_at dksX1_share_2 7 rfl rfl)
theorem dX1_share_57 : decode cX1_share 57 = .ok (.laload, 1) := dk_47 (dk_at dksX1_share_2 9 rfl rfl)
theorem dX1_share_58 : decode cX1_share 58 = .ok (.aload_n 0, 1) := dk_42 (dk_at dksX1_share_2 10 rfl rfl)
theorem dX1_share_59 : decode cX1_share 59 = .ok (.getfield 78, 3) := dk_180 0 78 (dk_at dksX1_share_2 11 rfl rfl)
theorem dX1_share_62 : decode cX1_share 62 = .ok (.iload 5, 2) := dk_21 5 (dk_at dksX1_share_2 14 rfl rfl)
theorem dX1_share_64 : decode cX1_share 64 = .ok (.laload, 1) := dk_47 (dk_at dksX1_share_2 16 rfl rfl)
theorem dX1_share_65 : decode cX1_share 65 = .ok (.invokevirtual 264, 3) := dk_182 1 8 (dk_at dksX1_share_2 17 rfl rfl)
theorem dX1_share_68 : decode cX1_share 68 = .ok (.ireturn, 1) := dk_172 (dk_at dksX1_share_2 20 rfl rfl)
abbrev cX1_isTaker : ByteArray := prog_8_method_40_code
def yX1_isTaker : MethodName := ⟨RX1, "isTaker", "(I)Z"⟩
def dkwX1_isTaker_0 : List UInt8 := [27, 16, 247, 159, 0, 11, 42, 27, 182, 0, 153, 153, 0, 7, 4, 167, 0, 4, 3, 172]
abbrev dktX1_isTaker_0 : List UInt8 := dkwX1_isTaker_0 ++ []
theorem dksX1_isTaker_0 : cX1_isTaker.data.toList.drop 0 = dktX1_isTaker_0 := by decide +kernel
theorem dX1_isTaker_0 : decode cX1_isTaker 0 = .ok (.iload_n 1, 1) := dk_27 (dk_at dksX1_isTaker_0 0 rfl rfl)
theorem dX1_isTaker_1 : decode cX1_isTaker 1 = .ok (.bipush (-9), 2) := dk_16 247 (dk_at dksX1_isTaker_0 1 rfl rfl)
theorem dX1_isTaker_3 : decode cX1_isTaker 3 = .ok (.if_icmp .eq 11, 3) := dk_159 0 11 (dk_at dksX1_isTaker_0 3 rfl rfl)
theorem dX1_isTaker_6 : decode cX1_isTaker 6 = .ok (.aload_n 0, 1) := dk_42 (dk_at dksX1_isTaker_0 6 rfl rfl)
theorem dX1_isTaker_7 : decode cX1_isTaker 7 = .ok (.iload_n 1, 1) := dk_27 (dk_at dksX1_isTaker_0 7 rfl rfl)
theorem dX1_isTaker_8 : decode cX1_isTaker 8 = .ok (.invokevirtual 153, 3) := dk_182 0 153 (dk_at dksX1_isTaker_0 8 rfl rfl)
theorem dX1_isTaker_11 : decode cX1_isTaker 11 = .ok (.ifCond .eq 7, 3) := dk_153 0 7 (dk_at dksX1_isTaker_0 11 rfl rfl)
theorem dX1_isTaker_14 : decode cX1_isTaker 14 = .ok (.iconst 1, 1) := dk_4 (dk_at dksX1_isTaker_0 14 rfl rfl)
theorem dX1_isTaker_15 : decode cX1_isTaker 15 = .ok (.goto 4, 3) := dk_167 0 4 (dk_at dksX1_isTaker_0 15 rfl rfl)
theorem dX1_isTaker_18 : decode cX1_isTaker 18 = .ok (.iconst 0, 1) := dk_3 (dk_at dksX1_isTaker_0 18 rfl rfl)
theorem dX1_isTaker_19 : decode cX1_isTaker 19 = .ok (.ireturn, 1) := dk_172 (dk_at dksX1_isTaker_0 19 rfl rfl)
abbrev cX1_setOpen : ByteArray := prog_8_method_28_code
def yX1_setOpen : MethodName := ⟨RX1, "setOpen", "()V"⟩
def dkwX1_setOpen_2 : List UInt8 := [180, 0, 199, 4, 96, 181, 0, 199, 132, 1, 1, 167, 255, 206, 177]
abbrev dktX1_setOpen_2 : List UInt8 := dkwX1_setOpen_2 ++ []
def dkwX1_setOpen_1 : List UInt8 := [160, 0, 32, 42, 180, 0, 40, 27, 51, 154, 0, 23, 42, 180, 0, 90, 42, 180, 0, 199, 27, 79, 42, 89]
abbrev dktX1_setOpen_1 : List UInt8 := dkwX1_setOpen_1 ++ dktX1_setOpen_2
def dkwX1_setOpen_0 : List UInt8 := [42, 3, 181, 0, 199, 3, 60, 27, 42, 180, 0, 142, 162, 0, 48, 42, 180, 0, 22, 27, 46, 4]
abbrev dktX1_setOpen_0 : List UInt8 := dkwX1_setOpen_0 ++ dktX1_setOpen_1
theorem dksX1_setOpen_0 : cX1_setOpen.data.toList.drop 0 = dktX1_setOpen_0 := by decide +kernel
theorem dksX1_setOpen_1 : cX1_setOpen.data.toList.drop 22 = dktX1_setOpen_1 := dk_seg dksX1_setOpen_0 22 rfl rfl
theorem dksX1_setOpen_2 : cX1_setOpen.data.toList.drop 46 = dktX1_setOpen_2 := dk_seg dksX1_setOpen_1 24 rfl rfl
theorem dX1_setOpen_0 : decode cX1_setOpen 0 = .ok (.aload_n 0, 1) := dk_42 (dk_at dksX1_setOpen_0 0 rfl rfl)
theorem dX1_setOpen_1 : decode cX1_setOpen 1 = .ok (.iconst 0, 1) := dk_3 (dk_at dksX1_setOpen_0 1 rfl rfl)
theorem dX1_setOpen_2 : decode cX1_setOpen 2 = .ok (.putfield 199, 3) := dk_181 0 199 (dk_at dksX1_setOpen_0 2 rfl rfl)
theorem dX1_setOpen_5 : decode cX1_setOpen 5 = .ok (.iconst 0, 1) := dk_3 (dk_at dksX1_setOpen_0 5 rfl rfl)
theorem dX1_setOpen_6 : decode cX1_setOpen 6 = .ok (.istore_n 1, 1) := dk_60 (dk_at dksX1_setOpen_0 6 rfl rfl)
theorem dX1_setOpen_7 : decode cX1_setOpen 7 = .ok (.iload_n 1, 1) := dk_27 (dk_at dksX1_setOpen_0 7 rfl rfl)
theorem dX1_setOpen_8 : decode cX1_setOpen 8 = .ok (.aload_n 0, 1) := dk_42 (dk_at dksX1_setOpen_0 8 rfl rfl)
theorem dX1_setOpen_9 : decode cX1_setOpen 9 = .ok (.getfield 142, 3) := dk_180 0 142 (dk_at dksX1_setOpen_0 9 rfl rfl)
theorem dX1_setOpen_12 : decode cX1_setOpen 12 = .ok (.if_icmp .ge 48, 3) := dk_162 0 48 (dk_at dksX1_setOpen_0 12 rfl rfl)
theorem dX1_setOpen_15 : decode cX1_setOpen 15 = .ok (.aload_n 0, 1) := dk_42 (dk_at dksX1_setOpen_0 15 rfl rfl)
theorem dX1_setOpen_16 : decode cX1_setOpen 16 = .ok (.getfield 22, 3) := dk_180 0 22 (dk_at dksX1_setOpen_0 16 rfl rfl)
theorem dX1_setOpen_19 : decode cX1_setOpen 19 = .ok (.iload_n 1, 1) := dk_27 (dk_at dksX1_setOpen_0 19 rfl rfl)
theorem dX1_setOpen_20 : decode cX1_setOpen 20 = .ok (.iaload, 1) := dk_46 (dk_at dksX1_setOpen_0 20 rfl rfl)
theorem dX1_setOpen_21 : decode cX1_setOpen 21 = .ok (.iconst 1, 1) := dk_4 (dk_at dksX1_setOpen_0 21 rfl rfl)
theorem dX1_setOpen_22 : decode cX1_setOpen 22 = .ok (.if_icmp .ne 32, 3) := dk_160 0 32 (dk_at dksX1_setOpen_1 0 rfl rfl)
theorem dX1_setOpen_25 : decode cX1_setOpen 25 = .ok (.aload_n 0, 1) := dk_42 (dk_at dksX1_setOpen_1 3 rfl rfl)
theorem dX1_setOpen_26 : decode cX1_setOpen 26 = .ok (.getfield 40, 3) := dk_180 0 40 (dk_at dksX1_setOpen_1 4 rfl rfl)
theorem dX1_setOpen_29 : decode cX1_setOpen 29 = .ok (.iload_n 1, 1) := dk_27 (dk_at dksX1_setOpen_1 7 rfl rfl)
theorem dX1_setOpen_30 : decode cX1_setOpen 30 = .ok (.baload, 1) := dk_51 (dk_at dksX1_setOpen_1 8 rfl rfl)
theorem dX1_setOpen_31 : decode cX1_setOpen 31 = .ok (.ifCond .ne 23, 3) := dk_154 0 23 (dk_at dksX1_setOpen_1 9 rfl rfl)
theorem dX1_setOpen_34 : decode cX1_setOpen 34 = .ok (.aload_n 0, 1) := dk_42 (dk_at dksX1_setOpen_1 12 rfl rfl)
theorem dX1_setOpen_35 : decode cX1_setOpen 35 = .ok (.getfield 90, 3) := dk_180 0 90 (dk_at dksX1_setOpen_1 13 rfl rfl)
theorem dX1_setOpen_38 : decode cX1_setOpen 38 = .ok (.aload_n 0, 1) := dk_42 (dk_at dksX1_setOpen_1 16 rfl rfl)
theorem dX1_setOpen_39 : decode cX1_setOpen 39 = .ok (.getfield 199, 3) := dk_180 0 199 (dk_at dksX1_setOpen_1 17 rfl rfl)
theorem dX1_setOpen_42 : decode cX1_setOpen 42 = .ok (.iload_n 1, 1) := dk_27 (dk_at dksX1_setOpen_1 20 rfl rfl)
theorem dX1_setOpen_43 : decode cX1_setOpen 43 = .ok (.iastore, 1) := dk_79 (dk_at dksX1_setOpen_1 21 rfl rfl)
theorem dX1_setOpen_44 : decode cX1_setOpen 44 = .ok (.aload_n 0, 1) := dk_42 (dk_at dksX1_setOpen_1 22 rfl rfl)
theorem dX1_setOpen_45 : decode cX1_setOpen 45 = .ok (.dup, 1) := dk_89 (dk_at dksX1_setOpen_1 23 rfl rfl)
theorem dX1_setOpen_46 : decode cX1_setOpen 46 = .ok (.getfield 199, 3) := dk_180 0 199 (dk_at dksX1_setOpen_2 0 rfl rfl)
theorem dX1_setOpen_49 : decode cX1_setOpen 49 = .ok (.iconst 1, 1) := dk_4 (dk_at dksX1_setOpen_2 3 rfl rfl)
theorem dX1_setOpen_50 : decode cX1_setOpen 50 = .ok (.iadd, 1) := dk_96 (dk_at dksX1_setOpen_2 4 rfl rfl)
theorem dX1_setOpen_51 : decode cX1_setOpen 51 = .ok (.putfield 199, 3) := dk_181 0 199 (dk_at dksX1_setOpen_2 5 rfl rfl)
theorem dX1_setOpen_54 : decode cX1_setOpen 54 = .ok (.iinc 1 1, 3) := dk_132 1 1 (dk_at dksX1_setOpen_2 8 rfl rfl)
theorem dX1_setOpen_57 : decode cX1_setOpen 57 = .ok (.goto (-50), 3) := dk_167 255 206 (dk_at dksX1_setOpen_2 11 rfl rfl)
theorem dX1_setOpen_60 : decode cX1_setOpen 60 = .ok (.return_, 1) := dk_177 (dk_at dksX1_setOpen_2 14 rfl rfl)
abbrev cX1_partAll : ByteArray := prog_8_method_38_code
def yX1_partAll : MethodName := ⟨RX1, "partAll", "(IZI)V"⟩
def dkwX1_partAll_13 : List UInt8 := [180, 0, 225, 133, 105, 182, 0, 222, 132, 9, 1, 167, 255, 215, 42, 182, 0, 249, 177]
abbrev dktX1_partAll_13 : List UInt8 := dkwX1_partAll_13 ++ []
def dkwX1_partAll_12 : List UInt8 := [162, 0, 38, 42, 180, 0, 239, 4, 164, 0, 30, 42, 42, 180, 0, 102, 21, 9, 46, 22, 5, 22, 7, 42]
abbrev dktX1_partAll_12 : List UInt8 := dkwX1_partAll_12 ++ dktX1_partAll_13
def dkwX1_partAll_11 : List UInt8 := [180, 0, 96, 27, 22, 5, 80, 42, 180, 0, 99, 27, 22, 7, 80, 3, 54, 9, 21, 9, 42, 180, 0, 225]
abbrev dktX1_partAll_11 : List UInt8 := dkwX1_partAll_11 ++ dktX1_partAll_12
def dkwX1_partAll_10 : List UInt8 := [55, 5, 42, 180, 0, 65, 42, 180, 0, 208, 46, 133, 55, 7, 42, 180, 0, 239, 4, 160, 0, 19, 42]
abbrev dktX1_partAll_10 : List UInt8 := dkwX1_partAll_10 ++ dktX1_partAll_11
def dkwX1_partAll_9 : List UInt8 := [182, 0, 214, 42, 180, 0, 65, 42, 180, 0, 208, 46, 42, 180, 0, 62, 42, 180, 0, 208, 46, 100, 133]
abbrev dktX1_partAll_9 : List UInt8 := dkwX1_partAll_9 ++ dktX1_partAll_10
def dkwX1_partAll_8 : List UInt8 := [21, 4, 42, 180, 0, 62, 42, 180, 0, 208, 46, 133, 42, 180, 0, 65, 42, 180, 0, 208, 46, 133]
abbrev dktX1_partAll_8 : List UInt8 := dkwX1_partAll_8 ++ dktX1_partAll_9
def dkwX1_partAll_7 : List UInt8 := [167, 0, 5, 21, 4, 10, 10, 182, 0, 214, 177, 10, 55, 5, 10, 55, 7, 21, 4, 155, 0, 63, 42]
abbrev dktX1_partAll_7 : List UInt8 := dkwX1_partAll_7 ++ dktX1_partAll_8
def dkwX1_partAll_6 : List UInt8 := [167, 255, 209, 42, 182, 0, 245, 54, 4, 42, 180, 0, 239, 154, 0, 22, 42, 21, 4, 156, 0, 8, 16, 24]
abbrev dktX1_partAll_6 : List UInt8 := dkwX1_partAll_6 ++ dktX1_partAll_7
def dkwX1_partAll_5 : List UInt8 := [182, 0, 242, 42, 42, 180, 0, 225, 158, 0, 8, 21, 4, 167, 0, 4, 3, 181, 0, 239, 132, 4, 1]
abbrev dktX1_partAll_5 : List UInt8 := dkwX1_partAll_5 ++ dktX1_partAll_6
def dkwX1_partAll_4 : List UInt8 := [21, 4, 42, 180, 0, 71, 42, 180, 0, 208, 46, 163, 0, 39, 42, 180, 0, 239, 154, 0, 32, 42, 21, 4]
abbrev dktX1_partAll_4 : List UInt8 := dkwX1_partAll_4 ++ dktX1_partAll_5
def dkwX1_partAll_3 : List UInt8 := [167, 255, 230, 42, 42, 180, 0, 87, 27, 51, 153, 0, 7, 4, 167, 0, 4, 3, 181, 0, 239, 5, 54, 4]
abbrev dktX1_partAll_3 : List UInt8 := dkwX1_partAll_3 ++ dktX1_partAll_4
def dkwX1_partAll_2 : List UInt8 := [162, 0, 25, 42, 180, 0, 96, 21, 4, 9, 80, 42, 180, 0, 99, 21, 4, 10, 80, 132, 4, 1]
abbrev dktX1_partAll_2 : List UInt8 := dkwX1_partAll_2 ++ dktX1_partAll_3
def dkwX1_partAll_1 : List UInt8 := [80, 42, 180, 0, 78, 21, 4, 10, 80, 132, 4, 1, 167, 255, 230, 3, 54, 4, 21, 4, 16, 24]
abbrev dktX1_partAll_1 : List UInt8 := dkwX1_partAll_1 ++ dktX1_partAll_2
def dkwX1_partAll_0 : List UInt8 := [42, 27, 28, 29, 182, 0, 235, 3, 54, 4, 21, 4, 16, 24, 163, 0, 25, 42, 180, 0, 74, 21, 4, 9]
abbrev dktX1_partAll_0 : List UInt8 := dkwX1_partAll_0 ++ dktX1_partAll_1
theorem dksX1_partAll_0 : cX1_partAll.data.toList.drop 0 = dktX1_partAll_0 := by decide +kernel
theorem dksX1_partAll_1 : cX1_partAll.data.toList.drop 24 = dktX1_partAll_1 := dk_seg dksX1_partAll_0 24 rfl rfl
theorem dksX1_partAll_2 : cX1_partAll.data.toList.drop 46 = dktX1_partAll_2 := dk_seg dksX1_partAll_1 22 rfl rfl
theorem dksX1_partAll_3 : cX1_partAll.data.toList.drop 68 = dktX1_partAll_3 := dk_seg dksX1_partAll_2 22 rfl rfl
theorem dksX1_partAll_4 : cX1_partAll.data.toList.drop 92 = dktX1_partAll_4 := dk_seg dksX1_partAll_3 24 rfl rfl
theorem dksX1_partAll_5 : cX1_partAll.data.toList.drop 116 = dktX1_partAll_5 := dk_seg dksX1_partAll_4 24 rfl rfl
theorem dksX1_partAll_6 : cX1_partAll.data.toList.drop 139 = dktX1_partAll_6 := dk_seg dksX1_partAll_5 23 rfl rfl
theorem dksX1_partAll_7 : cX1_partAll.data.toList.drop 163 = dktX1_partAll_7 := dk_seg dksX1_partAll_6 24 rfl rfl
theorem dksX1_partAll_8 : cX1_partAll.data.toList.drop 186 = dktX1_partAll_8 := dk_seg dksX1_partAll_7 23 rfl rfl
theorem dksX1_partAll_9 : cX1_partAll.data.toList.drop 208 = dktX1_partAll_9 := dk_seg dksX1_partAll_8 22 rfl rfl
theorem dksX1_partAll_10 : cX1_partAll.data.toList.drop 231 = dktX1_partAll_10 := dk_seg dksX1_partAll_9 23 rfl rfl
theorem dksX1_partAll_11 : cX1_partAll.data.toList.drop 254 = dktX1_partAll_11 := dk_seg dksX1_partAll_10 23 rfl rfl
theorem dksX1_partAll_12 : cX1_partAll.data.toList.drop 278 = dktX1_partAll_12 := dk_seg dksX1_partAll_11 24 rfl rfl
theorem dksX1_partAll_13 : cX1_partAll.data.toList.drop 302 = dktX1_partAll_13 := dk_seg dksX1_partAll_12 24 rfl rfl
theorem dX1_partAll_0 : decode cX1_partAll 0 = .ok (.aload_n 0, 1) := dk_42 (dk_at dksX1_partAll_0 0 rfl rfl)
theorem dX1_partAll_1 : decode cX1_partAll 1 = .ok (.iload_n 1, 1) := dk_27 (dk_at dksX1_partAll_0 1 rfl rfl)
theorem dX1_partAll_2 : decode cX1_partAll 2 = .ok (.iload_n 2, 1) := dk_28 (dk_at dksX1_partAll_0 2 rfl rfl)
theorem dX1_partAll_3 : decode cX1_partAll 3 = .ok (.iload_n 3, 1) := dk_29 (dk_at dksX1_partAll_0 3 rfl rfl)
theorem dX1_partAll_4 : decode cX1_partAll 4 = .ok (.invokevirtual 235, 3) := dk_182 0 235 (dk_at dksX1_partAll_0 4 rfl rfl)
theorem dX1_partAll_7 : decode cX1_partAll 7 = .ok (.iconst 0, 1) := dk_3 (dk_at dksX1_partAll_0 7 rfl rfl)
theorem dX1_partAll_8 : decode cX1_partAll 8 = .ok (.istore 4, 2) := dk_54 4 (dk_at dksX1_partAll_0 8 rfl rfl)
theorem dX1_partAll_10 : decode cX1_partAll 10 = .ok (.iload 4, 2) := dk_21 4 (dk_at dksX1_partAll_0 10 rfl rfl)
theorem dX1_partAll_12 : decode cX1_partAll 12 = .ok (.bipush 24, 2) := dk_16 24 (dk_at dksX1_partAll_0 12 rfl rfl)
theorem dX1_partAll_14 : decode cX1_partAll 14 = .ok (.if_icmp .gt 25, 3) := dk_163 0 25 (dk_at dksX1_partAll_0 14 rfl rfl)
theorem dX1_partAll_17 : decode cX1_partAll 17 = .ok (.aload_n 0, 1) := dk_42 (dk_at dksX1_partAll_0 17 rfl rfl)
theorem dX1_partAll_18 : decode cX1_partAll 18 = .ok (.getfield 74, 3) := dk_180 0 74 (dk_at dksX1_partAll_0 18 rfl rfl)
theorem dX1_partAll_21 : decode cX1_partAll 21 = .ok (.iload 4, 2) := dk_21 4 (dk_at dksX1_partAll_0 21 rfl rfl)
theorem dX1_partAll_23 : decode cX1_partAll 23 = .ok (.lconst 0, 1) := dk_9 (dk_at dksX1_partAll_0 23 rfl rfl)
theorem dX1_partAll_24 : decode cX1_partAll 24 = .ok (.lastore, 1) := dk_80 (dk_at dksX1_partAll_1 0 rfl rfl)
theorem dX1_partAll_25 : decode cX1_partAll 25 = .ok (.aload_n 0, 1) := dk_42 (dk_at dksX1_partAll_1 1 rfl rfl)
theorem dX1_partAll_26 : decode cX1_partAll 26 = .ok (.getfield 78, 3) := dk_180 0 78 (dk_at dksX1_partAll_1 2 rfl rfl)
theorem dX1_partAll_29 : decode cX1_partAll 29 = .ok (.iload 4, 2) := dk_21 4 (dk_at dksX1_partAll_1 5 rfl rfl)
theorem dX1_partAll_31 : decode cX1_partAll 31 = .ok (.lconst 1, 1) := dk_10 (dk_at dksX1_partAll_1 7 rfl rfl)
theorem dX1_partAll_32 : decode cX1_partAll 32 = .ok (.lastore, 1) := dk_80 (dk_at dksX1_partAll_1 8 rfl rfl)
theorem dX1_partAll_33 : decode cX1_partAll 33 = .ok (.iinc 4 1, 3) := dk_132 4 1 (dk_at dksX1_partAll_1 9 rfl rfl)
theorem dX1_partAll_36 : decode cX1_partAll 36 = .ok (.goto (-26), 3) := dk_167 255 230 (dk_at dksX1_partAll_1 12 rfl rfl)
theorem dX1_partAll_39 : decode cX1_partAll 39 = .ok (.iconst 0, 1) := dk_3 (dk_at dksX1_partAll_1 15 rfl rfl)
theorem dX1_partAll_40 : decode cX1_partAll 40 = .ok (.istore 4, 2) := dk_54 4 (dk_at dksX1_partAll_1 16 rfl rfl)
theorem dX1_partAll_42 : decode cX1_partAll 42 = .ok (.iload 4, 2) := dk_21 4 (dk_at dksX1_partAll_1 18 rfl rfl)
theorem dX1_partAll_44 : decode cX1_partAll 44 = .ok (.bipush 24, 2) := dk_16 24 (dk_at dksX1_partAll_1 20 rfl rfl)
theorem dX1_partAll_46 : decode cX1_partAll 46 = .ok (.if_icmp .ge 25, 3) := dk_162 0 25 (dk_at dksX1_partAll_2 0 rfl rfl)
theorem dX1_partAll_49 : decode cX1_partAll 49 = .ok (.aload_n 0, 1) := dk_42 (dk_at dksX1_partAll_2 3 rfl rfl)
theorem dX1_partAll_50 : decode cX1_partAll 50 = .ok (.getfield 96, 3) := dk_180 0 96 (dk_at dksX1_partAll_2 4 rfl rfl)
theorem dX1_partAll_53 : decode cX1_partAll 53 = .ok (.iload 4, 2) := dk_21 4 (dk_at dksX1_partAll_2 7 rfl rfl)
theorem dX1_partAll_55 : decode cX1_partAll 55 = .ok (.lconst 0, 1) := dk_9 (dk_at dksX1_partAll_2 9 rfl rfl)
theorem dX1_partAll_56 : decode cX1_partAll 56 = .ok (.lastore, 1) := dk_80 (dk_at dksX1_partAll_2 10 rfl rfl)
theorem dX1_partAll_57 : decode cX1_partAll 57 = .ok (.aload_n 0, 1) := dk_42 (dk_at dksX1_partAll_2 11 rfl rfl)
theorem dX1_partAll_58 : decode cX1_partAll 58 = .ok (.getfield 99, 3) := dk_180 0 99 (dk_at dksX1_partAll_2 12 rfl rfl)
theorem dX1_partAll_61 : decode cX1_partAll 61 = .ok (.iload 4, 2) := dk_21 4 (dk_at dksX1_partAll_2 15 rfl rfl)
theorem dX1_partAll_63 : decode cX1_partAll 63 = .ok (.lconst 1, 1) := dk_10 (dk_at dksX1_partAll_2 17 rfl rfl)
theorem dX1_partAll_64 : decode cX1_partAll 64 = .ok (.lastore, 1) := dk_80 (dk_at dksX1_partAll_2 18 rfl rfl)
theorem dX1_partAll_65 : decode cX1_partAll 65 = .ok (.iinc 4 1, 3) := dk_132 4 1 (dk_at dksX1_partAll_2 19 rfl rfl)
theorem dX1_partAll_68 : decode cX1_partAll 68 = .ok (.goto (-26), 3) := dk_167 255 230 (dk_at dksX1_partAll_3 0 rfl rfl)
theorem dX1_partAll_71 : decode cX1_partAll 71 = .ok (.aload_n 0, 1) := dk_42 (dk_at dksX1_partAll_3 3 rfl rfl)
theorem dX1_partAll_72 : decode cX1_partAll 72 = .ok (.aload_n 0, 1) := dk_42 (dk_at dksX1_partAll_3 4 rfl rfl)
theorem dX1_partAll_73 : decode cX1_partAll 73 = .ok (.getfield 87, 3) := dk_180 0 87 (dk_at dksX1_partAll_3 5 rfl rfl)
theorem dX1_partAll_76 : decode cX1_partAll 76 = .ok (.iload_n 1, 1) := dk_27 (dk_at dksX1_partAll_3 8 rfl rfl)
theorem dX1_partAll_77 : decode cX1_partAll 77 = .ok (.baload, 1) := dk_51 (dk_at dksX1_partAll_3 9 rfl rfl)
theorem dX1_partAll_78 : decode cX1_partAll 78 = .ok (.ifCond .eq 7, 3) := dk_153 0 7 (dk_at dksX1_partAll_3 10 rfl rfl)
theorem dX1_partAll_81 : decode cX1_partAll 81 = .ok (.iconst 1, 1) := dk_4 (dk_at dksX1_partAll_3 13 rfl rfl)
theorem dX1_partAll_82 : decode cX1_partAll 82 = .ok (.goto 4, 3) := dk_167 0 4 (dk_at dksX1_partAll_3 14 rfl rfl)
theorem dX1_partAll_85 : decode cX1_partAll 85 = .ok (.iconst 0, 1) := dk_3 (dk_at dksX1_partAll_3 17 rfl rfl)
theorem dX1_partAll_86 : decode cX1_partAll 86 = .ok (.putfield 239, 3) := dk_181 0 239 (dk_at dksX1_partAll_3 18 rfl rfl)
theorem dX1_partAll_89 : decode cX1_partAll 89 = .ok (.iconst 2, 1) := dk_5 (dk_at dksX1_partAll_3 21 rfl rfl)
theorem dX1_partAll_90 : decode cX1_partAll 90 = .ok (.istore 4, 2) := dk_54 4 (dk_at dksX1_partAll_3 22 rfl rfl)
theorem dX1_partAll_92 : decode cX1_partAll 92 = .ok (.iload 4, 2) := dk_21 4 (dk_at dksX1_partAll_4 0 rfl rfl)
theorem dX1_partAll_94 : decode cX1_partAll 94 = .ok (.aload_n 0, 1) := dk_42 (dk_at dksX1_partAll_4 2 rfl rfl)
theorem dX1_partAll_95 : decode cX1_partAll 95 = .ok (.getfield 71, 3) := dk_180 0 71 (dk_at dksX1_partAll_4 3 rfl rfl)
theorem dX1_partAll_98 : decode cX1_partAll 98 = .ok (.aload_n 0, 1) := dk_42 (dk_at dksX1_partAll_4 6 rfl rfl)
theorem dX1_partAll_99 : decode cX1_partAll 99 = .ok (.getfield 208, 3) := dk_180 0 208 (dk_at dksX1_partAll_4 7 rfl rfl)
theorem dX1_partAll_102 : decode cX1_partAll 102 = .ok (.iaload, 1) := dk_46 (dk_at dksX1_partAll_4 10 rfl rfl)
theorem dX1_partAll_103 : decode cX1_partAll 103 = .ok (.if_icmp .gt 39, 3) := dk_163 0 39 (dk_at dksX1_partAll_4 11 rfl rfl)
theorem dX1_partAll_106 : decode cX1_partAll 106 = .ok (.aload_n 0, 1) := dk_42 (dk_at dksX1_partAll_4 14 rfl rfl)
theorem dX1_partAll_107 : decode cX1_partAll 107 = .ok (.getfield 239, 3) := dk_180 0 239 (dk_at dksX1_partAll_4 15 rfl rfl)
theorem dX1_partAll_110 : decode cX1_partAll 110 = .ok (.ifCond .ne 32, 3) := dk_154 0 32 (dk_at dksX1_partAll_4 18 rfl rfl)
theorem dX1_partAll_113 : decode cX1_partAll 113 = .ok (.aload_n 0, 1) := dk_42 (dk_at dksX1_partAll_4 21 rfl rfl)
theorem dX1_partAll_114 : decode cX1_partAll 114 = .ok (.iload 4, 2) := dk_21 4 (dk_at dksX1_partAll_4 22 rfl rfl)
theorem dX1_partAll_116 : decode cX1_partAll 116 = .ok (.invokevirtual 242, 3) := dk_182 0 242 (dk_at dksX1_partAll_5 0 rfl rfl)
theorem dX1_partAll_119 : decode cX1_partAll 119 = .ok (.aload_n 0, 1) := dk_42 (dk_at dksX1_partAll_5 3 rfl rfl)
theorem dX1_partAll_120 : decode cX1_partAll 120 = .ok (.aload_n 0, 1) := dk_42 (dk_at dksX1_partAll_5 4 rfl rfl)
theorem dX1_partAll_121 : decode cX1_partAll 121 = .ok (.getfield 225, 3) := dk_180 0 225 (dk_at dksX1_partAll_5 5 rfl rfl)
theorem dX1_partAll_124 : decode cX1_partAll 124 = .ok (.ifCond .le 8, 3) := dk_158 0 8 (dk_at dksX1_partAll_5 8 rfl rfl)
theorem dX1_partAll_127 : decode cX1_partAll 127 = .ok (.iload 4, 2) := dk_21 4 (dk_at dksX1_partAll_5 11 rfl rfl)
theorem dX1_partAll_129 : decode cX1_partAll 129 = .ok (.goto 4, 3) := dk_167 0 4 (dk_at dksX1_partAll_5 13 rfl rfl)
theorem dX1_partAll_132 : decode cX1_partAll 132 = .ok (.iconst 0, 1) := dk_3 (dk_at dksX1_partAll_5 16 rfl rfl)
theorem dX1_partAll_133 : decode cX1_partAll 133 = .ok (.putfield 239, 3) := dk_181 0 239 (dk_at dksX1_partAll_5 17 rfl rfl)
theorem dX1_partAll_136 : decode cX1_partAll 136 = .ok (.iinc 4 1, 3) := dk_132 4 1 (dk_at dksX1_partAll_5 20 rfl rfl)
theorem dX1_partAll_139 : decode cX1_partAll 139 = .ok (.goto (-47), 3) := dk_167 255 209 (dk_at dksX1_partAll_6 0 rfl rfl)
theorem dX1_partAll_142 : decode cX1_partAll 142 = .ok (.aload_n 0, 1) := dk_42 (dk_at dksX1_partAll_6 3 rfl rfl)
theorem dX1_partAll_143 : decode cX1_partAll 143 = .ok (.invokevirtual 245, 3) := dk_182 0 245 (dk_at dksX1_partAll_6 4 rfl rfl)
theorem dX1_partAll_146 : decode cX1_partAll 146 = .ok (.istore 4, 2) := dk_54 4 (dk_at dksX1_partAll_6 7 rfl rfl)
theorem dX1_partAll_148 : decode cX1_partAll 148 = .ok (.aload_n 0, 1) := dk_42 (dk_at dksX1_partAll_6 9 rfl rfl)
theorem dX1_partAll_149 : decode cX1_partAll 149 = .ok (.getfield 239, 3) := dk_180 0 239 (dk_at dksX1_partAll_6 10 rfl rfl)
theorem dX1_partAll_152 : decode cX1_partAll 152 = .ok (.ifCond .ne 22, 3) := dk_154 0 22 (dk_at dksX1_partAll_6 13 rfl rfl)
theorem dX1_partAll_155 : decode cX1_partAll 155 = .ok (.aload_n 0, 1) := dk_42 (dk_at dksX1_partAll_6 16 rfl rfl)
theorem dX1_partAll_156 : decode cX1_partAll 156 = .ok (.iload 4, 2) := dk_21 4 (dk_at dksX1_partAll_6 17 rfl rfl)
theorem dX1_partAll_158 : decode cX1_partAll 158 = .ok (.ifCond .ge 8, 3) := dk_156 0 8 (dk_at dksX1_partAll_6 19 rfl rfl)
theorem dX1_partAll_161 : decode cX1_partAll 161 = .ok (.bipush 24, 2) := dk_16 24 (dk_at dksX1_partAll_6 22 rfl rfl)
theorem dX1_partAll_163 : decode cX1_partAll 163 = .ok (.goto 5, 3) := dk_167 0 5 (dk_at dksX1_partAll_7 0 rfl rfl)
theorem dX1_partAll_166 : decode cX1_partAll 166 = .ok (.iload 4, 2) := dk_21 4 (dk_at dksX1_partAll_7 3 rfl rfl)
theorem dX1_partAll_168 : decode cX1_partAll 168 = .ok (.lconst 1, 1) := dk_10 (dk_at dksX1_partAll_7 5 rfl rfl)
theorem dX1_partAll_169 : decode cX1_partAll 169 = .ok (.lconst 1, 1) := dk_10 (dk_at dksX1_partAll_7 6 rfl rfl)
theorem dX1_partAll_170 : decode cX1_partAll 170 = .ok (.invokevirtual 214, 3) := dk_182 0 214 (dk_at dksX1_partAll_7 7 rfl rfl)
theorem dX1_partAll_173 : decode cX1_partAll 173 = .ok (.return_, 1) := dk_177 (dk_at dksX1_partAll_7 10 rfl rfl)
theorem dX1_partAll_174 : decode cX1_partAll 174 = .ok (.lconst 1, 1) := dk_10 (dk_at dksX1_partAll_7 11 rfl rfl)
theorem dX1_partAll_175 : decode cX1_partAll 175 = .ok (.lstore 5, 2) := dk_55 5 (dk_at dksX1_partAll_7 12 rfl rfl)
theorem dX1_partAll_177 : decode cX1_partAll 177 = .ok (.lconst 1, 1) := dk_10 (dk_at dksX1_partAll_7 14 rfl rfl)
theorem dX1_partAll_178 : decode cX1_partAll 178 = .ok (.lstore 7, 2) := dk_55 7 (dk_at dksX1_partAll_7 15 rfl rfl)
theorem dX1_partAll_180 : decode cX1_partAll 180 = .ok (.iload 4, 2) := dk_21 4 (dk_at dksX1_partAll_7 17 rfl rfl)
theorem dX1_partAll_182 : decode cX1_partAll 182 = .ok (.ifCond .lt 63, 3) := dk_155 0 63 (dk_at dksX1_partAll_7 19 rfl rfl)
theorem dX1_partAll_185 : decode cX1_partAll 185 = .ok (.aload_n 0, 1) := dk_42 (dk_at dksX1_partAll_7 22 rfl rfl)
theorem dX1_partAll_186 : decode cX1_partAll 186 = .ok (.iload 4, 2) := dk_21 4 (dk_at dksX1_partAll_8 0 rfl rfl)
theorem dX1_partAll_188 : decode cX1_partAll 188 = .ok (.aload_n 0, 1) := dk_42 (dk_at dksX1_partAll_8 2 rfl rfl)
theorem dX1_partAll_189 : decode cX1_partAll 189 = .ok (.getfield 62, 3) := dk_180 0 62 (dk_at dksX1_partAll_8 3 rfl rfl)
theorem dX1_partAll_192 : decode cX1_partAll 192 = .ok (.aload_n 0, 1) := dk_42 (dk_at dksX1_partAll_8 6 rfl rfl)
theorem dX1_partAll_193 : decode cX1_partAll 193 = .ok (.getfield 208, 3) := dk_180 0 208 (dk_at dksX1_partAll_8 7 rfl rfl)
theorem dX1_partAll_196 : decode cX1_partAll 196 = .ok (.iaload, 1) := dk_46 (dk_at dksX1_partAll_8 10 rfl rfl)
theorem dX1_partAll_197 : decode cX1_partAll 197 = .ok (.i2l, 1) := dk_133 (dk_at dksX1_partAll_8 11 rfl rfl)
theorem dX1_partAll_198 : decode cX1_partAll 198 = .ok (.aload_n 0, 1) := dk_42 (dk_at dksX1_partAll_8 12 rfl rfl)
theorem dX1_partAll_199 : decode cX1_partAll 199 = .ok (.getfield 65, 3) := dk_180 0 65 (dk_at dksX1_partAll_8 13 rfl rfl)
theorem dX1_partAll_202 : decode cX1_partAll 202 = .ok (.aload_n 0, 1) := dk_42 (dk_at dksX1_partAll_8 16 rfl rfl)
theorem dX1_partAll_203 : decode cX1_partAll 203 = .ok (.getfield 208, 3) := dk_180 0 208 (dk_at dksX1_partAll_8 17 rfl rfl)
theorem dX1_partAll_206 : decode cX1_partAll 206 = .ok (.iaload, 1) := dk_46 (dk_at dksX1_partAll_8 20 rfl rfl)
theorem dX1_partAll_207 : decode cX1_partAll 207 = .ok (.i2l, 1) := dk_133 (dk_at dksX1_partAll_8 21 rfl rfl)
theorem dX1_partAll_208 : decode cX1_partAll 208 = .ok (.invokevirtual 214, 3) := dk_182 0 214 (dk_at dksX1_partAll_9 0 rfl rfl)
theorem dX1_partAll_211 : decode cX1_partAll 211 = .ok (.aload_n 0, 1) := dk_42 (dk_at dksX1_partAll_9 3 rfl rfl)
theorem dX1_partAll_212 : decode cX1_partAll 212 = .ok (.getfield 65, 3) := dk_180 0 65 (dk_at dksX1_partAll_9 4 rfl rfl)
theorem dX1_partAll_215 : decode cX1_partAll 215 = .ok (.aload_n 0, 1) := dk_42 (dk_at dksX1_partAll_9 7 rfl rfl)
theorem dX1_partAll_216 : decode cX1_partAll 216 = .ok (.getfield 208, 3) := dk_180 0 208 (dk_at dksX1_partAll_9 8 rfl rfl)
theorem dX1_partAll_219 : decode cX1_partAll 219 = .ok (.iaload, 1) := dk_46 (dk_at dksX1_partAll_9 11 rfl rfl)
theorem dX1_partAll_220 : decode cX1_partAll 220 = .ok (.aload_n 0, 1) := dk_42 (dk_at dksX1_partAll_9 12 rfl rfl)
theorem dX1_partAll_221 : decode cX1_partAll 221 = .ok (.getfield 62, 3) := dk_180 0 62 (dk_at dksX1_partAll_9 13 rfl rfl)
theorem dX1_partAll_224 : decode cX1_partAll 224 = .ok (.aload_n 0, 1) := dk_42 (dk_at dksX1_partAll_9 16 rfl rfl)
theorem dX1_partAll_225 : decode cX1_partAll 225 = .ok (.getfield 208, 3) := dk_180 0 208 (dk_at dksX1_partAll_9 17 rfl rfl)
theorem dX1_partAll_228 : decode cX1_partAll 228 = .ok (.iaload, 1) := dk_46 (dk_at dksX1_partAll_9 20 rfl rfl)
theorem dX1_partAll_229 : decode cX1_partAll 229 = .ok (.isub, 1) := dk_100 (dk_at dksX1_partAll_9 21 rfl rfl)
theorem dX1_partAll_230 : decode cX1_partAll 230 = .ok (.i2l, 1) := dk_133 (dk_at dksX1_partAll_9 22 rfl rfl)
theorem dX1_partAll_231 : decode cX1_partAll 231 = .ok (.lstore 5, 2) := dk_55 5 (dk_at dksX1_partAll_10 0 rfl rfl)
theorem dX1_partAll_233 : decode cX1_partAll 233 = .ok (.aload_n 0, 1) := dk_42 (dk_at dksX1_partAll_10 2 rfl rfl)
theorem dX1_partAll_234 : decode cX1_partAll 234 = .ok (.getfield 65, 3) := dk_180 0 65 (dk_at dksX1_partAll_10 3 rfl rfl)
theorem dX1_partAll_237 : decode cX1_partAll 237 = .ok (.aload_n 0, 1) := dk_42 (dk_at dksX1_partAll_10 6 rfl rfl)
theorem dX1_partAll_238 : decode cX1_partAll 238 = .ok (.getfield 208, 3) := dk_180 0 208 (dk_at dksX1_partAll_10 7 rfl rfl)
theorem dX1_partAll_241 : decode cX1_partAll 241 = .ok (.iaload, 1) := dk_46 (dk_at dksX1_partAll_10 10 rfl rfl)
theorem dX1_partAll_242 : decode cX1_partAll 242 = .ok (.i2l, 1) := dk_133 (dk_at dksX1_partAll_10 11 rfl rfl)
theorem dX1_partAll_243 : decode cX1_partAll 243 = .ok (.lstore 7, 2) := dk_55 7 (dk_at dksX1_partAll_10 12 rfl rfl)
theorem dX1_partAll_245 : decode cX1_partAll 245 = .ok (.aload_n 0, 1) := dk_42 (dk_at dksX1_partAll_10 14 rfl rfl)
theorem dX1_partAll_246 : decode cX1_partAll 246 = .ok (.getfield 239, 3) := dk_180 0 239 (dk_at dksX1_partAll_10 15 rfl rfl)
theorem dX1_partAll_249 : decode cX1_partAll 249 = .ok (.iconst 1, 1) := dk_4 (dk_at dksX1_partAll_10 18 rfl rfl)
theorem dX1_partAll_250 : decode cX1_partAll 250 = .ok (.if_icmp .ne 19, 3) := dk_160 0 19 (dk_at dksX1_partAll_10 19 rfl rfl)
theorem dX1_partAll_253 : decode cX1_partAll 253 = .ok (.aload_n 0, 1) := dk_42 (dk_at dksX1_partAll_10 22 rfl rfl)
theorem dX1_partAll_254 : decode cX1_partAll 254 = .ok (.getfield 96, 3) := dk_180 0 96 (dk_at dksX1_partAll_11 0 rfl rfl)
theorem dX1_partAll_257 : decode cX1_partAll 257 = .ok (.iload_n 1, 1) := dk_27 (dk_at dksX1_partAll_11 3 rfl rfl)
theorem dX1_partAll_258 : decode cX1_partAll 258 = .ok (.lload 5, 2) := dk_22 5 (dk_at dksX1_partAll_11 4 rfl rfl)
theorem dX1_partAll_260 : decode cX1_partAll 260 = .ok (.lastore, 1) := dk_80 (dk_at dksX1_partAll_11 6 rfl rfl)
theorem dX1_partAll_261 : decode cX1_partAll 261 = .ok (.aload_n 0, 1) := dk_42 (dk_at dksX1_partAll_11 7 rfl rfl)
theorem dX1_partAll_262 : decode cX1_partAll 262 = .ok (.getfield 99, 3) := dk_180 0 99 (dk_at dksX1_partAll_11 8 rfl rfl)
theorem dX1_partAll_265 : decode cX1_partAll 265 = .ok (.iload_n 1, 1) := dk_27 (dk_at dksX1_partAll_11 11 rfl rfl)
theorem dX1_partAll_266 : decode cX1_partAll 266 = .ok (.lload 7, 2) := dk_22 7 (dk_at dksX1_partAll_11 12 rfl rfl)
theorem dX1_partAll_268 : decode cX1_partAll 268 = .ok (.lastore, 1) := dk_80 (dk_at dksX1_partAll_11 14 rfl rfl)
theorem dX1_partAll_269 : decode cX1_partAll 269 = .ok (.iconst 0, 1) := dk_3 (dk_at dksX1_partAll_11 15 rfl rfl)
theorem dX1_partAll_270 : decode cX1_partAll 270 = .ok (.istore 9, 2) := dk_54 9 (dk_at dksX1_partAll_11 16 rfl rfl)
theorem dX1_partAll_272 : decode cX1_partAll 272 = .ok (.iload 9, 2) := dk_21 9 (dk_at dksX1_partAll_11 18 rfl rfl)
theorem dX1_partAll_274 : decode cX1_partAll 274 = .ok (.aload_n 0, 1) := dk_42 (dk_at dksX1_partAll_11 20 rfl rfl)
theorem dX1_partAll_275 : decode cX1_partAll 275 = .ok (.getfield 225, 3) := dk_180 0 225 (dk_at dksX1_partAll_11 21 rfl rfl)
theorem dX1_partAll_278 : decode cX1_partAll 278 = .ok (.if_icmp .ge 38, 3) := dk_162 0 38 (dk_at dksX1_partAll_12 0 rfl rfl)
theorem dX1_partAll_281 : decode cX1_partAll 281 = .ok (.aload_n 0, 1) := dk_42 (dk_at dksX1_partAll_12 3 rfl rfl)
theorem dX1_partAll_282 : decode cX1_partAll 282 = .ok (.getfield 239, 3) := dk_180 0 239 (dk_at dksX1_partAll_12 4 rfl rfl)
theorem dX1_partAll_285 : decode cX1_partAll 285 = .ok (.iconst 1, 1) := dk_4 (dk_at dksX1_partAll_12 7 rfl rfl)
theorem dX1_partAll_286 : decode cX1_partAll 286 = .ok (.if_icmp .le 30, 3) := dk_164 0 30 (dk_at dksX1_partAll_12 8 rfl rfl)
theorem dX1_partAll_289 : decode cX1_partAll 289 = .ok (.aload_n 0, 1) := dk_42 (dk_at dksX1_partAll_12 11 rfl rfl)
theorem dX1_partAll_290 : decode cX1_partAll 290 = .ok (.aload_n 0, 1) := dk_42 (dk_at dksX1_partAll_12 12 rfl rfl)
theorem dX1_partAll_291 : decode cX1_partAll 291 = .ok (.getfield 102, 3) := dk_180 0 102 (dk_at dksX1_partAll_12 13 rfl rfl)
theorem dX1_partAll_294 : decode cX1_partAll 294 = .ok (.iload 9, 2) := dk_21 9 (dk_at dksX1_partAll_12 16 rfl rfl)
theorem dX1_partAll_296 : decode cX1_partAll 296 = .ok (.iaload, 1) := dk_46 (dk_at dksX1_partAll_12 18 rfl rfl)
theorem dX1_partAll_297 : decode cX1_partAll 297 = .ok (.lload 5, 2) := dk_22 5 (dk_at dksX1_partAll_12 19 rfl rfl)
theorem dX1_partAll_299 : decode cX1_partAll 299 = .ok (.lload 7, 2) := dk_22 7 (dk_at dksX1_partAll_12 21 rfl rfl)
theorem dX1_partAll_301 : decode cX1_partAll 301 = .ok (.aload_n 0, 1) := dk_42 (dk_at dksX1_partAll_12 23 rfl rfl)
theorem dX1_partAll_302 : decode cX1_partAll 302 = .ok (.getfield 225, 3) := dk_180 0 225 (dk_at dksX1_partAll_13 0 rfl rfl)
theorem dX1_partAll_305 : decode cX1_partAll 305 = .ok (.i2l, 1) := dk_133 (dk_at dksX1_partAll_13 3 rfl rfl)
theorem dX1_partAll_306 : decode cX1_partAll 306 = .ok (.lmul, 1) := dk_105 (dk_at dksX1_partAll_13 4 rfl rfl)
theorem dX1_partAll_307 : decode cX1_partAll 307 = .ok (.invokevirtual 222, 3) := dk_182 0 222 (dk_at dksX1_partAll_13 5 rfl rfl)
theorem dX1_partAll_310 : decode cX1_partAll 310 = .ok (.iinc 9 1, 3) := dk_132 9 1 (dk_at dksX1_partAll_13 8 rfl rfl)
theorem dX1_partAll_313 : decode cX1_partAll 313 = .ok (.goto (-41), 3) := dk_167 255 215 (dk_at dksX1_partAll_13 11 rfl rfl)
theorem dX1_partAll_316 : decode cX1_partAll 316 = .ok (.aload_n 0, 1) := dk_42 (dk_at dksX1_partAll_13 14 rfl rfl)
theorem dX1_partAll_317 : decode cX1_partAll 317 = .ok (.invokevirtual 249, 3) := dk_182 0 249 (dk_at dksX1_partAll_13 15 rfl rfl)
theorem dX1_partAll_320 : decode cX1_partAll 320 = .ok (.return_, 1) := dk_177 (dk_at dksX1_partAll_13 18 rfl rfl)
abbrev cX1_begin : ByteArray := prog_8_method_30_code
def yX1_begin : MethodName := ⟨RX1, "begin", "(IZI)V"⟩
def dkwX1_begin_17 : List UInt8 := [167, 255, 147, 132, 4, 1, 167, 255, 120, 177]
abbrev dktX1_begin_17 : List UInt8 := dkwX1_begin_17 ++ []
def dkwX1_begin_16 : List UInt8 := [180, 0, 87, 42, 180, 0, 28, 21, 6, 46, 51, 153, 0, 7, 4, 167, 0, 4, 3, 84, 132, 6, 1]
abbrev dktX1_begin_16 : List UInt8 := dkwX1_begin_16 ++ dktX1_begin_17
def dkwX1_begin_15 : List UInt8 := [154, 0, 38, 21, 7, 153, 0, 37, 42, 180, 0, 84, 42, 180, 0, 28, 21, 6, 46, 51, 154, 0, 18, 42]
abbrev dktX1_begin_15 : List UInt8 := dkwX1_begin_15 ++ dktX1_begin_16
def dkwX1_begin_14 : List UInt8 := [159, 0, 7, 4, 167, 0, 4, 3, 54, 7, 42, 180, 0, 87, 21, 5, 42, 180, 0, 87, 21, 5, 51]
abbrev dktX1_begin_14 : List UInt8 := dkwX1_begin_14 ++ dktX1_begin_15
def dkwX1_begin_13 : List UInt8 := [153, 0, 30, 42, 180, 0, 25, 21, 6, 46, 21, 5, 160, 0, 18, 42, 180, 0, 28, 21, 6, 46, 27]
abbrev dktX1_begin_13 : List UInt8 := dkwX1_begin_13 ++ dktX1_begin_14
def dkwX1_begin_12 : List UInt8 := [21, 4, 46, 54, 5, 3, 54, 6, 21, 6, 42, 180, 0, 142, 162, 0, 106, 42, 180, 0, 81, 21, 6, 51]
abbrev dktX1_begin_12 : List UInt8 := dkwX1_begin_12 ++ dktX1_begin_13
def dkwX1_begin_11 : List UInt8 := [167, 255, 178, 42, 182, 0, 211, 3, 54, 4, 21, 4, 42, 180, 0, 139, 162, 0, 133, 42, 180, 0, 93]
abbrev dktX1_begin_11 : List UInt8 := dkwX1_begin_11 ++ dktX1_begin_12
def dkwX1_begin_10 : List UInt8 := [180, 0, 205, 164, 0, 7, 4, 167, 0, 4, 3, 84, 42, 180, 0, 87, 21, 4, 3, 84, 132, 4, 1]
abbrev dktX1_begin_10 : List UInt8 := dkwX1_begin_10 ++ dktX1_begin_11
def dkwX1_begin_9 : List UInt8 := [163, 0, 33, 42, 180, 0, 19, 21, 4, 46, 16, 247, 159, 0, 17, 42, 180, 0, 19, 21, 4, 46, 42]
abbrev dktX1_begin_9 : List UInt8 := dkwX1_begin_9 ++ dktX1_begin_10
def dkwX1_begin_8 : List UInt8 := [42, 180, 0, 84, 21, 4, 21, 4, 27, 159, 0, 47, 42, 180, 0, 16, 21, 4, 46, 42, 180, 0, 205]
abbrev dktX1_begin_8 : List UInt8 := dkwX1_begin_8 ++ dktX1_begin_9
def dkwX1_begin_7 : List UInt8 := [4, 167, 0, 4, 3, 84, 132, 4, 1, 167, 255, 213, 3, 54, 4, 21, 4, 42, 180, 0, 139, 162, 0, 75]
abbrev dktX1_begin_7 : List UInt8 := dkwX1_begin_7 ++ dktX1_begin_8
def dkwX1_begin_6 : List UInt8 := [154, 0, 36, 42, 180, 0, 81, 42, 180, 0, 90, 21, 4, 46, 29, 21, 4, 122, 4, 126, 4, 160, 0, 7]
abbrev dktX1_begin_6 : List UInt8 := dkwX1_begin_6 ++ dktX1_begin_7
def dkwX1_begin_5 : List UInt8 := [167, 0, 4, 3, 84, 132, 4, 1, 167, 255, 158, 3, 54, 4, 21, 4, 42, 180, 0, 199, 162, 0, 40, 28]
abbrev dktX1_begin_5 : List UInt8 := dkwX1_begin_5 ++ dktX1_begin_6
def dkwX1_begin_4 : List UInt8 := [154, 0, 27, 21, 5, 153, 0, 22, 42, 180, 0, 22, 21, 4, 46, 4, 160, 0, 7, 28, 153, 0, 7, 4]
abbrev dktX1_begin_4 : List UInt8 := dkwX1_begin_4 ++ dktX1_begin_5
def dkwX1_begin_3 : List UInt8 := [163, 0, 7, 4, 167, 0, 4, 3, 54, 5, 42, 180, 0, 81, 21, 4, 42, 180, 0, 40, 21, 4, 51]
abbrev dktX1_begin_3 : List UInt8 := dkwX1_begin_3 ++ dktX1_begin_4
def dkwX1_begin_2 : List UInt8 := [180, 0, 68, 42, 180, 0, 208, 51, 153, 0, 21, 42, 180, 0, 31, 21, 4, 46, 42, 180, 0, 205]
abbrev dktX1_begin_2 : List UInt8 := dkwX1_begin_2 ++ dktX1_begin_3
def dkwX1_begin_1 : List UInt8 := [3, 54, 4, 21, 4, 42, 180, 0, 142, 162, 0, 95, 42, 180, 0, 22, 21, 4, 46, 6, 160, 0, 29, 42]
abbrev dktX1_begin_1 : List UInt8 := dkwX1_begin_1 ++ dktX1_begin_2
def dkwX1_begin_0 : List UInt8 := [42, 27, 181, 0, 202, 42, 42, 180, 0, 19, 27, 46, 181, 0, 205, 42, 42, 27, 182, 0, 193, 181, 0, 208]
abbrev dktX1_begin_0 : List UInt8 := dkwX1_begin_0 ++ dktX1_begin_1
theorem dksX1_begin_0 : cX1_begin.data.toList.drop 0 = dktX1_begin_0 := by decide +kernel
theorem dksX1_begin_1 : cX1_begin.data.toList.drop 24 = dktX1_begin_1 := dk_seg dksX1_begin_0 24 rfl rfl
theorem dksX1_begin_2 : cX1_begin.data.toList.drop 48 = dktX1_begin_2 := dk_seg dksX1_begin_1 24 rfl rfl
theorem dksX1_begin_3 : cX1_begin.data.toList.drop 70 = dktX1_begin_3 := dk_seg dksX1_begin_2 22 rfl rfl
theorem dksX1_begin_4 : cX1_begin.data.toList.drop 93 = dktX1_begin_4 := dk_seg dksX1_begin_3 23 rfl rfl
theorem dksX1_begin_5 : cX1_begin.data.toList.drop 117 = dktX1_begin_5 := dk_seg dksX1_begin_4 24 rfl rfl
theorem dksX1_begin_6 : cX1_begin.data.toList.drop 141 = dktX1_begin_6 := dk_seg dksX1_begin_5 24 rfl rfl
theorem dksX1_begin_7 : cX1_begin.data.toList.drop 165 = dktX1_begin_7 := dk_seg dksX1_begin_6 24 rfl rfl
theorem dksX1_begin_8 : cX1_begin.data.toList.drop 189 = dktX1_begin_8 := dk_seg dksX1_begin_7 24 rfl rfl
theorem dksX1_begin_9 : cX1_begin.data.toList.drop 212 = dktX1_begin_9 := dk_seg dksX1_begin_8 23 rfl rfl
theorem dksX1_begin_10 : cX1_begin.data.toList.drop 235 = dktX1_begin_10 := dk_seg dksX1_begin_9 23 rfl rfl
theorem dksX1_begin_11 : cX1_begin.data.toList.drop 258 = dktX1_begin_11 := dk_seg dksX1_begin_10 23 rfl rfl
theorem dksX1_begin_12 : cX1_begin.data.toList.drop 281 = dktX1_begin_12 := dk_seg dksX1_begin_11 23 rfl rfl
theorem dksX1_begin_13 : cX1_begin.data.toList.drop 305 = dktX1_begin_13 := dk_seg dksX1_begin_12 24 rfl rfl
theorem dksX1_begin_14 : cX1_begin.data.toList.drop 328 = dktX1_begin_14 := dk_seg dksX1_begin_13 23 rfl rfl
theorem dksX1_begin_15 : cX1_begin.data.toList.drop 351 = dktX1_begin_15 := dk_seg dksX1_begin_14 23 rfl rfl
theorem dksX1_begin_16 : cX1_begin.data.toList.drop 375 = dktX1_begin_16 := dk_seg dksX1_begin_15 24 rfl rfl
theorem dksX1_begin_17 : cX1_begin.data.toList.drop 398 = dktX1_begin_17 := dk_seg dksX1_begin_16 23 rfl rfl
theorem dX1_begin_0 : decode cX1_begin 0 = .ok (.aload_n 0, 1) := dk_42 (dk_at dksX1_begin_0 0 rfl rfl)
theorem dX1_begin_1 : decode cX1_begin 1 = .ok (.iload_n 1, 1) := dk_27 (dk_at dksX1_begin_0 1 rfl rfl)
theorem dX1_begin_2 : decode cX1_begin 2 = .ok (.putfield 202, 3) := dk_181 0 202 (dk_at dksX1_begin_0 2 rfl rfl)
theorem dX1_begin_5 : decode cX1_begin 5 = .ok (.aload_n 0, 1) := dk_42 (dk_at dksX1_begin_0 5 rfl rfl)
theorem dX1_begin_6 : decode cX1_begin 6 = .ok (.aload_n 0, 1) := dk_42 (dk_at dksX1_begin_0 6 rfl rfl)
theorem dX1_begin_7 : decode cX1_begin 7 = .ok (.getfield 19, 3) := dk_180 0 19 (dk_at dksX1_begin_0 7 rfl rfl)
theorem dX1_begin_10 : decode cX1_begin 10 = .ok (.iload_n 1, 1) := dk_27 (dk_at dksX1_begin_0 10 rfl rfl)
theorem dX1_begin_11 : decode cX1_begin 11 = .ok (.iaload, 1) := dk_46 (dk_at dksX1_begin_0 11 rfl rfl)
theorem dX1_begin_12 : decode cX1_begin 12 = .ok (.putfield 205, 3) := dk_181 0 205 (dk_at dksX1_begin_0 12 rfl rfl)
theorem dX1_begin_15 : decode cX1_begin 15 = .ok (.aload_n 0, 1) := dk_42 (dk_at dksX1_begin_0 15 rfl rfl)
theorem dX1_begin_16 : decode cX1_begin 16 = .ok (.aload_n 0, 1) := dk_42 (dk_at dksX1_begin_0 16 rfl rfl)
theorem dX1_begin_17 : decode cX1_begin 17 = .ok (.iload_n 1, 1) := dk_27 (dk_at dksX1_begin_0 17 rfl rfl)
theorem dX1_begin_18 : decode cX1_begin 18 = .ok (.invokevirtual 193, 3) := dk_182 0 193 (dk_at dksX1_begin_0 18 rfl rfl)
theorem dX1_begin_21 : decode cX1_begin 21 = .ok (.putfield 208, 3) := dk_181 0 208 (dk_at dksX1_begin_0 21 rfl rfl)
theorem dX1_begin_24 : decode cX1_begin 24 = .ok (.iconst 0, 1) := dk_3 (dk_at dksX1_begin_1 0 rfl rfl)
theorem dX1_begin_25 : decode cX1_begin 25 = .ok (.istore 4, 2) := dk_54 4 (dk_at dksX1_begin_1 1 rfl rfl)
theorem dX1_begin_27 : decode cX1_begin 27 = .ok (.iload 4, 2) := dk_21 4 (dk_at dksX1_begin_1 3 rfl rfl)
theorem dX1_begin_29 : decode cX1_begin 29 = .ok (.aload_n 0, 1) := dk_42 (dk_at dksX1_begin_1 5 rfl rfl)
theorem dX1_begin_30 : decode cX1_begin 30 = .ok (.getfield 142, 3) := dk_180 0 142 (dk_at dksX1_begin_1 6 rfl rfl)
theorem dX1_begin_33 : decode cX1_begin 33 = .ok (.if_icmp .ge 95, 3) := dk_162 0 95 (dk_at dksX1_begin_1 9 rfl rfl)
theorem dX1_begin_36 : decode cX1_begin 36 = .ok (.aload_n 0, 1) := dk_42 (dk_at dksX1_begin_1 12 rfl rfl)
theorem dX1_begin_37 : decode cX1_begin 37 = .ok (.getfield 22, 3) := dk_180 0 22 (dk_at dksX1_begin_1 13 rfl rfl)
theorem dX1_begin_40 : decode cX1_begin 40 = .ok (.iload 4, 2) := dk_21 4 (dk_at dksX1_begin_1 16 rfl rfl)
theorem dX1_begin_42 : decode cX1_begin 42 = .ok (.iaload, 1) := dk_46 (dk_at dksX1_begin_1 18 rfl rfl)
theorem dX1_begin_43 : decode cX1_begin 43 = .ok (.iconst 3, 1) := dk_6 (dk_at dksX1_begin_1 19 rfl rfl)
theorem dX1_begin_44 : decode cX1_begin 44 = .ok (.if_icmp .ne 29, 3) := dk_160 0 29 (dk_at dksX1_begin_1 20 rfl rfl)
theorem dX1_begin_47 : decode cX1_begin 47 = .ok (.aload_n 0, 1) := dk_42 (dk_at dksX1_begin_1 23 rfl rfl)
theorem dX1_begin_48 : decode cX1_begin 48 = .ok (.getfield 68, 3) := dk_180 0 68 (dk_at dksX1_begin_2 0 rfl rfl)
theorem dX1_begin_51 : decode cX1_begin 51 = .ok (.aload_n 0, 1) := dk_42 (dk_at dksX1_begin_2 3 rfl rfl)
theorem dX1_begin_52 : decode cX1_begin 52 = .ok (.getfield 208, 3) := dk_180 0 208 (dk_at dksX1_begin_2 4 rfl rfl)
theorem dX1_begin_55 : decode cX1_begin 55 = .ok (.baload, 1) := dk_51 (dk_at dksX1_begin_2 7 rfl rfl)
theorem dX1_begin_56 : decode cX1_begin 56 = .ok (.ifCond .eq 21, 3) := dk_153 0 21 (dk_at dksX1_begin_2 8 rfl rfl)
theorem dX1_begin_59 : decode cX1_begin 59 = .ok (.aload_n 0, 1) := dk_42 (dk_at dksX1_begin_2 11 rfl rfl)
theorem dX1_begin_60 : decode cX1_begin 60 = .ok (.getfield 31, 3) := dk_180 0 31 (dk_at dksX1_begin_2 12 rfl rfl)
theorem dX1_begin_63 : decode cX1_begin 63 = .ok (.iload 4, 2) := dk_21 4 (dk_at dksX1_begin_2 15 rfl rfl)
theorem dX1_begin_65 : decode cX1_begin 65 = .ok (.iaload, 1) := dk_46 (dk_at dksX1_begin_2 17 rfl rfl)
theorem dX1_begin_66 : decode cX1_begin 66 = .ok (.aload_n 0, 1) := dk_42 (dk_at dksX1_begin_2 18 rfl rfl)
theorem dX1_begin_67 : decode cX1_begin 67 = .ok (.getfield 205, 3) := dk_180 0 205 (dk_at dksX1_begin_2 19 rfl rfl)
theorem dX1_begin_70 : decode cX1_begin 70 = .ok (.if_icmp .gt 7, 3) := dk_163 0 7 (dk_at dksX1_begin_3 0 rfl rfl)
theorem dX1_begin_73 : decode cX1_begin 73 = .ok (.iconst 1, 1) := dk_4 (dk_at dksX1_begin_3 3 rfl rfl)
theorem dX1_begin_74 : decode cX1_begin 74 = .ok (.goto 4, 3) := dk_167 0 4 (dk_at dksX1_begin_3 4 rfl rfl)
theorem dX1_begin_77 : decode cX1_begin 77 = .ok (.iconst 0, 1) := dk_3 (dk_at dksX1_begin_3 7 rfl rfl)
theorem dX1_begin_78 : decode cX1_begin 78 = .ok (.istore 5, 2) := dk_54 5 (dk_at dksX1_begin_3 8 rfl rfl)
theorem dX1_begin_80 : decode cX1_begin 80 = .ok (.aload_n 0, 1) := dk_42 (dk_at dksX1_begin_3 10 rfl rfl)
theorem dX1_begin_81 : decode cX1_begin 81 = .ok (.getfield 81, 3) := dk_180 0 81 (dk_at dksX1_begin_3 11 rfl rfl)
theorem dX1_begin_84 : decode cX1_begin 84 = .ok (.iload 4, 2) := dk_21 4 (dk_at dksX1_begin_3 14 rfl rfl)
theorem dX1_begin_86 : decode cX1_begin 86 = .ok (.aload_n 0, 1) := dk_42 (dk_at dksX1_begin_3 16 rfl rfl)
theorem dX1_begin_87 : decode cX1_begin 87 = .ok (.getfield 40, 3) := dk_180 0 40 (dk_at dksX1_begin_3 17 rfl rfl)
theorem dX1_begin_90 : decode cX1_begin 90 = .ok (.iload 4, 2) := dk_21 4 (dk_at dksX1_begin_3 20 rfl rfl)
theorem dX1_begin_92 : decode cX1_begin 92 = .ok (.baload, 1) := dk_51 (dk_at dksX1_begin_3 22 rfl rfl)
theorem dX1_begin_93 : decode cX1_begin 93 = .ok (.ifCond .ne 27, 3) := dk_154 0 27 (dk_at dksX1_begin_4 0 rfl rfl)
theorem dX1_begin_96 : decode cX1_begin 96 = .ok (.iload 5, 2) := dk_21 5 (dk_at dksX1_begin_4 3 rfl rfl)
theorem dX1_begin_98 : decode cX1_begin 98 = .ok (.ifCond .eq 22, 3) := dk_153 0 22 (dk_at dksX1_begin_4 5 rfl rfl)
theorem dX1_begin_101 : decode cX1_begin 101 = .ok (.aload_n 0, 1) := dk_42 (dk_at dksX1_begin_4 8 rfl rfl)
theorem dX1_begin_102 : decode cX1_begin 102 = .ok (.getfield 22, 3) := dk_180 0 22 (dk_at dksX1_begin_4 9 rfl rfl)
theorem dX1_begin_105 : decode cX1_begin 105 = .ok (.iload 4, 2) := dk_21 4 (dk_at dksX1_begin_4 12 rfl rfl)
theorem dX1_begin_107 : decode cX1_begin 107 = .ok (.iaload, 1) := dk_46 (dk_at dksX1_begin_4 14 rfl rfl)
theorem dX1_begin_108 : decode cX1_begin 108 = .ok (.iconst 1, 1) := dk_4 (dk_at dksX1_begin_4 15 rfl rfl)
theorem dX1_begin_109 : decode cX1_begin 109 = .ok (.if_icmp .ne 7, 3) := dk_160 0 7 (dk_at dksX1_begin_4 16 rfl rfl)
theorem dX1_begin_112 : decode cX1_begin 112 = .ok (.iload_n 2, 1) := dk_28 (dk_at dksX1_begin_4 19 rfl rfl)
theorem dX1_begin_113 : decode cX1_begin 113 = .ok (.ifCond .eq 7, 3) := dk_153 0 7 (dk_at dksX1_begin_4 20 rfl rfl)
theorem dX1_begin_116 : decode cX1_begin 116 = .ok (.iconst 1, 1) := dk_4 (dk_at dksX1_begin_4 23 rfl rfl)
theorem dX1_begin_117 : decode cX1_begin 117 = .ok (.goto 4, 3) := dk_167 0 4 (dk_at dksX1_begin_5 0 rfl rfl)
theorem dX1_begin_120 : decode cX1_begin 120 = .ok (.iconst 0, 1) := dk_3 (dk_at dksX1_begin_5 3 rfl rfl)
theorem dX1_begin_121 : decode cX1_begin 121 = .ok (.bastore, 1) := dk_84 (dk_at dksX1_begin_5 4 rfl rfl)
theorem dX1_begin_122 : decode cX1_begin 122 = .ok (.iinc 4 1, 3) := dk_132 4 1 (dk_at dksX1_begin_5 5 rfl rfl)
theorem dX1_begin_125 : decode cX1_begin 125 = .ok (.goto (-98), 3) := dk_167 255 158 (dk_at dksX1_begin_5 8 rfl rfl)
theorem dX1_begin_128 : decode cX1_begin 128 = .ok (.iconst 0, 1) := dk_3 (dk_at dksX1_begin_5 11 rfl rfl)
theorem dX1_begin_129 : decode cX1_begin 129 = .ok (.istore 4, 2) := dk_54 4 (dk_at dksX1_begin_5 12 rfl rfl)
theorem dX1_begin_131 : decode cX1_begin 131 = .ok (.iload 4, 2) := dk_21 4 (dk_at dksX1_begin_5 14 rfl rfl)
theorem dX1_begin_133 : decode cX1_begin 133 = .ok (.aload_n 0, 1) := dk_42 (dk_at dksX1_begin_5 16 rfl rfl)
theorem dX1_begin_134 : decode cX1_begin 134 = .ok (.getfield 199, 3) := dk_180 0 199 (dk_at dksX1_begin_5 17 rfl rfl)
theorem dX1_begin_137 : decode cX1_begin 137 = .ok (.if_icmp .ge 40, 3) := dk_162 0 40 (dk_at dksX1_begin_5 20 rfl rfl)
theorem dX1_begin_140 : decode cX1_begin 140 = .ok (.iload_n 2, 1) := dk_28 (dk_at dksX1_begin_5 23 rfl rfl)
theorem dX1_begin_141 : decode cX1_begin 141 = .ok (.ifCond .ne 36, 3) := dk_154 0 36 (dk_at dksX1_begin_6 0 rfl rfl)
theorem dX1_begin_144 : decode cX1_begin 144 = .ok (.aload_n 0, 1) := dk_42 (dk_at dksX1_begin_6 3 rfl rfl)
theorem dX1_begin_145 : decode cX1_begin 145 = .ok (.getfield 81, 3) := dk_180 0 81 (dk_at dksX1_begin_6 4 rfl rfl)
theorem dX1_begin_148 : decode cX1_begin 148 = .ok (.aload_n 0, 1) := dk_42 (dk_at dksX1_begin_6 7 rfl rfl)
theorem dX1_begin_149 : decode cX1_begin 149 = .ok (.getfield 90, 3) := dk_180 0 90 (dk_at dksX1_begin_6 8 rfl rfl)
theorem dX1_begin_152 : decode cX1_begin 152 = .ok (.iload 4, 2) := dk_21 4 (dk_at dksX1_begin_6 11 rfl rfl)
theorem dX1_begin_154 : decode cX1_begin 154 = .ok (.iaload, 1) := dk_46 (dk_at dksX1_begin_6 13 rfl rfl)
theorem dX1_begin_155 : decode cX1_begin 155 = .ok (.iload_n 3, 1) := dk_29 (dk_at dksX1_begin_6 14 rfl rfl)
theorem dX1_begin_156 : decode cX1_begin 156 = .ok (.iload 4, 2) := dk_21 4 (dk_at dksX1_begin_6 15 rfl rfl)
theorem dX1_begin_158 : decode cX1_begin 158 = .ok (.ishr, 1) := dk_122 (dk_at dksX1_begin_6 17 rfl rfl)
theorem dX1_begin_159 : decode cX1_begin 159 = .ok (.iconst 1, 1) := dk_4 (dk_at dksX1_begin_6 18 rfl rfl)
theorem dX1_begin_160 : decode cX1_begin 160 = .ok (.iand, 1) := dk_126 (dk_at dksX1_begin_6 19 rfl rfl)
theorem dX1_begin_161 : decode cX1_begin 161 = .ok (.iconst 1, 1) := dk_4 (dk_at dksX1_begin_6 20 rfl rfl)
theorem dX1_begin_162 : decode cX1_begin 162 = .ok (.if_icmp .ne 7, 3) := dk_160 0 7 (dk_at dksX1_begin_6 21 rfl rfl)
theorem dX1_begin_165 : decode cX1_begin 165 = .ok (.iconst 1, 1) := dk_4 (dk_at dksX1_begin_7 0 rfl rfl)
theorem dX1_begin_166 : decode cX1_begin 166 = .ok (.goto 4, 3) := dk_167 0 4 (dk_at dksX1_begin_7 1 rfl rfl)
theorem dX1_begin_169 : decode cX1_begin 169 = .ok (.iconst 0, 1) := dk_3 (dk_at dksX1_begin_7 4 rfl rfl)
theorem dX1_begin_170 : decode cX1_begin 170 = .ok (.bastore, 1) := dk_84 (dk_at dksX1_begin_7 5 rfl rfl)
theorem dX1_begin_171 : decode cX1_begin 171 = .ok (.iinc 4 1, 3) := dk_132 4 1 (dk_at dksX1_begin_7 6 rfl rfl)
theorem dX1_begin_174 : decode cX1_begin 174 = .ok (.goto (-43), 3) := dk_167 255 213 (dk_at dksX1_begin_7 9 rfl rfl)
theorem dX1_begin_177 : decode cX1_begin 177 = .ok (.iconst 0, 1) := dk_3 (dk_at dksX1_begin_7 12 rfl rfl)
theorem dX1_begin_178 : decode cX1_begin 178 = .ok (.istore 4, 2) := dk_54 4 (dk_at dksX1_begin_7 13 rfl rfl)
theorem dX1_begin_180 : decode cX1_begin 180 = .ok (.iload 4, 2) := dk_21 4 (dk_at dksX1_begin_7 15 rfl rfl)
theorem dX1_begin_182 : decode cX1_begin 182 = .ok (.aload_n 0, 1) := dk_42 (dk_at dksX1_begin_7 17 rfl rfl)
theorem dX1_begin_183 : decode cX1_begin 183 = .ok (.getfield 139, 3) := dk_180 0 139 (dk_at dksX1_begin_7 18 rfl rfl)
theorem dX1_begin_186 : decode cX1_begin 186 = .ok (.if_icmp .ge 75, 3) := dk_162 0 75 (dk_at dksX1_begin_7 21 rfl rfl)
theorem dX1_begin_189 : decode cX1_begin 189 = .ok (.aload_n 0, 1) := dk_42 (dk_at dksX1_begin_8 0 rfl rfl)
theorem dX1_begin_190 : decode cX1_begin 190 = .ok (.getfield 84, 3) := dk_180 0 84 (dk_at dksX1_begin_8 1 rfl rfl)
theorem dX1_begin_193 : decode cX1_begin 193 = .ok (.iload 4, 2) := dk_21 4 (dk_at dksX1_begin_8 4 rfl rfl)
theorem dX1_begin_195 : decode cX1_begin 195 = .ok (.iload 4, 2) := dk_21 4 (dk_at dksX1_begin_8 6 rfl rfl)
theorem dX1_begin_197 : decode cX1_begin 197 = .ok (.iload_n 1, 1) := dk_27 (dk_at dksX1_begin_8 8 rfl rfl)
theorem dX1_begin_198 : decode cX1_begin 198 = .ok (.if_icmp .eq 47, 3) := dk_159 0 47 (dk_at dksX1_begin_8 9 rfl rfl)
theorem dX1_begin_201 : decode cX1_begin 201 = .ok (.aload_n 0, 1) := dk_42 (dk_at dksX1_begin_8 12 rfl rfl)
theorem dX1_begin_202 : decode cX1_begin 202 = .ok (.getfield 16, 3) := dk_180 0 16 (dk_at dksX1_begin_8 13 rfl rfl)
theorem dX1_begin_205 : decode cX1_begin 205 = .ok (.iload 4, 2) := dk_21 4 (dk_at dksX1_begin_8 16 rfl rfl)
theorem dX1_begin_207 : decode cX1_begin 207 = .ok (.iaload, 1) := dk_46 (dk_at dksX1_begin_8 18 rfl rfl)
theorem dX1_begin_208 : decode cX1_begin 208 = .ok (.aload_n 0, 1) := dk_42 (dk_at dksX1_begin_8 19 rfl rfl)
theorem dX1_begin_209 : decode cX1_begin 209 = .ok (.getfield 205, 3) := dk_180 0 205 (dk_at dksX1_begin_8 20 rfl rfl)
theorem dX1_begin_212 : decode cX1_begin 212 = .ok (.if_icmp .gt 33, 3) := dk_163 0 33 (dk_at dksX1_begin_9 0 rfl rfl)
theorem dX1_begin_215 : decode cX1_begin 215 = .ok (.aload_n 0, 1) := dk_42 (dk_at dksX1_begin_9 3 rfl rfl)
theorem dX1_begin_216 : decode cX1_begin 216 = .ok (.getfield 19, 3) := dk_180 0 19 (dk_at dksX1_begin_9 4 rfl rfl)
theorem dX1_begin_219 : decode cX1_begin 219 = .ok (.iload 4, 2) := dk_21 4 (dk_at dksX1_begin_9 7 rfl rfl)
theorem dX1_begin_221 : decode cX1_begin 221 = .ok (.iaload, 1) := dk_46 (dk_at dksX1_begin_9 9 rfl rfl)
theorem dX1_begin_222 : decode cX1_begin 222 = .ok (.bipush (-9), 2) := dk_16 247 (dk_at dksX1_begin_9 10 rfl rfl)
theorem dX1_begin_224 : decode cX1_begin 224 = .ok (.if_icmp .eq 17, 3) := dk_159 0 17 (dk_at dksX1_begin_9 12 rfl rfl)
theorem dX1_begin_227 : decode cX1_begin 227 = .ok (.aload_n 0, 1) := dk_42 (dk_at dksX1_begin_9 15 rfl rfl)
theorem dX1_begin_228 : decode cX1_begin 228 = .ok (.getfield 19, 3) := dk_180 0 19 (dk_at dksX1_begin_9 16 rfl rfl)
theorem dX1_begin_231 : decode cX1_begin 231 = .ok (.iload 4, 2) := dk_21 4 (dk_at dksX1_begin_9 19 rfl rfl)
theorem dX1_begin_233 : decode cX1_begin 233 = .ok (.iaload, 1) := dk_46 (dk_at dksX1_begin_9 21 rfl rfl)
theorem dX1_begin_234 : decode cX1_begin 234 = .ok (.aload_n 0, 1) := dk_42 (dk_at dksX1_begin_9 22 rfl rfl)
theorem dX1_begin_235 : decode cX1_begin 235 = .ok (.getfield 205, 3) := dk_180 0 205 (dk_at dksX1_begin_10 0 rfl rfl)
theorem dX1_begin_238 : decode cX1_begin 238 = .ok (.if_icmp .le 7, 3) := dk_164 0 7 (dk_at dksX1_begin_10 3 rfl rfl)
theorem dX1_begin_241 : decode cX1_begin 241 = .ok (.iconst 1, 1) := dk_4 (dk_at dksX1_begin_10 6 rfl rfl)
theorem dX1_begin_242 : decode cX1_begin 242 = .ok (.goto 4, 3) := dk_167 0 4 (dk_at dksX1_begin_10 7 rfl rfl)
theorem dX1_begin_245 : decode cX1_begin 245 = .ok (.iconst 0, 1) := dk_3 (dk_at dksX1_begin_10 10 rfl rfl)
theorem dX1_begin_246 : decode cX1_begin 246 = .ok (.bastore, 1) := dk_84 (dk_at dksX1_begin_10 11 rfl rfl)
theorem dX1_begin_247 : decode cX1_begin 247 = .ok (.aload_n 0, 1) := dk_42 (dk_at dksX1_begin_10 12 rfl rfl)
theorem dX1_begin_248 : decode cX1_begin 248 = .ok (.getfield 87, 3) := dk_180 0 87 (dk_at dksX1_begin_10 13 rfl rfl)
theorem dX1_begin_251 : decode cX1_begin 251 = .ok (.iload 4, 2) := dk_21 4 (dk_at dksX1_begin_10 16 rfl rfl)
theorem dX1_begin_253 : decode cX1_begin 253 = .ok (.iconst 0, 1) := dk_3 (dk_at dksX1_begin_10 18 rfl rfl)
theorem dX1_begin_254 : decode cX1_begin 254 = .ok (.bastore, 1) := dk_84 (dk_at dksX1_begin_10 19 rfl rfl)
theorem dX1_begin_255 : decode cX1_begin 255 = .ok (.iinc 4 1, 3) := dk_132 4 1 (dk_at dksX1_begin_10 20 rfl rfl)
theorem dX1_begin_258 : decode cX1_begin 258 = .ok (.goto (-78), 3) := dk_167 255 178 (dk_at dksX1_begin_11 0 rfl rfl)
theorem dX1_begin_261 : decode cX1_begin 261 = .ok (.aload_n 0, 1) := dk_42 (dk_at dksX1_begin_11 3 rfl rfl)
theorem dX1_begin_262 : decode cX1_begin 262 = .ok (.invokevirtual 211, 3) := dk_182 0 211 (dk_at dksX1_begin_11 4 rfl rfl)
theorem dX1_begin_265 : decode cX1_begin 265 = .ok (.iconst 0, 1) := dk_3 (dk_at dksX1_begin_11 7 rfl rfl)
theorem dX1_begin_266 : decode cX1_begin 266 = .ok (.istore 4, 2) := dk_54 4 (dk_at dksX1_begin_11 8 rfl rfl)
theorem dX1_begin_268 : decode cX1_begin 268 = .ok (.iload 4, 2) := dk_21 4 (dk_at dksX1_begin_11 10 rfl rfl)
theorem dX1_begin_270 : decode cX1_begin 270 = .ok (.aload_n 0, 1) := dk_42 (dk_at dksX1_begin_11 12 rfl rfl)
theorem dX1_begin_271 : decode cX1_begin 271 = .ok (.getfield 139, 3) := dk_180 0 139 (dk_at dksX1_begin_11 13 rfl rfl)
theorem dX1_begin_274 : decode cX1_begin 274 = .ok (.if_icmp .ge 133, 3) := dk_162 0 133 (dk_at dksX1_begin_11 16 rfl rfl)
theorem dX1_begin_277 : decode cX1_begin 277 = .ok (.aload_n 0, 1) := dk_42 (dk_at dksX1_begin_11 19 rfl rfl)
theorem dX1_begin_278 : decode cX1_begin 278 = .ok (.getfield 93, 3) := dk_180 0 93 (dk_at dksX1_begin_11 20 rfl rfl)
theorem dX1_begin_281 : decode cX1_begin 281 = .ok (.iload 4, 2) := dk_21 4 (dk_at dksX1_begin_12 0 rfl rfl)
theorem dX1_begin_283 : decode cX1_begin 283 = .ok (.iaload, 1) := dk_46 (dk_at dksX1_begin_12 2 rfl rfl)
theorem dX1_begin_284 : decode cX1_begin 284 = .ok (.istore 5, 2) := dk_54 5 (dk_at dksX1_begin_12 3 rfl rfl)
theorem dX1_begin_286 : decode cX1_begin 286 = .ok (.iconst 0, 1) := dk_3 (dk_at dksX1_begin_12 5 rfl rfl)
theorem dX1_begin_287 : decode cX1_begin 287 = .ok (.istore 6, 2) := dk_54 6 (dk_at dksX1_begin_12 6 rfl rfl)
theorem dX1_begin_289 : decode cX1_begin 289 = .ok (.iload 6, 2) := dk_21 6 (dk_at dksX1_begin_12 8 rfl rfl)
theorem dX1_begin_291 : decode cX1_begin 291 = .ok (.aload_n 0, 1) := dk_42 (dk_at dksX1_begin_12 10 rfl rfl)
theorem dX1_begin_292 : decode cX1_begin 292 = .ok (.getfield 142, 3) := dk_180 0 142 (dk_at dksX1_begin_12 11 rfl rfl)
theorem dX1_begin_295 : decode cX1_begin 295 = .ok (.if_icmp .ge 106, 3) := dk_162 0 106 (dk_at dksX1_begin_12 14 rfl rfl)
theorem dX1_begin_298 : decode cX1_begin 298 = .ok (.aload_n 0, 1) := dk_42 (dk_at dksX1_begin_12 17 rfl rfl)
theorem dX1_begin_299 : decode cX1_begin 299 = .ok (.getfield 81, 3) := dk_180 0 81 (dk_at dksX1_begin_12 18 rfl rfl)
theorem dX1_begin_302 : decode cX1_begin 302 = .ok (.iload 6, 2) := dk_21 6 (dk_at dksX1_begin_12 21 rfl rfl)
theorem dX1_begin_304 : decode cX1_begin 304 = .ok (.baload, 1) := dk_51 (dk_at dksX1_begin_12 23 rfl rfl)
theorem dX1_begin_305 : decode cX1_begin 305 = .ok (.ifCond .eq 30, 3) := dk_153 0 30 (dk_at dksX1_begin_13 0 rfl rfl)
theorem dX1_begin_308 : decode cX1_begin 308 = .ok (.aload_n 0, 1) := dk_42 (dk_at dksX1_begin_13 3 rfl rfl)
theorem dX1_begin_309 : decode cX1_begin 309 = .ok (.getfield 25, 3) := dk_180 0 25 (dk_at dksX1_begin_13 4 rfl rfl)
theorem dX1_begin_312 : decode cX1_begin 312 = .ok (.iload 6, 2) := dk_21 6 (dk_at dksX1_begin_13 7 rfl rfl)
theorem dX1_begin_314 : decode cX1_begin 314 = .ok (.iaload, 1) := dk_46 (dk_at dksX1_begin_13 9 rfl rfl)
theorem dX1_begin_315 : decode cX1_begin 315 = .ok (.iload 5, 2) := dk_21 5 (dk_at dksX1_begin_13 10 rfl rfl)
theorem dX1_begin_317 : decode cX1_begin 317 = .ok (.if_icmp .ne 18, 3) := dk_160 0 18 (dk_at dksX1_begin_13 12 rfl rfl)
theorem dX1_begin_320 : decode cX1_begin 320 = .ok (.aload_n 0, 1) := dk_42 (dk_at dksX1_begin_13 15 rfl rfl)
theorem dX1_begin_321 : decode cX1_begin 321 = .ok (.getfield 28, 3) := dk_180 0 28 (dk_at dksX1_begin_13 16 rfl rfl)
theorem dX1_begin_324 : decode cX1_begin 324 = .ok (.iload 6, 2) := dk_21 6 (dk_at dksX1_begin_13 19 rfl rfl)
theorem dX1_begin_326 : decode cX1_begin 326 = .ok (.iaload, 1) := dk_46 (dk_at dksX1_begin_13 21 rfl rfl)
theorem dX1_begin_327 : decode cX1_begin 327 = .ok (.iload_n 1, 1) := dk_27 (dk_at dksX1_begin_13 22 rfl rfl)
theorem dX1_begin_328 : decode cX1_begin 328 = .ok (.if_icmp .eq 7, 3) := dk_159 0 7 (dk_at dksX1_begin_14 0 rfl rfl)
theorem dX1_begin_331 : decode cX1_begin 331 = .ok (.iconst 1, 1) := dk_4 (dk_at dksX1_begin_14 3 rfl rfl)
theorem dX1_begin_332 : decode cX1_begin 332 = .ok (.goto 4, 3) := dk_167 0 4 (dk_at dksX1_begin_14 4 rfl rfl)
theorem dX1_begin_335 : decode cX1_begin 335 = .ok (.iconst 0, 1) := dk_3 (dk_at dksX1_begin_14 7 rfl rfl)
theorem dX1_begin_336 : decode cX1_begin 336 = .ok (.istore 7, 2) := dk_54 7 (dk_at dksX1_begin_14 8 rfl rfl)
theorem dX1_begin_338 : decode cX1_begin 338 = .ok (.aload_n 0, 1) := dk_42 (dk_at dksX1_begin_14 10 rfl rfl)
theorem dX1_begin_339 : decode cX1_begin 339 = .ok (.getfield 87, 3) := dk_180 0 87 (dk_at dksX1_begin_14 11 rfl rfl)
theorem dX1_begin_342 : decode cX1_begin 342 = .ok (.iload 5, 2) := dk_21 5 (dk_at dksX1_begin_14 14 rfl rfl)
theorem dX1_begin_344 : decode cX1_begin 344 = .ok (.aload_n 0, 1) := dk_42 (dk_at dksX1_begin_14 16 rfl rfl)
theorem dX1_begin_345 : decode cX1_begin 345 = .ok (.getfield 87, 3) := dk_180 0 87 (dk_at dksX1_begin_14 17 rfl rfl)
theorem dX1_begin_348 : decode cX1_begin 348 = .ok (.iload 5, 2) := dk_21 5 (dk_at dksX1_begin_14 20 rfl rfl)
theorem dX1_begin_350 : decode cX1_begin 350 = .ok (.baload, 1) := dk_51 (dk_at dksX1_begin_14 22 rfl rfl)
theorem dX1_begin_351 : decode cX1_begin 351 = .ok (.ifCond .ne 38, 3) := dk_154 0 38 (dk_at dksX1_begin_15 0 rfl rfl)
theorem dX1_begin_354 : decode cX1_begin 354 = .ok (.iload 7, 2) := dk_21 7 (dk_at dksX1_begin_15 3 rfl rfl)
theorem dX1_begin_356 : decode cX1_begin 356 = .ok (.ifCond .eq 37, 3) := dk_153 0 37 (dk_at dksX1_begin_15 5 rfl rfl)
theorem dX1_begin_359 : decode cX1_begin 359 = .ok (.aload_n 0, 1) := dk_42 (dk_at dksX1_begin_15 8 rfl rfl)
theorem dX1_begin_360 : decode cX1_begin 360 = .ok (.getfield 84, 3) := dk_180 0 84 (dk_at dksX1_begin_15 9 rfl rfl)
theorem dX1_begin_363 : decode cX1_begin 363 = .ok (.aload_n 0, 1) := dk_42 (dk_at dksX1_begin_15 12 rfl rfl)
theorem dX1_begin_364 : decode cX1_begin 364 = .ok (.getfield 28, 3) := dk_180 0 28 (dk_at dksX1_begin_15 13 rfl rfl)
theorem dX1_begin_367 : decode cX1_begin 367 = .ok (.iload 6, 2) := dk_21 6 (dk_at dksX1_begin_15 16 rfl rfl)
theorem dX1_begin_369 : decode cX1_begin 369 = .ok (.iaload, 1) := dk_46 (dk_at dksX1_begin_15 18 rfl rfl)
theorem dX1_begin_370 : decode cX1_begin 370 = .ok (.baload, 1) := dk_51 (dk_at dksX1_begin_15 19 rfl rfl)
theorem dX1_begin_371 : decode cX1_begin 371 = .ok (.ifCond .ne 18, 3) := dk_154 0 18 (dk_at dksX1_begin_15 20 rfl rfl)
theorem dX1_begin_374 : decode cX1_begin 374 = .ok (.aload_n 0, 1) := dk_42 (dk_at dksX1_begin_15 23 rfl rfl)
theorem dX1_begin_375 : decode cX1_begin 375 = .ok (.getfield 87, 3) := dk_180 0 87 (dk_at dksX1_begin_16 0 rfl rfl)
theorem dX1_begin_378 : decode cX1_begin 378 = .ok (.aload_n 0, 1) := dk_42 (dk_at dksX1_begin_16 3 rfl rfl)
theorem dX1_begin_379 : decode cX1_begin 379 = .ok (.getfield 28, 3) := dk_180 0 28 (dk_at dksX1_begin_16 4 rfl rfl)
theorem dX1_begin_382 : decode cX1_begin 382 = .ok (.iload 6, 2) := dk_21 6 (dk_at dksX1_begin_16 7 rfl rfl)
theorem dX1_begin_384 : decode cX1_begin 384 = .ok (.iaload, 1) := dk_46 (dk_at dksX1_begin_16 9 rfl rfl)
theorem dX1_begin_385 : decode cX1_begin 385 = .ok (.baload, 1) := dk_51 (dk_at dksX1_begin_16 10 rfl rfl)
theorem dX1_begin_386 : decode cX1_begin 386 = .ok (.ifCond .eq 7, 3) := dk_153 0 7 (dk_at dksX1_begin_16 11 rfl rfl)
theorem dX1_begin_389 : decode cX1_begin 389 = .ok (.iconst 1, 1) := dk_4 (dk_at dksX1_begin_16 14 rfl rfl)
theorem dX1_begin_390 : decode cX1_begin 390 = .ok (.goto 4, 3) := dk_167 0 4 (dk_at dksX1_begin_16 15 rfl rfl)
theorem dX1_begin_393 : decode cX1_begin 393 = .ok (.iconst 0, 1) := dk_3 (dk_at dksX1_begin_16 18 rfl rfl)
theorem dX1_begin_394 : decode cX1_begin 394 = .ok (.bastore, 1) := dk_84 (dk_at dksX1_begin_16 19 rfl rfl)
theorem dX1_begin_395 : decode cX1_begin 395 = .ok (.iinc 6 1, 3) := dk_132 6 1 (dk_at dksX1_begin_16 20 rfl rfl)
theorem dX1_begin_398 : decode cX1_begin 398 = .ok (.goto (-109), 3) := dk_167 255 147 (dk_at dksX1_begin_17 0 rfl rfl)
theorem dX1_begin_401 : decode cX1_begin 401 = .ok (.iinc 4 1, 3) := dk_132 4 1 (dk_at dksX1_begin_17 3 rfl rfl)
theorem dX1_begin_404 : decode cX1_begin 404 = .ok (.goto (-136), 3) := dk_167 255 120 (dk_at dksX1_begin_17 6 rfl rfl)
theorem dX1_begin_407 : decode cX1_begin 407 = .ok (.return_, 1) := dk_177 (dk_at dksX1_begin_17 9 rfl rfl)
abbrev cX1_setOrder : ByteArray := prog_8_method_29_code
def yX1_setOrder : MethodName := ⟨RX1, "setOrder", "()V"⟩
def dkwX1_setOrder_2 : List UInt8 := [4, 100, 46, 79, 132, 2, 255, 167, 255, 213, 42, 180, 0, 93, 28, 27, 79, 132, 1, 1, 167, 255, 190, 177]
abbrev dktX1_setOrder_2 : List UInt8 := dkwX1_setOrder_2 ++ []
def dkwX1_setOrder_1 : List UInt8 := [28, 4, 100, 46, 46, 42, 180, 0, 16, 27, 46, 162, 0, 23, 42, 180, 0, 93, 28, 42, 180, 0, 93, 28]
abbrev dktX1_setOrder_1 : List UInt8 := dkwX1_setOrder_1 ++ dktX1_setOrder_2
def dkwX1_setOrder_0 : List UInt8 := [3, 60, 27, 42, 180, 0, 139, 162, 0, 64, 27, 61, 28, 158, 0, 45, 42, 180, 0, 16, 42, 180, 0, 93]
abbrev dktX1_setOrder_0 : List UInt8 := dkwX1_setOrder_0 ++ dktX1_setOrder_1
theorem dksX1_setOrder_0 : cX1_setOrder.data.toList.drop 0 = dktX1_setOrder_0 := by decide +kernel
theorem dksX1_setOrder_1 : cX1_setOrder.data.toList.drop 24 = dktX1_setOrder_1 := dk_seg dksX1_setOrder_0 24 rfl rfl
theorem dksX1_setOrder_2 : cX1_setOrder.data.toList.drop 48 = dktX1_setOrder_2 := dk_seg dksX1_setOrder_1 24 rfl rfl
theorem dX1_setOrder_0 : decode cX1_setOrder 0 = .ok (.iconst 0, 1) := dk_3 (dk_at dksX1_setOrder_0 0 rfl rfl)
theorem dX1_setOrder_1 : decode cX1_setOrder 1 = .ok (.istore_n 1, 1) := dk_60 (dk_at dksX1_setOrder_0 1 rfl rfl)
theorem dX1_setOrder_2 : decode cX1_setOrder 2 = .ok (.iload_n 1, 1) := dk_27 (dk_at dksX1_setOrder_0 2 rfl rfl)
theorem dX1_setOrder_3 : decode cX1_setOrder 3 = .ok (.aload_n 0, 1) := dk_42 (dk_at dksX1_setOrder_0 3 rfl rfl)
theorem dX1_setOrder_4 : decode cX1_setOrder 4 = .ok (.getfield 139, 3) := dk_180 0 139 (dk_at dksX1_setOrder_0 4 rfl rfl)
theorem dX1_setOrder_7 : decode cX1_setOrder 7 = .ok (.if_icmp .ge 64, 3) := dk_162 0 64 (dk_at dksX1_setOrder_0 7 rfl rfl)
theorem dX1_setOrder_10 : decode cX1_setOrder 10 = .ok (.iload_n 1, 1) := dk_27 (dk_at dksX1_setOrder_0 10 rfl rfl)
theorem dX1_setOrder_11 : decode cX1_setOrder 11 = .ok (.istore_n 2, 1) := dk_61 (dk_at dksX1_setOrder_0 11 rfl rfl)
theorem dX1_setOrder_12 : decode cX1_setOrder 12 = .ok (.iload_n 2, 1) := dk_28 (dk_at dksX1_setOrder_0 12 rfl rfl)
theorem dX1_setOrder_13 : decode cX1_setOrder 13 = .ok (.ifCond .le 45, 3) := dk_158 0 45 (dk_at dksX1_setOrder_0 13 rfl rfl)
theorem dX1_setOrder_16 : decode cX1_setOrder 16 = .ok (.aload_n 0, 1) := dk_42 (dk_at dksX1_setOrder_0 16 rfl rfl)
theorem dX1_setOrder_17 : decode cX1_setOrder 17 = .ok (.getfield 16, 3) := dk_180 0 16 (dk_at dksX1_setOrder_0 17 rfl rfl)
theorem dX1_setOrder_20 : decode cX1_setOrder 20 = .ok (.aload_n 0, 1) := dk_42 (dk_at dksX1_setOrder_0 20 rfl rfl)
theorem dX1_setOrder_21 : decode cX1_setOrder 21 = .ok (.getfield 93, 3) := dk_180 0 93 (dk_at dksX1_setOrder_0 21 rfl rfl)
theorem dX1_setOrder_24 : decode cX1_setOrder 24 = .ok (.iload_n 2, 1) := dk_28 (dk_at dksX1_setOrder_1 0 rfl rfl)
theorem dX1_setOrder_25 : decode cX1_setOrder 25 = .ok (.iconst 1, 1) := dk_4 (dk_at dksX1_setOrder_1 1 rfl rfl)
theorem dX1_setOrder_26 : decode cX1_setOrder 26 = .ok (.isub, 1) := dk_100 (dk_at dksX1_setOrder_1 2 rfl rfl)
theorem dX1_setOrder_27 : decode cX1_setOrder 27 = .ok (.iaload, 1) := dk_46 (dk_at dksX1_setOrder_1 3 rfl rfl)
theorem dX1_setOrder_28 : decode cX1_setOrder 28 = .ok (.iaload, 1) := dk_46 (dk_at dksX1_setOrder_1 4 rfl rfl)
theorem dX1_setOrder_29 : decode cX1_setOrder 29 = .ok (.aload_n 0, 1) := dk_42 (dk_at dksX1_setOrder_1 5 rfl rfl)
theorem dX1_setOrder_30 : decode cX1_setOrder 30 = .ok (.getfield 16, 3) := dk_180 0 16 (dk_at dksX1_setOrder_1 6 rfl rfl)
theorem dX1_setOrder_33 : decode cX1_setOrder 33 = .ok (.iload_n 1, 1) := dk_27 (dk_at dksX1_setOrder_1 9 rfl rfl)
theorem dX1_setOrder_34 : decode cX1_setOrder 34 = .ok (.iaload, 1) := dk_46 (dk_at dksX1_setOrder_1 10 rfl rfl)
theorem dX1_setOrder_35 : decode cX1_setOrder 35 = .ok (.if_icmp .ge 23, 3) := dk_162 0 23 (dk_at dksX1_setOrder_1 11 rfl rfl)
theorem dX1_setOrder_38 : decode cX1_setOrder 38 = .ok (.aload_n 0, 1) := dk_42 (dk_at dksX1_setOrder_1 14 rfl rfl)
theorem dX1_setOrder_39 : decode cX1_setOrder 39 = .ok (.getfield 93, 3) := dk_180 0 93 (dk_at dksX1_setOrder_1 15 rfl rfl)
theorem dX1_setOrder_42 : decode cX1_setOrder 42 = .ok (.iload_n 2, 1) := dk_28 (dk_at dksX1_setOrder_1 18 rfl rfl)
theorem dX1_setOrder_43 : decode cX1_setOrder 43 = .ok (.aload_n 0, 1) := dk_42 (dk_at dksX1_setOrder_1 19 rfl rfl)
theorem dX1_setOrder_44 : decode cX1_setOrder 44 = .ok (.getfield 93, 3) := dk_180 0 93 (dk_at dksX1_setOrder_1 20 rfl rfl)
theorem dX1_setOrder_47 : decode cX1_setOrder 47 = .ok (.iload_n 2, 1) := dk_28 (dk_at dksX1_setOrder_1 23 rfl rfl)
theorem dX1_setOrder_48 : decode cX1_setOrder 48 = .ok (.iconst 1, 1) := dk_4 (dk_at dksX1_setOrder_2 0 rfl rfl)
theorem dX1_setOrder_49 : decode cX1_setOrder 49 = .ok (.isub, 1) := dk_100 (dk_at dksX1_setOrder_2 1 rfl rfl)
theorem dX1_setOrder_50 : decode cX1_setOrder 50 = .ok (.iaload, 1) := dk_46 (dk_at dksX1_setOrder_2 2 rfl rfl)
theorem dX1_setOrder_51 : decode cX1_setOrder 51 = .ok (.iastore, 1) := dk_79 (dk_at dksX1_setOrder_2 3 rfl rfl)
theorem dX1_setOrder_52 : decode cX1_setOrder 52 = .ok (.iinc 2 (-1), 3) := dk_132 2 255 (dk_at dksX1_setOrder_2 4 rfl rfl)
theorem dX1_setOrder_55 : decode cX1_setOrder 55 = .ok (.goto (-43), 3) := dk_167 255 213 (dk_at dksX1_setOrder_2 7 rfl rfl)
theorem dX1_setOrder_58 : decode cX1_setOrder 58 = .ok (.aload_n 0, 1) := dk_42 (dk_at dksX1_setOrder_2 10 rfl rfl)
theorem dX1_setOrder_59 : decode cX1_setOrder 59 = .ok (.getfield 93, 3) := dk_180 0 93 (dk_at dksX1_setOrder_2 11 rfl rfl)
theorem dX1_setOrder_62 : decode cX1_setOrder 62 = .ok (.iload_n 2, 1) := dk_28 (dk_at dksX1_setOrder_2 14 rfl rfl)
theorem dX1_setOrder_63 : decode cX1_setOrder 63 = .ok (.iload_n 1, 1) := dk_27 (dk_at dksX1_setOrder_2 15 rfl rfl)
theorem dX1_setOrder_64 : decode cX1_setOrder 64 = .ok (.iastore, 1) := dk_79 (dk_at dksX1_setOrder_2 16 rfl rfl)
theorem dX1_setOrder_65 : decode cX1_setOrder 65 = .ok (.iinc 1 1, 3) := dk_132 1 1 (dk_at dksX1_setOrder_2 17 rfl rfl)
theorem dX1_setOrder_68 : decode cX1_setOrder 68 = .ok (.goto (-66), 3) := dk_167 255 190 (dk_at dksX1_setOrder_2 20 rfl rfl)
theorem dX1_setOrder_71 : decode cX1_setOrder 71 = .ok (.return_, 1) := dk_177 (dk_at dksX1_setOrder_2 23 rfl rfl)
abbrev cX1_setHeads : ByteArray := prog_8_method_35_code
def yX1_setHeads : MethodName := ⟨RX1, "setHeads", "(I)V"⟩
def dkwX1_setHeads_4 : List UInt8 := [29, 46, 182, 0, 228, 132, 3, 1, 167, 255, 206, 132, 2, 1, 167, 255, 153, 177]
abbrev dktX1_setHeads_4 : List UInt8 := dkwX1_setHeads_4 ++ []
def dkwX1_setHeads_3 : List UInt8 := [51, 153, 0, 28, 42, 180, 0, 28, 29, 46, 42, 180, 0, 25, 28, 46, 160, 0, 13, 42, 42, 180, 0, 25]
abbrev dktX1_setHeads_3 : List UInt8 := dkwX1_setHeads_3 ++ dktX1_setHeads_4
def dkwX1_setHeads_2 : List UInt8 := [46, 182, 0, 228, 3, 62, 29, 42, 180, 0, 142, 162, 0, 48, 27, 6, 160, 0, 43, 42, 180, 0, 81, 29]
abbrev dktX1_setHeads_2 : List UInt8 := dkwX1_setHeads_2 ++ dktX1_setHeads_3
def dkwX1_setHeads_1 : List UInt8 := [42, 180, 0, 28, 28, 46, 42, 180, 0, 202, 160, 0, 73, 27, 5, 160, 0, 13, 42, 42, 180, 0, 25, 28]
abbrev dktX1_setHeads_1 : List UInt8 := dkwX1_setHeads_1 ++ dktX1_setHeads_2
def dkwX1_setHeads_0 : List UInt8 := [42, 3, 181, 0, 225, 3, 61, 28, 42, 180, 0, 142, 162, 0, 101, 42, 180, 0, 81, 28, 51, 153, 0, 86]
abbrev dktX1_setHeads_0 : List UInt8 := dkwX1_setHeads_0 ++ dktX1_setHeads_1
theorem dksX1_setHeads_0 : cX1_setHeads.data.toList.drop 0 = dktX1_setHeads_0 := by decide +kernel
theorem dksX1_setHeads_1 : cX1_setHeads.data.toList.drop 24 = dktX1_setHeads_1 := dk_seg dksX1_setHeads_0 24 rfl rfl
theorem dksX1_setHeads_2 : cX1_setHeads.data.toList.drop 48 = dktX1_setHeads_2 := dk_seg dksX1_setHeads_1 24 rfl rfl
theorem dksX1_setHeads_3 : cX1_setHeads.data.toList.drop 72 = dktX1_setHeads_3 := dk_seg dksX1_setHeads_2 24 rfl rfl
theorem dksX1_setHeads_4 : cX1_setHeads.data.toList.drop 96 = dktX1_setHeads_4 := dk_seg dksX1_setHeads_3 24 rfl rfl
theorem dX1_setHeads_0 : decode cX1_setHeads 0 = .ok (.aload_n 0, 1) := dk_42 (dk_at dksX1_setHeads_0 0 rfl rfl)
theorem dX1_setHeads_1 : decode cX1_setHeads 1 = .ok (.iconst 0, 1) := dk_3 (dk_at dksX1_setHeads_0 1 rfl rfl)
theorem dX1_setHeads_2 : decode cX1_setHeads 2 = .ok (.putfield 225, 3) := dk_181 0 225 (dk_at dksX1_setHeads_0 2 rfl rfl)
theorem dX1_setHeads_5 : decode cX1_setHeads 5 = .ok (.iconst 0, 1) := dk_3 (dk_at dksX1_setHeads_0 5 rfl rfl)
theorem dX1_setHeads_6 : decode cX1_setHeads 6 = .ok (.istore_n 2, 1) := dk_61 (dk_at dksX1_setHeads_0 6 rfl rfl)
theorem dX1_setHeads_7 : decode cX1_setHeads 7 = .ok (.iload_n 2, 1) := dk_28 (dk_at dksX1_setHeads_0 7 rfl rfl)
theorem dX1_setHeads_8 : decode cX1_setHeads 8 = .ok (.aload_n 0, 1) := dk_42 (dk_at dksX1_setHeads_0 8 rfl rfl)
theorem dX1_setHeads_9 : decode cX1_setHeads 9 = .ok (.getfield 142, 3) := dk_180 0 142 (dk_at dksX1_setHeads_0 9 rfl rfl)
theorem dX1_setHeads_12 : decode cX1_setHeads 12 = .ok (.if_icmp .ge 101, 3) := dk_162 0 101 (dk_at dksX1_setHeads_0 12 rfl rfl)
theorem dX1_setHeads_15 : decode cX1_setHeads 15 = .ok (.aload_n 0, 1) := dk_42 (dk_at dksX1_setHeads_0 15 rfl rfl)
theorem dX1_setHeads_16 : decode cX1_setHeads 16 = .ok (.getfield 81, 3) := dk_180 0 81 (dk_at dksX1_setHeads_0 16 rfl rfl)
theorem dX1_setHeads_19 : decode cX1_setHeads 19 = .ok (.iload_n 2, 1) := dk_28 (dk_at dksX1_setHeads_0 19 rfl rfl)
theorem dX1_setHeads_20 : decode cX1_setHeads 20 = .ok (.baload, 1) := dk_51 (dk_at dksX1_setHeads_0 20 rfl rfl)
theorem dX1_setHeads_21 : decode cX1_setHeads 21 = .ok (.ifCond .eq 86, 3) := dk_153 0 86 (dk_at dksX1_setHeads_0 21 rfl rfl)
theorem dX1_setHeads_24 : decode cX1_setHeads 24 = .ok (.aload_n 0, 1) := dk_42 (dk_at dksX1_setHeads_1 0 rfl rfl)
theorem dX1_setHeads_25 : decode cX1_setHeads 25 = .ok (.getfield 28, 3) := dk_180 0 28 (dk_at dksX1_setHeads_1 1 rfl rfl)
theorem dX1_setHeads_28 : decode cX1_setHeads 28 = .ok (.iload_n 2, 1) := dk_28 (dk_at dksX1_setHeads_1 4 rfl rfl)
theorem dX1_setHeads_29 : decode cX1_setHeads 29 = .ok (.iaload, 1) := dk_46 (dk_at dksX1_setHeads_1 5 rfl rfl)
theorem dX1_setHeads_30 : decode cX1_setHeads 30 = .ok (.aload_n 0, 1) := dk_42 (dk_at dksX1_setHeads_1 6 rfl rfl)
theorem dX1_setHeads_31 : decode cX1_setHeads 31 = .ok (.getfield 202, 3) := dk_180 0 202 (dk_at dksX1_setHeads_1 7 rfl rfl)
theorem dX1_setHeads_34 : decode cX1_setHeads 34 = .ok (.if_icmp .ne 73, 3) := dk_160 0 73 (dk_at dksX1_setHeads_1 10 rfl rfl)
theorem dX1_setHeads_37 : decode cX1_setHeads 37 = .ok (.iload_n 1, 1) := dk_27 (dk_at dksX1_setHeads_1 13 rfl rfl)
theorem dX1_setHeads_38 : decode cX1_setHeads 38 = .ok (.iconst 2, 1) := dk_5 (dk_at dksX1_setHeads_1 14 rfl rfl)
theorem dX1_setHeads_39 : decode cX1_setHeads 39 = .ok (.if_icmp .ne 13, 3) := dk_160 0 13 (dk_at dksX1_setHeads_1 15 rfl rfl)
theorem dX1_setHeads_42 : decode cX1_setHeads 42 = .ok (.aload_n 0, 1) := dk_42 (dk_at dksX1_setHeads_1 18 rfl rfl)
theorem dX1_setHeads_43 : decode cX1_setHeads 43 = .ok (.aload_n 0, 1) := dk_42 (dk_at dksX1_setHeads_1 19 rfl rfl)
theorem dX1_setHeads_44 : decode cX1_setHeads 44 = .ok (.getfield 25, 3) := dk_180 0 25 (dk_at dksX1_setHeads_1 20 rfl rfl)
theorem dX1_setHeads_47 : decode cX1_setHeads 47 = .ok (.iload_n 2, 1) := dk_28 (dk_at dksX1_setHeads_1 23 rfl rfl)
theorem dX1_setHeads_48 : decode cX1_setHeads 48 = .ok (.iaload, 1) := dk_46 (dk_at dksX1_setHeads_2 0 rfl rfl)
theorem dX1_setHeads_49 : decode cX1_setHeads 49 = .ok (.invokevirtual 228, 3) := dk_182 0 228 (dk_at dksX1_setHeads_2 1 rfl rfl)
theorem dX1_setHeads_52 : decode cX1_setHeads 52 = .ok (.iconst 0, 1) := dk_3 (dk_at dksX1_setHeads_2 4 rfl rfl)
theorem dX1_setHeads_53 : decode cX1_setHeads 53 = .ok (.istore_n 3, 1) := dk_62 (dk_at dksX1_setHeads_2 5 rfl rfl)
theorem dX1_setHeads_54 : decode cX1_setHeads 54 = .ok (.iload_n 3, 1) := dk_29 (dk_at dksX1_setHeads_2 6 rfl rfl)
theorem dX1_setHeads_55 : decode cX1_setHeads 55 = .ok (.aload_n 0, 1) := dk_42 (dk_at dksX1_setHeads_2 7 rfl rfl)
theorem dX1_setHeads_56 : decode cX1_setHeads 56 = .ok (.getfield 142, 3) := dk_180 0 142 (dk_at dksX1_setHeads_2 8 rfl rfl)
theorem dX1_setHeads_59 : decode cX1_setHeads 59 = .ok (.if_icmp .ge 48, 3) := dk_162 0 48 (dk_at dksX1_setHeads_2 11 rfl rfl)
theorem dX1_setHeads_62 : decode cX1_setHeads 62 = .ok (.iload_n 1, 1) := dk_27 (dk_at dksX1_setHeads_2 14 rfl rfl)
theorem dX1_setHeads_63 : decode cX1_setHeads 63 = .ok (.iconst 3, 1) := dk_6 (dk_at dksX1_setHeads_2 15 rfl rfl)
theorem dX1_setHeads_64 : decode cX1_setHeads 64 = .ok (.if_icmp .ne 43, 3) := dk_160 0 43 (dk_at dksX1_setHeads_2 16 rfl rfl)
theorem dX1_setHeads_67 : decode cX1_setHeads 67 = .ok (.aload_n 0, 1) := dk_42 (dk_at dksX1_setHeads_2 19 rfl rfl)
theorem dX1_setHeads_68 : decode cX1_setHeads 68 = .ok (.getfield 81, 3) := dk_180 0 81 (dk_at dksX1_setHeads_2 20 rfl rfl)
theorem dX1_setHeads_71 : decode cX1_setHeads 71 = .ok (.iload_n 3, 1) := dk_29 (dk_at dksX1_setHeads_2 23 rfl rfl)
theorem dX1_setHeads_72 : decode cX1_setHeads 72 = .ok (.baload, 1) := dk_51 (dk_at dksX1_setHeads_3 0 rfl rfl)
theorem dX1_setHeads_73 : decode cX1_setHeads 73 = .ok (.ifCond .eq 28, 3) := dk_153 0 28 (dk_at dksX1_setHeads_3 1 rfl rfl)
theorem dX1_setHeads_76 : decode cX1_setHeads 76 = .ok (.aload_n 0, 1) := dk_42 (dk_at dksX1_setHeads_3 4 rfl rfl)
theorem dX1_setHeads_77 : decode cX1_setHeads 77 = .ok (.getfield 28, 3) := dk_180 0 28 (dk_at dksX1_setHeads_3 5 rfl rfl)
theorem dX1_setHeads_80 : decode cX1_setHeads 80 = .ok (.iload_n 3, 1) := dk_29 (dk_at dksX1_setHeads_3 8 rfl rfl)
theorem dX1_setHeads_81 : decode cX1_setHeads 81 = .ok (.iaload, 1) := dk_46 (dk_at dksX1_setHeads_3 9 rfl rfl)
theorem dX1_setHeads_82 : decode cX1_setHeads 82 = .ok (.aload_n 0, 1) := dk_42 (dk_at dksX1_setHeads_3 10 rfl rfl)
theorem dX1_setHeads_83 : decode cX1_setHeads 83 = .ok (.getfield 25, 3) := dk_180 0 25 (dk_at dksX1_setHeads_3 11 rfl rfl)
theorem dX1_setHeads_86 : decode cX1_setHeads 86 = .ok (.iload_n 2, 1) := dk_28 (dk_at dksX1_setHeads_3 14 rfl rfl)
theorem dX1_setHeads_87 : decode cX1_setHeads 87 = .ok (.iaload, 1) := dk_46 (dk_at dksX1_setHeads_3 15 rfl rfl)
theorem dX1_setHeads_88 : decode cX1_setHeads 88 = .ok (.if_icmp .ne 13, 3) := dk_160 0 13 (dk_at dksX1_setHeads_3 16 rfl rfl)
theorem dX1_setHeads_91 : decode cX1_setHeads 91 = .ok (.aload_n 0, 1) := dk_42 (dk_at dksX1_setHeads_3 19 rfl rfl)
theorem dX1_setHeads_92 : decode cX1_setHeads 92 = .ok (.aload_n 0, 1) := dk_42 (dk_at dksX1_setHeads_3 20 rfl rfl)
theorem dX1_setHeads_93 : decode cX1_setHeads 93 = .ok (.getfield 25, 3) := dk_180 0 25 (dk_at dksX1_setHeads_3 21 rfl rfl)
theorem dX1_setHeads_96 : decode cX1_setHeads 96 = .ok (.iload_n 3, 1) := dk_29 (dk_at dksX1_setHeads_4 0 rfl rfl)
theorem dX1_setHeads_97 : decode cX1_setHeads 97 = .ok (.iaload, 1) := dk_46 (dk_at dksX1_setHeads_4 1 rfl rfl)
theorem dX1_setHeads_98 : decode cX1_setHeads 98 = .ok (.invokevirtual 228, 3) := dk_182 0 228 (dk_at dksX1_setHeads_4 2 rfl rfl)
theorem dX1_setHeads_101 : decode cX1_setHeads 101 = .ok (.iinc 3 1, 3) := dk_132 3 1 (dk_at dksX1_setHeads_4 5 rfl rfl)
theorem dX1_setHeads_104 : decode cX1_setHeads 104 = .ok (.goto (-50), 3) := dk_167 255 206 (dk_at dksX1_setHeads_4 8 rfl rfl)
theorem dX1_setHeads_107 : decode cX1_setHeads 107 = .ok (.iinc 2 1, 3) := dk_132 2 1 (dk_at dksX1_setHeads_4 11 rfl rfl)
theorem dX1_setHeads_110 : decode cX1_setHeads 110 = .ok (.goto (-103), 3) := dk_167 255 153 (dk_at dksX1_setHeads_4 14 rfl rfl)
theorem dX1_setHeads_113 : decode cX1_setHeads 113 = .ok (.return_, 1) := dk_177 (dk_at dksX1_setHeads_4 17 rfl rfl)
abbrev cX1_addHead : ByteArray := prog_8_method_36_code
def yX1_addHead : MethodName := ⟨RX1, "addHead", "(I)V"⟩
def dkwX1_addHead_1 : List UInt8 := [96, 181, 0, 225, 177]
abbrev dktX1_addHead_1 : List UInt8 := dkwX1_addHead_1 ++ []
def dkwX1_addHead_0 : List UInt8 := [42, 27, 182, 0, 232, 153, 0, 23, 42, 180, 0, 102, 42, 180, 0, 225, 27, 79, 42, 89, 180, 0, 225, 4]
abbrev dktX1_addHead_0 : List UInt8 := dkwX1_addHead_0 ++ dktX1_addHead_1
theorem dksX1_addHead_0 : cX1_addHead.data.toList.drop 0 = dktX1_addHead_0 := by decide +kernel
theorem dksX1_addHead_1 : cX1_addHead.data.toList.drop 24 = dktX1_addHead_1 := dk_seg dksX1_addHead_0 24 rfl rfl
theorem dX1_addHead_0 : decode cX1_addHead 0 = .ok (.aload_n 0, 1) := dk_42 (dk_at dksX1_addHead_0 0 rfl rfl)
theorem dX1_addHead_1 : decode cX1_addHead 1 = .ok (.iload_n 1, 1) := dk_27 (dk_at dksX1_addHead_0 1 rfl rfl)
theorem dX1_addHead_2 : decode cX1_addHead 2 = .ok (.invokevirtual 232, 3) := dk_182 0 232 (dk_at dksX1_addHead_0 2 rfl rfl)
theorem dX1_addHead_5 : decode cX1_addHead 5 = .ok (.ifCond .eq 23, 3) := dk_153 0 23 (dk_at dksX1_addHead_0 5 rfl rfl)
theorem dX1_addHead_8 : decode cX1_addHead 8 = .ok (.aload_n 0, 1) := dk_42 (dk_at dksX1_addHead_0 8 rfl rfl)
theorem dX1_addHead_9 : decode cX1_addHead 9 = .ok (.getfield 102, 3) := dk_180 0 102 (dk_at dksX1_addHead_0 9 rfl rfl)
theorem dX1_addHead_12 : decode cX1_addHead 12 = .ok (.aload_n 0, 1) := dk_42 (dk_at dksX1_addHead_0 12 rfl rfl)
theorem dX1_addHead_13 : decode cX1_addHead 13 = .ok (.getfield 225, 3) := dk_180 0 225 (dk_at dksX1_addHead_0 13 rfl rfl)
theorem dX1_addHead_16 : decode cX1_addHead 16 = .ok (.iload_n 1, 1) := dk_27 (dk_at dksX1_addHead_0 16 rfl rfl)
theorem dX1_addHead_17 : decode cX1_addHead 17 = .ok (.iastore, 1) := dk_79 (dk_at dksX1_addHead_0 17 rfl rfl)
theorem dX1_addHead_18 : decode cX1_addHead 18 = .ok (.aload_n 0, 1) := dk_42 (dk_at dksX1_addHead_0 18 rfl rfl)
theorem dX1_addHead_19 : decode cX1_addHead 19 = .ok (.dup, 1) := dk_89 (dk_at dksX1_addHead_0 19 rfl rfl)
theorem dX1_addHead_20 : decode cX1_addHead 20 = .ok (.getfield 225, 3) := dk_180 0 225 (dk_at dksX1_addHead_0 20 rfl rfl)
theorem dX1_addHead_23 : decode cX1_addHead 23 = .ok (.iconst 1, 1) := dk_4 (dk_at dksX1_addHead_0 23 rfl rfl)
theorem dX1_addHead_24 : decode cX1_addHead 24 = .ok (.iadd, 1) := dk_96 (dk_at dksX1_addHead_1 0 rfl rfl)
theorem dX1_addHead_25 : decode cX1_addHead 25 = .ok (.putfield 225, 3) := dk_181 0 225 (dk_at dksX1_addHead_1 1 rfl rfl)
theorem dX1_addHead_28 : decode cX1_addHead 28 = .ok (.return_, 1) := dk_177 (dk_at dksX1_addHead_1 4 rfl rfl)
abbrev cX1_mayTake : ByteArray := prog_8_method_34_code
def yX1_mayTake : MethodName := ⟨RX1, "mayTake", "(I)Z"⟩
def dkwX1_mayTake_0 : List UInt8 := [42, 180, 0, 84, 27, 51, 154, 0, 12, 42, 180, 0, 87, 27, 51, 153, 0, 7, 4, 167, 0, 4, 3, 172]
abbrev dktX1_mayTake_0 : List UInt8 := dkwX1_mayTake_0 ++ []
theorem dksX1_mayTake_0 : cX1_mayTake.data.toList.drop 0 = dktX1_mayTake_0 := by decide +kernel
theorem dX1_mayTake_0 : decode cX1_mayTake 0 = .ok (.aload_n 0, 1) := dk_42 (dk_at dksX1_mayTake_0 0 rfl rfl)
theorem dX1_mayTake_1 : decode cX1_mayTake 1 = .ok (.getfield 84, 3) := dk_180 0 84 (dk_at dksX1_mayTake_0 1 rfl rfl)
theorem dX1_mayTake_4 : decode cX1_mayTake 4 = .ok (.iload_n 1, 1) := dk_27 (dk_at dksX1_mayTake_0 4 rfl rfl)
theorem dX1_mayTake_5 : decode cX1_mayTake 5 = .ok (.baload, 1) := dk_51 (dk_at dksX1_mayTake_0 5 rfl rfl)
theorem dX1_mayTake_6 : decode cX1_mayTake 6 = .ok (.ifCond .ne 12, 3) := dk_154 0 12 (dk_at dksX1_mayTake_0 6 rfl rfl)
theorem dX1_mayTake_9 : decode cX1_mayTake 9 = .ok (.aload_n 0, 1) := dk_42 (dk_at dksX1_mayTake_0 9 rfl rfl)
theorem dX1_mayTake_10 : decode cX1_mayTake 10 = .ok (.getfield 87, 3) := dk_180 0 87 (dk_at dksX1_mayTake_0 10 rfl rfl)
theorem dX1_mayTake_13 : decode cX1_mayTake 13 = .ok (.iload_n 1, 1) := dk_27 (dk_at dksX1_mayTake_0 13 rfl rfl)
theorem dX1_mayTake_14 : decode cX1_mayTake 14 = .ok (.baload, 1) := dk_51 (dk_at dksX1_mayTake_0 14 rfl rfl)
theorem dX1_mayTake_15 : decode cX1_mayTake 15 = .ok (.ifCond .eq 7, 3) := dk_153 0 7 (dk_at dksX1_mayTake_0 15 rfl rfl)
theorem dX1_mayTake_18 : decode cX1_mayTake 18 = .ok (.iconst 1, 1) := dk_4 (dk_at dksX1_mayTake_0 18 rfl rfl)
theorem dX1_mayTake_19 : decode cX1_mayTake 19 = .ok (.goto 4, 3) := dk_167 0 4 (dk_at dksX1_mayTake_0 19 rfl rfl)
theorem dX1_mayTake_22 : decode cX1_mayTake 22 = .ok (.iconst 0, 1) := dk_3 (dk_at dksX1_mayTake_0 22 rfl rfl)
theorem dX1_mayTake_23 : decode cX1_mayTake 23 = .ok (.ireturn, 1) := dk_172 (dk_at dksX1_mayTake_0 23 rfl rfl)
abbrev cX1_coupled : ByteArray := prog_8_method_37_code
def yX1_coupled : MethodName := ⟨RX1, "coupled", "()I"⟩
def dkwX1_coupled_5 : List UInt8 := [167, 255, 146, 16, 247, 172]
abbrev dktX1_coupled_5 : List UInt8 := dkwX1_coupled_5 ++ []
def dkwX1_coupled_4 : List UInt8 := [180, 0, 53, 27, 46, 163, 0, 14, 42, 180, 0, 84, 28, 51, 153, 0, 5, 28, 172, 132, 1, 1]
abbrev dktX1_coupled_4 : List UInt8 := dkwX1_coupled_4 ++ dktX1_coupled_5
def dkwX1_coupled_3 : List UInt8 := [180, 0, 205, 163, 0, 38, 42, 180, 0, 53, 27, 46, 16, 247, 159, 0, 16, 42, 180, 0, 205, 42]
abbrev dktX1_coupled_3 : List UInt8 := dkwX1_coupled_3 ++ dktX1_coupled_4
def dkwX1_coupled_2 : List UInt8 := [180, 0, 44, 27, 46, 167, 0, 5, 16, 247, 61, 28, 155, 0, 51, 42, 180, 0, 50, 27, 46, 42]
abbrev dktX1_coupled_2 : List UInt8 := dkwX1_coupled_2 ++ dktX1_coupled_3
def dkwX1_coupled_1 : List UInt8 := [180, 0, 47, 27, 46, 167, 0, 27, 42, 180, 0, 47, 27, 46, 42, 180, 0, 202, 160, 0, 12, 42]
abbrev dktX1_coupled_1 : List UInt8 := dkwX1_coupled_1 ++ dktX1_coupled_2
def dkwX1_coupled_0 : List UInt8 := [3, 60, 27, 42, 180, 0, 170, 162, 0, 108, 42, 180, 0, 44, 27, 46, 42, 180, 0, 202, 160, 0, 12, 42]
abbrev dktX1_coupled_0 : List UInt8 := dkwX1_coupled_0 ++ dktX1_coupled_1
theorem dksX1_coupled_0 : cX1_coupled.data.toList.drop 0 = dktX1_coupled_0 := by decide +kernel
theorem dksX1_coupled_1 : cX1_coupled.data.toList.drop 24 = dktX1_coupled_1 := dk_seg dksX1_coupled_0 24 rfl rfl
theorem dksX1_coupled_2 : cX1_coupled.data.toList.drop 46 = dktX1_coupled_2 := dk_seg dksX1_coupled_1 22 rfl rfl
theorem dksX1_coupled_3 : cX1_coupled.data.toList.drop 68 = dktX1_coupled_3 := dk_seg dksX1_coupled_2 22 rfl rfl
theorem dksX1_coupled_4 : cX1_coupled.data.toList.drop 90 = dktX1_coupled_4 := dk_seg dksX1_coupled_3 22 rfl rfl
theorem dksX1_coupled_5 : cX1_coupled.data.toList.drop 112 = dktX1_coupled_5 := dk_seg dksX1_coupled_4 22 rfl rfl
theorem dX1_coupled_0 : decode cX1_coupled 0 = .ok (.iconst 0, 1) := dk_3 (dk_at dksX1_coupled_0 0 rfl rfl)
theorem dX1_coupled_1 : decode cX1_coupled 1 = .ok (.istore_n 1, 1) := dk_60 (dk_at dksX1_coupled_0 1 rfl rfl)
theorem dX1_coupled_2 : decode cX1_coupled 2 = .ok (.iload_n 1, 1) := dk_27 (dk_at dksX1_coupled_0 2 rfl rfl)
theorem dX1_coupled_3 : decode cX1_coupled 3 = .ok (.aload_n 0, 1) := dk_42 (dk_at dksX1_coupled_0 3 rfl rfl)
theorem dX1_coupled_4 : decode cX1_coupled 4 = .ok (.getfield 170, 3) := dk_180 0 170 (dk_at dksX1_coupled_0 4 rfl rfl)
theorem dX1_coupled_7 : decode cX1_coupled 7 = .ok (.if_icmp .ge 108, 3) := dk_162 0 108 (dk_at dksX1_coupled_0 7 rfl rfl)
theorem dX1_coupled_10 : decode cX1_coupled 10 = .ok (.aload_n 0, 1) := dk_42 (dk_at dksX1_coupled_0 10 rfl rfl)
theorem dX1_coupled_11 : decode cX1_coupled 11 = .ok (.getfield 44, 3) := dk_180 0 44 (dk_at dksX1_coupled_0 11 rfl rfl)
theorem dX1_coupled_14 : decode cX1_coupled 14 = .ok (.iload_n 1, 1) := dk_27 (dk_at dksX1_coupled_0 14 rfl rfl)
theorem dX1_coupled_15 : decode cX1_coupled 15 = .ok (.iaload, 1) := dk_46 (dk_at dksX1_coupled_0 15 rfl rfl)
theorem dX1_coupled_16 : decode cX1_coupled 16 = .ok (.aload_n 0, 1) := dk_42 (dk_at dksX1_coupled_0 16 rfl rfl)
theorem dX1_coupled_17 : decode cX1_coupled 17 = .ok (.getfield 202, 3) := dk_180 0 202 (dk_at dksX1_coupled_0 17 rfl rfl)
theorem dX1_coupled_20 : decode cX1_coupled 20 = .ok (.if_icmp .ne 12, 3) := dk_160 0 12 (dk_at dksX1_coupled_0 20 rfl rfl)
theorem dX1_coupled_23 : decode cX1_coupled 23 = .ok (.aload_n 0, 1) := dk_42 (dk_at dksX1_coupled_0 23 rfl rfl)
theorem dX1_coupled_24 : decode cX1_coupled 24 = .ok (.getfield 47, 3) := dk_180 0 47 (dk_at dksX1_coupled_1 0 rfl rfl)
theorem dX1_coupled_27 : decode cX1_coupled 27 = .ok (.iload_n 1, 1) := dk_27 (dk_at dksX1_coupled_1 3 rfl rfl)
theorem dX1_coupled_28 : decode cX1_coupled 28 = .ok (.iaload, 1) := dk_46 (dk_at dksX1_coupled_1 4 rfl rfl)
theorem dX1_coupled_29 : decode cX1_coupled 29 = .ok (.goto 27, 3) := dk_167 0 27 (dk_at dksX1_coupled_1 5 rfl rfl)
theorem dX1_coupled_32 : decode cX1_coupled 32 = .ok (.aload_n 0, 1) := dk_42 (dk_at dksX1_coupled_1 8 rfl rfl)
theorem dX1_coupled_33 : decode cX1_coupled 33 = .ok (.getfield 47, 3) := dk_180 0 47 (dk_at dksX1_coupled_1 9 rfl rfl)
theorem dX1_coupled_36 : decode cX1_coupled 36 = .ok (.iload_n 1, 1) := dk_27 (dk_at dksX1_coupled_1 12 rfl rfl)
theorem dX1_coupled_37 : decode cX1_coupled 37 = .ok (.iaload, 1) := dk_46 (dk_at dksX1_coupled_1 13 rfl rfl)
theorem dX1_coupled_38 : decode cX1_coupled 38 = .ok (.aload_n 0, 1) := dk_42 (dk_at dksX1_coupled_1 14 rfl rfl)
theorem dX1_coupled_39 : decode cX1_coupled 39 = .ok (.getfield 202, 3) := dk_180 0 202 (dk_at dksX1_coupled_1 15 rfl rfl)
theorem dX1_coupled_42 : decode cX1_coupled 42 = .ok (.if_icmp .ne 12, 3) := dk_160 0 12 (dk_at dksX1_coupled_1 18 rfl rfl)
theorem dX1_coupled_45 : decode cX1_coupled 45 = .ok (.aload_n 0, 1) := dk_42 (dk_at dksX1_coupled_1 21 rfl rfl)
theorem dX1_coupled_46 : decode cX1_coupled 46 = .ok (.getfield 44, 3) := dk_180 0 44 (dk_at dksX1_coupled_2 0 rfl rfl)
theorem dX1_coupled_49 : decode cX1_coupled 49 = .ok (.iload_n 1, 1) := dk_27 (dk_at dksX1_coupled_2 3 rfl rfl)
theorem dX1_coupled_50 : decode cX1_coupled 50 = .ok (.iaload, 1) := dk_46 (dk_at dksX1_coupled_2 4 rfl rfl)
theorem dX1_coupled_51 : decode cX1_coupled 51 = .ok (.goto 5, 3) := dk_167 0 5 (dk_at dksX1_coupled_2 5 rfl rfl)
theorem dX1_coupled_54 : decode cX1_coupled 54 = .ok (.bipush (-9), 2) := dk_16 247 (dk_at dksX1_coupled_2 8 rfl rfl)
theorem dX1_coupled_56 : decode cX1_coupled 56 = .ok (.istore_n 2, 1) := dk_61 (dk_at dksX1_coupled_2 10 rfl rfl)
theorem dX1_coupled_57 : decode cX1_coupled 57 = .ok (.iload_n 2, 1) := dk_28 (dk_at dksX1_coupled_2 11 rfl rfl)
theorem dX1_coupled_58 : decode cX1_coupled 58 = .ok (.ifCond .lt 51, 3) := dk_155 0 51 (dk_at dksX1_coupled_2 12 rfl rfl)
theorem dX1_coupled_61 : decode cX1_coupled 61 = .ok (.aload_n 0, 1) := dk_42 (dk_at dksX1_coupled_2 15 rfl rfl)
theorem dX1_coupled_62 : decode cX1_coupled 62 = .ok (.getfield 50, 3) := dk_180 0 50 (dk_at dksX1_coupled_2 16 rfl rfl)
theorem dX1_coupled_65 : decode cX1_coupled 65 = .ok (.iload_n 1, 1) := dk_27 (dk_at dksX1_coupled_2 19 rfl rfl)
theorem dX1_coupled_66 : decode cX1_coupled 66 = .ok (.iaload, 1) := dk_46 (dk_at dksX1_coupled_2 20 rfl rfl)
theorem dX1_coupled_67 : decode cX1_coupled 67 = .ok (.aload_n 0, 1) := dk_42 (dk_at dksX1_coupled_2 21 rfl rfl)
theorem dX1_coupled_68 : decode cX1_coupled 68 = .ok (.getfield 205, 3) := dk_180 0 205 (dk_at dksX1_coupled_3 0 rfl rfl)
theorem dX1_coupled_71 : decode cX1_coupled 71 = .ok (.if_icmp .gt 38, 3) := dk_163 0 38 (dk_at dksX1_coupled_3 3 rfl rfl)
theorem dX1_coupled_74 : decode cX1_coupled 74 = .ok (.aload_n 0, 1) := dk_42 (dk_at dksX1_coupled_3 6 rfl rfl)
theorem dX1_coupled_75 : decode cX1_coupled 75 = .ok (.getfield 53, 3) := dk_180 0 53 (dk_at dksX1_coupled_3 7 rfl rfl)
theorem dX1_coupled_78 : decode cX1_coupled 78 = .ok (.iload_n 1, 1) := dk_27 (dk_at dksX1_coupled_3 10 rfl rfl)
theorem dX1_coupled_79 : decode cX1_coupled 79 = .ok (.iaload, 1) := dk_46 (dk_at dksX1_coupled_3 11 rfl rfl)
theorem dX1_coupled_80 : decode cX1_coupled 80 = .ok (.bipush (-9), 2) := dk_16 247 (dk_at dksX1_coupled_3 12 rfl rfl)
theorem dX1_coupled_82 : decode cX1_coupled 82 = .ok (.if_icmp .eq 16, 3) := dk_159 0 16 (dk_at dksX1_coupled_3 14 rfl rfl)
theorem dX1_coupled_85 : decode cX1_coupled 85 = .ok (.aload_n 0, 1) := dk_42 (dk_at dksX1_coupled_3 17 rfl rfl)
theorem dX1_coupled_86 : decode cX1_coupled 86 = .ok (.getfield 205, 3) := dk_180 0 205 (dk_at dksX1_coupled_3 18 rfl rfl)
theorem dX1_coupled_89 : decode cX1_coupled 89 = .ok (.aload_n 0, 1) := dk_42 (dk_at dksX1_coupled_3 21 rfl rfl)
theorem dX1_coupled_90 : decode cX1_coupled 90 = .ok (.getfield 53, 3) := dk_180 0 53 (dk_at dksX1_coupled_4 0 rfl rfl)
theorem dX1_coupled_93 : decode cX1_coupled 93 = .ok (.iload_n 1, 1) := dk_27 (dk_at dksX1_coupled_4 3 rfl rfl)
theorem dX1_coupled_94 : decode cX1_coupled 94 = .ok (.iaload, 1) := dk_46 (dk_at dksX1_coupled_4 4 rfl rfl)
theorem dX1_coupled_95 : decode cX1_coupled 95 = .ok (.if_icmp .gt 14, 3) := dk_163 0 14 (dk_at dksX1_coupled_4 5 rfl rfl)
theorem dX1_coupled_98 : decode cX1_coupled 98 = .ok (.aload_n 0, 1) := dk_42 (dk_at dksX1_coupled_4 8 rfl rfl)
theorem dX1_coupled_99 : decode cX1_coupled 99 = .ok (.getfield 84, 3) := dk_180 0 84 (dk_at dksX1_coupled_4 9 rfl rfl)
theorem dX1_coupled_102 : decode cX1_coupled 102 = .ok (.iload_n 2, 1) := dk_28 (dk_at dksX1_coupled_4 12 rfl rfl)
theorem dX1_coupled_103 : decode cX1_coupled 103 = .ok (.baload, 1) := dk_51 (dk_at dksX1_coupled_4 13 rfl rfl)
theorem dX1_coupled_104 : decode cX1_coupled 104 = .ok (.ifCond .eq 5, 3) := dk_153 0 5 (dk_at dksX1_coupled_4 14 rfl rfl)
theorem dX1_coupled_107 : decode cX1_coupled 107 = .ok (.iload_n 2, 1) := dk_28 (dk_at dksX1_coupled_4 17 rfl rfl)
theorem dX1_coupled_108 : decode cX1_coupled 108 = .ok (.ireturn, 1) := dk_172 (dk_at dksX1_coupled_4 18 rfl rfl)
theorem dX1_coupled_109 : decode cX1_coupled 109 = .ok (.iinc 1 1, 3) := dk_132 1 1 (dk_at dksX1_coupled_4 19 rfl rfl)
theorem dX1_coupled_112 : decode cX1_coupled 112 = .ok (.goto (-110), 3) := dk_167 255 146 (dk_at dksX1_coupled_5 0 rfl rfl)
theorem dX1_coupled_115 : decode cX1_coupled 115 = .ok (.bipush (-9), 2) := dk_16 247 (dk_at dksX1_coupled_5 3 rfl rfl)
theorem dX1_coupled_117 : decode cX1_coupled 117 = .ok (.ireturn, 1) := dk_172 (dk_at dksX1_coupled_5 5 rfl rfl)
abbrev cX1_gets : ByteArray := prog_8_method_23_code
def yX1_gets : MethodName := ⟨RX1, "gets", "(IJJ)V"⟩
def dkwX1_gets_1 : List UInt8 := [42, 180, 0, 180, 80, 42, 180, 0, 78, 27, 42, 180, 0, 183, 80, 177]
abbrev dktX1_gets_1 : List UInt8 := dkwX1_gets_1 ++ []
def dkwX1_gets_0 : List UInt8 := [42, 42, 180, 0, 74, 27, 47, 42, 180, 0, 78, 27, 47, 32, 22, 4, 182, 0, 186, 42, 180, 0, 74, 27]
abbrev dktX1_gets_0 : List UInt8 := dkwX1_gets_0 ++ dktX1_gets_1
theorem dksX1_gets_0 : cX1_gets.data.toList.drop 0 = dktX1_gets_0 := by decide +kernel
theorem dksX1_gets_1 : cX1_gets.data.toList.drop 24 = dktX1_gets_1 := dk_seg dksX1_gets_0 24 rfl rfl
theorem dX1_gets_0 : decode cX1_gets 0 = .ok (.aload_n 0, 1) := dk_42 (dk_at dksX1_gets_0 0 rfl rfl)
theorem dX1_gets_1 : decode cX1_gets 1 = .ok (.aload_n 0, 1) := dk_42 (dk_at dksX1_gets_0 1 rfl rfl)
theorem dX1_gets_2 : decode cX1_gets 2 = .ok (.getfield 74, 3) := dk_180 0 74 (dk_at dksX1_gets_0 2 rfl rfl)
theorem dX1_gets_5 : decode cX1_gets 5 = .ok (.iload_n 1, 1) := dk_27 (dk_at dksX1_gets_0 5 rfl rfl)
theorem dX1_gets_6 : decode cX1_gets 6 = .ok (.laload, 1) := dk_47 (dk_at dksX1_gets_0 6 rfl rfl)
theorem dX1_gets_7 : decode cX1_gets 7 = .ok (.aload_n 0, 1) := dk_42 (dk_at dksX1_gets_0 7 rfl rfl)
theorem dX1_gets_8 : decode cX1_gets 8 = .ok (.getfield 78, 3) := dk_180 0 78 (dk_at dksX1_gets_0 8 rfl rfl)
theorem dX1_gets_11 : decode cX1_gets 11 = .ok (.iload_n 1, 1) := dk_27 (dk_at dksX1_gets_0 11 rfl rfl)
theorem dX1_gets_12 : decode cX1_gets 12 = .ok (.laload, 1) := dk_47 (dk_at dksX1_gets_0 12 rfl rfl)
theorem dX1_gets_13 : decode cX1_gets 13 = .ok (.lload_n 2, 1) := dk_32 (dk_at dksX1_gets_0 13 rfl rfl)
theorem dX1_gets_14 : decode cX1_gets 14 = .ok (.lload 4, 2) := dk_22 4 (dk_at dksX1_gets_0 14 rfl rfl)
theorem dX1_gets_16 : decode cX1_gets 16 = .ok (.invokevirtual 186, 3) := dk_182 0 186 (dk_at dksX1_gets_0 16 rfl rfl)
theorem dX1_gets_19 : decode cX1_gets 19 = .ok (.aload_n 0, 1) := dk_42 (dk_at dksX1_gets_0 19 rfl rfl)
theorem dX1_gets_20 : decode cX1_gets 20 = .ok (.getfield 74, 3) := dk_180 0 74 (dk_at dksX1_gets_0 20 rfl rfl)
theorem dX1_gets_23 : decode cX1_gets 23 = .ok (.iload_n 1, 1) := dk_27 (dk_at dksX1_gets_0 23 rfl rfl)
theorem dX1_gets_24 : decode cX1_gets 24 = .ok (.aload_n 0, 1) := dk_42 (dk_at dksX1_gets_1 0 rfl rfl)
theorem dX1_gets_25 : decode cX1_gets 25 = .ok (.getfield 180, 3) := dk_180 0 180 (dk_at dksX1_gets_1 1 rfl rfl)
theorem dX1_gets_28 : decode cX1_gets 28 = .ok (.lastore, 1) := dk_80 (dk_at dksX1_gets_1 4 rfl rfl)
theorem dX1_gets_29 : decode cX1_gets 29 = .ok (.aload_n 0, 1) := dk_42 (dk_at dksX1_gets_1 5 rfl rfl)
theorem dX1_gets_30 : decode cX1_gets 30 = .ok (.getfield 78, 3) := dk_180 0 78 (dk_at dksX1_gets_1 6 rfl rfl)
theorem dX1_gets_33 : decode cX1_gets 33 = .ok (.iload_n 1, 1) := dk_27 (dk_at dksX1_gets_1 9 rfl rfl)
theorem dX1_gets_34 : decode cX1_gets 34 = .ok (.aload_n 0, 1) := dk_42 (dk_at dksX1_gets_1 10 rfl rfl)
theorem dX1_gets_35 : decode cX1_gets 35 = .ok (.getfield 183, 3) := dk_180 0 183 (dk_at dksX1_gets_1 11 rfl rfl)
theorem dX1_gets_38 : decode cX1_gets 38 = .ok (.lastore, 1) := dk_80 (dk_at dksX1_gets_1 14 rfl rfl)
theorem dX1_gets_39 : decode cX1_gets 39 = .ok (.return_, 1) := dk_177 (dk_at dksX1_gets_1 15 rfl rfl)
abbrev cX1_add : ByteArray := prog_8_method_22_code
def yX1_add : MethodName := ⟨RX1, "add", "(JJJJ)V"⟩
def dkwX1_add_2 : List UInt8 := [22, 15, 109, 181, 0, 180, 42, 22, 13, 22, 15, 109, 181, 0, 183, 177]
abbrev dktX1_add_2 : List UInt8 := dkwX1_add_2 ++ []
def dkwX1_add_1 : List UInt8 := [55, 11, 33, 22, 9, 109, 22, 7, 105, 55, 13, 22, 11, 22, 13, 184, 0, 176, 55, 15, 42, 22, 11]
abbrev dktX1_add_1 : List UInt8 := dkwX1_add_1 ++ dktX1_add_2
def dkwX1_add_0 : List UInt8 := [33, 22, 7, 184, 0, 176, 55, 9, 31, 22, 7, 22, 9, 109, 105, 22, 5, 33, 22, 9, 109, 105, 97]
abbrev dktX1_add_0 : List UInt8 := dkwX1_add_0 ++ dktX1_add_1
theorem dksX1_add_0 : cX1_add.data.toList.drop 0 = dktX1_add_0 := by decide +kernel
theorem dksX1_add_1 : cX1_add.data.toList.drop 23 = dktX1_add_1 := dk_seg dksX1_add_0 23 rfl rfl
theorem dksX1_add_2 : cX1_add.data.toList.drop 46 = dktX1_add_2 := dk_seg dksX1_add_1 23 rfl rfl
theorem dX1_add_0 : decode cX1_add 0 = .ok (.lload_n 3, 1) := dk_33 (dk_at dksX1_add_0 0 rfl rfl)
theorem dX1_add_1 : decode cX1_add 1 = .ok (.lload 7, 2) := dk_22 7 (dk_at dksX1_add_0 1 rfl rfl)
theorem dX1_add_3 : decode cX1_add 3 = .ok (.invokestatic 176, 3) := dk_184 0 176 (dk_at dksX1_add_0 3 rfl rfl)
theorem dX1_add_6 : decode cX1_add 6 = .ok (.lstore 9, 2) := dk_55 9 (dk_at dksX1_add_0 6 rfl rfl)
theorem dX1_add_8 : decode cX1_add 8 = .ok (.lload_n 1, 1) := dk_31 (dk_at dksX1_add_0 8 rfl rfl)
theorem dX1_add_9 : decode cX1_add 9 = .ok (.lload 7, 2) := dk_22 7 (dk_at dksX1_add_0 9 rfl rfl)
theorem dX1_add_11 : decode cX1_add 11 = .ok (.lload 9, 2) := dk_22 9 (dk_at dksX1_add_0 11 rfl rfl)
theorem dX1_add_13 : decode cX1_add 13 = .ok (.ldiv, 1) := dk_109 (dk_at dksX1_add_0 13 rfl rfl)
theorem dX1_add_14 : decode cX1_add 14 = .ok (.lmul, 1) := dk_105 (dk_at dksX1_add_0 14 rfl rfl)
theorem dX1_add_15 : decode cX1_add 15 = .ok (.lload 5, 2) := dk_22 5 (dk_at dksX1_add_0 15 rfl rfl)
theorem dX1_add_17 : decode cX1_add 17 = .ok (.lload_n 3, 1) := dk_33 (dk_at dksX1_add_0 17 rfl rfl)
theorem dX1_add_18 : decode cX1_add 18 = .ok (.lload 9, 2) := dk_22 9 (dk_at dksX1_add_0 18 rfl rfl)
theorem dX1_add_20 : decode cX1_add 20 = .ok (.ldiv, 1) := dk_109 (dk_at dksX1_add_0 20 rfl rfl)
theorem dX1_add_21 : decode cX1_add 21 = .ok (.lmul, 1) := dk_105 (dk_at dksX1_add_0 21 rfl rfl)
theorem dX1_add_22 : decode cX1_add 22 = .ok (.ladd, 1) := dk_97 (dk_at dksX1_add_0 22 rfl rfl)
theorem dX1_add_23 : decode cX1_add 23 = .ok (.lstore 11, 2) := dk_55 11 (dk_at dksX1_add_1 0 rfl rfl)
theorem dX1_add_25 : decode cX1_add 25 = .ok (.lload_n 3, 1) := dk_33 (dk_at dksX1_add_1 2 rfl rfl)
theorem dX1_add_26 : decode cX1_add 26 = .ok (.lload 9, 2) := dk_22 9 (dk_at dksX1_add_1 3 rfl rfl)
theorem dX1_add_28 : decode cX1_add 28 = .ok (.ldiv, 1) := dk_109 (dk_at dksX1_add_1 5 rfl rfl)
theorem dX1_add_29 : decode cX1_add 29 = .ok (.lload 7, 2) := dk_22 7 (dk_at dksX1_add_1 6 rfl rfl)
theorem dX1_add_31 : decode cX1_add 31 = .ok (.lmul, 1) := dk_105 (dk_at dksX1_add_1 8 rfl rfl)
theorem dX1_add_32 : decode cX1_add 32 = .ok (.lstore 13, 2) := dk_55 13 (dk_at dksX1_add_1 9 rfl rfl)
theorem dX1_add_34 : decode cX1_add 34 = .ok (.lload 11, 2) := dk_22 11 (dk_at dksX1_add_1 11 rfl rfl)
theorem dX1_add_36 : decode cX1_add 36 = .ok (.lload 13, 2) := dk_22 13 (dk_at dksX1_add_1 13 rfl rfl)
theorem dX1_add_38 : decode cX1_add 38 = .ok (.invokestatic 176, 3) := dk_184 0 176 (dk_at dksX1_add_1 15 rfl rfl)
theorem dX1_add_41 : decode cX1_add 41 = .ok (.lstore 15, 2) := dk_55 15 (dk_at dksX1_add_1 18 rfl rfl)
theorem dX1_add_43 : decode cX1_add 43 = .ok (.aload_n 0, 1) := dk_42 (dk_at dksX1_add_1 20 rfl rfl)
theorem dX1_add_44 : decode cX1_add 44 = .ok (.lload 11, 2) := dk_22 11 (dk_at dksX1_add_1 21 rfl rfl)
theorem dX1_add_46 : decode cX1_add 46 = .ok (.lload 15, 2) := dk_22 15 (dk_at dksX1_add_2 0 rfl rfl)
theorem dX1_add_48 : decode cX1_add 48 = .ok (.ldiv, 1) := dk_109 (dk_at dksX1_add_2 2 rfl rfl)
theorem dX1_add_49 : decode cX1_add 49 = .ok (.putfield 180, 3) := dk_181 0 180 (dk_at dksX1_add_2 3 rfl rfl)
theorem dX1_add_52 : decode cX1_add 52 = .ok (.aload_n 0, 1) := dk_42 (dk_at dksX1_add_2 6 rfl rfl)
theorem dX1_add_53 : decode cX1_add 53 = .ok (.lload 13, 2) := dk_22 13 (dk_at dksX1_add_2 7 rfl rfl)
theorem dX1_add_55 : decode cX1_add 55 = .ok (.lload 15, 2) := dk_22 15 (dk_at dksX1_add_2 9 rfl rfl)
theorem dX1_add_57 : decode cX1_add 57 = .ok (.ldiv, 1) := dk_109 (dk_at dksX1_add_2 11 rfl rfl)
theorem dX1_add_58 : decode cX1_add 58 = .ok (.putfield 183, 3) := dk_181 0 183 (dk_at dksX1_add_2 12 rfl rfl)
theorem dX1_add_61 : decode cX1_add 61 = .ok (.return_, 1) := dk_177 (dk_at dksX1_add_2 15 rfl rfl)
abbrev cX1_divisor : ByteArray := prog_8_method_21_code
def yX1_divisor : MethodName := ⟨RX1, "divisor", "(JJ)J"⟩
def dkwX1_divisor_1 : List UInt8 := [22, 4, 22, 6, 113, 55, 8, 22, 6, 55, 4, 22, 8, 55, 6, 167, 255, 234, 22, 4, 173]
abbrev dktX1_divisor_1 : List UInt8 := dkwX1_divisor_1 ++ []
def dkwX1_divisor_0 : List UInt8 := [30, 9, 148, 156, 0, 8, 30, 117, 167, 0, 4, 30, 55, 4, 32, 55, 6, 22, 6, 9, 148, 153, 0, 21]
abbrev dktX1_divisor_0 : List UInt8 := dkwX1_divisor_0 ++ dktX1_divisor_1
theorem dksX1_divisor_0 : cX1_divisor.data.toList.drop 0 = dktX1_divisor_0 := by decide +kernel
theorem dksX1_divisor_1 : cX1_divisor.data.toList.drop 24 = dktX1_divisor_1 := dk_seg dksX1_divisor_0 24 rfl rfl
theorem dX1_divisor_0 : decode cX1_divisor 0 = .ok (.lload_n 0, 1) := dk_30 (dk_at dksX1_divisor_0 0 rfl rfl)
theorem dX1_divisor_1 : decode cX1_divisor 1 = .ok (.lconst 0, 1) := dk_9 (dk_at dksX1_divisor_0 1 rfl rfl)
theorem dX1_divisor_2 : decode cX1_divisor 2 = .ok (.lcmp, 1) := dk_148 (dk_at dksX1_divisor_0 2 rfl rfl)
theorem dX1_divisor_3 : decode cX1_divisor 3 = .ok (.ifCond .ge 8, 3) := dk_156 0 8 (dk_at dksX1_divisor_0 3 rfl rfl)
theorem dX1_divisor_6 : decode cX1_divisor 6 = .ok (.lload_n 0, 1) := dk_30 (dk_at dksX1_divisor_0 6 rfl rfl)
theorem dX1_divisor_7 : decode cX1_divisor 7 = .ok (.lneg, 1) := dk_117 (dk_at dksX1_divisor_0 7 rfl rfl)
theorem dX1_divisor_8 : decode cX1_divisor 8 = .ok (.goto 4, 3) := dk_167 0 4 (dk_at dksX1_divisor_0 8 rfl rfl)
theorem dX1_divisor_11 : decode cX1_divisor 11 = .ok (.lload_n 0, 1) := dk_30 (dk_at dksX1_divisor_0 11 rfl rfl)
theorem dX1_divisor_12 : decode cX1_divisor 12 = .ok (.lstore 4, 2) := dk_55 4 (dk_at dksX1_divisor_0 12 rfl rfl)
theorem dX1_divisor_14 : decode cX1_divisor 14 = .ok (.lload_n 2, 1) := dk_32 (dk_at dksX1_divisor_0 14 rfl rfl)
theorem dX1_divisor_15 : decode cX1_divisor 15 = .ok (.lstore 6, 2) := dk_55 6 (dk_at dksX1_divisor_0 15 rfl rfl)
theorem dX1_divisor_17 : decode cX1_divisor 17 = .ok (.lload 6, 2) := dk_22 6 (dk_at dksX1_divisor_0 17 rfl rfl)
theorem dX1_divisor_19 : decode cX1_divisor 19 = .ok (.lconst 0, 1) := dk_9 (dk_at dksX1_divisor_0 19 rfl rfl)
theorem dX1_divisor_20 : decode cX1_divisor 20 = .ok (.lcmp, 1) := dk_148 (dk_at dksX1_divisor_0 20 rfl rfl)
theorem dX1_divisor_21 : decode cX1_divisor 21 = .ok (.ifCond .eq 21, 3) := dk_153 0 21 (dk_at dksX1_divisor_0 21 rfl rfl)
theorem dX1_divisor_24 : decode cX1_divisor 24 = .ok (.lload 4, 2) := dk_22 4 (dk_at dksX1_divisor_1 0 rfl rfl)
theorem dX1_divisor_26 : decode cX1_divisor 26 = .ok (.lload 6, 2) := dk_22 6 (dk_at dksX1_divisor_1 2 rfl rfl)
theorem dX1_divisor_28 : decode cX1_divisor 28 = .ok (.lrem, 1) := dk_113 (dk_at dksX1_divisor_1 4 rfl rfl)
theorem dX1_divisor_29 : decode cX1_divisor 29 = .ok (.lstore 8, 2) := dk_55 8 (dk_at dksX1_divisor_1 5 rfl rfl)
theorem dX1_divisor_31 : decode cX1_divisor 31 = .ok (.lload 6, 2) := dk_22 6 (dk_at dksX1_divisor_1 7 rfl rfl)
theorem dX1_divisor_33 : decode cX1_divisor 33 = .ok (.lstore 4, 2) := dk_55 4 (dk_at dksX1_divisor_1 9 rfl rfl)
theorem dX1_divisor_35 : decode cX1_divisor 35 = .ok (.lload 8, 2) := dk_22 8 (dk_at dksX1_divisor_1 11 rfl rfl)
theorem dX1_divisor_37 : decode cX1_divisor 37 = .ok (.lstore 6, 2) := dk_55 6 (dk_at dksX1_divisor_1 13 rfl rfl)
theorem dX1_divisor_39 : decode cX1_divisor 39 = .ok (.goto (-22), 3) := dk_167 255 234 (dk_at dksX1_divisor_1 15 rfl rfl)
theorem dX1_divisor_42 : decode cX1_divisor 42 = .ok (.lload 4, 2) := dk_22 4 (dk_at dksX1_divisor_1 18 rfl rfl)
theorem dX1_divisor_44 : decode cX1_divisor 44 = .ok (.lreturn, 1) := dk_173 (dk_at dksX1_divisor_1 20 rfl rfl)
abbrev cX1_give : ByteArray := prog_8_method_31_code
def yX1_give : MethodName := ⟨RX1, "give", "(IJJ)V"⟩
def dkwX1_give_2 : List UInt8 := [180, 0, 180, 80, 42, 180, 0, 99, 27, 42, 180, 0, 183, 80, 177]
abbrev dktX1_give_2 : List UInt8 := dkwX1_give_2 ++ []
def dkwX1_give_1 : List UInt8 := [180, 0, 96, 27, 47, 42, 180, 0, 99, 27, 47, 32, 22, 4, 182, 0, 186, 42, 180, 0, 96, 27, 42]
abbrev dktX1_give_1 : List UInt8 := dkwX1_give_1 ++ dktX1_give_2
def dkwX1_give_0 : List UInt8 := [42, 180, 0, 84, 27, 51, 153, 0, 14, 42, 27, 32, 22, 4, 182, 0, 214, 167, 0, 42, 42, 42]
abbrev dktX1_give_0 : List UInt8 := dkwX1_give_0 ++ dktX1_give_1
theorem dksX1_give_0 : cX1_give.data.toList.drop 0 = dktX1_give_0 := by decide +kernel
theorem dksX1_give_1 : cX1_give.data.toList.drop 22 = dktX1_give_1 := dk_seg dksX1_give_0 22 rfl rfl
theorem dksX1_give_2 : cX1_give.data.toList.drop 45 = dktX1_give_2 := dk_seg dksX1_give_1 23 rfl rfl
theorem dX1_give_0 : decode cX1_give 0 = .ok (.aload_n 0, 1) := dk_42 (dk_at dksX1_give_0 0 rfl rfl)
theorem dX1_give_1 : decode cX1_give 1 = .ok (.getfield 84, 3) := dk_180 0 84 (dk_at dksX1_give_0 1 rfl rfl)
theorem dX1_give_4 : decode cX1_give 4 = .ok (.iload_n 1, 1) := dk_27 (dk_at dksX1_give_0 4 rfl rfl)
theorem dX1_give_5 : decode cX1_give 5 = .ok (.baload, 1) := dk_51 (dk_at dksX1_give_0 5 rfl rfl)
theorem dX1_give_6 : decode cX1_give 6 = .ok (.ifCond .eq 14, 3) := dk_153 0 14 (dk_at dksX1_give_0 6 rfl rfl)
theorem dX1_give_9 : decode cX1_give 9 = .ok (.aload_n 0, 1) := dk_42 (dk_at dksX1_give_0 9 rfl rfl)
theorem dX1_give_10 : decode cX1_give 10 = .ok (.iload_n 1, 1) := dk_27 (dk_at dksX1_give_0 10 rfl rfl)
theorem dX1_give_11 : decode cX1_give 11 = .ok (.lload_n 2, 1) := dk_32 (dk_at dksX1_give_0 11 rfl rfl)
theorem dX1_give_12 : decode cX1_give 12 = .ok (.lload 4, 2) := dk_22 4 (dk_at dksX1_give_0 12 rfl rfl)
theorem dX1_give_14 : decode cX1_give 14 = .ok (.invokevirtual 214, 3) := dk_182 0 214 (dk_at dksX1_give_0 14 rfl rfl)
theorem dX1_give_17 : decode cX1_give 17 = .ok (.goto 42, 3) := dk_167 0 42 (dk_at dksX1_give_0 17 rfl rfl)
theorem dX1_give_20 : decode cX1_give 20 = .ok (.aload_n 0, 1) := dk_42 (dk_at dksX1_give_0 20 rfl rfl)
theorem dX1_give_21 : decode cX1_give 21 = .ok (.aload_n 0, 1) := dk_42 (dk_at dksX1_give_0 21 rfl rfl)
theorem dX1_give_22 : decode cX1_give 22 = .ok (.getfield 96, 3) := dk_180 0 96 (dk_at dksX1_give_1 0 rfl rfl)
theorem dX1_give_25 : decode cX1_give 25 = .ok (.iload_n 1, 1) := dk_27 (dk_at dksX1_give_1 3 rfl rfl)
theorem dX1_give_26 : decode cX1_give 26 = .ok (.laload, 1) := dk_47 (dk_at dksX1_give_1 4 rfl rfl)
theorem dX1_give_27 : decode cX1_give 27 = .ok (.aload_n 0, 1) := dk_42 (dk_at dksX1_give_1 5 rfl rfl)
theorem dX1_give_28 : decode cX1_give 28 = .ok (.getfield 99, 3) := dk_180 0 99 (dk_at dksX1_give_1 6 rfl rfl)
theorem dX1_give_31 : decode cX1_give 31 = .ok (.iload_n 1, 1) := dk_27 (dk_at dksX1_give_1 9 rfl rfl)
theorem dX1_give_32 : decode cX1_give 32 = .ok (.laload, 1) := dk_47 (dk_at dksX1_give_1 10 rfl rfl)
theorem dX1_give_33 : decode cX1_give 33 = .ok (.lload_n 2, 1) := dk_32 (dk_at dksX1_give_1 11 rfl rfl)
theorem dX1_give_34 : decode cX1_give 34 = .ok (.lload 4, 2) := dk_22 4 (dk_at dksX1_give_1 12 rfl rfl)
theorem dX1_give_36 : decode cX1_give 36 = .ok (.invokevirtual 186, 3) := dk_182 0 186 (dk_at dksX1_give_1 14 rfl rfl)
theorem dX1_give_39 : decode cX1_give 39 = .ok (.aload_n 0, 1) := dk_42 (dk_at dksX1_give_1 17 rfl rfl)
theorem dX1_give_40 : decode cX1_give 40 = .ok (.getfield 96, 3) := dk_180 0 96 (dk_at dksX1_give_1 18 rfl rfl)
theorem dX1_give_43 : decode cX1_give 43 = .ok (.iload_n 1, 1) := dk_27 (dk_at dksX1_give_1 21 rfl rfl)
theorem dX1_give_44 : decode cX1_give 44 = .ok (.aload_n 0, 1) := dk_42 (dk_at dksX1_give_1 22 rfl rfl)
theorem dX1_give_45 : decode cX1_give 45 = .ok (.getfield 180, 3) := dk_180 0 180 (dk_at dksX1_give_2 0 rfl rfl)
theorem dX1_give_48 : decode cX1_give 48 = .ok (.lastore, 1) := dk_80 (dk_at dksX1_give_2 3 rfl rfl)
theorem dX1_give_49 : decode cX1_give 49 = .ok (.aload_n 0, 1) := dk_42 (dk_at dksX1_give_2 4 rfl rfl)
theorem dX1_give_50 : decode cX1_give 50 = .ok (.getfield 99, 3) := dk_180 0 99 (dk_at dksX1_give_2 5 rfl rfl)
theorem dX1_give_53 : decode cX1_give 53 = .ok (.iload_n 1, 1) := dk_27 (dk_at dksX1_give_2 8 rfl rfl)
theorem dX1_give_54 : decode cX1_give 54 = .ok (.aload_n 0, 1) := dk_42 (dk_at dksX1_give_2 9 rfl rfl)
theorem dX1_give_55 : decode cX1_give 55 = .ok (.getfield 183, 3) := dk_180 0 183 (dk_at dksX1_give_2 10 rfl rfl)
theorem dX1_give_58 : decode cX1_give 58 = .ok (.lastore, 1) := dk_80 (dk_at dksX1_give_2 13 rfl rfl)
theorem dX1_give_59 : decode cX1_give 59 = .ok (.return_, 1) := dk_177 (dk_at dksX1_give_2 14 rfl rfl)
abbrev cX1_comeDown : ByteArray := prog_8_method_32_code
def yX1_comeDown : MethodName := ⟨RX1, "comeDown", "()V"⟩
def dkwX1_comeDown_6 : List UInt8 := [132, 1, 255, 167, 255, 120, 177]
abbrev dktX1_comeDown_6 : List UInt8 := dkwX1_comeDown_6 ++ []
def dkwX1_comeDown_5 : List UInt8 := [22, 5, 109, 42, 180, 0, 99, 28, 47, 29, 133, 22, 5, 109, 105, 182, 0, 222, 132, 4, 1, 167, 255, 178]
abbrev dktX1_comeDown_5 : List UInt8 := dkwX1_comeDown_5 ++ dktX1_comeDown_6
def dkwX1_comeDown_4 : List UInt8 := [28, 47, 29, 133, 184, 0, 176, 55, 5, 42, 42, 180, 0, 28, 21, 4, 46, 42, 180, 0, 96, 28, 47]
abbrev dktX1_comeDown_4 : List UInt8 := dkwX1_comeDown_4 ++ dktX1_comeDown_5
def dkwX1_comeDown_3 : List UInt8 := [180, 0, 96, 28, 47, 9, 148, 158, 0, 64, 42, 21, 4, 28, 182, 0, 218, 153, 0, 48, 42, 180, 0, 96]
abbrev dktX1_comeDown_3 : List UInt8 := dkwX1_comeDown_3 ++ dktX1_comeDown_4
def dkwX1_comeDown_2 : List UInt8 := [3, 96, 62, 132, 4, 1, 167, 255, 226, 3, 54, 4, 21, 4, 42, 180, 0, 142, 162, 0, 75, 42]
abbrev dktX1_comeDown_2 : List UInt8 := dkwX1_comeDown_2 ++ dktX1_comeDown_3
def dkwX1_comeDown_1 : List UInt8 := [21, 4, 42, 180, 0, 142, 162, 0, 27, 29, 42, 21, 4, 28, 182, 0, 218, 153, 0, 7, 4, 167, 0, 4]
abbrev dktX1_comeDown_1 : List UInt8 := dkwX1_comeDown_1 ++ dktX1_comeDown_2
def dkwX1_comeDown_0 : List UInt8 := [42, 180, 0, 139, 4, 100, 60, 27, 155, 0, 138, 42, 180, 0, 93, 27, 46, 61, 3, 62, 3, 54, 4]
abbrev dktX1_comeDown_0 : List UInt8 := dkwX1_comeDown_0 ++ dktX1_comeDown_1
theorem dksX1_comeDown_0 : cX1_comeDown.data.toList.drop 0 = dktX1_comeDown_0 := by decide +kernel
theorem dksX1_comeDown_1 : cX1_comeDown.data.toList.drop 23 = dktX1_comeDown_1 := dk_seg dksX1_comeDown_0 23 rfl rfl
theorem dksX1_comeDown_2 : cX1_comeDown.data.toList.drop 47 = dktX1_comeDown_2 := dk_seg dksX1_comeDown_1 24 rfl rfl
theorem dksX1_comeDown_3 : cX1_comeDown.data.toList.drop 69 = dktX1_comeDown_3 := dk_seg dksX1_comeDown_2 22 rfl rfl
theorem dksX1_comeDown_4 : cX1_comeDown.data.toList.drop 93 = dktX1_comeDown_4 := dk_seg dksX1_comeDown_3 24 rfl rfl
theorem dksX1_comeDown_5 : cX1_comeDown.data.toList.drop 116 = dktX1_comeDown_5 := dk_seg dksX1_comeDown_4 23 rfl rfl
theorem dksX1_comeDown_6 : cX1_comeDown.data.toList.drop 140 = dktX1_comeDown_6 := dk_seg dksX1_comeDown_5 24 rfl rfl
theorem dX1_comeDown_0 : decode cX1_comeDown 0 = .ok (.aload_n 0, 1) := dk_42 (dk_at dksX1_comeDown_0 0 rfl rfl)
theorem dX1_comeDown_1 : decode cX1_comeDown 1 = .ok (.getfield 139, 3) := dk_180 0 139 (dk_at dksX1_comeDown_0 1 rfl rfl)
theorem dX1_comeDown_4 : decode cX1_comeDown 4 = .ok (.iconst 1, 1) := dk_4 (dk_at dksX1_comeDown_0 4 rfl rfl)
theorem dX1_comeDown_5 : decode cX1_comeDown 5 = .ok (.isub, 1) := dk_100 (dk_at dksX1_comeDown_0 5 rfl rfl)
theorem dX1_comeDown_6 : decode cX1_comeDown 6 = .ok (.istore_n 1, 1) := dk_60 (dk_at dksX1_comeDown_0 6 rfl rfl)
theorem dX1_comeDown_7 : decode cX1_comeDown 7 = .ok (.iload_n 1, 1) := dk_27 (dk_at dksX1_comeDown_0 7 rfl rfl)
theorem dX1_comeDown_8 : decode cX1_comeDown 8 = .ok (.ifCond .lt 138, 3) := dk_155 0 138 (dk_at dksX1_comeDown_0 8 rfl rfl)
theorem dX1_comeDown_11 : decode cX1_comeDown 11 = .ok (.aload_n 0, 1) := dk_42 (dk_at dksX1_comeDown_0 11 rfl rfl)
theorem dX1_comeDown_12 : decode cX1_comeDown 12 = .ok (.getfield 93, 3) := dk_180 0 93 (dk_at dksX1_comeDown_0 12 rfl rfl)
theorem dX1_comeDown_15 : decode cX1_comeDown 15 = .ok (.iload_n 1, 1) := dk_27 (dk_at dksX1_comeDown_0 15 rfl rfl)
theorem dX1_comeDown_16 : decode cX1_comeDown 16 = .ok (.iaload, 1) := dk_46 (dk_at dksX1_comeDown_0 16 rfl rfl)
theorem dX1_comeDown_17 : decode cX1_comeDown 17 = .ok (.istore_n 2, 1) := dk_61 (dk_at dksX1_comeDown_0 17 rfl rfl)
theorem dX1_comeDown_18 : decode cX1_comeDown 18 = .ok (.iconst 0, 1) := dk_3 (dk_at dksX1_comeDown_0 18 rfl rfl)
theorem dX1_comeDown_19 : decode cX1_comeDown 19 = .ok (.istore_n 3, 1) := dk_62 (dk_at dksX1_comeDown_0 19 rfl rfl)
theorem dX1_comeDown_20 : decode cX1_comeDown 20 = .ok (.iconst 0, 1) := dk_3 (dk_at dksX1_comeDown_0 20 rfl rfl)
theorem dX1_comeDown_21 : decode cX1_comeDown 21 = .ok (.istore 4, 2) := dk_54 4 (dk_at dksX1_comeDown_0 21 rfl rfl)
theorem dX1_comeDown_23 : decode cX1_comeDown 23 = .ok (.iload 4, 2) := dk_21 4 (dk_at dksX1_comeDown_1 0 rfl rfl)
theorem dX1_comeDown_25 : decode cX1_comeDown 25 = .ok (.aload_n 0, 1) := dk_42 (dk_at dksX1_comeDown_1 2 rfl rfl)
theorem dX1_comeDown_26 : decode cX1_comeDown 26 = .ok (.getfield 142, 3) := dk_180 0 142 (dk_at dksX1_comeDown_1 3 rfl rfl)
theorem dX1_comeDown_29 : decode cX1_comeDown 29 = .ok (.if_icmp .ge 27, 3) := dk_162 0 27 (dk_at dksX1_comeDown_1 6 rfl rfl)
theorem dX1_comeDown_32 : decode cX1_comeDown 32 = .ok (.iload_n 3, 1) := dk_29 (dk_at dksX1_comeDown_1 9 rfl rfl)
theorem dX1_comeDown_33 : decode cX1_comeDown 33 = .ok (.aload_n 0, 1) := dk_42 (dk_at dksX1_comeDown_1 10 rfl rfl)
theorem dX1_comeDown_34 : decode cX1_comeDown 34 = .ok (.iload 4, 2) := dk_21 4 (dk_at dksX1_comeDown_1 11 rfl rfl)
theorem dX1_comeDown_36 : decode cX1_comeDown 36 = .ok (.iload_n 2, 1) := dk_28 (dk_at dksX1_comeDown_1 13 rfl rfl)
theorem dX1_comeDown_37 : decode cX1_comeDown 37 = .ok (.invokevirtual 218, 3) := dk_182 0 218 (dk_at dksX1_comeDown_1 14 rfl rfl)
theorem dX1_comeDown_40 : decode cX1_comeDown 40 = .ok (.ifCond .eq 7, 3) := dk_153 0 7 (dk_at dksX1_comeDown_1 17 rfl rfl)
theorem dX1_comeDown_43 : decode cX1_comeDown 43 = .ok (.iconst 1, 1) := dk_4 (dk_at dksX1_comeDown_1 20 rfl rfl)
theorem dX1_comeDown_44 : decode cX1_comeDown 44 = .ok (.goto 4, 3) := dk_167 0 4 (dk_at dksX1_comeDown_1 21 rfl rfl)
theorem dX1_comeDown_47 : decode cX1_comeDown 47 = .ok (.iconst 0, 1) := dk_3 (dk_at dksX1_comeDown_2 0 rfl rfl)
theorem dX1_comeDown_48 : decode cX1_comeDown 48 = .ok (.iadd, 1) := dk_96 (dk_at dksX1_comeDown_2 1 rfl rfl)
theorem dX1_comeDown_49 : decode cX1_comeDown 49 = .ok (.istore_n 3, 1) := dk_62 (dk_at dksX1_comeDown_2 2 rfl rfl)
theorem dX1_comeDown_50 : decode cX1_comeDown 50 = .ok (.iinc 4 1, 3) := dk_132 4 1 (dk_at dksX1_comeDown_2 3 rfl rfl)
theorem dX1_comeDown_53 : decode cX1_comeDown 53 = .ok (.goto (-30), 3) := dk_167 255 226 (dk_at dksX1_comeDown_2 6 rfl rfl)
theorem dX1_comeDown_56 : decode cX1_comeDown 56 = .ok (.iconst 0, 1) := dk_3 (dk_at dksX1_comeDown_2 9 rfl rfl)
theorem dX1_comeDown_57 : decode cX1_comeDown 57 = .ok (.istore 4, 2) := dk_54 4 (dk_at dksX1_comeDown_2 10 rfl rfl)
theorem dX1_comeDown_59 : decode cX1_comeDown 59 = .ok (.iload 4, 2) := dk_21 4 (dk_at dksX1_comeDown_2 12 rfl rfl)
theorem dX1_comeDown_61 : decode cX1_comeDown 61 = .ok (.aload_n 0, 1) := dk_42 (dk_at dksX1_comeDown_2 14 rfl rfl)
theorem dX1_comeDown_62 : decode cX1_comeDown 62 = .ok (.getfield 142, 3) := dk_180 0 142 (dk_at dksX1_comeDown_2 15 rfl rfl)
theorem dX1_comeDown_65 : decode cX1_comeDown 65 = .ok (.if_icmp .ge 75, 3) := dk_162 0 75 (dk_at dksX1_comeDown_2 18 rfl rfl)
theorem dX1_comeDown_68 : decode cX1_comeDown 68 = .ok (.aload_n 0, 1) := dk_42 (dk_at dksX1_comeDown_2 21 rfl rfl)
theorem dX1_comeDown_69 : decode cX1_comeDown 69 = .ok (.getfield 96, 3) := dk_180 0 96 (dk_at dksX1_comeDown_3 0 rfl rfl)
theorem dX1_comeDown_72 : decode cX1_comeDown 72 = .ok (.iload_n 2, 1) := dk_28 (dk_at dksX1_comeDown_3 3 rfl rfl)
theorem dX1_comeDown_73 : decode cX1_comeDown 73 = .ok (.laload, 1) := dk_47 (dk_at dksX1_comeDown_3 4 rfl rfl)
theorem dX1_comeDown_74 : decode cX1_comeDown 74 = .ok (.lconst 0, 1) := dk_9 (dk_at dksX1_comeDown_3 5 rfl rfl)
theorem dX1_comeDown_75 : decode cX1_comeDown 75 = .ok (.lcmp, 1) := dk_148 (dk_at dksX1_comeDown_3 6 rfl rfl)
theorem dX1_comeDown_76 : decode cX1_comeDown 76 = .ok (.ifCond .le 64, 3) := dk_158 0 64 (dk_at dksX1_comeDown_3 7 rfl rfl)
theorem dX1_comeDown_79 : decode cX1_comeDown 79 = .ok (.aload_n 0, 1) := dk_42 (dk_at dksX1_comeDown_3 10 rfl rfl)
theorem dX1_comeDown_80 : decode cX1_comeDown 80 = .ok (.iload 4, 2) := dk_21 4 (dk_at dksX1_comeDown_3 11 rfl rfl)
theorem dX1_comeDown_82 : decode cX1_comeDown 82 = .ok (.iload_n 2, 1) := dk_28 (dk_at dksX1_comeDown_3 13 rfl rfl)
theorem dX1_comeDown_83 : decode cX1_comeDown 83 = .ok (.invokevirtual 218, 3) := dk_182 0 218 (dk_at dksX1_comeDown_3 14 rfl rfl)
theorem dX1_comeDown_86 : decode cX1_comeDown 86 = .ok (.ifCond .eq 48, 3) := dk_153 0 48 (dk_at dksX1_comeDown_3 17 rfl rfl)
theorem dX1_comeDown_89 : decode cX1_comeDown 89 = .ok (.aload_n 0, 1) := dk_42 (dk_at dksX1_comeDown_3 20 rfl rfl)
theorem dX1_comeDown_90 : decode cX1_comeDown 90 = .ok (.getfield 96, 3) := dk_180 0 96 (dk_at dksX1_comeDown_3 21 rfl rfl)
theorem dX1_comeDown_93 : decode cX1_comeDown 93 = .ok (.iload_n 2, 1) := dk_28 (dk_at dksX1_comeDown_4 0 rfl rfl)
theorem dX1_comeDown_94 : decode cX1_comeDown 94 = .ok (.laload, 1) := dk_47 (dk_at dksX1_comeDown_4 1 rfl rfl)
theorem dX1_comeDown_95 : decode cX1_comeDown 95 = .ok (.iload_n 3, 1) := dk_29 (dk_at dksX1_comeDown_4 2 rfl rfl)
theorem dX1_comeDown_96 : decode cX1_comeDown 96 = .ok (.i2l, 1) := dk_133 (dk_at dksX1_comeDown_4 3 rfl rfl)
theorem dX1_comeDown_97 : decode cX1_comeDown 97 = .ok (.invokestatic 176, 3) := dk_184 0 176 (dk_at dksX1_comeDown_4 4 rfl rfl)
theorem dX1_comeDown_100 : decode cX1_comeDown 100 = .ok (.lstore 5, 2) := dk_55 5 (dk_at dksX1_comeDown_4 7 rfl rfl)
theorem dX1_comeDown_102 : decode cX1_comeDown 102 = .ok (.aload_n 0, 1) := dk_42 (dk_at dksX1_comeDown_4 9 rfl rfl)
theorem dX1_comeDown_103 : decode cX1_comeDown 103 = .ok (.aload_n 0, 1) := dk_42 (dk_at dksX1_comeDown_4 10 rfl rfl)
theorem dX1_comeDown_104 : decode cX1_comeDown 104 = .ok (.getfield 28, 3) := dk_180 0 28 (dk_at dksX1_comeDown_4 11 rfl rfl)
theorem dX1_comeDown_107 : decode cX1_comeDown 107 = .ok (.iload 4, 2) := dk_21 4 (dk_at dksX1_comeDown_4 14 rfl rfl)
theorem dX1_comeDown_109 : decode cX1_comeDown 109 = .ok (.iaload, 1) := dk_46 (dk_at dksX1_comeDown_4 16 rfl rfl)
theorem dX1_comeDown_110 : decode cX1_comeDown 110 = .ok (.aload_n 0, 1) := dk_42 (dk_at dksX1_comeDown_4 17 rfl rfl)
theorem dX1_comeDown_111 : decode cX1_comeDown 111 = .ok (.getfield 96, 3) := dk_180 0 96 (dk_at dksX1_comeDown_4 18 rfl rfl)
theorem dX1_comeDown_114 : decode cX1_comeDown 114 = .ok (.iload_n 2, 1) := dk_28 (dk_at dksX1_comeDown_4 21 rfl rfl)
theorem dX1_comeDown_115 : decode cX1_comeDown 115 = .ok (.laload, 1) := dk_47 (dk_at dksX1_comeDown_4 22 rfl rfl)
theorem dX1_comeDown_116 : decode cX1_comeDown 116 = .ok (.lload 5, 2) := dk_22 5 (dk_at dksX1_comeDown_5 0 rfl rfl)
theorem dX1_comeDown_118 : decode cX1_comeDown 118 = .ok (.ldiv, 1) := dk_109 (dk_at dksX1_comeDown_5 2 rfl rfl)
theorem dX1_comeDown_119 : decode cX1_comeDown 119 = .ok (.aload_n 0, 1) := dk_42 (dk_at dksX1_comeDown_5 3 rfl rfl)
theorem dX1_comeDown_120 : decode cX1_comeDown 120 = .ok (.getfield 99, 3) := dk_180 0 99 (dk_at dksX1_comeDown_5 4 rfl rfl)
theorem dX1_comeDown_123 : decode cX1_comeDown 123 = .ok (.iload_n 2, 1) := dk_28 (dk_at dksX1_comeDown_5 7 rfl rfl)
theorem dX1_comeDown_124 : decode cX1_comeDown 124 = .ok (.laload, 1) := dk_47 (dk_at dksX1_comeDown_5 8 rfl rfl)
theorem dX1_comeDown_125 : decode cX1_comeDown 125 = .ok (.iload_n 3, 1) := dk_29 (dk_at dksX1_comeDown_5 9 rfl rfl)
theorem dX1_comeDown_126 : decode cX1_comeDown 126 = .ok (.i2l, 1) := dk_133 (dk_at dksX1_comeDown_5 10 rfl rfl)
theorem dX1_comeDown_127 : decode cX1_comeDown 127 = .ok (.lload 5, 2) := dk_22 5 (dk_at dksX1_comeDown_5 11 rfl rfl)
theorem dX1_comeDown_129 : decode cX1_comeDown 129 = .ok (.ldiv, 1) := dk_109 (dk_at dksX1_comeDown_5 13 rfl rfl)
theorem dX1_comeDown_130 : decode cX1_comeDown 130 = .ok (.lmul, 1) := dk_105 (dk_at dksX1_comeDown_5 14 rfl rfl)
theorem dX1_comeDown_131 : decode cX1_comeDown 131 = .ok (.invokevirtual 222, 3) := dk_182 0 222 (dk_at dksX1_comeDown_5 15 rfl rfl)
theorem dX1_comeDown_134 : decode cX1_comeDown 134 = .ok (.iinc 4 1, 3) := dk_132 4 1 (dk_at dksX1_comeDown_5 18 rfl rfl)
theorem dX1_comeDown_137 : decode cX1_comeDown 137 = .ok (.goto (-78), 3) := dk_167 255 178 (dk_at dksX1_comeDown_5 21 rfl rfl)
theorem dX1_comeDown_140 : decode cX1_comeDown 140 = .ok (.iinc 1 (-1), 3) := dk_132 1 255 (dk_at dksX1_comeDown_6 0 rfl rfl)
theorem dX1_comeDown_143 : decode cX1_comeDown 143 = .ok (.goto (-136), 3) := dk_167 255 120 (dk_at dksX1_comeDown_6 3 rfl rfl)
theorem dX1_comeDown_146 : decode cX1_comeDown 146 = .ok (.return_, 1) := dk_177 (dk_at dksX1_comeDown_6 6 rfl rfl)
abbrev cX1_isHeir : ByteArray := prog_8_method_33_code
def yX1_isHeir : MethodName := ⟨RX1, "isHeir", "(II)Z"⟩
def dkwX1_isHeir_2 : List UInt8 := [29, 51, 153, 0, 7, 4, 167, 0, 4, 3, 172]
abbrev dktX1_isHeir_2 : List UInt8 := dkwX1_isHeir_2 ++ []
def dkwX1_isHeir_1 : List UInt8 := [160, 0, 33, 29, 42, 180, 0, 202, 159, 0, 25, 42, 180, 0, 84, 29, 51, 154, 0, 12, 42, 180, 0, 87]
abbrev dktX1_isHeir_1 : List UInt8 := dkwX1_isHeir_1 ++ dktX1_isHeir_2
def dkwX1_isHeir_0 : List UInt8 := [42, 180, 0, 28, 27, 46, 62, 42, 180, 0, 81, 27, 51, 153, 0, 43, 42, 180, 0, 25, 27, 46, 28]
abbrev dktX1_isHeir_0 : List UInt8 := dkwX1_isHeir_0 ++ dktX1_isHeir_1
theorem dksX1_isHeir_0 : cX1_isHeir.data.toList.drop 0 = dktX1_isHeir_0 := by decide +kernel
theorem dksX1_isHeir_1 : cX1_isHeir.data.toList.drop 23 = dktX1_isHeir_1 := dk_seg dksX1_isHeir_0 23 rfl rfl
theorem dksX1_isHeir_2 : cX1_isHeir.data.toList.drop 47 = dktX1_isHeir_2 := dk_seg dksX1_isHeir_1 24 rfl rfl
theorem dX1_isHeir_0 : decode cX1_isHeir 0 = .ok (.aload_n 0, 1) := dk_42 (dk_at dksX1_isHeir_0 0 rfl rfl)
theorem dX1_isHeir_1 : decode cX1_isHeir 1 = .ok (.getfield 28, 3) := dk_180 0 28 (dk_at dksX1_isHeir_0 1 rfl rfl)
theorem dX1_isHeir_4 : decode cX1_isHeir 4 = .ok (.iload_n 1, 1) := dk_27 (dk_at dksX1_isHeir_0 4 rfl rfl)
theorem dX1_isHeir_5 : decode cX1_isHeir 5 = .ok (.iaload, 1) := dk_46 (dk_at dksX1_isHeir_0 5 rfl rfl)
theorem dX1_isHeir_6 : decode cX1_isHeir 6 = .ok (.istore_n 3, 1) := dk_62 (dk_at dksX1_isHeir_0 6 rfl rfl)
theorem dX1_isHeir_7 : decode cX1_isHeir 7 = .ok (.aload_n 0, 1) := dk_42 (dk_at dksX1_isHeir_0 7 rfl rfl)
theorem dX1_isHeir_8 : decode cX1_isHeir 8 = .ok (.getfield 81, 3) := dk_180 0 81 (dk_at dksX1_isHeir_0 8 rfl rfl)
theorem dX1_isHeir_11 : decode cX1_isHeir 11 = .ok (.iload_n 1, 1) := dk_27 (dk_at dksX1_isHeir_0 11 rfl rfl)
theorem dX1_isHeir_12 : decode cX1_isHeir 12 = .ok (.baload, 1) := dk_51 (dk_at dksX1_isHeir_0 12 rfl rfl)
theorem dX1_isHeir_13 : decode cX1_isHeir 13 = .ok (.ifCond .eq 43, 3) := dk_153 0 43 (dk_at dksX1_isHeir_0 13 rfl rfl)
theorem dX1_isHeir_16 : decode cX1_isHeir 16 = .ok (.aload_n 0, 1) := dk_42 (dk_at dksX1_isHeir_0 16 rfl rfl)
theorem dX1_isHeir_17 : decode cX1_isHeir 17 = .ok (.getfield 25, 3) := dk_180 0 25 (dk_at dksX1_isHeir_0 17 rfl rfl)
theorem dX1_isHeir_20 : decode cX1_isHeir 20 = .ok (.iload_n 1, 1) := dk_27 (dk_at dksX1_isHeir_0 20 rfl rfl)
theorem dX1_isHeir_21 : decode cX1_isHeir 21 = .ok (.iaload, 1) := dk_46 (dk_at dksX1_isHeir_0 21 rfl rfl)
theorem dX1_isHeir_22 : decode cX1_isHeir 22 = .ok (.iload_n 2, 1) := dk_28 (dk_at dksX1_isHeir_0 22 rfl rfl)
theorem dX1_isHeir_23 : decode cX1_isHeir 23 = .ok (.if_icmp .ne 33, 3) := dk_160 0 33 (dk_at dksX1_isHeir_1 0 rfl rfl)
theorem dX1_isHeir_26 : decode cX1_isHeir 26 = .ok (.iload_n 3, 1) := dk_29 (dk_at dksX1_isHeir_1 3 rfl rfl)
theorem dX1_isHeir_27 : decode cX1_isHeir 27 = .ok (.aload_n 0, 1) := dk_42 (dk_at dksX1_isHeir_1 4 rfl rfl)
theorem dX1_isHeir_28 : decode cX1_isHeir 28 = .ok (.getfield 202, 3) := dk_180 0 202 (dk_at dksX1_isHeir_1 5 rfl rfl)
theorem dX1_isHeir_31 : decode cX1_isHeir 31 = .ok (.if_icmp .eq 25, 3) := dk_159 0 25 (dk_at dksX1_isHeir_1 8 rfl rfl)
theorem dX1_isHeir_34 : decode cX1_isHeir 34 = .ok (.aload_n 0, 1) := dk_42 (dk_at dksX1_isHeir_1 11 rfl rfl)
theorem dX1_isHeir_35 : decode cX1_isHeir 35 = .ok (.getfield 84, 3) := dk_180 0 84 (dk_at dksX1_isHeir_1 12 rfl rfl)
theorem dX1_isHeir_38 : decode cX1_isHeir 38 = .ok (.iload_n 3, 1) := dk_29 (dk_at dksX1_isHeir_1 15 rfl rfl)
theorem dX1_isHeir_39 : decode cX1_isHeir 39 = .ok (.baload, 1) := dk_51 (dk_at dksX1_isHeir_1 16 rfl rfl)
theorem dX1_isHeir_40 : decode cX1_isHeir 40 = .ok (.ifCond .ne 12, 3) := dk_154 0 12 (dk_at dksX1_isHeir_1 17 rfl rfl)
theorem dX1_isHeir_43 : decode cX1_isHeir 43 = .ok (.aload_n 0, 1) := dk_42 (dk_at dksX1_isHeir_1 20 rfl rfl)
theorem dX1_isHeir_44 : decode cX1_isHeir 44 = .ok (.getfield 87, 3) := dk_180 0 87 (dk_at dksX1_isHeir_1 21 rfl rfl)
theorem dX1_isHeir_47 : decode cX1_isHeir 47 = .ok (.iload_n 3, 1) := dk_29 (dk_at dksX1_isHeir_2 0 rfl rfl)
theorem dX1_isHeir_48 : decode cX1_isHeir 48 = .ok (.baload, 1) := dk_51 (dk_at dksX1_isHeir_2 1 rfl rfl)
theorem dX1_isHeir_49 : decode cX1_isHeir 49 = .ok (.ifCond .eq 7, 3) := dk_153 0 7 (dk_at dksX1_isHeir_2 2 rfl rfl)
theorem dX1_isHeir_52 : decode cX1_isHeir 52 = .ok (.iconst 1, 1) := dk_4 (dk_at dksX1_isHeir_2 5 rfl rfl)
theorem dX1_isHeir_53 : decode cX1_isHeir 53 = .ok (.goto 4, 3) := dk_167 0 4 (dk_at dksX1_isHeir_2 6 rfl rfl)
theorem dX1_isHeir_56 : decode cX1_isHeir 56 = .ok (.iconst 0, 1) := dk_3 (dk_at dksX1_isHeir_2 9 rfl rfl)
theorem dX1_isHeir_57 : decode cX1_isHeir 57 = .ok (.ireturn, 1) := dk_172 (dk_at dksX1_isHeir_2 10 rfl rfl)
abbrev cX1_tell : ByteArray := prog_8_method_39_code
def yX1_tell : MethodName := ⟨RX1, "tell", "(JJ)I"⟩
def dkwX1_tell_1 : List UInt8 := [172]
abbrev dktX1_tell_1 : List UInt8 := dkwX1_tell_1 ++ []
def dkwX1_tell_0 : List UInt8 := [31, 33, 184, 0, 176, 55, 5, 42, 31, 22, 5, 109, 181, 0, 252, 42, 33, 22, 5, 109, 181, 0, 105, 4]
abbrev dktX1_tell_0 : List UInt8 := dkwX1_tell_0 ++ dktX1_tell_1
theorem dksX1_tell_0 : cX1_tell.data.toList.drop 0 = dktX1_tell_0 := by decide +kernel
theorem dksX1_tell_1 : cX1_tell.data.toList.drop 24 = dktX1_tell_1 := dk_seg dksX1_tell_0 24 rfl rfl
theorem dX1_tell_0 : decode cX1_tell 0 = .ok (.lload_n 1, 1) := dk_31 (dk_at dksX1_tell_0 0 rfl rfl)
theorem dX1_tell_1 : decode cX1_tell 1 = .ok (.lload_n 3, 1) := dk_33 (dk_at dksX1_tell_0 1 rfl rfl)
theorem dX1_tell_2 : decode cX1_tell 2 = .ok (.invokestatic 176, 3) := dk_184 0 176 (dk_at dksX1_tell_0 2 rfl rfl)
theorem dX1_tell_5 : decode cX1_tell 5 = .ok (.lstore 5, 2) := dk_55 5 (dk_at dksX1_tell_0 5 rfl rfl)
theorem dX1_tell_7 : decode cX1_tell 7 = .ok (.aload_n 0, 1) := dk_42 (dk_at dksX1_tell_0 7 rfl rfl)
theorem dX1_tell_8 : decode cX1_tell 8 = .ok (.lload_n 1, 1) := dk_31 (dk_at dksX1_tell_0 8 rfl rfl)
theorem dX1_tell_9 : decode cX1_tell 9 = .ok (.lload 5, 2) := dk_22 5 (dk_at dksX1_tell_0 9 rfl rfl)
theorem dX1_tell_11 : decode cX1_tell 11 = .ok (.ldiv, 1) := dk_109 (dk_at dksX1_tell_0 11 rfl rfl)
theorem dX1_tell_12 : decode cX1_tell 12 = .ok (.putfield 252, 3) := dk_181 0 252 (dk_at dksX1_tell_0 12 rfl rfl)
theorem dX1_tell_15 : decode cX1_tell 15 = .ok (.aload_n 0, 1) := dk_42 (dk_at dksX1_tell_0 15 rfl rfl)
theorem dX1_tell_16 : decode cX1_tell 16 = .ok (.lload_n 3, 1) := dk_33 (dk_at dksX1_tell_0 16 rfl rfl)
theorem dX1_tell_17 : decode cX1_tell 17 = .ok (.lload 5, 2) := dk_22 5 (dk_at dksX1_tell_0 17 rfl rfl)
theorem dX1_tell_19 : decode cX1_tell 19 = .ok (.ldiv, 1) := dk_109 (dk_at dksX1_tell_0 19 rfl rfl)
theorem dX1_tell_20 : decode cX1_tell 20 = .ok (.putfield 105, 3) := dk_181 0 105 (dk_at dksX1_tell_0 20 rfl rfl)
theorem dX1_tell_23 : decode cX1_tell 23 = .ok (.iconst 1, 1) := dk_4 (dk_at dksX1_tell_0 23 rfl rfl)
theorem dX1_tell_24 : decode cX1_tell 24 = .ok (.ireturn, 1) := dk_172 (dk_at dksX1_tell_1 0 rfl rfl)
abbrev cX1_circle : ByteArray := prog_8_method_42_code
def yX1_circle : MethodName := ⟨RX1, "circle", "(IZ)I"⟩
def dkwX1_circle_1 : List UInt8 := [180, 0, 239, 172]
abbrev dktX1_circle_1 : List UInt8 := dkwX1_circle_1 ++ []
def dkwX1_circle_0 : List UInt8 := [42, 27, 182, 0, 196, 62, 29, 156, 0, 5, 29, 172, 42, 182, 1, 2, 42, 27, 28, 3, 182, 1, 5, 42]
abbrev dktX1_circle_0 : List UInt8 := dkwX1_circle_0 ++ dktX1_circle_1
theorem dksX1_circle_0 : cX1_circle.data.toList.drop 0 = dktX1_circle_0 := by decide +kernel
theorem dksX1_circle_1 : cX1_circle.data.toList.drop 24 = dktX1_circle_1 := dk_seg dksX1_circle_0 24 rfl rfl
theorem dX1_circle_0 : decode cX1_circle 0 = .ok (.aload_n 0, 1) := dk_42 (dk_at dksX1_circle_0 0 rfl rfl)
theorem dX1_circle_1 : decode cX1_circle 1 = .ok (.iload_n 1, 1) := dk_27 (dk_at dksX1_circle_0 1 rfl rfl)
theorem dX1_circle_2 : decode cX1_circle 2 = .ok (.invokevirtual 196, 3) := dk_182 0 196 (dk_at dksX1_circle_0 2 rfl rfl)
theorem dX1_circle_5 : decode cX1_circle 5 = .ok (.istore_n 3, 1) := dk_62 (dk_at dksX1_circle_0 5 rfl rfl)
theorem dX1_circle_6 : decode cX1_circle 6 = .ok (.iload_n 3, 1) := dk_29 (dk_at dksX1_circle_0 6 rfl rfl)
theorem dX1_circle_7 : decode cX1_circle 7 = .ok (.ifCond .ge 5, 3) := dk_156 0 5 (dk_at dksX1_circle_0 7 rfl rfl)
theorem dX1_circle_10 : decode cX1_circle 10 = .ok (.iload_n 3, 1) := dk_29 (dk_at dksX1_circle_0 10 rfl rfl)
theorem dX1_circle_11 : decode cX1_circle 11 = .ok (.ireturn, 1) := dk_172 (dk_at dksX1_circle_0 11 rfl rfl)
theorem dX1_circle_12 : decode cX1_circle 12 = .ok (.aload_n 0, 1) := dk_42 (dk_at dksX1_circle_0 12 rfl rfl)
theorem dX1_circle_13 : decode cX1_circle 13 = .ok (.invokevirtual 258, 3) := dk_182 1 2 (dk_at dksX1_circle_0 13 rfl rfl)
theorem dX1_circle_16 : decode cX1_circle 16 = .ok (.aload_n 0, 1) := dk_42 (dk_at dksX1_circle_0 16 rfl rfl)
theorem dX1_circle_17 : decode cX1_circle 17 = .ok (.iload_n 1, 1) := dk_27 (dk_at dksX1_circle_0 17 rfl rfl)
theorem dX1_circle_18 : decode cX1_circle 18 = .ok (.iload_n 2, 1) := dk_28 (dk_at dksX1_circle_0 18 rfl rfl)
theorem dX1_circle_19 : decode cX1_circle 19 = .ok (.iconst 0, 1) := dk_3 (dk_at dksX1_circle_0 19 rfl rfl)
theorem dX1_circle_20 : decode cX1_circle 20 = .ok (.invokevirtual 261, 3) := dk_182 1 5 (dk_at dksX1_circle_0 20 rfl rfl)
theorem dX1_circle_23 : decode cX1_circle 23 = .ok (.aload_n 0, 1) := dk_42 (dk_at dksX1_circle_0 23 rfl rfl)
theorem dX1_circle_24 : decode cX1_circle 24 = .ok (.getfield 239, 3) := dk_180 0 239 (dk_at dksX1_circle_1 0 rfl rfl)
theorem dX1_circle_27 : decode cX1_circle 27 = .ok (.ireturn, 1) := dk_172 (dk_at dksX1_circle_1 3 rfl rfl)
abbrev cX1_heirs : ByteArray := prog_8_method_43_code
def yX1_heirs : MethodName := ⟨RX1, "heirs", "(IZ)I"⟩
def dkwX1_heirs_2 : List UInt8 := [148, 158, 0, 7, 4, 167, 0, 4, 3, 96, 54, 4, 132, 5, 1, 167, 255, 222, 21, 4, 172]
abbrev dktX1_heirs_2 : List UInt8 := dkwX1_heirs_2 ++ []
def dkwX1_heirs_1 : List UInt8 := [54, 4, 3, 54, 5, 21, 5, 42, 180, 0, 139, 162, 0, 31, 21, 4, 42, 180, 0, 74, 21, 5, 47, 9]
abbrev dktX1_heirs_1 : List UInt8 := dkwX1_heirs_1 ++ dktX1_heirs_2
def dkwX1_heirs_0 : List UInt8 := [42, 27, 182, 0, 196, 62, 29, 156, 0, 5, 29, 172, 42, 182, 1, 2, 42, 27, 28, 3, 182, 1, 5, 3]
abbrev dktX1_heirs_0 : List UInt8 := dkwX1_heirs_0 ++ dktX1_heirs_1
theorem dksX1_heirs_0 : cX1_heirs.data.toList.drop 0 = dktX1_heirs_0 := by decide +kernel
theorem dksX1_heirs_1 : cX1_heirs.data.toList.drop 24 = dktX1_heirs_1 := dk_seg dksX1_heirs_0 24 rfl rfl
theorem dksX1_heirs_2 : cX1_heirs.data.toList.drop 48 = dktX1_heirs_2 := dk_seg dksX1_heirs_1 24 rfl rfl
theorem dX1_heirs_0 : decode cX1_heirs 0 = .ok (.aload_n 0, 1) := dk_42 (dk_at dksX1_heirs_0 0 rfl rfl)
theorem dX1_heirs_1 : decode cX1_heirs 1 = .ok (.iload_n 1, 1) := dk_27 (dk_at dksX1_heirs_0 1 rfl rfl)
theorem dX1_heirs_2 : decode cX1_heirs 2 = .ok (.invokevirtual 196, 3) := dk_182 0 196 (dk_at dksX1_heirs_0 2 rfl rfl)
theorem dX1_heirs_5 : decode cX1_heirs 5 = .ok (.istore_n 3, 1) := dk_62 (dk_at dksX1_heirs_0 5 rfl rfl)
theorem dX1_heirs_6 : decode cX1_heirs 6 = .ok (.iload_n 3, 1) := dk_29 (dk_at dksX1_heirs_0 6 rfl rfl)
theorem dX1_heirs_7 : decode cX1_heirs 7 = .ok (.ifCond .ge 5, 3) := dk_156 0 5 (dk_at dksX1_heirs_0 7 rfl rfl)
theorem dX1_heirs_10 : decode cX1_heirs 10 = .ok (.iload_n 3, 1) := dk_29 (dk_at dksX1_heirs_0 10 rfl rfl)
theorem dX1_heirs_11 : decode cX1_heirs 11 = .ok (.ireturn, 1) := dk_172 (dk_at dksX1_heirs_0 11 rfl rfl)
theorem dX1_heirs_12 : decode cX1_heirs 12 = .ok (.aload_n 0, 1) := dk_42 (dk_at dksX1_heirs_0 12 rfl rfl)
theorem dX1_heirs_13 : decode cX1_heirs 13 = .ok (.invokevirtual 258, 3) := dk_182 1 2 (dk_at dksX1_heirs_0 13 rfl rfl)
theorem dX1_heirs_16 : decode cX1_heirs 16 = .ok (.aload_n 0, 1) := dk_42 (dk_at dksX1_heirs_0 16 rfl rfl)
theorem dX1_heirs_17 : decode cX1_heirs 17 = .ok (.iload_n 1, 1) := dk_27 (dk_at dksX1_heirs_0 17 rfl rfl)
theorem dX1_heirs_18 : decode cX1_heirs 18 = .ok (.iload_n 2, 1) := dk_28 (dk_at dksX1_heirs_0 18 rfl rfl)
theorem dX1_heirs_19 : decode cX1_heirs 19 = .ok (.iconst 0, 1) := dk_3 (dk_at dksX1_heirs_0 19 rfl rfl)
theorem dX1_heirs_20 : decode cX1_heirs 20 = .ok (.invokevirtual 261, 3) := dk_182 1 5 (dk_at dksX1_heirs_0 20 rfl rfl)
theorem dX1_heirs_23 : decode cX1_heirs 23 = .ok (.iconst 0, 1) := dk_3 (dk_at dksX1_heirs_0 23 rfl rfl)
theorem dX1_heirs_24 : decode cX1_heirs 24 = .ok (.istore 4, 2) := dk_54 4 (dk_at dksX1_heirs_1 0 rfl rfl)
theorem dX1_heirs_26 : decode cX1_heirs 26 = .ok (.iconst 0, 1) := dk_3 (dk_at dksX1_heirs_1 2 rfl rfl)
theorem dX1_heirs_27 : decode cX1_heirs 27 = .ok (.istore 5, 2) := dk_54 5 (dk_at dksX1_heirs_1 3 rfl rfl)
theorem dX1_heirs_29 : decode cX1_heirs 29 = .ok (.iload 5, 2) := dk_21 5 (dk_at dksX1_heirs_1 5 rfl rfl)
theorem dX1_heirs_31 : decode cX1_heirs 31 = .ok (.aload_n 0, 1) := dk_42 (dk_at dksX1_heirs_1 7 rfl rfl)
theorem dX1_heirs_32 : decode cX1_heirs 32 = .ok (.getfield 139, 3) := dk_180 0 139 (dk_at dksX1_heirs_1 8 rfl rfl)
theorem dX1_heirs_35 : decode cX1_heirs 35 = .ok (.if_icmp .ge 31, 3) := dk_162 0 31 (dk_at dksX1_heirs_1 11 rfl rfl)
theorem dX1_heirs_38 : decode cX1_heirs 38 = .ok (.iload 4, 2) := dk_21 4 (dk_at dksX1_heirs_1 14 rfl rfl)
theorem dX1_heirs_40 : decode cX1_heirs 40 = .ok (.aload_n 0, 1) := dk_42 (dk_at dksX1_heirs_1 16 rfl rfl)
theorem dX1_heirs_41 : decode cX1_heirs 41 = .ok (.getfield 74, 3) := dk_180 0 74 (dk_at dksX1_heirs_1 17 rfl rfl)
theorem dX1_heirs_44 : decode cX1_heirs 44 = .ok (.iload 5, 2) := dk_21 5 (dk_at dksX1_heirs_1 20 rfl rfl)
theorem dX1_heirs_46 : decode cX1_heirs 46 = .ok (.laload, 1) := dk_47 (dk_at dksX1_heirs_1 22 rfl rfl)
theorem dX1_heirs_47 : decode cX1_heirs 47 = .ok (.lconst 0, 1) := dk_9 (dk_at dksX1_heirs_1 23 rfl rfl)
theorem dX1_heirs_48 : decode cX1_heirs 48 = .ok (.lcmp, 1) := dk_148 (dk_at dksX1_heirs_2 0 rfl rfl)
theorem dX1_heirs_49 : decode cX1_heirs 49 = .ok (.ifCond .le 7, 3) := dk_158 0 7 (dk_at dksX1_heirs_2 1 rfl rfl)
theorem dX1_heirs_52 : decode cX1_heirs 52 = .ok (.iconst 1, 1) := dk_4 (dk_at dksX1_heirs_2 4 rfl rfl)
theorem dX1_heirs_53 : decode cX1_heirs 53 = .ok (.goto 4, 3) := dk_167 0 4 (dk_at dksX1_heirs_2 5 rfl rfl)
theorem dX1_heirs_56 : decode cX1_heirs 56 = .ok (.iconst 0, 1) := dk_3 (dk_at dksX1_heirs_2 8 rfl rfl)
theorem dX1_heirs_57 : decode cX1_heirs 57 = .ok (.iadd, 1) := dk_96 (dk_at dksX1_heirs_2 9 rfl rfl)
theorem dX1_heirs_58 : decode cX1_heirs 58 = .ok (.istore 4, 2) := dk_54 4 (dk_at dksX1_heirs_2 10 rfl rfl)
theorem dX1_heirs_60 : decode cX1_heirs 60 = .ok (.iinc 5 1, 3) := dk_132 5 1 (dk_at dksX1_heirs_2 12 rfl rfl)
theorem dX1_heirs_63 : decode cX1_heirs 63 = .ok (.goto (-34), 3) := dk_167 255 222 (dk_at dksX1_heirs_2 15 rfl rfl)
theorem dX1_heirs_66 : decode cX1_heirs 66 = .ok (.iload 4, 2) := dk_21 4 (dk_at dksX1_heirs_2 18 rfl rfl)
theorem dX1_heirs_68 : decode cX1_heirs 68 = .ok (.ireturn, 1) := dk_172 (dk_at dksX1_heirs_2 20 rfl rfl)
abbrev cX1_bound : ByteArray := prog_8_method_48_code
def yX1_bound : MethodName := ⟨RX1, "bound", "(IIZ)I"⟩
def dkwX1_bound_2 : List UInt8 := [180, 0, 109, 21, 5, 47, 42, 180, 0, 112, 21, 5, 47, 182, 1, 8, 172]
abbrev dktX1_bound_2 : List UInt8 := dkwX1_bound_2 ++ []
def dkwX1_bound_1 : List UInt8 := [172, 42, 28, 16, 247, 160, 0, 8, 16, 24, 167, 0, 4, 28, 29, 3, 3, 182, 1, 22, 54, 5, 42, 42]
abbrev dktX1_bound_1 : List UInt8 := dkwX1_bound_1 ++ dktX1_bound_2
def dkwX1_bound_0 : List UInt8 := [42, 28, 182, 0, 255, 154, 0, 5, 2, 172, 42, 27, 182, 1, 19, 54, 4, 21, 4, 156, 0, 6, 21, 4]
abbrev dktX1_bound_0 : List UInt8 := dkwX1_bound_0 ++ dktX1_bound_1
theorem dksX1_bound_0 : cX1_bound.data.toList.drop 0 = dktX1_bound_0 := by decide +kernel
theorem dksX1_bound_1 : cX1_bound.data.toList.drop 24 = dktX1_bound_1 := dk_seg dksX1_bound_0 24 rfl rfl
theorem dksX1_bound_2 : cX1_bound.data.toList.drop 48 = dktX1_bound_2 := dk_seg dksX1_bound_1 24 rfl rfl
theorem dX1_bound_0 : decode cX1_bound 0 = .ok (.aload_n 0, 1) := dk_42 (dk_at dksX1_bound_0 0 rfl rfl)
theorem dX1_bound_1 : decode cX1_bound 1 = .ok (.iload_n 2, 1) := dk_28 (dk_at dksX1_bound_0 1 rfl rfl)
theorem dX1_bound_2 : decode cX1_bound 2 = .ok (.invokevirtual 255, 3) := dk_182 0 255 (dk_at dksX1_bound_0 2 rfl rfl)
theorem dX1_bound_5 : decode cX1_bound 5 = .ok (.ifCond .ne 5, 3) := dk_154 0 5 (dk_at dksX1_bound_0 5 rfl rfl)
theorem dX1_bound_8 : decode cX1_bound 8 = .ok (.iconst (-1), 1) := dk_2 (dk_at dksX1_bound_0 8 rfl rfl)
theorem dX1_bound_9 : decode cX1_bound 9 = .ok (.ireturn, 1) := dk_172 (dk_at dksX1_bound_0 9 rfl rfl)
theorem dX1_bound_10 : decode cX1_bound 10 = .ok (.aload_n 0, 1) := dk_42 (dk_at dksX1_bound_0 10 rfl rfl)
theorem dX1_bound_11 : decode cX1_bound 11 = .ok (.iload_n 1, 1) := dk_27 (dk_at dksX1_bound_0 11 rfl rfl)
theorem dX1_bound_12 : decode cX1_bound 12 = .ok (.invokevirtual 275, 3) := dk_182 1 19 (dk_at dksX1_bound_0 12 rfl rfl)
theorem dX1_bound_15 : decode cX1_bound 15 = .ok (.istore 4, 2) := dk_54 4 (dk_at dksX1_bound_0 15 rfl rfl)
theorem dX1_bound_17 : decode cX1_bound 17 = .ok (.iload 4, 2) := dk_21 4 (dk_at dksX1_bound_0 17 rfl rfl)
theorem dX1_bound_19 : decode cX1_bound 19 = .ok (.ifCond .ge 6, 3) := dk_156 0 6 (dk_at dksX1_bound_0 19 rfl rfl)
theorem dX1_bound_22 : decode cX1_bound 22 = .ok (.iload 4, 2) := dk_21 4 (dk_at dksX1_bound_0 22 rfl rfl)
theorem dX1_bound_24 : decode cX1_bound 24 = .ok (.ireturn, 1) := dk_172 (dk_at dksX1_bound_1 0 rfl rfl)
theorem dX1_bound_25 : decode cX1_bound 25 = .ok (.aload_n 0, 1) := dk_42 (dk_at dksX1_bound_1 1 rfl rfl)
theorem dX1_bound_26 : decode cX1_bound 26 = .ok (.iload_n 2, 1) := dk_28 (dk_at dksX1_bound_1 2 rfl rfl)
theorem dX1_bound_27 : decode cX1_bound 27 = .ok (.bipush (-9), 2) := dk_16 247 (dk_at dksX1_bound_1 3 rfl rfl)
theorem dX1_bound_29 : decode cX1_bound 29 = .ok (.if_icmp .ne 8, 3) := dk_160 0 8 (dk_at dksX1_bound_1 5 rfl rfl)
theorem dX1_bound_32 : decode cX1_bound 32 = .ok (.bipush 24, 2) := dk_16 24 (dk_at dksX1_bound_1 8 rfl rfl)
theorem dX1_bound_34 : decode cX1_bound 34 = .ok (.goto 4, 3) := dk_167 0 4 (dk_at dksX1_bound_1 10 rfl rfl)
theorem dX1_bound_37 : decode cX1_bound 37 = .ok (.iload_n 2, 1) := dk_28 (dk_at dksX1_bound_1 13 rfl rfl)
theorem dX1_bound_38 : decode cX1_bound 38 = .ok (.iload_n 3, 1) := dk_29 (dk_at dksX1_bound_1 14 rfl rfl)
theorem dX1_bound_39 : decode cX1_bound 39 = .ok (.iconst 0, 1) := dk_3 (dk_at dksX1_bound_1 15 rfl rfl)
theorem dX1_bound_40 : decode cX1_bound 40 = .ok (.iconst 0, 1) := dk_3 (dk_at dksX1_bound_1 16 rfl rfl)
theorem dX1_bound_41 : decode cX1_bound 41 = .ok (.invokevirtual 278, 3) := dk_182 1 22 (dk_at dksX1_bound_1 17 rfl rfl)
theorem dX1_bound_44 : decode cX1_bound 44 = .ok (.istore 5, 2) := dk_54 5 (dk_at dksX1_bound_1 20 rfl rfl)
theorem dX1_bound_46 : decode cX1_bound 46 = .ok (.aload_n 0, 1) := dk_42 (dk_at dksX1_bound_1 22 rfl rfl)
theorem dX1_bound_47 : decode cX1_bound 47 = .ok (.aload_n 0, 1) := dk_42 (dk_at dksX1_bound_1 23 rfl rfl)
theorem dX1_bound_48 : decode cX1_bound 48 = .ok (.getfield 109, 3) := dk_180 0 109 (dk_at dksX1_bound_2 0 rfl rfl)
theorem dX1_bound_51 : decode cX1_bound 51 = .ok (.iload 5, 2) := dk_21 5 (dk_at dksX1_bound_2 3 rfl rfl)
theorem dX1_bound_53 : decode cX1_bound 53 = .ok (.laload, 1) := dk_47 (dk_at dksX1_bound_2 5 rfl rfl)
theorem dX1_bound_54 : decode cX1_bound 54 = .ok (.aload_n 0, 1) := dk_42 (dk_at dksX1_bound_2 6 rfl rfl)
theorem dX1_bound_55 : decode cX1_bound 55 = .ok (.getfield 112, 3) := dk_180 0 112 (dk_at dksX1_bound_2 7 rfl rfl)
theorem dX1_bound_58 : decode cX1_bound 58 = .ok (.iload 5, 2) := dk_21 5 (dk_at dksX1_bound_2 10 rfl rfl)
theorem dX1_bound_60 : decode cX1_bound 60 = .ok (.laload, 1) := dk_47 (dk_at dksX1_bound_2 12 rfl rfl)
theorem dX1_bound_61 : decode cX1_bound 61 = .ok (.invokevirtual 264, 3) := dk_182 1 8 (dk_at dksX1_bound_2 13 rfl rfl)
theorem dX1_bound_64 : decode cX1_bound 64 = .ok (.ireturn, 1) := dk_172 (dk_at dksX1_bound_2 16 rfl rfl)
abbrev cX1_askedOpen : ByteArray := prog_8_method_47_code
def yX1_askedOpen : MethodName := ⟨RX1, "askedOpen", "(I)I"⟩
def dkwX1_askedOpen_1 : List UInt8 := [164, 0, 6, 16, 250, 172, 42, 27, 182, 1, 16, 3, 172]
abbrev dktX1_askedOpen_1 : List UInt8 := dkwX1_askedOpen_1 ++ []
def dkwX1_askedOpen_0 : List UInt8 := [42, 27, 182, 0, 196, 61, 28, 156, 0, 5, 28, 172, 42, 182, 1, 2, 42, 180, 0, 199, 16, 8]
abbrev dktX1_askedOpen_0 : List UInt8 := dkwX1_askedOpen_0 ++ dktX1_askedOpen_1
theorem dksX1_askedOpen_0 : cX1_askedOpen.data.toList.drop 0 = dktX1_askedOpen_0 := by decide +kernel
theorem dksX1_askedOpen_1 : cX1_askedOpen.data.toList.drop 22 = dktX1_askedOpen_1 := dk_seg dksX1_askedOpen_0 22 rfl rfl
theorem dX1_askedOpen_0 : decode cX1_askedOpen 0 = .ok (.aload_n 0, 1) := dk_42 (dk_at dksX1_askedOpen_0 0 rfl rfl)
theorem dX1_askedOpen_1 : decode cX1_askedOpen 1 = .ok (.iload_n 1, 1) := dk_27 (dk_at dksX1_askedOpen_0 1 rfl rfl)
theorem dX1_askedOpen_2 : decode cX1_askedOpen 2 = .ok (.invokevirtual 196, 3) := dk_182 0 196 (dk_at dksX1_askedOpen_0 2 rfl rfl)
theorem dX1_askedOpen_5 : decode cX1_askedOpen 5 = .ok (.istore_n 2, 1) := dk_61 (dk_at dksX1_askedOpen_0 5 rfl rfl)
theorem dX1_askedOpen_6 : decode cX1_askedOpen 6 = .ok (.iload_n 2, 1) := dk_28 (dk_at dksX1_askedOpen_0 6 rfl rfl)
theorem dX1_askedOpen_7 : decode cX1_askedOpen 7 = .ok (.ifCond .ge 5, 3) := dk_156 0 5 (dk_at dksX1_askedOpen_0 7 rfl rfl)
theorem dX1_askedOpen_10 : decode cX1_askedOpen 10 = .ok (.iload_n 2, 1) := dk_28 (dk_at dksX1_askedOpen_0 10 rfl rfl)
theorem dX1_askedOpen_11 : decode cX1_askedOpen 11 = .ok (.ireturn, 1) := dk_172 (dk_at dksX1_askedOpen_0 11 rfl rfl)
theorem dX1_askedOpen_12 : decode cX1_askedOpen 12 = .ok (.aload_n 0, 1) := dk_42 (dk_at dksX1_askedOpen_0 12 rfl rfl)
theorem dX1_askedOpen_13 : decode cX1_askedOpen 13 = .ok (.invokevirtual 258, 3) := dk_182 1 2 (dk_at dksX1_askedOpen_0 13 rfl rfl)
theorem dX1_askedOpen_16 : decode cX1_askedOpen 16 = .ok (.aload_n 0, 1) := dk_42 (dk_at dksX1_askedOpen_0 16 rfl rfl)
theorem dX1_askedOpen_17 : decode cX1_askedOpen 17 = .ok (.getfield 199, 3) := dk_180 0 199 (dk_at dksX1_askedOpen_0 17 rfl rfl)
theorem dX1_askedOpen_20 : decode cX1_askedOpen 20 = .ok (.bipush 8, 2) := dk_16 8 (dk_at dksX1_askedOpen_0 20 rfl rfl)
theorem dX1_askedOpen_22 : decode cX1_askedOpen 22 = .ok (.if_icmp .le 6, 3) := dk_164 0 6 (dk_at dksX1_askedOpen_1 0 rfl rfl)
theorem dX1_askedOpen_25 : decode cX1_askedOpen 25 = .ok (.bipush (-6), 2) := dk_16 250 (dk_at dksX1_askedOpen_1 3 rfl rfl)
theorem dX1_askedOpen_27 : decode cX1_askedOpen 27 = .ok (.ireturn, 1) := dk_172 (dk_at dksX1_askedOpen_1 5 rfl rfl)
theorem dX1_askedOpen_28 : decode cX1_askedOpen 28 = .ok (.aload_n 0, 1) := dk_42 (dk_at dksX1_askedOpen_1 6 rfl rfl)
theorem dX1_askedOpen_29 : decode cX1_askedOpen 29 = .ok (.iload_n 1, 1) := dk_27 (dk_at dksX1_askedOpen_1 7 rfl rfl)
theorem dX1_askedOpen_30 : decode cX1_askedOpen 30 = .ok (.invokevirtual 272, 3) := dk_182 1 16 (dk_at dksX1_askedOpen_1 8 rfl rfl)
theorem dX1_askedOpen_33 : decode cX1_askedOpen 33 = .ok (.iconst 0, 1) := dk_3 (dk_at dksX1_askedOpen_1 11 rfl rfl)
theorem dX1_askedOpen_34 : decode cX1_askedOpen 34 = .ok (.ireturn, 1) := dk_172 (dk_at dksX1_askedOpen_1 12 rfl rfl)
abbrev cX1_setWays : ByteArray := prog_8_method_45_code
def yX1_setWays : MethodName := ⟨RX1, "setWays", "(I)V"⟩
def dkwX1_setWays_3 : List UInt8 := [167, 255, 188, 177]
abbrev dktX1_setWays_3 : List UInt8 := dkwX1_setWays_3 ++ []
def dkwX1_setWays_2 : List UInt8 := [16, 25, 28, 104, 29, 96, 42, 180, 0, 78, 29, 47, 80, 132, 3, 1, 167, 255, 213, 132, 2, 1]
abbrev dktX1_setWays_2 : List UInt8 := dkwX1_setWays_2 ++ dktX1_setWays_3
def dkwX1_setWays_1 : List UInt8 := [163, 0, 43, 42, 180, 0, 109, 16, 25, 28, 104, 29, 96, 42, 180, 0, 74, 29, 47, 80, 42, 180, 0, 112]
abbrev dktX1_setWays_1 : List UInt8 := dkwX1_setWays_1 ++ dktX1_setWays_2
def dkwX1_setWays_0 : List UInt8 := [3, 61, 28, 4, 42, 180, 0, 199, 120, 162, 0, 64, 42, 27, 3, 28, 182, 1, 5, 3, 62, 29, 16, 24]
abbrev dktX1_setWays_0 : List UInt8 := dkwX1_setWays_0 ++ dktX1_setWays_1
theorem dksX1_setWays_0 : cX1_setWays.data.toList.drop 0 = dktX1_setWays_0 := by decide +kernel
theorem dksX1_setWays_1 : cX1_setWays.data.toList.drop 24 = dktX1_setWays_1 := dk_seg dksX1_setWays_0 24 rfl rfl
theorem dksX1_setWays_2 : cX1_setWays.data.toList.drop 48 = dktX1_setWays_2 := dk_seg dksX1_setWays_1 24 rfl rfl
theorem dksX1_setWays_3 : cX1_setWays.data.toList.drop 70 = dktX1_setWays_3 := dk_seg dksX1_setWays_2 22 rfl rfl
theorem dX1_setWays_0 : decode cX1_setWays 0 = .ok (.iconst 0, 1) := dk_3 (dk_at dksX1_setWays_0 0 rfl rfl)
theorem dX1_setWays_1 : decode cX1_setWays 1 = .ok (.istore_n 2, 1) := dk_61 (dk_at dksX1_setWays_0 1 rfl rfl)
theorem dX1_setWays_2 : decode cX1_setWays 2 = .ok (.iload_n 2, 1) := dk_28 (dk_at dksX1_setWays_0 2 rfl rfl)
theorem dX1_setWays_3 : decode cX1_setWays 3 = .ok (.iconst 1, 1) := dk_4 (dk_at dksX1_setWays_0 3 rfl rfl)
theorem dX1_setWays_4 : decode cX1_setWays 4 = .ok (.aload_n 0, 1) := dk_42 (dk_at dksX1_setWays_0 4 rfl rfl)
theorem dX1_setWays_5 : decode cX1_setWays 5 = .ok (.getfield 199, 3) := dk_180 0 199 (dk_at dksX1_setWays_0 5 rfl rfl)
theorem dX1_setWays_8 : decode cX1_setWays 8 = .ok (.ishl, 1) := dk_120 (dk_at dksX1_setWays_0 8 rfl rfl)
theorem dX1_setWays_9 : decode cX1_setWays 9 = .ok (.if_icmp .ge 64, 3) := dk_162 0 64 (dk_at dksX1_setWays_0 9 rfl rfl)
theorem dX1_setWays_12 : decode cX1_setWays 12 = .ok (.aload_n 0, 1) := dk_42 (dk_at dksX1_setWays_0 12 rfl rfl)
theorem dX1_setWays_13 : decode cX1_setWays 13 = .ok (.iload_n 1, 1) := dk_27 (dk_at dksX1_setWays_0 13 rfl rfl)
theorem dX1_setWays_14 : decode cX1_setWays 14 = .ok (.iconst 0, 1) := dk_3 (dk_at dksX1_setWays_0 14 rfl rfl)
theorem dX1_setWays_15 : decode cX1_setWays 15 = .ok (.iload_n 2, 1) := dk_28 (dk_at dksX1_setWays_0 15 rfl rfl)
theorem dX1_setWays_16 : decode cX1_setWays 16 = .ok (.invokevirtual 261, 3) := dk_182 1 5 (dk_at dksX1_setWays_0 16 rfl rfl)
theorem dX1_setWays_19 : decode cX1_setWays 19 = .ok (.iconst 0, 1) := dk_3 (dk_at dksX1_setWays_0 19 rfl rfl)
theorem dX1_setWays_20 : decode cX1_setWays 20 = .ok (.istore_n 3, 1) := dk_62 (dk_at dksX1_setWays_0 20 rfl rfl)
theorem dX1_setWays_21 : decode cX1_setWays 21 = .ok (.iload_n 3, 1) := dk_29 (dk_at dksX1_setWays_0 21 rfl rfl)
theorem dX1_setWays_22 : decode cX1_setWays 22 = .ok (.bipush 24, 2) := dk_16 24 (dk_at dksX1_setWays_0 22 rfl rfl)
theorem dX1_setWays_24 : decode cX1_setWays 24 = .ok (.if_icmp .gt 43, 3) := dk_163 0 43 (dk_at dksX1_setWays_1 0 rfl rfl)
theorem dX1_setWays_27 : decode cX1_setWays 27 = .ok (.aload_n 0, 1) := dk_42 (dk_at dksX1_setWays_1 3 rfl rfl)
theorem dX1_setWays_28 : decode cX1_setWays 28 = .ok (.getfield 109, 3) := dk_180 0 109 (dk_at dksX1_setWays_1 4 rfl rfl)
theorem dX1_setWays_31 : decode cX1_setWays 31 = .ok (.bipush 25, 2) := dk_16 25 (dk_at dksX1_setWays_1 7 rfl rfl)
theorem dX1_setWays_33 : decode cX1_setWays 33 = .ok (.iload_n 2, 1) := dk_28 (dk_at dksX1_setWays_1 9 rfl rfl)
theorem dX1_setWays_34 : decode cX1_setWays 34 = .ok (.imul, 1) := dk_104 (dk_at dksX1_setWays_1 10 rfl rfl)
theorem dX1_setWays_35 : decode cX1_setWays 35 = .ok (.iload_n 3, 1) := dk_29 (dk_at dksX1_setWays_1 11 rfl rfl)
theorem dX1_setWays_36 : decode cX1_setWays 36 = .ok (.iadd, 1) := dk_96 (dk_at dksX1_setWays_1 12 rfl rfl)
theorem dX1_setWays_37 : decode cX1_setWays 37 = .ok (.aload_n 0, 1) := dk_42 (dk_at dksX1_setWays_1 13 rfl rfl)
theorem dX1_setWays_38 : decode cX1_setWays 38 = .ok (.getfield 74, 3) := dk_180 0 74 (dk_at dksX1_setWays_1 14 rfl rfl)
theorem dX1_setWays_41 : decode cX1_setWays 41 = .ok (.iload_n 3, 1) := dk_29 (dk_at dksX1_setWays_1 17 rfl rfl)
theorem dX1_setWays_42 : decode cX1_setWays 42 = .ok (.laload, 1) := dk_47 (dk_at dksX1_setWays_1 18 rfl rfl)
theorem dX1_setWays_43 : decode cX1_setWays 43 = .ok (.lastore, 1) := dk_80 (dk_at dksX1_setWays_1 19 rfl rfl)
theorem dX1_setWays_44 : decode cX1_setWays 44 = .ok (.aload_n 0, 1) := dk_42 (dk_at dksX1_setWays_1 20 rfl rfl)
theorem dX1_setWays_45 : decode cX1_setWays 45 = .ok (.getfield 112, 3) := dk_180 0 112 (dk_at dksX1_setWays_1 21 rfl rfl)
theorem dX1_setWays_48 : decode cX1_setWays 48 = .ok (.bipush 25, 2) := dk_16 25 (dk_at dksX1_setWays_2 0 rfl rfl)
theorem dX1_setWays_50 : decode cX1_setWays 50 = .ok (.iload_n 2, 1) := dk_28 (dk_at dksX1_setWays_2 2 rfl rfl)
theorem dX1_setWays_51 : decode cX1_setWays 51 = .ok (.imul, 1) := dk_104 (dk_at dksX1_setWays_2 3 rfl rfl)
theorem dX1_setWays_52 : decode cX1_setWays 52 = .ok (.iload_n 3, 1) := dk_29 (dk_at dksX1_setWays_2 4 rfl rfl)
theorem dX1_setWays_53 : decode cX1_setWays 53 = .ok (.iadd, 1) := dk_96 (dk_at dksX1_setWays_2 5 rfl rfl)
theorem dX1_setWays_54 : decode cX1_setWays 54 = .ok (.aload_n 0, 1) := dk_42 (dk_at dksX1_setWays_2 6 rfl rfl)
theorem dX1_setWays_55 : decode cX1_setWays 55 = .ok (.getfield 78, 3) := dk_180 0 78 (dk_at dksX1_setWays_2 7 rfl rfl)
theorem dX1_setWays_58 : decode cX1_setWays 58 = .ok (.iload_n 3, 1) := dk_29 (dk_at dksX1_setWays_2 10 rfl rfl)
theorem dX1_setWays_59 : decode cX1_setWays 59 = .ok (.laload, 1) := dk_47 (dk_at dksX1_setWays_2 11 rfl rfl)
theorem dX1_setWays_60 : decode cX1_setWays 60 = .ok (.lastore, 1) := dk_80 (dk_at dksX1_setWays_2 12 rfl rfl)
theorem dX1_setWays_61 : decode cX1_setWays 61 = .ok (.iinc 3 1, 3) := dk_132 3 1 (dk_at dksX1_setWays_2 13 rfl rfl)
theorem dX1_setWays_64 : decode cX1_setWays 64 = .ok (.goto (-43), 3) := dk_167 255 213 (dk_at dksX1_setWays_2 16 rfl rfl)
theorem dX1_setWays_67 : decode cX1_setWays 67 = .ok (.iinc 2 1, 3) := dk_132 2 1 (dk_at dksX1_setWays_2 19 rfl rfl)
theorem dX1_setWays_70 : decode cX1_setWays 70 = .ok (.goto (-68), 3) := dk_167 255 188 (dk_at dksX1_setWays_3 0 rfl rfl)
theorem dX1_setWays_73 : decode cX1_setWays 73 = .ok (.return_, 1) := dk_177 (dk_at dksX1_setWays_3 3 rfl rfl)
abbrev cX1_wayOf : ByteArray := prog_8_method_46_code
def yX1_wayOf : MethodName := ⟨RX1, "wayOf", "(IZII)I"⟩
def dkwX1_wayOf_6 : List UInt8 := [167, 255, 123, 21, 5, 172]
abbrev dktX1_wayOf_6 : List UInt8 := dkwX1_wayOf_6 ++ []
def dkwX1_wayOf_5 : List UInt8 := [167, 0, 4, 3, 54, 8, 21, 8, 153, 0, 8, 21, 7, 167, 0, 5, 21, 5, 54, 5, 132, 6, 1]
abbrev dktX1_wayOf_5 : List UInt8 := dkwX1_wayOf_5 ++ dktX1_wayOf_6
def dkwX1_wayOf_4 : List UInt8 := [21, 7, 47, 42, 180, 0, 109, 21, 5, 47, 42, 180, 0, 112, 21, 5, 47, 184, 1, 12, 153, 0, 7, 4]
abbrev dktX1_wayOf_4 : List UInt8 := dkwX1_wayOf_4 ++ dktX1_wayOf_5
def dkwX1_wayOf_3 : List UInt8 := [21, 7, 47, 184, 1, 12, 153, 0, 44, 167, 0, 37, 42, 180, 0, 109, 21, 7, 47, 42, 180, 0, 112]
abbrev dktX1_wayOf_3 : List UInt8 := dkwX1_wayOf_3 ++ dktX1_wayOf_4
def dkwX1_wayOf_2 : List UInt8 := [180, 0, 109, 21, 5, 47, 42, 180, 0, 112, 21, 5, 47, 42, 180, 0, 109, 21, 7, 47, 42, 180, 0, 112]
abbrev dktX1_wayOf_2 : List UInt8 := dkwX1_wayOf_2 ++ dktX1_wayOf_3
def dkwX1_wayOf_1 : List UInt8 := [160, 0, 113, 16, 25, 21, 6, 104, 27, 96, 54, 7, 21, 5, 155, 0, 78, 28, 153, 0, 40, 42]
abbrev dktX1_wayOf_1 : List UInt8 := dkwX1_wayOf_1 ++ dktX1_wayOf_2
def dkwX1_wayOf_0 : List UInt8 := [16, 247, 54, 5, 3, 54, 6, 21, 6, 4, 42, 180, 0, 199, 120, 162, 0, 128, 21, 6, 29, 126, 21, 4]
abbrev dktX1_wayOf_0 : List UInt8 := dkwX1_wayOf_0 ++ dktX1_wayOf_1
theorem dksX1_wayOf_0 : cX1_wayOf.data.toList.drop 0 = dktX1_wayOf_0 := by decide +kernel
theorem dksX1_wayOf_1 : cX1_wayOf.data.toList.drop 24 = dktX1_wayOf_1 := dk_seg dksX1_wayOf_0 24 rfl rfl
theorem dksX1_wayOf_2 : cX1_wayOf.data.toList.drop 46 = dktX1_wayOf_2 := dk_seg dksX1_wayOf_1 22 rfl rfl
theorem dksX1_wayOf_3 : cX1_wayOf.data.toList.drop 70 = dktX1_wayOf_3 := dk_seg dksX1_wayOf_2 24 rfl rfl
theorem dksX1_wayOf_4 : cX1_wayOf.data.toList.drop 93 = dktX1_wayOf_4 := dk_seg dksX1_wayOf_3 23 rfl rfl
theorem dksX1_wayOf_5 : cX1_wayOf.data.toList.drop 117 = dktX1_wayOf_5 := dk_seg dksX1_wayOf_4 24 rfl rfl
theorem dksX1_wayOf_6 : cX1_wayOf.data.toList.drop 140 = dktX1_wayOf_6 := dk_seg dksX1_wayOf_5 23 rfl rfl
theorem dX1_wayOf_0 : decode cX1_wayOf 0 = .ok (.bipush (-9), 2) := dk_16 247 (dk_at dksX1_wayOf_0 0 rfl rfl)
theorem dX1_wayOf_2 : decode cX1_wayOf 2 = .ok (.istore 5, 2) := dk_54 5 (dk_at dksX1_wayOf_0 2 rfl rfl)
theorem dX1_wayOf_4 : decode cX1_wayOf 4 = .ok (.iconst 0, 1) := dk_3 (dk_at dksX1_wayOf_0 4 rfl rfl)
theorem dX1_wayOf_5 : decode cX1_wayOf 5 = .ok (.istore 6, 2) := dk_54 6 (dk_at dksX1_wayOf_0 5 rfl rfl)
theorem dX1_wayOf_7 : decode cX1_wayOf 7 = .ok (.iload 6, 2) := dk_21 6 (dk_at dksX1_wayOf_0 7 rfl rfl)
theorem dX1_wayOf_9 : decode cX1_wayOf 9 = .ok (.iconst 1, 1) := dk_4 (dk_at dksX1_wayOf_0 9 rfl rfl)
theorem dX1_wayOf_10 : decode cX1_wayOf 10 = .ok (.aload_n 0, 1) := dk_42 (dk_at dksX1_wayOf_0 10 rfl rfl)
theorem dX1_wayOf_11 : decode cX1_wayOf 11 = .ok (.getfield 199, 3) := dk_180 0 199 (dk_at dksX1_wayOf_0 11 rfl rfl)
theorem dX1_wayOf_14 : decode cX1_wayOf 14 = .ok (.ishl, 1) := dk_120 (dk_at dksX1_wayOf_0 14 rfl rfl)
theorem dX1_wayOf_15 : decode cX1_wayOf 15 = .ok (.if_icmp .ge 128, 3) := dk_162 0 128 (dk_at dksX1_wayOf_0 15 rfl rfl)
theorem dX1_wayOf_18 : decode cX1_wayOf 18 = .ok (.iload 6, 2) := dk_21 6 (dk_at dksX1_wayOf_0 18 rfl rfl)
theorem dX1_wayOf_20 : decode cX1_wayOf 20 = .ok (.iload_n 3, 1) := dk_29 (dk_at dksX1_wayOf_0 20 rfl rfl)
theorem dX1_wayOf_21 : decode cX1_wayOf 21 = .ok (.iand, 1) := dk_126 (dk_at dksX1_wayOf_0 21 rfl rfl)
theorem dX1_wayOf_22 : decode cX1_wayOf 22 = .ok (.iload 4, 2) := dk_21 4 (dk_at dksX1_wayOf_0 22 rfl rfl)
theorem dX1_wayOf_24 : decode cX1_wayOf 24 = .ok (.if_icmp .ne 113, 3) := dk_160 0 113 (dk_at dksX1_wayOf_1 0 rfl rfl)
theorem dX1_wayOf_27 : decode cX1_wayOf 27 = .ok (.bipush 25, 2) := dk_16 25 (dk_at dksX1_wayOf_1 3 rfl rfl)
theorem dX1_wayOf_29 : decode cX1_wayOf 29 = .ok (.iload 6, 2) := dk_21 6 (dk_at dksX1_wayOf_1 5 rfl rfl)
theorem dX1_wayOf_31 : decode cX1_wayOf 31 = .ok (.imul, 1) := dk_104 (dk_at dksX1_wayOf_1 7 rfl rfl)
theorem dX1_wayOf_32 : decode cX1_wayOf 32 = .ok (.iload_n 1, 1) := dk_27 (dk_at dksX1_wayOf_1 8 rfl rfl)
theorem dX1_wayOf_33 : decode cX1_wayOf 33 = .ok (.iadd, 1) := dk_96 (dk_at dksX1_wayOf_1 9 rfl rfl)
theorem dX1_wayOf_34 : decode cX1_wayOf 34 = .ok (.istore 7, 2) := dk_54 7 (dk_at dksX1_wayOf_1 10 rfl rfl)
theorem dX1_wayOf_36 : decode cX1_wayOf 36 = .ok (.iload 5, 2) := dk_21 5 (dk_at dksX1_wayOf_1 12 rfl rfl)
theorem dX1_wayOf_38 : decode cX1_wayOf 38 = .ok (.ifCond .lt 78, 3) := dk_155 0 78 (dk_at dksX1_wayOf_1 14 rfl rfl)
theorem dX1_wayOf_41 : decode cX1_wayOf 41 = .ok (.iload_n 2, 1) := dk_28 (dk_at dksX1_wayOf_1 17 rfl rfl)
theorem dX1_wayOf_42 : decode cX1_wayOf 42 = .ok (.ifCond .eq 40, 3) := dk_153 0 40 (dk_at dksX1_wayOf_1 18 rfl rfl)
theorem dX1_wayOf_45 : decode cX1_wayOf 45 = .ok (.aload_n 0, 1) := dk_42 (dk_at dksX1_wayOf_1 21 rfl rfl)
theorem dX1_wayOf_46 : decode cX1_wayOf 46 = .ok (.getfield 109, 3) := dk_180 0 109 (dk_at dksX1_wayOf_2 0 rfl rfl)
theorem dX1_wayOf_49 : decode cX1_wayOf 49 = .ok (.iload 5, 2) := dk_21 5 (dk_at dksX1_wayOf_2 3 rfl rfl)
theorem dX1_wayOf_51 : decode cX1_wayOf 51 = .ok (.laload, 1) := dk_47 (dk_at dksX1_wayOf_2 5 rfl rfl)
theorem dX1_wayOf_52 : decode cX1_wayOf 52 = .ok (.aload_n 0, 1) := dk_42 (dk_at dksX1_wayOf_2 6 rfl rfl)
theorem dX1_wayOf_53 : decode cX1_wayOf 53 = .ok (.getfield 112, 3) := dk_180 0 112 (dk_at dksX1_wayOf_2 7 rfl rfl)
theorem dX1_wayOf_56 : decode cX1_wayOf 56 = .ok (.iload 5, 2) := dk_21 5 (dk_at dksX1_wayOf_2 10 rfl rfl)
theorem dX1_wayOf_58 : decode cX1_wayOf 58 = .ok (.laload, 1) := dk_47 (dk_at dksX1_wayOf_2 12 rfl rfl)
theorem dX1_wayOf_59 : decode cX1_wayOf 59 = .ok (.aload_n 0, 1) := dk_42 (dk_at dksX1_wayOf_2 13 rfl rfl)
theorem dX1_wayOf_60 : decode cX1_wayOf 60 = .ok (.getfield 109, 3) := dk_180 0 109 (dk_at dksX1_wayOf_2 14 rfl rfl)
theorem dX1_wayOf_63 : decode cX1_wayOf 63 = .ok (.iload 7, 2) := dk_21 7 (dk_at dksX1_wayOf_2 17 rfl rfl)
theorem dX1_wayOf_65 : decode cX1_wayOf 65 = .ok (.laload, 1) := dk_47 (dk_at dksX1_wayOf_2 19 rfl rfl)
theorem dX1_wayOf_66 : decode cX1_wayOf 66 = .ok (.aload_n 0, 1) := dk_42 (dk_at dksX1_wayOf_2 20 rfl rfl)
theorem dX1_wayOf_67 : decode cX1_wayOf 67 = .ok (.getfield 112, 3) := dk_180 0 112 (dk_at dksX1_wayOf_2 21 rfl rfl)
theorem dX1_wayOf_70 : decode cX1_wayOf 70 = .ok (.iload 7, 2) := dk_21 7 (dk_at dksX1_wayOf_3 0 rfl rfl)
theorem dX1_wayOf_72 : decode cX1_wayOf 72 = .ok (.laload, 1) := dk_47 (dk_at dksX1_wayOf_3 2 rfl rfl)
theorem dX1_wayOf_73 : decode cX1_wayOf 73 = .ok (.invokestatic 268, 3) := dk_184 1 12 (dk_at dksX1_wayOf_3 3 rfl rfl)
theorem dX1_wayOf_76 : decode cX1_wayOf 76 = .ok (.ifCond .eq 44, 3) := dk_153 0 44 (dk_at dksX1_wayOf_3 6 rfl rfl)
theorem dX1_wayOf_79 : decode cX1_wayOf 79 = .ok (.goto 37, 3) := dk_167 0 37 (dk_at dksX1_wayOf_3 9 rfl rfl)
theorem dX1_wayOf_82 : decode cX1_wayOf 82 = .ok (.aload_n 0, 1) := dk_42 (dk_at dksX1_wayOf_3 12 rfl rfl)
theorem dX1_wayOf_83 : decode cX1_wayOf 83 = .ok (.getfield 109, 3) := dk_180 0 109 (dk_at dksX1_wayOf_3 13 rfl rfl)
theorem dX1_wayOf_86 : decode cX1_wayOf 86 = .ok (.iload 7, 2) := dk_21 7 (dk_at dksX1_wayOf_3 16 rfl rfl)
theorem dX1_wayOf_88 : decode cX1_wayOf 88 = .ok (.laload, 1) := dk_47 (dk_at dksX1_wayOf_3 18 rfl rfl)
theorem dX1_wayOf_89 : decode cX1_wayOf 89 = .ok (.aload_n 0, 1) := dk_42 (dk_at dksX1_wayOf_3 19 rfl rfl)
theorem dX1_wayOf_90 : decode cX1_wayOf 90 = .ok (.getfield 112, 3) := dk_180 0 112 (dk_at dksX1_wayOf_3 20 rfl rfl)
theorem dX1_wayOf_93 : decode cX1_wayOf 93 = .ok (.iload 7, 2) := dk_21 7 (dk_at dksX1_wayOf_4 0 rfl rfl)
theorem dX1_wayOf_95 : decode cX1_wayOf 95 = .ok (.laload, 1) := dk_47 (dk_at dksX1_wayOf_4 2 rfl rfl)
theorem dX1_wayOf_96 : decode cX1_wayOf 96 = .ok (.aload_n 0, 1) := dk_42 (dk_at dksX1_wayOf_4 3 rfl rfl)
theorem dX1_wayOf_97 : decode cX1_wayOf 97 = .ok (.getfield 109, 3) := dk_180 0 109 (dk_at dksX1_wayOf_4 4 rfl rfl)
theorem dX1_wayOf_100 : decode cX1_wayOf 100 = .ok (.iload 5, 2) := dk_21 5 (dk_at dksX1_wayOf_4 7 rfl rfl)
theorem dX1_wayOf_102 : decode cX1_wayOf 102 = .ok (.laload, 1) := dk_47 (dk_at dksX1_wayOf_4 9 rfl rfl)
theorem dX1_wayOf_103 : decode cX1_wayOf 103 = .ok (.aload_n 0, 1) := dk_42 (dk_at dksX1_wayOf_4 10 rfl rfl)
theorem dX1_wayOf_104 : decode cX1_wayOf 104 = .ok (.getfield 112, 3) := dk_180 0 112 (dk_at dksX1_wayOf_4 11 rfl rfl)
theorem dX1_wayOf_107 : decode cX1_wayOf 107 = .ok (.iload 5, 2) := dk_21 5 (dk_at dksX1_wayOf_4 14 rfl rfl)
theorem dX1_wayOf_109 : decode cX1_wayOf 109 = .ok (.laload, 1) := dk_47 (dk_at dksX1_wayOf_4 16 rfl rfl)
theorem dX1_wayOf_110 : decode cX1_wayOf 110 = .ok (.invokestatic 268, 3) := dk_184 1 12 (dk_at dksX1_wayOf_4 17 rfl rfl)
theorem dX1_wayOf_113 : decode cX1_wayOf 113 = .ok (.ifCond .eq 7, 3) := dk_153 0 7 (dk_at dksX1_wayOf_4 20 rfl rfl)
theorem dX1_wayOf_116 : decode cX1_wayOf 116 = .ok (.iconst 1, 1) := dk_4 (dk_at dksX1_wayOf_4 23 rfl rfl)
theorem dX1_wayOf_117 : decode cX1_wayOf 117 = .ok (.goto 4, 3) := dk_167 0 4 (dk_at dksX1_wayOf_5 0 rfl rfl)
theorem dX1_wayOf_120 : decode cX1_wayOf 120 = .ok (.iconst 0, 1) := dk_3 (dk_at dksX1_wayOf_5 3 rfl rfl)
theorem dX1_wayOf_121 : decode cX1_wayOf 121 = .ok (.istore 8, 2) := dk_54 8 (dk_at dksX1_wayOf_5 4 rfl rfl)
theorem dX1_wayOf_123 : decode cX1_wayOf 123 = .ok (.iload 8, 2) := dk_21 8 (dk_at dksX1_wayOf_5 6 rfl rfl)
theorem dX1_wayOf_125 : decode cX1_wayOf 125 = .ok (.ifCond .eq 8, 3) := dk_153 0 8 (dk_at dksX1_wayOf_5 8 rfl rfl)
theorem dX1_wayOf_128 : decode cX1_wayOf 128 = .ok (.iload 7, 2) := dk_21 7 (dk_at dksX1_wayOf_5 11 rfl rfl)
theorem dX1_wayOf_130 : decode cX1_wayOf 130 = .ok (.goto 5, 3) := dk_167 0 5 (dk_at dksX1_wayOf_5 13 rfl rfl)
theorem dX1_wayOf_133 : decode cX1_wayOf 133 = .ok (.iload 5, 2) := dk_21 5 (dk_at dksX1_wayOf_5 16 rfl rfl)
theorem dX1_wayOf_135 : decode cX1_wayOf 135 = .ok (.istore 5, 2) := dk_54 5 (dk_at dksX1_wayOf_5 18 rfl rfl)
theorem dX1_wayOf_137 : decode cX1_wayOf 137 = .ok (.iinc 6 1, 3) := dk_132 6 1 (dk_at dksX1_wayOf_5 20 rfl rfl)
theorem dX1_wayOf_140 : decode cX1_wayOf 140 = .ok (.goto (-133), 3) := dk_167 255 123 (dk_at dksX1_wayOf_6 0 rfl rfl)
theorem dX1_wayOf_143 : decode cX1_wayOf 143 = .ok (.iload 5, 2) := dk_21 5 (dk_at dksX1_wayOf_6 3 rfl rfl)
theorem dX1_wayOf_145 : decode cX1_wayOf 145 = .ok (.ireturn, 1) := dk_172 (dk_at dksX1_wayOf_6 5 rfl rfl)
abbrev cX1_isBelow : ByteArray := prog_8_method_44_code
def yX1_isBelow : MethodName := ⟨RX1, "isBelow", "(JJJJ)Z"⟩
def dkwX1_isBelow_7 : List UInt8 := [167, 255, 107]
abbrev dktX1_isBelow_7 : List UInt8 := dkwX1_isBelow_7 ++ []
def dkwX1_isBelow_6 : List UInt8 := [22, 21, 55, 10, 22, 14, 55, 12, 22, 23, 55, 14, 21, 16, 154, 0, 7, 4, 167, 0, 4, 3, 54, 16]
abbrev dktX1_isBelow_6 : List UInt8 := dkwX1_isBelow_6 ++ dktX1_isBelow_7
def dkwX1_isBelow_5 : List UInt8 := [148, 154, 0, 7, 4, 167, 0, 4, 3, 21, 16, 159, 0, 7, 4, 167, 0, 4, 3, 172, 22, 10, 55, 8]
abbrev dktX1_isBelow_5 : List UInt8 := dkwX1_isBelow_5 ++ dktX1_isBelow_6
def dkwX1_isBelow_4 : List UInt8 := [154, 0, 44, 22, 21, 9, 148, 154, 0, 14, 22, 23, 9, 148, 154, 0, 7, 3, 167, 0, 25, 22, 21, 9]
abbrev dktX1_isBelow_4 : List UInt8 := dkwX1_isBelow_4 ++ dktX1_isBelow_5
def dkwX1_isBelow_3 : List UInt8 := [55, 21, 22, 12, 22, 19, 22, 14, 105, 101, 55, 23, 22, 21, 9, 148, 153, 0, 10, 22, 23, 9, 148]
abbrev dktX1_isBelow_3 : List UInt8 := dkwX1_isBelow_3 ++ dktX1_isBelow_4
def dkwX1_isBelow_2 : List UInt8 := [167, 0, 4, 3, 21, 16, 159, 0, 7, 4, 167, 0, 4, 3, 172, 22, 8, 22, 17, 22, 10, 105, 101]
abbrev dktX1_isBelow_2 : List UInt8 := dkwX1_isBelow_2 ++ dktX1_isBelow_3
def dkwX1_isBelow_1 : List UInt8 := [22, 12, 22, 14, 109, 55, 19, 22, 17, 22, 19, 148, 153, 0, 27, 22, 17, 22, 19, 148, 156, 0, 7, 4]
abbrev dktX1_isBelow_1 : List UInt8 := dkwX1_isBelow_1 ++ dktX1_isBelow_2
def dkwX1_isBelow_0 : List UInt8 := [30, 55, 8, 32, 55, 10, 22, 4, 55, 12, 22, 6, 55, 14, 3, 54, 16, 22, 8, 22, 10, 109, 55, 17]
abbrev dktX1_isBelow_0 : List UInt8 := dkwX1_isBelow_0 ++ dktX1_isBelow_1
theorem dksX1_isBelow_0 : cX1_isBelow.data.toList.drop 0 = dktX1_isBelow_0 := by decide +kernel
theorem dksX1_isBelow_1 : cX1_isBelow.data.toList.drop 24 = dktX1_isBelow_1 := dk_seg dksX1_isBelow_0 24 rfl rfl
theorem dksX1_isBelow_2 : cX1_isBelow.data.toList.drop 48 = dktX1_isBelow_2 := dk_seg dksX1_isBelow_1 24 rfl rfl
theorem dksX1_isBelow_3 : cX1_isBelow.data.toList.drop 71 = dktX1_isBelow_3 := dk_seg dksX1_isBelow_2 23 rfl rfl
theorem dksX1_isBelow_4 : cX1_isBelow.data.toList.drop 94 = dktX1_isBelow_4 := dk_seg dksX1_isBelow_3 23 rfl rfl
theorem dksX1_isBelow_5 : cX1_isBelow.data.toList.drop 118 = dktX1_isBelow_5 := dk_seg dksX1_isBelow_4 24 rfl rfl
theorem dksX1_isBelow_6 : cX1_isBelow.data.toList.drop 142 = dktX1_isBelow_6 := dk_seg dksX1_isBelow_5 24 rfl rfl
theorem dksX1_isBelow_7 : cX1_isBelow.data.toList.drop 166 = dktX1_isBelow_7 := dk_seg dksX1_isBelow_6 24 rfl rfl
theorem dX1_isBelow_0 : decode cX1_isBelow 0 = .ok (.lload_n 0, 1) := dk_30 (dk_at dksX1_isBelow_0 0 rfl rfl)
theorem dX1_isBelow_1 : decode cX1_isBelow 1 = .ok (.lstore 8, 2) := dk_55 8 (dk_at dksX1_isBelow_0 1 rfl rfl)
theorem dX1_isBelow_3 : decode cX1_isBelow 3 = .ok (.lload_n 2, 1) := dk_32 (dk_at dksX1_isBelow_0 3 rfl rfl)
theorem dX1_isBelow_4 : decode cX1_isBelow 4 = .ok (.lstore 10, 2) := dk_55 10 (dk_at dksX1_isBelow_0 4 rfl rfl)
theorem dX1_isBelow_6 : decode cX1_isBelow 6 = .ok (.lload 4, 2) := dk_22 4 (dk_at dksX1_isBelow_0 6 rfl rfl)
theorem dX1_isBelow_8 : decode cX1_isBelow 8 = .ok (.lstore 12, 2) := dk_55 12 (dk_at dksX1_isBelow_0 8 rfl rfl)
theorem dX1_isBelow_10 : decode cX1_isBelow 10 = .ok (.lload 6, 2) := dk_22 6 (dk_at dksX1_isBelow_0 10 rfl rfl)
theorem dX1_isBelow_12 : decode cX1_isBelow 12 = .ok (.lstore 14, 2) := dk_55 14 (dk_at dksX1_isBelow_0 12 rfl rfl)
theorem dX1_isBelow_14 : decode cX1_isBelow 14 = .ok (.iconst 0, 1) := dk_3 (dk_at dksX1_isBelow_0 14 rfl rfl)
theorem dX1_isBelow_15 : decode cX1_isBelow 15 = .ok (.istore 16, 2) := dk_54 16 (dk_at dksX1_isBelow_0 15 rfl rfl)
theorem dX1_isBelow_17 : decode cX1_isBelow 17 = .ok (.lload 8, 2) := dk_22 8 (dk_at dksX1_isBelow_0 17 rfl rfl)
theorem dX1_isBelow_19 : decode cX1_isBelow 19 = .ok (.lload 10, 2) := dk_22 10 (dk_at dksX1_isBelow_0 19 rfl rfl)
theorem dX1_isBelow_21 : decode cX1_isBelow 21 = .ok (.ldiv, 1) := dk_109 (dk_at dksX1_isBelow_0 21 rfl rfl)
theorem dX1_isBelow_22 : decode cX1_isBelow 22 = .ok (.lstore 17, 2) := dk_55 17 (dk_at dksX1_isBelow_0 22 rfl rfl)
theorem dX1_isBelow_24 : decode cX1_isBelow 24 = .ok (.lload 12, 2) := dk_22 12 (dk_at dksX1_isBelow_1 0 rfl rfl)
theorem dX1_isBelow_26 : decode cX1_isBelow 26 = .ok (.lload 14, 2) := dk_22 14 (dk_at dksX1_isBelow_1 2 rfl rfl)
theorem dX1_isBelow_28 : decode cX1_isBelow 28 = .ok (.ldiv, 1) := dk_109 (dk_at dksX1_isBelow_1 4 rfl rfl)
theorem dX1_isBelow_29 : decode cX1_isBelow 29 = .ok (.lstore 19, 2) := dk_55 19 (dk_at dksX1_isBelow_1 5 rfl rfl)
theorem dX1_isBelow_31 : decode cX1_isBelow 31 = .ok (.lload 17, 2) := dk_22 17 (dk_at dksX1_isBelow_1 7 rfl rfl)
theorem dX1_isBelow_33 : decode cX1_isBelow 33 = .ok (.lload 19, 2) := dk_22 19 (dk_at dksX1_isBelow_1 9 rfl rfl)
theorem dX1_isBelow_35 : decode cX1_isBelow 35 = .ok (.lcmp, 1) := dk_148 (dk_at dksX1_isBelow_1 11 rfl rfl)
theorem dX1_isBelow_36 : decode cX1_isBelow 36 = .ok (.ifCond .eq 27, 3) := dk_153 0 27 (dk_at dksX1_isBelow_1 12 rfl rfl)
theorem dX1_isBelow_39 : decode cX1_isBelow 39 = .ok (.lload 17, 2) := dk_22 17 (dk_at dksX1_isBelow_1 15 rfl rfl)
theorem dX1_isBelow_41 : decode cX1_isBelow 41 = .ok (.lload 19, 2) := dk_22 19 (dk_at dksX1_isBelow_1 17 rfl rfl)
theorem dX1_isBelow_43 : decode cX1_isBelow 43 = .ok (.lcmp, 1) := dk_148 (dk_at dksX1_isBelow_1 19 rfl rfl)
theorem dX1_isBelow_44 : decode cX1_isBelow 44 = .ok (.ifCond .ge 7, 3) := dk_156 0 7 (dk_at dksX1_isBelow_1 20 rfl rfl)
theorem dX1_isBelow_47 : decode cX1_isBelow 47 = .ok (.iconst 1, 1) := dk_4 (dk_at dksX1_isBelow_1 23 rfl rfl)
theorem dX1_isBelow_48 : decode cX1_isBelow 48 = .ok (.goto 4, 3) := dk_167 0 4 (dk_at dksX1_isBelow_2 0 rfl rfl)
theorem dX1_isBelow_51 : decode cX1_isBelow 51 = .ok (.iconst 0, 1) := dk_3 (dk_at dksX1_isBelow_2 3 rfl rfl)
theorem dX1_isBelow_52 : decode cX1_isBelow 52 = .ok (.iload 16, 2) := dk_21 16 (dk_at dksX1_isBelow_2 4 rfl rfl)
theorem dX1_isBelow_54 : decode cX1_isBelow 54 = .ok (.if_icmp .eq 7, 3) := dk_159 0 7 (dk_at dksX1_isBelow_2 6 rfl rfl)
theorem dX1_isBelow_57 : decode cX1_isBelow 57 = .ok (.iconst 1, 1) := dk_4 (dk_at dksX1_isBelow_2 9 rfl rfl)
theorem dX1_isBelow_58 : decode cX1_isBelow 58 = .ok (.goto 4, 3) := dk_167 0 4 (dk_at dksX1_isBelow_2 10 rfl rfl)
theorem dX1_isBelow_61 : decode cX1_isBelow 61 = .ok (.iconst 0, 1) := dk_3 (dk_at dksX1_isBelow_2 13 rfl rfl)
theorem dX1_isBelow_62 : decode cX1_isBelow 62 = .ok (.ireturn, 1) := dk_172 (dk_at dksX1_isBelow_2 14 rfl rfl)
theorem dX1_isBelow_63 : decode cX1_isBelow 63 = .ok (.lload 8, 2) := dk_22 8 (dk_at dksX1_isBelow_2 15 rfl rfl)
theorem dX1_isBelow_65 : decode cX1_isBelow 65 = .ok (.lload 17, 2) := dk_22 17 (dk_at dksX1_isBelow_2 17 rfl rfl)
theorem dX1_isBelow_67 : decode cX1_isBelow 67 = .ok (.lload 10, 2) := dk_22 10 (dk_at dksX1_isBelow_2 19 rfl rfl)
theorem dX1_isBelow_69 : decode cX1_isBelow 69 = .ok (.lmul, 1) := dk_105 (dk_at dksX1_isBelow_2 21 rfl rfl)
theorem dX1_isBelow_70 : decode cX1_isBelow 70 = .ok (.lsub, 1) := dk_101 (dk_at dksX1_isBelow_2 22 rfl rfl)
theorem dX1_isBelow_71 : decode cX1_isBelow 71 = .ok (.lstore 21, 2) := dk_55 21 (dk_at dksX1_isBelow_3 0 rfl rfl)
theorem dX1_isBelow_73 : decode cX1_isBelow 73 = .ok (.lload 12, 2) := dk_22 12 (dk_at dksX1_isBelow_3 2 rfl rfl)
theorem dX1_isBelow_75 : decode cX1_isBelow 75 = .ok (.lload 19, 2) := dk_22 19 (dk_at dksX1_isBelow_3 4 rfl rfl)
theorem dX1_isBelow_77 : decode cX1_isBelow 77 = .ok (.lload 14, 2) := dk_22 14 (dk_at dksX1_isBelow_3 6 rfl rfl)
theorem dX1_isBelow_79 : decode cX1_isBelow 79 = .ok (.lmul, 1) := dk_105 (dk_at dksX1_isBelow_3 8 rfl rfl)
theorem dX1_isBelow_80 : decode cX1_isBelow 80 = .ok (.lsub, 1) := dk_101 (dk_at dksX1_isBelow_3 9 rfl rfl)
theorem dX1_isBelow_81 : decode cX1_isBelow 81 = .ok (.lstore 23, 2) := dk_55 23 (dk_at dksX1_isBelow_3 10 rfl rfl)
theorem dX1_isBelow_83 : decode cX1_isBelow 83 = .ok (.lload 21, 2) := dk_22 21 (dk_at dksX1_isBelow_3 12 rfl rfl)
theorem dX1_isBelow_85 : decode cX1_isBelow 85 = .ok (.lconst 0, 1) := dk_9 (dk_at dksX1_isBelow_3 14 rfl rfl)
theorem dX1_isBelow_86 : decode cX1_isBelow 86 = .ok (.lcmp, 1) := dk_148 (dk_at dksX1_isBelow_3 15 rfl rfl)
theorem dX1_isBelow_87 : decode cX1_isBelow 87 = .ok (.ifCond .eq 10, 3) := dk_153 0 10 (dk_at dksX1_isBelow_3 16 rfl rfl)
theorem dX1_isBelow_90 : decode cX1_isBelow 90 = .ok (.lload 23, 2) := dk_22 23 (dk_at dksX1_isBelow_3 19 rfl rfl)
theorem dX1_isBelow_92 : decode cX1_isBelow 92 = .ok (.lconst 0, 1) := dk_9 (dk_at dksX1_isBelow_3 21 rfl rfl)
theorem dX1_isBelow_93 : decode cX1_isBelow 93 = .ok (.lcmp, 1) := dk_148 (dk_at dksX1_isBelow_3 22 rfl rfl)
theorem dX1_isBelow_94 : decode cX1_isBelow 94 = .ok (.ifCond .ne 44, 3) := dk_154 0 44 (dk_at dksX1_isBelow_4 0 rfl rfl)
theorem dX1_isBelow_97 : decode cX1_isBelow 97 = .ok (.lload 21, 2) := dk_22 21 (dk_at dksX1_isBelow_4 3 rfl rfl)
theorem dX1_isBelow_99 : decode cX1_isBelow 99 = .ok (.lconst 0, 1) := dk_9 (dk_at dksX1_isBelow_4 5 rfl rfl)
theorem dX1_isBelow_100 : decode cX1_isBelow 100 = .ok (.lcmp, 1) := dk_148 (dk_at dksX1_isBelow_4 6 rfl rfl)
theorem dX1_isBelow_101 : decode cX1_isBelow 101 = .ok (.ifCond .ne 14, 3) := dk_154 0 14 (dk_at dksX1_isBelow_4 7 rfl rfl)
theorem dX1_isBelow_104 : decode cX1_isBelow 104 = .ok (.lload 23, 2) := dk_22 23 (dk_at dksX1_isBelow_4 10 rfl rfl)
theorem dX1_isBelow_106 : decode cX1_isBelow 106 = .ok (.lconst 0, 1) := dk_9 (dk_at dksX1_isBelow_4 12 rfl rfl)
theorem dX1_isBelow_107 : decode cX1_isBelow 107 = .ok (.lcmp, 1) := dk_148 (dk_at dksX1_isBelow_4 13 rfl rfl)
theorem dX1_isBelow_108 : decode cX1_isBelow 108 = .ok (.ifCond .ne 7, 3) := dk_154 0 7 (dk_at dksX1_isBelow_4 14 rfl rfl)
theorem dX1_isBelow_111 : decode cX1_isBelow 111 = .ok (.iconst 0, 1) := dk_3 (dk_at dksX1_isBelow_4 17 rfl rfl)
theorem dX1_isBelow_112 : decode cX1_isBelow 112 = .ok (.goto 25, 3) := dk_167 0 25 (dk_at dksX1_isBelow_4 18 rfl rfl)
theorem dX1_isBelow_115 : decode cX1_isBelow 115 = .ok (.lload 21, 2) := dk_22 21 (dk_at dksX1_isBelow_4 21 rfl rfl)
theorem dX1_isBelow_117 : decode cX1_isBelow 117 = .ok (.lconst 0, 1) := dk_9 (dk_at dksX1_isBelow_4 23 rfl rfl)
theorem dX1_isBelow_118 : decode cX1_isBelow 118 = .ok (.lcmp, 1) := dk_148 (dk_at dksX1_isBelow_5 0 rfl rfl)
theorem dX1_isBelow_119 : decode cX1_isBelow 119 = .ok (.ifCond .ne 7, 3) := dk_154 0 7 (dk_at dksX1_isBelow_5 1 rfl rfl)
theorem dX1_isBelow_122 : decode cX1_isBelow 122 = .ok (.iconst 1, 1) := dk_4 (dk_at dksX1_isBelow_5 4 rfl rfl)
theorem dX1_isBelow_123 : decode cX1_isBelow 123 = .ok (.goto 4, 3) := dk_167 0 4 (dk_at dksX1_isBelow_5 5 rfl rfl)
theorem dX1_isBelow_126 : decode cX1_isBelow 126 = .ok (.iconst 0, 1) := dk_3 (dk_at dksX1_isBelow_5 8 rfl rfl)
theorem dX1_isBelow_127 : decode cX1_isBelow 127 = .ok (.iload 16, 2) := dk_21 16 (dk_at dksX1_isBelow_5 9 rfl rfl)
theorem dX1_isBelow_129 : decode cX1_isBelow 129 = .ok (.if_icmp .eq 7, 3) := dk_159 0 7 (dk_at dksX1_isBelow_5 11 rfl rfl)
theorem dX1_isBelow_132 : decode cX1_isBelow 132 = .ok (.iconst 1, 1) := dk_4 (dk_at dksX1_isBelow_5 14 rfl rfl)
theorem dX1_isBelow_133 : decode cX1_isBelow 133 = .ok (.goto 4, 3) := dk_167 0 4 (dk_at dksX1_isBelow_5 15 rfl rfl)
theorem dX1_isBelow_136 : decode cX1_isBelow 136 = .ok (.iconst 0, 1) := dk_3 (dk_at dksX1_isBelow_5 18 rfl rfl)
theorem dX1_isBelow_137 : decode cX1_isBelow 137 = .ok (.ireturn, 1) := dk_172 (dk_at dksX1_isBelow_5 19 rfl rfl)
theorem dX1_isBelow_138 : decode cX1_isBelow 138 = .ok (.lload 10, 2) := dk_22 10 (dk_at dksX1_isBelow_5 20 rfl rfl)
theorem dX1_isBelow_140 : decode cX1_isBelow 140 = .ok (.lstore 8, 2) := dk_55 8 (dk_at dksX1_isBelow_5 22 rfl rfl)
theorem dX1_isBelow_142 : decode cX1_isBelow 142 = .ok (.lload 21, 2) := dk_22 21 (dk_at dksX1_isBelow_6 0 rfl rfl)
theorem dX1_isBelow_144 : decode cX1_isBelow 144 = .ok (.lstore 10, 2) := dk_55 10 (dk_at dksX1_isBelow_6 2 rfl rfl)
theorem dX1_isBelow_146 : decode cX1_isBelow 146 = .ok (.lload 14, 2) := dk_22 14 (dk_at dksX1_isBelow_6 4 rfl rfl)
theorem dX1_isBelow_148 : decode cX1_isBelow 148 = .ok (.lstore 12, 2) := dk_55 12 (dk_at dksX1_isBelow_6 6 rfl rfl)
theorem dX1_isBelow_150 : decode cX1_isBelow 150 = .ok (.lload 23, 2) := dk_22 23 (dk_at dksX1_isBelow_6 8 rfl rfl)
theorem dX1_isBelow_152 : decode cX1_isBelow 152 = .ok (.lstore 14, 2) := dk_55 14 (dk_at dksX1_isBelow_6 10 rfl rfl)
theorem dX1_isBelow_154 : decode cX1_isBelow 154 = .ok (.iload 16, 2) := dk_21 16 (dk_at dksX1_isBelow_6 12 rfl rfl)
theorem dX1_isBelow_156 : decode cX1_isBelow 156 = .ok (.ifCond .ne 7, 3) := dk_154 0 7 (dk_at dksX1_isBelow_6 14 rfl rfl)
theorem dX1_isBelow_159 : decode cX1_isBelow 159 = .ok (.iconst 1, 1) := dk_4 (dk_at dksX1_isBelow_6 17 rfl rfl)
theorem dX1_isBelow_160 : decode cX1_isBelow 160 = .ok (.goto 4, 3) := dk_167 0 4 (dk_at dksX1_isBelow_6 18 rfl rfl)
theorem dX1_isBelow_163 : decode cX1_isBelow 163 = .ok (.iconst 0, 1) := dk_3 (dk_at dksX1_isBelow_6 21 rfl rfl)
theorem dX1_isBelow_164 : decode cX1_isBelow 164 = .ok (.istore 16, 2) := dk_54 16 (dk_at dksX1_isBelow_6 22 rfl rfl)
theorem dX1_isBelow_166 : decode cX1_isBelow 166 = .ok (.goto (-149), 3) := dk_167 255 107 (dk_at dksX1_isBelow_7 0 rfl rfl)
abbrev cX1_spread : ByteArray := prog_8_method_50_code
def yX1_spread : MethodName := ⟨RX1, "spread", "(I)I"⟩
def dkwX1_spread_1 : List UInt8 := [180, 0, 183, 182, 1, 8, 172]
abbrev dktX1_spread_1 : List UInt8 := dkwX1_spread_1 ++ []
def dkwX1_spread_0 : List UInt8 := [42, 27, 182, 1, 19, 61, 28, 156, 0, 5, 28, 172, 42, 3, 3, 182, 1, 26, 42, 42, 180, 0, 180, 42]
abbrev dktX1_spread_0 : List UInt8 := dkwX1_spread_0 ++ dktX1_spread_1
theorem dksX1_spread_0 : cX1_spread.data.toList.drop 0 = dktX1_spread_0 := by decide +kernel
theorem dksX1_spread_1 : cX1_spread.data.toList.drop 24 = dktX1_spread_1 := dk_seg dksX1_spread_0 24 rfl rfl
theorem dX1_spread_0 : decode cX1_spread 0 = .ok (.aload_n 0, 1) := dk_42 (dk_at dksX1_spread_0 0 rfl rfl)
theorem dX1_spread_1 : decode cX1_spread 1 = .ok (.iload_n 1, 1) := dk_27 (dk_at dksX1_spread_0 1 rfl rfl)
theorem dX1_spread_2 : decode cX1_spread 2 = .ok (.invokevirtual 275, 3) := dk_182 1 19 (dk_at dksX1_spread_0 2 rfl rfl)
theorem dX1_spread_5 : decode cX1_spread 5 = .ok (.istore_n 2, 1) := dk_61 (dk_at dksX1_spread_0 5 rfl rfl)
theorem dX1_spread_6 : decode cX1_spread 6 = .ok (.iload_n 2, 1) := dk_28 (dk_at dksX1_spread_0 6 rfl rfl)
theorem dX1_spread_7 : decode cX1_spread 7 = .ok (.ifCond .ge 5, 3) := dk_156 0 5 (dk_at dksX1_spread_0 7 rfl rfl)
theorem dX1_spread_10 : decode cX1_spread 10 = .ok (.iload_n 2, 1) := dk_28 (dk_at dksX1_spread_0 10 rfl rfl)
theorem dX1_spread_11 : decode cX1_spread 11 = .ok (.ireturn, 1) := dk_172 (dk_at dksX1_spread_0 11 rfl rfl)
theorem dX1_spread_12 : decode cX1_spread 12 = .ok (.aload_n 0, 1) := dk_42 (dk_at dksX1_spread_0 12 rfl rfl)
theorem dX1_spread_13 : decode cX1_spread 13 = .ok (.iconst 0, 1) := dk_3 (dk_at dksX1_spread_0 13 rfl rfl)
theorem dX1_spread_14 : decode cX1_spread 14 = .ok (.iconst 0, 1) := dk_3 (dk_at dksX1_spread_0 14 rfl rfl)
theorem dX1_spread_15 : decode cX1_spread 15 = .ok (.invokevirtual 282, 3) := dk_182 1 26 (dk_at dksX1_spread_0 15 rfl rfl)
theorem dX1_spread_18 : decode cX1_spread 18 = .ok (.aload_n 0, 1) := dk_42 (dk_at dksX1_spread_0 18 rfl rfl)
theorem dX1_spread_19 : decode cX1_spread 19 = .ok (.aload_n 0, 1) := dk_42 (dk_at dksX1_spread_0 19 rfl rfl)
theorem dX1_spread_20 : decode cX1_spread 20 = .ok (.getfield 180, 3) := dk_180 0 180 (dk_at dksX1_spread_0 20 rfl rfl)
theorem dX1_spread_23 : decode cX1_spread 23 = .ok (.aload_n 0, 1) := dk_42 (dk_at dksX1_spread_0 23 rfl rfl)
theorem dX1_spread_24 : decode cX1_spread 24 = .ok (.getfield 183, 3) := dk_180 0 183 (dk_at dksX1_spread_1 0 rfl rfl)
theorem dX1_spread_27 : decode cX1_spread 27 = .ok (.invokevirtual 264, 3) := dk_182 1 8 (dk_at dksX1_spread_1 3 rfl rfl)
theorem dX1_spread_30 : decode cX1_spread 30 = .ok (.ireturn, 1) := dk_172 (dk_at dksX1_spread_1 6 rfl rfl)
abbrev cX1_spreadOf : ByteArray := prog_8_method_49_code
def yX1_spreadOf : MethodName := ⟨RX1, "spreadOf", "(II)V"⟩
def dkwX1_spreadOf_4 : List UInt8 := [182, 0, 186, 132, 3, 1, 167, 255, 172, 177]
abbrev dktX1_spreadOf_4 : List UInt8 := dkwX1_spreadOf_4 ++ []
def dkwX1_spreadOf_3 : List UInt8 := [180, 0, 180, 42, 180, 0, 183, 42, 180, 0, 109, 21, 5, 47, 117, 42, 180, 0, 112, 21, 5, 47]
abbrev dktX1_spreadOf_3 : List UInt8 := dkwX1_spreadOf_3 ++ dktX1_spreadOf_4
def dkwX1_spreadOf_2 : List UInt8 := [180, 0, 183, 42, 180, 0, 109, 21, 4, 47, 42, 180, 0, 112, 21, 4, 47, 182, 0, 186, 42, 42]
abbrev dktX1_spreadOf_2 : List UInt8 := dkwX1_spreadOf_2 ++ dktX1_spreadOf_3
def dkwX1_spreadOf_1 : List UInt8 := [28, 182, 1, 22, 54, 4, 42, 29, 3, 27, 28, 182, 1, 22, 54, 5, 42, 42, 180, 0, 180, 42]
abbrev dktX1_spreadOf_1 : List UInt8 := dkwX1_spreadOf_1 ++ dktX1_spreadOf_2
def dkwX1_spreadOf_0 : List UInt8 := [42, 9, 181, 0, 180, 42, 10, 181, 0, 183, 3, 62, 29, 42, 180, 0, 139, 162, 0, 82, 42, 29, 4, 27]
abbrev dktX1_spreadOf_0 : List UInt8 := dkwX1_spreadOf_0 ++ dktX1_spreadOf_1
theorem dksX1_spreadOf_0 : cX1_spreadOf.data.toList.drop 0 = dktX1_spreadOf_0 := by decide +kernel
theorem dksX1_spreadOf_1 : cX1_spreadOf.data.toList.drop 24 = dktX1_spreadOf_1 := dk_seg dksX1_spreadOf_0 24 rfl rfl
theorem dksX1_spreadOf_2 : cX1_spreadOf.data.toList.drop 46 = dktX1_spreadOf_2 := dk_seg dksX1_spreadOf_1 22 rfl rfl
theorem dksX1_spreadOf_3 : cX1_spreadOf.data.toList.drop 68 = dktX1_spreadOf_3 := dk_seg dksX1_spreadOf_2 22 rfl rfl
theorem dksX1_spreadOf_4 : cX1_spreadOf.data.toList.drop 90 = dktX1_spreadOf_4 := dk_seg dksX1_spreadOf_3 22 rfl rfl
theorem dX1_spreadOf_0 : decode cX1_spreadOf 0 = .ok (.aload_n 0, 1) := dk_42 (dk_at dksX1_spreadOf_0 0 rfl rfl)
theorem dX1_spreadOf_1 : decode cX1_spreadOf 1 = .ok (.lconst 0, 1) := dk_9 (dk_at dksX1_spreadOf_0 1 rfl rfl)
theorem dX1_spreadOf_2 : decode cX1_spreadOf 2 = .ok (.putfield 180, 3) := dk_181 0 180 (dk_at dksX1_spreadOf_0 2 rfl rfl)
theorem dX1_spreadOf_5 : decode cX1_spreadOf 5 = .ok (.aload_n 0, 1) := dk_42 (dk_at dksX1_spreadOf_0 5 rfl rfl)
theorem dX1_spreadOf_6 : decode cX1_spreadOf 6 = .ok (.lconst 1, 1) := dk_10 (dk_at dksX1_spreadOf_0 6 rfl rfl)
theorem dX1_spreadOf_7 : decode cX1_spreadOf 7 = .ok (.putfield 183, 3) := dk_181 0 183 (dk_at dksX1_spreadOf_0 7 rfl rfl)
theorem dX1_spreadOf_10 : decode cX1_spreadOf 10 = .ok (.iconst 0, 1) := dk_3 (dk_at dksX1_spreadOf_0 10 rfl rfl)
theorem dX1_spreadOf_11 : decode cX1_spreadOf 11 = .ok (.istore_n 3, 1) := dk_62 (dk_at dksX1_spreadOf_0 11 rfl rfl)
theorem dX1_spreadOf_12 : decode cX1_spreadOf 12 = .ok (.iload_n 3, 1) := dk_29 (dk_at dksX1_spreadOf_0 12 rfl rfl)
theorem dX1_spreadOf_13 : decode cX1_spreadOf 13 = .ok (.aload_n 0, 1) := dk_42 (dk_at dksX1_spreadOf_0 13 rfl rfl)
theorem dX1_spreadOf_14 : decode cX1_spreadOf 14 = .ok (.getfield 139, 3) := dk_180 0 139 (dk_at dksX1_spreadOf_0 14 rfl rfl)
theorem dX1_spreadOf_17 : decode cX1_spreadOf 17 = .ok (.if_icmp .ge 82, 3) := dk_162 0 82 (dk_at dksX1_spreadOf_0 17 rfl rfl)
theorem dX1_spreadOf_20 : decode cX1_spreadOf 20 = .ok (.aload_n 0, 1) := dk_42 (dk_at dksX1_spreadOf_0 20 rfl rfl)
theorem dX1_spreadOf_21 : decode cX1_spreadOf 21 = .ok (.iload_n 3, 1) := dk_29 (dk_at dksX1_spreadOf_0 21 rfl rfl)
theorem dX1_spreadOf_22 : decode cX1_spreadOf 22 = .ok (.iconst 1, 1) := dk_4 (dk_at dksX1_spreadOf_0 22 rfl rfl)
theorem dX1_spreadOf_23 : decode cX1_spreadOf 23 = .ok (.iload_n 1, 1) := dk_27 (dk_at dksX1_spreadOf_0 23 rfl rfl)
theorem dX1_spreadOf_24 : decode cX1_spreadOf 24 = .ok (.iload_n 2, 1) := dk_28 (dk_at dksX1_spreadOf_1 0 rfl rfl)
theorem dX1_spreadOf_25 : decode cX1_spreadOf 25 = .ok (.invokevirtual 278, 3) := dk_182 1 22 (dk_at dksX1_spreadOf_1 1 rfl rfl)
theorem dX1_spreadOf_28 : decode cX1_spreadOf 28 = .ok (.istore 4, 2) := dk_54 4 (dk_at dksX1_spreadOf_1 4 rfl rfl)
theorem dX1_spreadOf_30 : decode cX1_spreadOf 30 = .ok (.aload_n 0, 1) := dk_42 (dk_at dksX1_spreadOf_1 6 rfl rfl)
theorem dX1_spreadOf_31 : decode cX1_spreadOf 31 = .ok (.iload_n 3, 1) := dk_29 (dk_at dksX1_spreadOf_1 7 rfl rfl)
theorem dX1_spreadOf_32 : decode cX1_spreadOf 32 = .ok (.iconst 0, 1) := dk_3 (dk_at dksX1_spreadOf_1 8 rfl rfl)
theorem dX1_spreadOf_33 : decode cX1_spreadOf 33 = .ok (.iload_n 1, 1) := dk_27 (dk_at dksX1_spreadOf_1 9 rfl rfl)
theorem dX1_spreadOf_34 : decode cX1_spreadOf 34 = .ok (.iload_n 2, 1) := dk_28 (dk_at dksX1_spreadOf_1 10 rfl rfl)
theorem dX1_spreadOf_35 : decode cX1_spreadOf 35 = .ok (.invokevirtual 278, 3) := dk_182 1 22 (dk_at dksX1_spreadOf_1 11 rfl rfl)
theorem dX1_spreadOf_38 : decode cX1_spreadOf 38 = .ok (.istore 5, 2) := dk_54 5 (dk_at dksX1_spreadOf_1 14 rfl rfl)
theorem dX1_spreadOf_40 : decode cX1_spreadOf 40 = .ok (.aload_n 0, 1) := dk_42 (dk_at dksX1_spreadOf_1 16 rfl rfl)
theorem dX1_spreadOf_41 : decode cX1_spreadOf 41 = .ok (.aload_n 0, 1) := dk_42 (dk_at dksX1_spreadOf_1 17 rfl rfl)
theorem dX1_spreadOf_42 : decode cX1_spreadOf 42 = .ok (.getfield 180, 3) := dk_180 0 180 (dk_at dksX1_spreadOf_1 18 rfl rfl)
theorem dX1_spreadOf_45 : decode cX1_spreadOf 45 = .ok (.aload_n 0, 1) := dk_42 (dk_at dksX1_spreadOf_1 21 rfl rfl)
theorem dX1_spreadOf_46 : decode cX1_spreadOf 46 = .ok (.getfield 183, 3) := dk_180 0 183 (dk_at dksX1_spreadOf_2 0 rfl rfl)
theorem dX1_spreadOf_49 : decode cX1_spreadOf 49 = .ok (.aload_n 0, 1) := dk_42 (dk_at dksX1_spreadOf_2 3 rfl rfl)
theorem dX1_spreadOf_50 : decode cX1_spreadOf 50 = .ok (.getfield 109, 3) := dk_180 0 109 (dk_at dksX1_spreadOf_2 4 rfl rfl)
theorem dX1_spreadOf_53 : decode cX1_spreadOf 53 = .ok (.iload 4, 2) := dk_21 4 (dk_at dksX1_spreadOf_2 7 rfl rfl)
theorem dX1_spreadOf_55 : decode cX1_spreadOf 55 = .ok (.laload, 1) := dk_47 (dk_at dksX1_spreadOf_2 9 rfl rfl)
theorem dX1_spreadOf_56 : decode cX1_spreadOf 56 = .ok (.aload_n 0, 1) := dk_42 (dk_at dksX1_spreadOf_2 10 rfl rfl)
theorem dX1_spreadOf_57 : decode cX1_spreadOf 57 = .ok (.getfield 112, 3) := dk_180 0 112 (dk_at dksX1_spreadOf_2 11 rfl rfl)
theorem dX1_spreadOf_60 : decode cX1_spreadOf 60 = .ok (.iload 4, 2) := dk_21 4 (dk_at dksX1_spreadOf_2 14 rfl rfl)
theorem dX1_spreadOf_62 : decode cX1_spreadOf 62 = .ok (.laload, 1) := dk_47 (dk_at dksX1_spreadOf_2 16 rfl rfl)
theorem dX1_spreadOf_63 : decode cX1_spreadOf 63 = .ok (.invokevirtual 186, 3) := dk_182 0 186 (dk_at dksX1_spreadOf_2 17 rfl rfl)
theorem dX1_spreadOf_66 : decode cX1_spreadOf 66 = .ok (.aload_n 0, 1) := dk_42 (dk_at dksX1_spreadOf_2 20 rfl rfl)
theorem dX1_spreadOf_67 : decode cX1_spreadOf 67 = .ok (.aload_n 0, 1) := dk_42 (dk_at dksX1_spreadOf_2 21 rfl rfl)
theorem dX1_spreadOf_68 : decode cX1_spreadOf 68 = .ok (.getfield 180, 3) := dk_180 0 180 (dk_at dksX1_spreadOf_3 0 rfl rfl)
theorem dX1_spreadOf_71 : decode cX1_spreadOf 71 = .ok (.aload_n 0, 1) := dk_42 (dk_at dksX1_spreadOf_3 3 rfl rfl)
theorem dX1_spreadOf_72 : decode cX1_spreadOf 72 = .ok (.getfield 183, 3) := dk_180 0 183 (dk_at dksX1_spreadOf_3 4 rfl rfl)
theorem dX1_spreadOf_75 : decode cX1_spreadOf 75 = .ok (.aload_n 0, 1) := dk_42 (dk_at dksX1_spreadOf_3 7 rfl rfl)
theorem dX1_spreadOf_76 : decode cX1_spreadOf 76 = .ok (.getfield 109, 3) := dk_180 0 109 (dk_at dksX1_spreadOf_3 8 rfl rfl)
theorem dX1_spreadOf_79 : decode cX1_spreadOf 79 = .ok (.iload 5, 2) := dk_21 5 (dk_at dksX1_spreadOf_3 11 rfl rfl)
theorem dX1_spreadOf_81 : decode cX1_spreadOf 81 = .ok (.laload, 1) := dk_47 (dk_at dksX1_spreadOf_3 13 rfl rfl)
theorem dX1_spreadOf_82 : decode cX1_spreadOf 82 = .ok (.lneg, 1) := dk_117 (dk_at dksX1_spreadOf_3 14 rfl rfl)
theorem dX1_spreadOf_83 : decode cX1_spreadOf 83 = .ok (.aload_n 0, 1) := dk_42 (dk_at dksX1_spreadOf_3 15 rfl rfl)
theorem dX1_spreadOf_84 : decode cX1_spreadOf 84 = .ok (.getfield 112, 3) := dk_180 0 112 (dk_at dksX1_spreadOf_3 16 rfl rfl)
theorem dX1_spreadOf_87 : decode cX1_spreadOf 87 = .ok (.iload 5, 2) := dk_21 5 (dk_at dksX1_spreadOf_3 19 rfl rfl)
theorem dX1_spreadOf_89 : decode cX1_spreadOf 89 = .ok (.laload, 1) := dk_47 (dk_at dksX1_spreadOf_3 21 rfl rfl)
theorem dX1_spreadOf_90 : decode cX1_spreadOf 90 = .ok (.invokevirtual 186, 3) := dk_182 0 186 (dk_at dksX1_spreadOf_4 0 rfl rfl)
theorem dX1_spreadOf_93 : decode cX1_spreadOf 93 = .ok (.iinc 3 1, 3) := dk_132 3 1 (dk_at dksX1_spreadOf_4 3 rfl rfl)
theorem dX1_spreadOf_96 : decode cX1_spreadOf 96 = .ok (.goto (-84), 3) := dk_167 255 172 (dk_at dksX1_spreadOf_4 6 rfl rfl)
theorem dX1_spreadOf_99 : decode cX1_spreadOf 99 = .ok (.return_, 1) := dk_177 (dk_at dksX1_spreadOf_4 9 rfl rfl)
abbrev cX1_worth : ByteArray := prog_8_method_52_code
def yX1_worth : MethodName := ⟨RX1, "worth", "(II)I"⟩
def dkwX1_worth_3 : List UInt8 := [42, 6, 182, 0, 166, 172]
abbrev dktX1_worth_3 : List UInt8 := dkwX1_worth_3 ++ []
def dkwX1_worth_2 : List UInt8 := [21, 4, 182, 1, 36, 42, 42, 180, 1, 30, 42, 180, 1, 33, 182, 1, 8, 172, 132, 4, 1, 167, 255, 214]
abbrev dktX1_worth_2 : List UInt8 := dkwX1_worth_2 ++ dktX1_worth_3
def dkwX1_worth_1 : List UInt8 := [54, 4, 21, 4, 42, 180, 0, 199, 162, 0, 39, 42, 180, 0, 90, 21, 4, 46, 28, 160, 0, 22, 42]
abbrev dktX1_worth_1 : List UInt8 := dkwX1_worth_1 ++ dktX1_worth_2
def dkwX1_worth_0 : List UInt8 := [42, 28, 182, 0, 160, 154, 0, 5, 2, 172, 42, 27, 182, 1, 19, 62, 29, 156, 0, 5, 29, 172, 3]
abbrev dktX1_worth_0 : List UInt8 := dkwX1_worth_0 ++ dktX1_worth_1
theorem dksX1_worth_0 : cX1_worth.data.toList.drop 0 = dktX1_worth_0 := by decide +kernel
theorem dksX1_worth_1 : cX1_worth.data.toList.drop 23 = dktX1_worth_1 := dk_seg dksX1_worth_0 23 rfl rfl
theorem dksX1_worth_2 : cX1_worth.data.toList.drop 46 = dktX1_worth_2 := dk_seg dksX1_worth_1 23 rfl rfl
theorem dksX1_worth_3 : cX1_worth.data.toList.drop 70 = dktX1_worth_3 := dk_seg dksX1_worth_2 24 rfl rfl
theorem dX1_worth_0 : decode cX1_worth 0 = .ok (.aload_n 0, 1) := dk_42 (dk_at dksX1_worth_0 0 rfl rfl)
theorem dX1_worth_1 : decode cX1_worth 1 = .ok (.iload_n 2, 1) := dk_28 (dk_at dksX1_worth_0 1 rfl rfl)
theorem dX1_worth_2 : decode cX1_worth 2 = .ok (.invokevirtual 160, 3) := dk_182 0 160 (dk_at dksX1_worth_0 2 rfl rfl)
theorem dX1_worth_5 : decode cX1_worth 5 = .ok (.ifCond .ne 5, 3) := dk_154 0 5 (dk_at dksX1_worth_0 5 rfl rfl)
theorem dX1_worth_8 : decode cX1_worth 8 = .ok (.iconst (-1), 1) := dk_2 (dk_at dksX1_worth_0 8 rfl rfl)
theorem dX1_worth_9 : decode cX1_worth 9 = .ok (.ireturn, 1) := dk_172 (dk_at dksX1_worth_0 9 rfl rfl)
theorem dX1_worth_10 : decode cX1_worth 10 = .ok (.aload_n 0, 1) := dk_42 (dk_at dksX1_worth_0 10 rfl rfl)
theorem dX1_worth_11 : decode cX1_worth 11 = .ok (.iload_n 1, 1) := dk_27 (dk_at dksX1_worth_0 11 rfl rfl)
theorem dX1_worth_12 : decode cX1_worth 12 = .ok (.invokevirtual 275, 3) := dk_182 1 19 (dk_at dksX1_worth_0 12 rfl rfl)
theorem dX1_worth_15 : decode cX1_worth 15 = .ok (.istore_n 3, 1) := dk_62 (dk_at dksX1_worth_0 15 rfl rfl)
theorem dX1_worth_16 : decode cX1_worth 16 = .ok (.iload_n 3, 1) := dk_29 (dk_at dksX1_worth_0 16 rfl rfl)
theorem dX1_worth_17 : decode cX1_worth 17 = .ok (.ifCond .ge 5, 3) := dk_156 0 5 (dk_at dksX1_worth_0 17 rfl rfl)
theorem dX1_worth_20 : decode cX1_worth 20 = .ok (.iload_n 3, 1) := dk_29 (dk_at dksX1_worth_0 20 rfl rfl)
theorem dX1_worth_21 : decode cX1_worth 21 = .ok (.ireturn, 1) := dk_172 (dk_at dksX1_worth_0 21 rfl rfl)
theorem dX1_worth_22 : decode cX1_worth 22 = .ok (.iconst 0, 1) := dk_3 (dk_at dksX1_worth_0 22 rfl rfl)
theorem dX1_worth_23 : decode cX1_worth 23 = .ok (.istore 4, 2) := dk_54 4 (dk_at dksX1_worth_1 0 rfl rfl)
theorem dX1_worth_25 : decode cX1_worth 25 = .ok (.iload 4, 2) := dk_21 4 (dk_at dksX1_worth_1 2 rfl rfl)
theorem dX1_worth_27 : decode cX1_worth 27 = .ok (.aload_n 0, 1) := dk_42 (dk_at dksX1_worth_1 4 rfl rfl)
theorem dX1_worth_28 : decode cX1_worth 28 = .ok (.getfield 199, 3) := dk_180 0 199 (dk_at dksX1_worth_1 5 rfl rfl)
theorem dX1_worth_31 : decode cX1_worth 31 = .ok (.if_icmp .ge 39, 3) := dk_162 0 39 (dk_at dksX1_worth_1 8 rfl rfl)
theorem dX1_worth_34 : decode cX1_worth 34 = .ok (.aload_n 0, 1) := dk_42 (dk_at dksX1_worth_1 11 rfl rfl)
theorem dX1_worth_35 : decode cX1_worth 35 = .ok (.getfield 90, 3) := dk_180 0 90 (dk_at dksX1_worth_1 12 rfl rfl)
theorem dX1_worth_38 : decode cX1_worth 38 = .ok (.iload 4, 2) := dk_21 4 (dk_at dksX1_worth_1 15 rfl rfl)
theorem dX1_worth_40 : decode cX1_worth 40 = .ok (.iaload, 1) := dk_46 (dk_at dksX1_worth_1 17 rfl rfl)
theorem dX1_worth_41 : decode cX1_worth 41 = .ok (.iload_n 2, 1) := dk_28 (dk_at dksX1_worth_1 18 rfl rfl)
theorem dX1_worth_42 : decode cX1_worth 42 = .ok (.if_icmp .ne 22, 3) := dk_160 0 22 (dk_at dksX1_worth_1 19 rfl rfl)
theorem dX1_worth_45 : decode cX1_worth 45 = .ok (.aload_n 0, 1) := dk_42 (dk_at dksX1_worth_1 22 rfl rfl)
theorem dX1_worth_46 : decode cX1_worth 46 = .ok (.iload 4, 2) := dk_21 4 (dk_at dksX1_worth_2 0 rfl rfl)
theorem dX1_worth_48 : decode cX1_worth 48 = .ok (.invokevirtual 292, 3) := dk_182 1 36 (dk_at dksX1_worth_2 2 rfl rfl)
theorem dX1_worth_51 : decode cX1_worth 51 = .ok (.aload_n 0, 1) := dk_42 (dk_at dksX1_worth_2 5 rfl rfl)
theorem dX1_worth_52 : decode cX1_worth 52 = .ok (.aload_n 0, 1) := dk_42 (dk_at dksX1_worth_2 6 rfl rfl)
theorem dX1_worth_53 : decode cX1_worth 53 = .ok (.getfield 286, 3) := dk_180 1 30 (dk_at dksX1_worth_2 7 rfl rfl)
theorem dX1_worth_56 : decode cX1_worth 56 = .ok (.aload_n 0, 1) := dk_42 (dk_at dksX1_worth_2 10 rfl rfl)
theorem dX1_worth_57 : decode cX1_worth 57 = .ok (.getfield 289, 3) := dk_180 1 33 (dk_at dksX1_worth_2 11 rfl rfl)
theorem dX1_worth_60 : decode cX1_worth 60 = .ok (.invokevirtual 264, 3) := dk_182 1 8 (dk_at dksX1_worth_2 14 rfl rfl)
theorem dX1_worth_63 : decode cX1_worth 63 = .ok (.ireturn, 1) := dk_172 (dk_at dksX1_worth_2 17 rfl rfl)
theorem dX1_worth_64 : decode cX1_worth 64 = .ok (.iinc 4 1, 3) := dk_132 4 1 (dk_at dksX1_worth_2 18 rfl rfl)
theorem dX1_worth_67 : decode cX1_worth 67 = .ok (.goto (-42), 3) := dk_167 255 214 (dk_at dksX1_worth_2 21 rfl rfl)
theorem dX1_worth_70 : decode cX1_worth 70 = .ok (.aload_n 0, 1) := dk_42 (dk_at dksX1_worth_3 0 rfl rfl)
theorem dX1_worth_71 : decode cX1_worth 71 = .ok (.iconst 3, 1) := dk_6 (dk_at dksX1_worth_3 1 rfl rfl)
theorem dX1_worth_72 : decode cX1_worth 72 = .ok (.invokevirtual 166, 3) := dk_182 0 166 (dk_at dksX1_worth_3 2 rfl rfl)
theorem dX1_worth_75 : decode cX1_worth 75 = .ok (.ireturn, 1) := dk_172 (dk_at dksX1_worth_3 5 rfl rfl)
abbrev cX1_worthOf : ByteArray := prog_8_method_51_code
def yX1_worthOf : MethodName := ⟨RX1, "worthOf", "(I)V"⟩
def dkwX1_worthOf_4 : List UInt8 := [180, 0, 34, 42, 180, 0, 90, 27, 46, 46, 133, 105, 181, 1, 33, 177]
abbrev dktX1_worthOf_4 : List UInt8 := dkwX1_worthOf_4 ++ []
def dkwX1_worthOf_3 : List UInt8 := [180, 0, 183, 32, 117, 22, 4, 182, 0, 186, 42, 42, 180, 0, 180, 181, 1, 30, 42, 42, 180, 0, 183, 42]
abbrev dktX1_worthOf_3 : List UInt8 := dkwX1_worthOf_3 ++ dktX1_worthOf_4
def dkwX1_worthOf_2 : List UInt8 := [180, 0, 180, 65, 42, 180, 0, 183, 55, 4, 42, 3, 3, 182, 1, 26, 42, 42, 180, 0, 180, 42]
abbrev dktX1_worthOf_2 : List UInt8 := dkwX1_worthOf_2 ++ dktX1_worthOf_3
def dkwX1_worthOf_1 : List UInt8 := [120, 3, 182, 1, 26, 32, 22, 4, 42, 180, 0, 180, 42, 180, 0, 183, 184, 1, 12, 153, 0, 14, 42]
abbrev dktX1_worthOf_1 : List UInt8 := dkwX1_worthOf_1 ++ dktX1_worthOf_2
def dkwX1_worthOf_0 : List UInt8 := [42, 4, 27, 120, 4, 27, 120, 182, 1, 26, 42, 180, 0, 180, 65, 42, 180, 0, 183, 55, 4, 42, 4, 27]
abbrev dktX1_worthOf_0 : List UInt8 := dkwX1_worthOf_0 ++ dktX1_worthOf_1
theorem dksX1_worthOf_0 : cX1_worthOf.data.toList.drop 0 = dktX1_worthOf_0 := by decide +kernel
theorem dksX1_worthOf_1 : cX1_worthOf.data.toList.drop 24 = dktX1_worthOf_1 := dk_seg dksX1_worthOf_0 24 rfl rfl
theorem dksX1_worthOf_2 : cX1_worthOf.data.toList.drop 47 = dktX1_worthOf_2 := dk_seg dksX1_worthOf_1 23 rfl rfl
theorem dksX1_worthOf_3 : cX1_worthOf.data.toList.drop 69 = dktX1_worthOf_3 := dk_seg dksX1_worthOf_2 22 rfl rfl
theorem dksX1_worthOf_4 : cX1_worthOf.data.toList.drop 93 = dktX1_worthOf_4 := dk_seg dksX1_worthOf_3 24 rfl rfl
theorem dX1_worthOf_0 : decode cX1_worthOf 0 = .ok (.aload_n 0, 1) := dk_42 (dk_at dksX1_worthOf_0 0 rfl rfl)
theorem dX1_worthOf_1 : decode cX1_worthOf 1 = .ok (.iconst 1, 1) := dk_4 (dk_at dksX1_worthOf_0 1 rfl rfl)
theorem dX1_worthOf_2 : decode cX1_worthOf 2 = .ok (.iload_n 1, 1) := dk_27 (dk_at dksX1_worthOf_0 2 rfl rfl)
theorem dX1_worthOf_3 : decode cX1_worthOf 3 = .ok (.ishl, 1) := dk_120 (dk_at dksX1_worthOf_0 3 rfl rfl)
theorem dX1_worthOf_4 : decode cX1_worthOf 4 = .ok (.iconst 1, 1) := dk_4 (dk_at dksX1_worthOf_0 4 rfl rfl)
theorem dX1_worthOf_5 : decode cX1_worthOf 5 = .ok (.iload_n 1, 1) := dk_27 (dk_at dksX1_worthOf_0 5 rfl rfl)
theorem dX1_worthOf_6 : decode cX1_worthOf 6 = .ok (.ishl, 1) := dk_120 (dk_at dksX1_worthOf_0 6 rfl rfl)
theorem dX1_worthOf_7 : decode cX1_worthOf 7 = .ok (.invokevirtual 282, 3) := dk_182 1 26 (dk_at dksX1_worthOf_0 7 rfl rfl)
theorem dX1_worthOf_10 : decode cX1_worthOf 10 = .ok (.aload_n 0, 1) := dk_42 (dk_at dksX1_worthOf_0 10 rfl rfl)
theorem dX1_worthOf_11 : decode cX1_worthOf 11 = .ok (.getfield 180, 3) := dk_180 0 180 (dk_at dksX1_worthOf_0 11 rfl rfl)
theorem dX1_worthOf_14 : decode cX1_worthOf 14 = .ok (.lstore_n 2, 1) := dk_65 (dk_at dksX1_worthOf_0 14 rfl rfl)
theorem dX1_worthOf_15 : decode cX1_worthOf 15 = .ok (.aload_n 0, 1) := dk_42 (dk_at dksX1_worthOf_0 15 rfl rfl)
theorem dX1_worthOf_16 : decode cX1_worthOf 16 = .ok (.getfield 183, 3) := dk_180 0 183 (dk_at dksX1_worthOf_0 16 rfl rfl)
theorem dX1_worthOf_19 : decode cX1_worthOf 19 = .ok (.lstore 4, 2) := dk_55 4 (dk_at dksX1_worthOf_0 19 rfl rfl)
theorem dX1_worthOf_21 : decode cX1_worthOf 21 = .ok (.aload_n 0, 1) := dk_42 (dk_at dksX1_worthOf_0 21 rfl rfl)
theorem dX1_worthOf_22 : decode cX1_worthOf 22 = .ok (.iconst 1, 1) := dk_4 (dk_at dksX1_worthOf_0 22 rfl rfl)
theorem dX1_worthOf_23 : decode cX1_worthOf 23 = .ok (.iload_n 1, 1) := dk_27 (dk_at dksX1_worthOf_0 23 rfl rfl)
theorem dX1_worthOf_24 : decode cX1_worthOf 24 = .ok (.ishl, 1) := dk_120 (dk_at dksX1_worthOf_1 0 rfl rfl)
theorem dX1_worthOf_25 : decode cX1_worthOf 25 = .ok (.iconst 0, 1) := dk_3 (dk_at dksX1_worthOf_1 1 rfl rfl)
theorem dX1_worthOf_26 : decode cX1_worthOf 26 = .ok (.invokevirtual 282, 3) := dk_182 1 26 (dk_at dksX1_worthOf_1 2 rfl rfl)
theorem dX1_worthOf_29 : decode cX1_worthOf 29 = .ok (.lload_n 2, 1) := dk_32 (dk_at dksX1_worthOf_1 5 rfl rfl)
theorem dX1_worthOf_30 : decode cX1_worthOf 30 = .ok (.lload 4, 2) := dk_22 4 (dk_at dksX1_worthOf_1 6 rfl rfl)
theorem dX1_worthOf_32 : decode cX1_worthOf 32 = .ok (.aload_n 0, 1) := dk_42 (dk_at dksX1_worthOf_1 8 rfl rfl)
theorem dX1_worthOf_33 : decode cX1_worthOf 33 = .ok (.getfield 180, 3) := dk_180 0 180 (dk_at dksX1_worthOf_1 9 rfl rfl)
theorem dX1_worthOf_36 : decode cX1_worthOf 36 = .ok (.aload_n 0, 1) := dk_42 (dk_at dksX1_worthOf_1 12 rfl rfl)
theorem dX1_worthOf_37 : decode cX1_worthOf 37 = .ok (.getfield 183, 3) := dk_180 0 183 (dk_at dksX1_worthOf_1 13 rfl rfl)
theorem dX1_worthOf_40 : decode cX1_worthOf 40 = .ok (.invokestatic 268, 3) := dk_184 1 12 (dk_at dksX1_worthOf_1 16 rfl rfl)
theorem dX1_worthOf_43 : decode cX1_worthOf 43 = .ok (.ifCond .eq 14, 3) := dk_153 0 14 (dk_at dksX1_worthOf_1 19 rfl rfl)
theorem dX1_worthOf_46 : decode cX1_worthOf 46 = .ok (.aload_n 0, 1) := dk_42 (dk_at dksX1_worthOf_1 22 rfl rfl)
theorem dX1_worthOf_47 : decode cX1_worthOf 47 = .ok (.getfield 180, 3) := dk_180 0 180 (dk_at dksX1_worthOf_2 0 rfl rfl)
theorem dX1_worthOf_50 : decode cX1_worthOf 50 = .ok (.lstore_n 2, 1) := dk_65 (dk_at dksX1_worthOf_2 3 rfl rfl)
theorem dX1_worthOf_51 : decode cX1_worthOf 51 = .ok (.aload_n 0, 1) := dk_42 (dk_at dksX1_worthOf_2 4 rfl rfl)
theorem dX1_worthOf_52 : decode cX1_worthOf 52 = .ok (.getfield 183, 3) := dk_180 0 183 (dk_at dksX1_worthOf_2 5 rfl rfl)
theorem dX1_worthOf_55 : decode cX1_worthOf 55 = .ok (.lstore 4, 2) := dk_55 4 (dk_at dksX1_worthOf_2 8 rfl rfl)
theorem dX1_worthOf_57 : decode cX1_worthOf 57 = .ok (.aload_n 0, 1) := dk_42 (dk_at dksX1_worthOf_2 10 rfl rfl)
theorem dX1_worthOf_58 : decode cX1_worthOf 58 = .ok (.iconst 0, 1) := dk_3 (dk_at dksX1_worthOf_2 11 rfl rfl)
theorem dX1_worthOf_59 : decode cX1_worthOf 59 = .ok (.iconst 0, 1) := dk_3 (dk_at dksX1_worthOf_2 12 rfl rfl)
theorem dX1_worthOf_60 : decode cX1_worthOf 60 = .ok (.invokevirtual 282, 3) := dk_182 1 26 (dk_at dksX1_worthOf_2 13 rfl rfl)
theorem dX1_worthOf_63 : decode cX1_worthOf 63 = .ok (.aload_n 0, 1) := dk_42 (dk_at dksX1_worthOf_2 16 rfl rfl)
theorem dX1_worthOf_64 : decode cX1_worthOf 64 = .ok (.aload_n 0, 1) := dk_42 (dk_at dksX1_worthOf_2 17 rfl rfl)
theorem dX1_worthOf_65 : decode cX1_worthOf 65 = .ok (.getfield 180, 3) := dk_180 0 180 (dk_at dksX1_worthOf_2 18 rfl rfl)
theorem dX1_worthOf_68 : decode cX1_worthOf 68 = .ok (.aload_n 0, 1) := dk_42 (dk_at dksX1_worthOf_2 21 rfl rfl)
theorem dX1_worthOf_69 : decode cX1_worthOf 69 = .ok (.getfield 183, 3) := dk_180 0 183 (dk_at dksX1_worthOf_3 0 rfl rfl)
theorem dX1_worthOf_72 : decode cX1_worthOf 72 = .ok (.lload_n 2, 1) := dk_32 (dk_at dksX1_worthOf_3 3 rfl rfl)
theorem dX1_worthOf_73 : decode cX1_worthOf 73 = .ok (.lneg, 1) := dk_117 (dk_at dksX1_worthOf_3 4 rfl rfl)
theorem dX1_worthOf_74 : decode cX1_worthOf 74 = .ok (.lload 4, 2) := dk_22 4 (dk_at dksX1_worthOf_3 5 rfl rfl)
theorem dX1_worthOf_76 : decode cX1_worthOf 76 = .ok (.invokevirtual 186, 3) := dk_182 0 186 (dk_at dksX1_worthOf_3 7 rfl rfl)
theorem dX1_worthOf_79 : decode cX1_worthOf 79 = .ok (.aload_n 0, 1) := dk_42 (dk_at dksX1_worthOf_3 10 rfl rfl)
theorem dX1_worthOf_80 : decode cX1_worthOf 80 = .ok (.aload_n 0, 1) := dk_42 (dk_at dksX1_worthOf_3 11 rfl rfl)
theorem dX1_worthOf_81 : decode cX1_worthOf 81 = .ok (.getfield 180, 3) := dk_180 0 180 (dk_at dksX1_worthOf_3 12 rfl rfl)
theorem dX1_worthOf_84 : decode cX1_worthOf 84 = .ok (.putfield 286, 3) := dk_181 1 30 (dk_at dksX1_worthOf_3 15 rfl rfl)
theorem dX1_worthOf_87 : decode cX1_worthOf 87 = .ok (.aload_n 0, 1) := dk_42 (dk_at dksX1_worthOf_3 18 rfl rfl)
theorem dX1_worthOf_88 : decode cX1_worthOf 88 = .ok (.aload_n 0, 1) := dk_42 (dk_at dksX1_worthOf_3 19 rfl rfl)
theorem dX1_worthOf_89 : decode cX1_worthOf 89 = .ok (.getfield 183, 3) := dk_180 0 183 (dk_at dksX1_worthOf_3 20 rfl rfl)
theorem dX1_worthOf_92 : decode cX1_worthOf 92 = .ok (.aload_n 0, 1) := dk_42 (dk_at dksX1_worthOf_3 23 rfl rfl)
theorem dX1_worthOf_93 : decode cX1_worthOf 93 = .ok (.getfield 34, 3) := dk_180 0 34 (dk_at dksX1_worthOf_4 0 rfl rfl)
theorem dX1_worthOf_96 : decode cX1_worthOf 96 = .ok (.aload_n 0, 1) := dk_42 (dk_at dksX1_worthOf_4 3 rfl rfl)
theorem dX1_worthOf_97 : decode cX1_worthOf 97 = .ok (.getfield 90, 3) := dk_180 0 90 (dk_at dksX1_worthOf_4 4 rfl rfl)
theorem dX1_worthOf_100 : decode cX1_worthOf 100 = .ok (.iload_n 1, 1) := dk_27 (dk_at dksX1_worthOf_4 7 rfl rfl)
theorem dX1_worthOf_101 : decode cX1_worthOf 101 = .ok (.iaload, 1) := dk_46 (dk_at dksX1_worthOf_4 8 rfl rfl)
theorem dX1_worthOf_102 : decode cX1_worthOf 102 = .ok (.iaload, 1) := dk_46 (dk_at dksX1_worthOf_4 9 rfl rfl)
theorem dX1_worthOf_103 : decode cX1_worthOf 103 = .ok (.i2l, 1) := dk_133 (dk_at dksX1_worthOf_4 10 rfl rfl)
theorem dX1_worthOf_104 : decode cX1_worthOf 104 = .ok (.lmul, 1) := dk_105 (dk_at dksX1_worthOf_4 11 rfl rfl)
theorem dX1_worthOf_105 : decode cX1_worthOf 105 = .ok (.putfield 289, 3) := dk_181 1 33 (dk_at dksX1_worthOf_4 12 rfl rfl)
theorem dX1_worthOf_108 : decode cX1_worthOf 108 = .ok (.return_, 1) := dk_177 (dk_at dksX1_worthOf_4 15 rfl rfl)
abbrev cX1_look : ByteArray := prog_8_method_53_code
def yX1_look : MethodName := ⟨RX1, "look", "(I)I"⟩
def dkwX1_look_3 : List UInt8 := [180, 1, 30, 55, 4, 42, 180, 1, 33, 55, 6, 132, 8, 1, 167, 255, 196, 29, 172]
abbrev dktX1_look_3 : List UInt8 := dkwX1_look_3 ++ []
def dkwX1_look_2 : List UInt8 := [180, 1, 30, 42, 180, 1, 33, 184, 1, 12, 153, 0, 23, 42, 180, 0, 90, 21, 8, 46, 62, 42]
abbrev dktX1_look_2 : List UInt8 := dkwX1_look_2 ++ dktX1_look_3
def dkwX1_look_1 : List UInt8 := [21, 8, 42, 180, 0, 199, 162, 0, 57, 42, 21, 8, 182, 1, 36, 29, 155, 0, 21, 22, 4, 22, 6, 42]
abbrev dktX1_look_1 : List UInt8 := dkwX1_look_1 ++ dktX1_look_2
def dkwX1_look_0 : List UInt8 := [42, 27, 182, 1, 19, 61, 28, 156, 0, 5, 28, 172, 16, 247, 62, 9, 55, 4, 10, 55, 6, 3, 54, 8]
abbrev dktX1_look_0 : List UInt8 := dkwX1_look_0 ++ dktX1_look_1
theorem dksX1_look_0 : cX1_look.data.toList.drop 0 = dktX1_look_0 := by decide +kernel
theorem dksX1_look_1 : cX1_look.data.toList.drop 24 = dktX1_look_1 := dk_seg dksX1_look_0 24 rfl rfl
theorem dksX1_look_2 : cX1_look.data.toList.drop 48 = dktX1_look_2 := dk_seg dksX1_look_1 24 rfl rfl
theorem dksX1_look_3 : cX1_look.data.toList.drop 70 = dktX1_look_3 := dk_seg dksX1_look_2 22 rfl rfl
theorem dX1_look_0 : decode cX1_look 0 = .ok (.aload_n 0, 1) := dk_42 (dk_at dksX1_look_0 0 rfl rfl)
theorem dX1_look_1 : decode cX1_look 1 = .ok (.iload_n 1, 1) := dk_27 (dk_at dksX1_look_0 1 rfl rfl)
theorem dX1_look_2 : decode cX1_look 2 = .ok (.invokevirtual 275, 3) := dk_182 1 19 (dk_at dksX1_look_0 2 rfl rfl)
theorem dX1_look_5 : decode cX1_look 5 = .ok (.istore_n 2, 1) := dk_61 (dk_at dksX1_look_0 5 rfl rfl)
theorem dX1_look_6 : decode cX1_look 6 = .ok (.iload_n 2, 1) := dk_28 (dk_at dksX1_look_0 6 rfl rfl)
theorem dX1_look_7 : decode cX1_look 7 = .ok (.ifCond .ge 5, 3) := dk_156 0 5 (dk_at dksX1_look_0 7 rfl rfl)
theorem dX1_look_10 : decode cX1_look 10 = .ok (.iload_n 2, 1) := dk_28 (dk_at dksX1_look_0 10 rfl rfl)
theorem dX1_look_11 : decode cX1_look 11 = .ok (.ireturn, 1) := dk_172 (dk_at dksX1_look_0 11 rfl rfl)
theorem dX1_look_12 : decode cX1_look 12 = .ok (.bipush (-9), 2) := dk_16 247 (dk_at dksX1_look_0 12 rfl rfl)
theorem dX1_look_14 : decode cX1_look 14 = .ok (.istore_n 3, 1) := dk_62 (dk_at dksX1_look_0 14 rfl rfl)
theorem dX1_look_15 : decode cX1_look 15 = .ok (.lconst 0, 1) := dk_9 (dk_at dksX1_look_0 15 rfl rfl)
theorem dX1_look_16 : decode cX1_look 16 = .ok (.lstore 4, 2) := dk_55 4 (dk_at dksX1_look_0 16 rfl rfl)
theorem dX1_look_18 : decode cX1_look 18 = .ok (.lconst 1, 1) := dk_10 (dk_at dksX1_look_0 18 rfl rfl)
theorem dX1_look_19 : decode cX1_look 19 = .ok (.lstore 6, 2) := dk_55 6 (dk_at dksX1_look_0 19 rfl rfl)
theorem dX1_look_21 : decode cX1_look 21 = .ok (.iconst 0, 1) := dk_3 (dk_at dksX1_look_0 21 rfl rfl)
theorem dX1_look_22 : decode cX1_look 22 = .ok (.istore 8, 2) := dk_54 8 (dk_at dksX1_look_0 22 rfl rfl)
theorem dX1_look_24 : decode cX1_look 24 = .ok (.iload 8, 2) := dk_21 8 (dk_at dksX1_look_1 0 rfl rfl)
theorem dX1_look_26 : decode cX1_look 26 = .ok (.aload_n 0, 1) := dk_42 (dk_at dksX1_look_1 2 rfl rfl)
theorem dX1_look_27 : decode cX1_look 27 = .ok (.getfield 199, 3) := dk_180 0 199 (dk_at dksX1_look_1 3 rfl rfl)
theorem dX1_look_30 : decode cX1_look 30 = .ok (.if_icmp .ge 57, 3) := dk_162 0 57 (dk_at dksX1_look_1 6 rfl rfl)
theorem dX1_look_33 : decode cX1_look 33 = .ok (.aload_n 0, 1) := dk_42 (dk_at dksX1_look_1 9 rfl rfl)
theorem dX1_look_34 : decode cX1_look 34 = .ok (.iload 8, 2) := dk_21 8 (dk_at dksX1_look_1 10 rfl rfl)
theorem dX1_look_36 : decode cX1_look 36 = .ok (.invokevirtual 292, 3) := dk_182 1 36 (dk_at dksX1_look_1 12 rfl rfl)
theorem dX1_look_39 : decode cX1_look 39 = .ok (.iload_n 3, 1) := dk_29 (dk_at dksX1_look_1 15 rfl rfl)
theorem dX1_look_40 : decode cX1_look 40 = .ok (.ifCond .lt 21, 3) := dk_155 0 21 (dk_at dksX1_look_1 16 rfl rfl)
theorem dX1_look_43 : decode cX1_look 43 = .ok (.lload 4, 2) := dk_22 4 (dk_at dksX1_look_1 19 rfl rfl)
theorem dX1_look_45 : decode cX1_look 45 = .ok (.lload 6, 2) := dk_22 6 (dk_at dksX1_look_1 21 rfl rfl)
theorem dX1_look_47 : decode cX1_look 47 = .ok (.aload_n 0, 1) := dk_42 (dk_at dksX1_look_1 23 rfl rfl)
theorem dX1_look_48 : decode cX1_look 48 = .ok (.getfield 286, 3) := dk_180 1 30 (dk_at dksX1_look_2 0 rfl rfl)
theorem dX1_look_51 : decode cX1_look 51 = .ok (.aload_n 0, 1) := dk_42 (dk_at dksX1_look_2 3 rfl rfl)
theorem dX1_look_52 : decode cX1_look 52 = .ok (.getfield 289, 3) := dk_180 1 33 (dk_at dksX1_look_2 4 rfl rfl)
theorem dX1_look_55 : decode cX1_look 55 = .ok (.invokestatic 268, 3) := dk_184 1 12 (dk_at dksX1_look_2 7 rfl rfl)
theorem dX1_look_58 : decode cX1_look 58 = .ok (.ifCond .eq 23, 3) := dk_153 0 23 (dk_at dksX1_look_2 10 rfl rfl)
theorem dX1_look_61 : decode cX1_look 61 = .ok (.aload_n 0, 1) := dk_42 (dk_at dksX1_look_2 13 rfl rfl)
theorem dX1_look_62 : decode cX1_look 62 = .ok (.getfield 90, 3) := dk_180 0 90 (dk_at dksX1_look_2 14 rfl rfl)
theorem dX1_look_65 : decode cX1_look 65 = .ok (.iload 8, 2) := dk_21 8 (dk_at dksX1_look_2 17 rfl rfl)
theorem dX1_look_67 : decode cX1_look 67 = .ok (.iaload, 1) := dk_46 (dk_at dksX1_look_2 19 rfl rfl)
theorem dX1_look_68 : decode cX1_look 68 = .ok (.istore_n 3, 1) := dk_62 (dk_at dksX1_look_2 20 rfl rfl)
theorem dX1_look_69 : decode cX1_look 69 = .ok (.aload_n 0, 1) := dk_42 (dk_at dksX1_look_2 21 rfl rfl)
theorem dX1_look_70 : decode cX1_look 70 = .ok (.getfield 286, 3) := dk_180 1 30 (dk_at dksX1_look_3 0 rfl rfl)
theorem dX1_look_73 : decode cX1_look 73 = .ok (.lstore 4, 2) := dk_55 4 (dk_at dksX1_look_3 3 rfl rfl)
theorem dX1_look_75 : decode cX1_look 75 = .ok (.aload_n 0, 1) := dk_42 (dk_at dksX1_look_3 5 rfl rfl)
theorem dX1_look_76 : decode cX1_look 76 = .ok (.getfield 289, 3) := dk_180 1 33 (dk_at dksX1_look_3 6 rfl rfl)
theorem dX1_look_79 : decode cX1_look 79 = .ok (.lstore 6, 2) := dk_55 6 (dk_at dksX1_look_3 9 rfl rfl)
theorem dX1_look_81 : decode cX1_look 81 = .ok (.iinc 8 1, 3) := dk_132 8 1 (dk_at dksX1_look_3 11 rfl rfl)
theorem dX1_look_84 : decode cX1_look 84 = .ok (.goto (-60), 3) := dk_167 255 196 (dk_at dksX1_look_3 14 rfl rfl)
theorem dX1_look_87 : decode cX1_look 87 = .ok (.iload_n 3, 1) := dk_29 (dk_at dksX1_look_3 17 rfl rfl)
theorem dX1_look_88 : decode cX1_look 88 = .ok (.ireturn, 1) := dk_172 (dk_at dksX1_look_3 18 rfl rfl)
abbrev cX1_open : ByteArray := prog_8_method_54_code
def yX1_open : MethodName := ⟨RX1, "open", "()I"⟩
def dkwX1_open_0 : List UInt8 := [42, 182, 1, 2, 42, 180, 0, 199, 172]
abbrev dktX1_open_0 : List UInt8 := dkwX1_open_0 ++ []
theorem dksX1_open_0 : cX1_open.data.toList.drop 0 = dktX1_open_0 := by decide +kernel
theorem dX1_open_0 : decode cX1_open 0 = .ok (.aload_n 0, 1) := dk_42 (dk_at dksX1_open_0 0 rfl rfl)
theorem dX1_open_1 : decode cX1_open 1 = .ok (.invokevirtual 258, 3) := dk_182 1 2 (dk_at dksX1_open_0 1 rfl rfl)
theorem dX1_open_4 : decode cX1_open 4 = .ok (.aload_n 0, 1) := dk_42 (dk_at dksX1_open_0 4 rfl rfl)
theorem dX1_open_5 : decode cX1_open 5 = .ok (.getfield 199, 3) := dk_180 0 199 (dk_at dksX1_open_0 5 rfl rfl)
theorem dX1_open_8 : decode cX1_open 8 = .ok (.ireturn, 1) := dk_172 (dk_at dksX1_open_0 8 rfl rfl)
abbrev cX1_estate : ByteArray := prog_8_method_56_code
def yX1_estate : MethodName := ⟨RX1, "estate", "(II)I"⟩
def dkwX1_estate_1 : List UInt8 := [180, 0, 115, 27, 46, 62, 42, 180, 0, 115, 27, 28, 79, 29, 172]
abbrev dktX1_estate_1 : List UInt8 := dkwX1_estate_1 ++ []
def dkwX1_estate_0 : List UInt8 := [42, 27, 182, 0, 190, 153, 0, 14, 28, 3, 19, 1, 39, 184, 0, 131, 154, 0, 5, 2, 172, 42]
abbrev dktX1_estate_0 : List UInt8 := dkwX1_estate_0 ++ dktX1_estate_1
theorem dksX1_estate_0 : cX1_estate.data.toList.drop 0 = dktX1_estate_0 := by decide +kernel
theorem dksX1_estate_1 : cX1_estate.data.toList.drop 22 = dktX1_estate_1 := dk_seg dksX1_estate_0 22 rfl rfl
theorem dX1_estate_0 : decode cX1_estate 0 = .ok (.aload_n 0, 1) := dk_42 (dk_at dksX1_estate_0 0 rfl rfl)
theorem dX1_estate_1 : decode cX1_estate 1 = .ok (.iload_n 1, 1) := dk_27 (dk_at dksX1_estate_0 1 rfl rfl)
theorem dX1_estate_2 : decode cX1_estate 2 = .ok (.invokevirtual 190, 3) := dk_182 0 190 (dk_at dksX1_estate_0 2 rfl rfl)
theorem dX1_estate_5 : decode cX1_estate 5 = .ok (.ifCond .eq 14, 3) := dk_153 0 14 (dk_at dksX1_estate_0 5 rfl rfl)
theorem dX1_estate_8 : decode cX1_estate 8 = .ok (.iload_n 2, 1) := dk_28 (dk_at dksX1_estate_0 8 rfl rfl)
theorem dX1_estate_9 : decode cX1_estate 9 = .ok (.iconst 0, 1) := dk_3 (dk_at dksX1_estate_0 9 rfl rfl)
theorem dX1_estate_10 : decode cX1_estate 10 = .ok (.ldc_w 295, 3) := dk_19 1 39 (dk_at dksX1_estate_0 10 rfl rfl)
theorem dX1_estate_13 : decode cX1_estate 13 = .ok (.invokestatic 131, 3) := dk_184 0 131 (dk_at dksX1_estate_0 13 rfl rfl)
theorem dX1_estate_16 : decode cX1_estate 16 = .ok (.ifCond .ne 5, 3) := dk_154 0 5 (dk_at dksX1_estate_0 16 rfl rfl)
theorem dX1_estate_19 : decode cX1_estate 19 = .ok (.iconst (-1), 1) := dk_2 (dk_at dksX1_estate_0 19 rfl rfl)
theorem dX1_estate_20 : decode cX1_estate 20 = .ok (.ireturn, 1) := dk_172 (dk_at dksX1_estate_0 20 rfl rfl)
theorem dX1_estate_21 : decode cX1_estate 21 = .ok (.aload_n 0, 1) := dk_42 (dk_at dksX1_estate_0 21 rfl rfl)
theorem dX1_estate_22 : decode cX1_estate 22 = .ok (.getfield 115, 3) := dk_180 0 115 (dk_at dksX1_estate_1 0 rfl rfl)
theorem dX1_estate_25 : decode cX1_estate 25 = .ok (.iload_n 1, 1) := dk_27 (dk_at dksX1_estate_1 3 rfl rfl)
theorem dX1_estate_26 : decode cX1_estate 26 = .ok (.iaload, 1) := dk_46 (dk_at dksX1_estate_1 4 rfl rfl)
theorem dX1_estate_27 : decode cX1_estate 27 = .ok (.istore_n 3, 1) := dk_62 (dk_at dksX1_estate_1 5 rfl rfl)
theorem dX1_estate_28 : decode cX1_estate 28 = .ok (.aload_n 0, 1) := dk_42 (dk_at dksX1_estate_1 6 rfl rfl)
theorem dX1_estate_29 : decode cX1_estate 29 = .ok (.getfield 115, 3) := dk_180 0 115 (dk_at dksX1_estate_1 7 rfl rfl)
theorem dX1_estate_32 : decode cX1_estate 32 = .ok (.iload_n 1, 1) := dk_27 (dk_at dksX1_estate_1 10 rfl rfl)
theorem dX1_estate_33 : decode cX1_estate 33 = .ok (.iload_n 2, 1) := dk_28 (dk_at dksX1_estate_1 11 rfl rfl)
theorem dX1_estate_34 : decode cX1_estate 34 = .ok (.iastore, 1) := dk_79 (dk_at dksX1_estate_1 12 rfl rfl)
theorem dX1_estate_35 : decode cX1_estate 35 = .ok (.iload_n 3, 1) := dk_29 (dk_at dksX1_estate_1 13 rfl rfl)
theorem dX1_estate_36 : decode cX1_estate 36 = .ok (.ireturn, 1) := dk_172 (dk_at dksX1_estate_1 14 rfl rfl)
abbrev cX1_pay : ByteArray := prog_8_method_57_code
def yX1_pay : MethodName := ⟨RX1, "pay", "(III)I"⟩
def dkwX1_pay_3 : List UInt8 := [182, 1, 40, 100, 172]
abbrev dktX1_pay_3 : List UInt8 := dkwX1_pay_3 ++ []
def dkwX1_pay_2 : List UInt8 := [42, 180, 0, 118, 16, 24, 27, 104, 28, 96, 92, 46, 29, 96, 79, 42, 180, 0, 115, 27, 46, 42, 27]
abbrev dktX1_pay_2 : List UInt8 := dkwX1_pay_2 ++ dktX1_pay_3
def dkwX1_pay_1 : List UInt8 := [154, 0, 5, 2, 172, 42, 180, 0, 115, 27, 46, 42, 27, 182, 1, 40, 100, 29, 162, 0, 6, 16, 252, 172]
abbrev dktX1_pay_1 : List UInt8 := dkwX1_pay_1 ++ dktX1_pay_2
def dkwX1_pay_0 : List UInt8 := [42, 27, 182, 0, 190, 153, 0, 22, 42, 28, 182, 0, 153, 153, 0, 14, 29, 4, 19, 1, 39, 184, 0, 131]
abbrev dktX1_pay_0 : List UInt8 := dkwX1_pay_0 ++ dktX1_pay_1
theorem dksX1_pay_0 : cX1_pay.data.toList.drop 0 = dktX1_pay_0 := by decide +kernel
theorem dksX1_pay_1 : cX1_pay.data.toList.drop 24 = dktX1_pay_1 := dk_seg dksX1_pay_0 24 rfl rfl
theorem dksX1_pay_2 : cX1_pay.data.toList.drop 48 = dktX1_pay_2 := dk_seg dksX1_pay_1 24 rfl rfl
theorem dksX1_pay_3 : cX1_pay.data.toList.drop 71 = dktX1_pay_3 := dk_seg dksX1_pay_2 23 rfl rfl
theorem dX1_pay_0 : decode cX1_pay 0 = .ok (.aload_n 0, 1) := dk_42 (dk_at dksX1_pay_0 0 rfl rfl)
theorem dX1_pay_1 : decode cX1_pay 1 = .ok (.iload_n 1, 1) := dk_27 (dk_at dksX1_pay_0 1 rfl rfl)
theorem dX1_pay_2 : decode cX1_pay 2 = .ok (.invokevirtual 190, 3) := dk_182 0 190 (dk_at dksX1_pay_0 2 rfl rfl)
theorem dX1_pay_5 : decode cX1_pay 5 = .ok (.ifCond .eq 22, 3) := dk_153 0 22 (dk_at dksX1_pay_0 5 rfl rfl)
theorem dX1_pay_8 : decode cX1_pay 8 = .ok (.aload_n 0, 1) := dk_42 (dk_at dksX1_pay_0 8 rfl rfl)
theorem dX1_pay_9 : decode cX1_pay 9 = .ok (.iload_n 2, 1) := dk_28 (dk_at dksX1_pay_0 9 rfl rfl)
theorem dX1_pay_10 : decode cX1_pay 10 = .ok (.invokevirtual 153, 3) := dk_182 0 153 (dk_at dksX1_pay_0 10 rfl rfl)
theorem dX1_pay_13 : decode cX1_pay 13 = .ok (.ifCond .eq 14, 3) := dk_153 0 14 (dk_at dksX1_pay_0 13 rfl rfl)
theorem dX1_pay_16 : decode cX1_pay 16 = .ok (.iload_n 3, 1) := dk_29 (dk_at dksX1_pay_0 16 rfl rfl)
theorem dX1_pay_17 : decode cX1_pay 17 = .ok (.iconst 1, 1) := dk_4 (dk_at dksX1_pay_0 17 rfl rfl)
theorem dX1_pay_18 : decode cX1_pay 18 = .ok (.ldc_w 295, 3) := dk_19 1 39 (dk_at dksX1_pay_0 18 rfl rfl)
theorem dX1_pay_21 : decode cX1_pay 21 = .ok (.invokestatic 131, 3) := dk_184 0 131 (dk_at dksX1_pay_0 21 rfl rfl)
theorem dX1_pay_24 : decode cX1_pay 24 = .ok (.ifCond .ne 5, 3) := dk_154 0 5 (dk_at dksX1_pay_1 0 rfl rfl)
theorem dX1_pay_27 : decode cX1_pay 27 = .ok (.iconst (-1), 1) := dk_2 (dk_at dksX1_pay_1 3 rfl rfl)
theorem dX1_pay_28 : decode cX1_pay 28 = .ok (.ireturn, 1) := dk_172 (dk_at dksX1_pay_1 4 rfl rfl)
theorem dX1_pay_29 : decode cX1_pay 29 = .ok (.aload_n 0, 1) := dk_42 (dk_at dksX1_pay_1 5 rfl rfl)
theorem dX1_pay_30 : decode cX1_pay 30 = .ok (.getfield 115, 3) := dk_180 0 115 (dk_at dksX1_pay_1 6 rfl rfl)
theorem dX1_pay_33 : decode cX1_pay 33 = .ok (.iload_n 1, 1) := dk_27 (dk_at dksX1_pay_1 9 rfl rfl)
theorem dX1_pay_34 : decode cX1_pay 34 = .ok (.iaload, 1) := dk_46 (dk_at dksX1_pay_1 10 rfl rfl)
theorem dX1_pay_35 : decode cX1_pay 35 = .ok (.aload_n 0, 1) := dk_42 (dk_at dksX1_pay_1 11 rfl rfl)
theorem dX1_pay_36 : decode cX1_pay 36 = .ok (.iload_n 1, 1) := dk_27 (dk_at dksX1_pay_1 12 rfl rfl)
theorem dX1_pay_37 : decode cX1_pay 37 = .ok (.invokevirtual 296, 3) := dk_182 1 40 (dk_at dksX1_pay_1 13 rfl rfl)
theorem dX1_pay_40 : decode cX1_pay 40 = .ok (.isub, 1) := dk_100 (dk_at dksX1_pay_1 16 rfl rfl)
theorem dX1_pay_41 : decode cX1_pay 41 = .ok (.iload_n 3, 1) := dk_29 (dk_at dksX1_pay_1 17 rfl rfl)
theorem dX1_pay_42 : decode cX1_pay 42 = .ok (.if_icmp .ge 6, 3) := dk_162 0 6 (dk_at dksX1_pay_1 18 rfl rfl)
theorem dX1_pay_45 : decode cX1_pay 45 = .ok (.bipush (-4), 2) := dk_16 252 (dk_at dksX1_pay_1 21 rfl rfl)
theorem dX1_pay_47 : decode cX1_pay 47 = .ok (.ireturn, 1) := dk_172 (dk_at dksX1_pay_1 23 rfl rfl)
theorem dX1_pay_48 : decode cX1_pay 48 = .ok (.aload_n 0, 1) := dk_42 (dk_at dksX1_pay_2 0 rfl rfl)
theorem dX1_pay_49 : decode cX1_pay 49 = .ok (.getfield 118, 3) := dk_180 0 118 (dk_at dksX1_pay_2 1 rfl rfl)
theorem dX1_pay_52 : decode cX1_pay 52 = .ok (.bipush 24, 2) := dk_16 24 (dk_at dksX1_pay_2 4 rfl rfl)
theorem dX1_pay_54 : decode cX1_pay 54 = .ok (.iload_n 1, 1) := dk_27 (dk_at dksX1_pay_2 6 rfl rfl)
theorem dX1_pay_55 : decode cX1_pay 55 = .ok (.imul, 1) := dk_104 (dk_at dksX1_pay_2 7 rfl rfl)
theorem dX1_pay_56 : decode cX1_pay 56 = .ok (.iload_n 2, 1) := dk_28 (dk_at dksX1_pay_2 8 rfl rfl)
theorem dX1_pay_57 : decode cX1_pay 57 = .ok (.iadd, 1) := dk_96 (dk_at dksX1_pay_2 9 rfl rfl)
theorem dX1_pay_58 : decode cX1_pay 58 = .ok (.dup2, 1) := dk_92 (dk_at dksX1_pay_2 10 rfl rfl)
theorem dX1_pay_59 : decode cX1_pay 59 = .ok (.iaload, 1) := dk_46 (dk_at dksX1_pay_2 11 rfl rfl)
theorem dX1_pay_60 : decode cX1_pay 60 = .ok (.iload_n 3, 1) := dk_29 (dk_at dksX1_pay_2 12 rfl rfl)
theorem dX1_pay_61 : decode cX1_pay 61 = .ok (.iadd, 1) := dk_96 (dk_at dksX1_pay_2 13 rfl rfl)
theorem dX1_pay_62 : decode cX1_pay 62 = .ok (.iastore, 1) := dk_79 (dk_at dksX1_pay_2 14 rfl rfl)
theorem dX1_pay_63 : decode cX1_pay 63 = .ok (.aload_n 0, 1) := dk_42 (dk_at dksX1_pay_2 15 rfl rfl)
theorem dX1_pay_64 : decode cX1_pay 64 = .ok (.getfield 115, 3) := dk_180 0 115 (dk_at dksX1_pay_2 16 rfl rfl)
theorem dX1_pay_67 : decode cX1_pay 67 = .ok (.iload_n 1, 1) := dk_27 (dk_at dksX1_pay_2 19 rfl rfl)
theorem dX1_pay_68 : decode cX1_pay 68 = .ok (.iaload, 1) := dk_46 (dk_at dksX1_pay_2 20 rfl rfl)
theorem dX1_pay_69 : decode cX1_pay 69 = .ok (.aload_n 0, 1) := dk_42 (dk_at dksX1_pay_2 21 rfl rfl)
theorem dX1_pay_70 : decode cX1_pay 70 = .ok (.iload_n 1, 1) := dk_27 (dk_at dksX1_pay_2 22 rfl rfl)
theorem dX1_pay_71 : decode cX1_pay 71 = .ok (.invokevirtual 296, 3) := dk_182 1 40 (dk_at dksX1_pay_3 0 rfl rfl)
theorem dX1_pay_74 : decode cX1_pay 74 = .ok (.isub, 1) := dk_100 (dk_at dksX1_pay_3 3 rfl rfl)
theorem dX1_pay_75 : decode cX1_pay 75 = .ok (.ireturn, 1) := dk_172 (dk_at dksX1_pay_3 4 rfl rfl)
abbrev cX1_allPaid : ByteArray := prog_8_method_55_code
def yX1_allPaid : MethodName := ⟨RX1, "allPaid", "(I)I"⟩
def dkwX1_allPaid_1 : List UInt8 := [132, 3, 1, 167, 255, 233, 28, 172]
abbrev dktX1_allPaid_1 : List UInt8 := dkwX1_allPaid_1 ++ []
def dkwX1_allPaid_0 : List UInt8 := [3, 61, 3, 62, 29, 16, 24, 162, 0, 23, 28, 42, 180, 0, 118, 16, 24, 27, 104, 29, 96, 46, 96, 61]
abbrev dktX1_allPaid_0 : List UInt8 := dkwX1_allPaid_0 ++ dktX1_allPaid_1
theorem dksX1_allPaid_0 : cX1_allPaid.data.toList.drop 0 = dktX1_allPaid_0 := by decide +kernel
theorem dksX1_allPaid_1 : cX1_allPaid.data.toList.drop 24 = dktX1_allPaid_1 := dk_seg dksX1_allPaid_0 24 rfl rfl
theorem dX1_allPaid_0 : decode cX1_allPaid 0 = .ok (.iconst 0, 1) := dk_3 (dk_at dksX1_allPaid_0 0 rfl rfl)
theorem dX1_allPaid_1 : decode cX1_allPaid 1 = .ok (.istore_n 2, 1) := dk_61 (dk_at dksX1_allPaid_0 1 rfl rfl)
theorem dX1_allPaid_2 : decode cX1_allPaid 2 = .ok (.iconst 0, 1) := dk_3 (dk_at dksX1_allPaid_0 2 rfl rfl)
theorem dX1_allPaid_3 : decode cX1_allPaid 3 = .ok (.istore_n 3, 1) := dk_62 (dk_at dksX1_allPaid_0 3 rfl rfl)
theorem dX1_allPaid_4 : decode cX1_allPaid 4 = .ok (.iload_n 3, 1) := dk_29 (dk_at dksX1_allPaid_0 4 rfl rfl)
theorem dX1_allPaid_5 : decode cX1_allPaid 5 = .ok (.bipush 24, 2) := dk_16 24 (dk_at dksX1_allPaid_0 5 rfl rfl)
theorem dX1_allPaid_7 : decode cX1_allPaid 7 = .ok (.if_icmp .ge 23, 3) := dk_162 0 23 (dk_at dksX1_allPaid_0 7 rfl rfl)
theorem dX1_allPaid_10 : decode cX1_allPaid 10 = .ok (.iload_n 2, 1) := dk_28 (dk_at dksX1_allPaid_0 10 rfl rfl)
theorem dX1_allPaid_11 : decode cX1_allPaid 11 = .ok (.aload_n 0, 1) := dk_42 (dk_at dksX1_allPaid_0 11 rfl rfl)
theorem dX1_allPaid_12 : decode cX1_allPaid 12 = .ok (.getfield 118, 3) := dk_180 0 118 (dk_at dksX1_allPaid_0 12 rfl rfl)
theorem dX1_allPaid_15 : decode cX1_allPaid 15 = .ok (.bipush 24, 2) := dk_16 24 (dk_at dksX1_allPaid_0 15 rfl rfl)
theorem dX1_allPaid_17 : decode cX1_allPaid 17 = .ok (.iload_n 1, 1) := dk_27 (dk_at dksX1_allPaid_0 17 rfl rfl)
theorem dX1_allPaid_18 : decode cX1_allPaid 18 = .ok (.imul, 1) := dk_104 (dk_at dksX1_allPaid_0 18 rfl rfl)
theorem dX1_allPaid_19 : decode cX1_allPaid 19 = .ok (.iload_n 3, 1) := dk_29 (dk_at dksX1_allPaid_0 19 rfl rfl)
theorem dX1_allPaid_20 : decode cX1_allPaid 20 = .ok (.iadd, 1) := dk_96 (dk_at dksX1_allPaid_0 20 rfl rfl)
theorem dX1_allPaid_21 : decode cX1_allPaid 21 = .ok (.iaload, 1) := dk_46 (dk_at dksX1_allPaid_0 21 rfl rfl)
theorem dX1_allPaid_22 : decode cX1_allPaid 22 = .ok (.iadd, 1) := dk_96 (dk_at dksX1_allPaid_0 22 rfl rfl)
theorem dX1_allPaid_23 : decode cX1_allPaid 23 = .ok (.istore_n 2, 1) := dk_61 (dk_at dksX1_allPaid_0 23 rfl rfl)
theorem dX1_allPaid_24 : decode cX1_allPaid 24 = .ok (.iinc 3 1, 3) := dk_132 3 1 (dk_at dksX1_allPaid_1 0 rfl rfl)
theorem dX1_allPaid_27 : decode cX1_allPaid 27 = .ok (.goto (-23), 3) := dk_167 255 233 (dk_at dksX1_allPaid_1 3 rfl rfl)
theorem dX1_allPaid_30 : decode cX1_allPaid 30 = .ok (.iload_n 2, 1) := dk_28 (dk_at dksX1_allPaid_1 6 rfl rfl)
theorem dX1_allPaid_31 : decode cX1_allPaid 31 = .ok (.ireturn, 1) := dk_172 (dk_at dksX1_allPaid_1 7 rfl rfl)
abbrev cX1_due : ByteArray := prog_8_method_59_code
def yX1_due : MethodName := ⟨RX1, "due", "(II)I"⟩
def dkwX1_due_1 : List UInt8 := [42, 27, 28, 182, 1, 43, 172]
abbrev dktX1_due_1 : List UInt8 := dkwX1_due_1 ++ []
def dkwX1_due_0 : List UInt8 := [42, 28, 182, 0, 153, 154, 0, 5, 2, 172, 42, 27, 182, 0, 196, 62, 29, 156, 0, 7, 29, 167, 0, 9]
abbrev dktX1_due_0 : List UInt8 := dkwX1_due_0 ++ dktX1_due_1
theorem dksX1_due_0 : cX1_due.data.toList.drop 0 = dktX1_due_0 := by decide +kernel
theorem dksX1_due_1 : cX1_due.data.toList.drop 24 = dktX1_due_1 := dk_seg dksX1_due_0 24 rfl rfl
theorem dX1_due_0 : decode cX1_due 0 = .ok (.aload_n 0, 1) := dk_42 (dk_at dksX1_due_0 0 rfl rfl)
theorem dX1_due_1 : decode cX1_due 1 = .ok (.iload_n 2, 1) := dk_28 (dk_at dksX1_due_0 1 rfl rfl)
theorem dX1_due_2 : decode cX1_due 2 = .ok (.invokevirtual 153, 3) := dk_182 0 153 (dk_at dksX1_due_0 2 rfl rfl)
theorem dX1_due_5 : decode cX1_due 5 = .ok (.ifCond .ne 5, 3) := dk_154 0 5 (dk_at dksX1_due_0 5 rfl rfl)
theorem dX1_due_8 : decode cX1_due 8 = .ok (.iconst (-1), 1) := dk_2 (dk_at dksX1_due_0 8 rfl rfl)
theorem dX1_due_9 : decode cX1_due 9 = .ok (.ireturn, 1) := dk_172 (dk_at dksX1_due_0 9 rfl rfl)
theorem dX1_due_10 : decode cX1_due 10 = .ok (.aload_n 0, 1) := dk_42 (dk_at dksX1_due_0 10 rfl rfl)
theorem dX1_due_11 : decode cX1_due 11 = .ok (.iload_n 1, 1) := dk_27 (dk_at dksX1_due_0 11 rfl rfl)
theorem dX1_due_12 : decode cX1_due 12 = .ok (.invokevirtual 196, 3) := dk_182 0 196 (dk_at dksX1_due_0 12 rfl rfl)
theorem dX1_due_15 : decode cX1_due 15 = .ok (.istore_n 3, 1) := dk_62 (dk_at dksX1_due_0 15 rfl rfl)
theorem dX1_due_16 : decode cX1_due 16 = .ok (.iload_n 3, 1) := dk_29 (dk_at dksX1_due_0 16 rfl rfl)
theorem dX1_due_17 : decode cX1_due 17 = .ok (.ifCond .ge 7, 3) := dk_156 0 7 (dk_at dksX1_due_0 17 rfl rfl)
theorem dX1_due_20 : decode cX1_due 20 = .ok (.iload_n 3, 1) := dk_29 (dk_at dksX1_due_0 20 rfl rfl)
theorem dX1_due_21 : decode cX1_due 21 = .ok (.goto 9, 3) := dk_167 0 9 (dk_at dksX1_due_0 21 rfl rfl)
theorem dX1_due_24 : decode cX1_due 24 = .ok (.aload_n 0, 1) := dk_42 (dk_at dksX1_due_1 0 rfl rfl)
theorem dX1_due_25 : decode cX1_due 25 = .ok (.iload_n 1, 1) := dk_27 (dk_at dksX1_due_1 1 rfl rfl)
theorem dX1_due_26 : decode cX1_due 26 = .ok (.iload_n 2, 1) := dk_28 (dk_at dksX1_due_1 2 rfl rfl)
theorem dX1_due_27 : decode cX1_due 27 = .ok (.invokevirtual 299, 3) := dk_182 1 43 (dk_at dksX1_due_1 3 rfl rfl)
theorem dX1_due_30 : decode cX1_due 30 = .ok (.ireturn, 1) := dk_172 (dk_at dksX1_due_1 6 rfl rfl)
abbrev cX1_dueOf : ByteArray := prog_8_method_58_code
def yX1_dueOf : MethodName := ⟨RX1, "dueOf", "(II)I"⟩
def dkwX1_dueOf_1 : List UInt8 := [105, 42, 180, 0, 78, 28, 47, 109, 136, 172]
abbrev dktX1_dueOf_1 : List UInt8 := dkwX1_dueOf_1 ++ []
def dkwX1_dueOf_0 : List UInt8 := [42, 182, 1, 2, 42, 27, 3, 3, 182, 1, 5, 42, 180, 0, 115, 27, 46, 133, 42, 180, 0, 74, 28, 47]
abbrev dktX1_dueOf_0 : List UInt8 := dkwX1_dueOf_0 ++ dktX1_dueOf_1
theorem dksX1_dueOf_0 : cX1_dueOf.data.toList.drop 0 = dktX1_dueOf_0 := by decide +kernel
theorem dksX1_dueOf_1 : cX1_dueOf.data.toList.drop 24 = dktX1_dueOf_1 := dk_seg dksX1_dueOf_0 24 rfl rfl
theorem dX1_dueOf_0 : decode cX1_dueOf 0 = .ok (.aload_n 0, 1) := dk_42 (dk_at dksX1_dueOf_0 0 rfl rfl)
theorem dX1_dueOf_1 : decode cX1_dueOf 1 = .ok (.invokevirtual 258, 3) := dk_182 1 2 (dk_at dksX1_dueOf_0 1 rfl rfl)
theorem dX1_dueOf_4 : decode cX1_dueOf 4 = .ok (.aload_n 0, 1) := dk_42 (dk_at dksX1_dueOf_0 4 rfl rfl)
theorem dX1_dueOf_5 : decode cX1_dueOf 5 = .ok (.iload_n 1, 1) := dk_27 (dk_at dksX1_dueOf_0 5 rfl rfl)
theorem dX1_dueOf_6 : decode cX1_dueOf 6 = .ok (.iconst 0, 1) := dk_3 (dk_at dksX1_dueOf_0 6 rfl rfl)
theorem dX1_dueOf_7 : decode cX1_dueOf 7 = .ok (.iconst 0, 1) := dk_3 (dk_at dksX1_dueOf_0 7 rfl rfl)
theorem dX1_dueOf_8 : decode cX1_dueOf 8 = .ok (.invokevirtual 261, 3) := dk_182 1 5 (dk_at dksX1_dueOf_0 8 rfl rfl)
theorem dX1_dueOf_11 : decode cX1_dueOf 11 = .ok (.aload_n 0, 1) := dk_42 (dk_at dksX1_dueOf_0 11 rfl rfl)
theorem dX1_dueOf_12 : decode cX1_dueOf 12 = .ok (.getfield 115, 3) := dk_180 0 115 (dk_at dksX1_dueOf_0 12 rfl rfl)
theorem dX1_dueOf_15 : decode cX1_dueOf 15 = .ok (.iload_n 1, 1) := dk_27 (dk_at dksX1_dueOf_0 15 rfl rfl)
theorem dX1_dueOf_16 : decode cX1_dueOf 16 = .ok (.iaload, 1) := dk_46 (dk_at dksX1_dueOf_0 16 rfl rfl)
theorem dX1_dueOf_17 : decode cX1_dueOf 17 = .ok (.i2l, 1) := dk_133 (dk_at dksX1_dueOf_0 17 rfl rfl)
theorem dX1_dueOf_18 : decode cX1_dueOf 18 = .ok (.aload_n 0, 1) := dk_42 (dk_at dksX1_dueOf_0 18 rfl rfl)
theorem dX1_dueOf_19 : decode cX1_dueOf 19 = .ok (.getfield 74, 3) := dk_180 0 74 (dk_at dksX1_dueOf_0 19 rfl rfl)
theorem dX1_dueOf_22 : decode cX1_dueOf 22 = .ok (.iload_n 2, 1) := dk_28 (dk_at dksX1_dueOf_0 22 rfl rfl)
theorem dX1_dueOf_23 : decode cX1_dueOf 23 = .ok (.laload, 1) := dk_47 (dk_at dksX1_dueOf_0 23 rfl rfl)
theorem dX1_dueOf_24 : decode cX1_dueOf 24 = .ok (.lmul, 1) := dk_105 (dk_at dksX1_dueOf_1 0 rfl rfl)
theorem dX1_dueOf_25 : decode cX1_dueOf 25 = .ok (.aload_n 0, 1) := dk_42 (dk_at dksX1_dueOf_1 1 rfl rfl)
theorem dX1_dueOf_26 : decode cX1_dueOf 26 = .ok (.getfield 78, 3) := dk_180 0 78 (dk_at dksX1_dueOf_1 2 rfl rfl)
theorem dX1_dueOf_29 : decode cX1_dueOf 29 = .ok (.iload_n 2, 1) := dk_28 (dk_at dksX1_dueOf_1 5 rfl rfl)
theorem dX1_dueOf_30 : decode cX1_dueOf 30 = .ok (.laload, 1) := dk_47 (dk_at dksX1_dueOf_1 6 rfl rfl)
theorem dX1_dueOf_31 : decode cX1_dueOf 31 = .ok (.ldiv, 1) := dk_109 (dk_at dksX1_dueOf_1 7 rfl rfl)
theorem dX1_dueOf_32 : decode cX1_dueOf 32 = .ok (.l2i, 1) := dk_136 (dk_at dksX1_dueOf_1 8 rfl rfl)
theorem dX1_dueOf_33 : decode cX1_dueOf 33 = .ok (.ireturn, 1) := dk_172 (dk_at dksX1_dueOf_1 9 rfl rfl)
abbrev cX1_paid : ByteArray := prog_8_method_60_code
def yX1_paid : MethodName := ⟨RX1, "paid", "(II)I"⟩
def dkwX1_paid_1 : List UInt8 := [28, 96, 46, 167, 0, 4, 2, 172]
abbrev dktX1_paid_1 : List UInt8 := dkwX1_paid_1 ++ []
def dkwX1_paid_0 : List UInt8 := [42, 27, 182, 0, 190, 153, 0, 25, 42, 28, 182, 0, 153, 153, 0, 17, 42, 180, 0, 118, 16, 24, 27, 104]
abbrev dktX1_paid_0 : List UInt8 := dkwX1_paid_0 ++ dktX1_paid_1
theorem dksX1_paid_0 : cX1_paid.data.toList.drop 0 = dktX1_paid_0 := by decide +kernel
theorem dksX1_paid_1 : cX1_paid.data.toList.drop 24 = dktX1_paid_1 := dk_seg dksX1_paid_0 24 rfl rfl
theorem dX1_paid_0 : decode cX1_paid 0 = .ok (.aload_n 0, 1) := dk_42 (dk_at dksX1_paid_0 0 rfl rfl)
theorem dX1_paid_1 : decode cX1_paid 1 = .ok (.iload_n 1, 1) := dk_27 (dk_at dksX1_paid_0 1 rfl rfl)
theorem dX1_paid_2 : decode cX1_paid 2 = .ok (.invokevirtual 190, 3) := dk_182 0 190 (dk_at dksX1_paid_0 2 rfl rfl)
theorem dX1_paid_5 : decode cX1_paid 5 = .ok (.ifCond .eq 25, 3) := dk_153 0 25 (dk_at dksX1_paid_0 5 rfl rfl)
theorem dX1_paid_8 : decode cX1_paid 8 = .ok (.aload_n 0, 1) := dk_42 (dk_at dksX1_paid_0 8 rfl rfl)
theorem dX1_paid_9 : decode cX1_paid 9 = .ok (.iload_n 2, 1) := dk_28 (dk_at dksX1_paid_0 9 rfl rfl)
theorem dX1_paid_10 : decode cX1_paid 10 = .ok (.invokevirtual 153, 3) := dk_182 0 153 (dk_at dksX1_paid_0 10 rfl rfl)
theorem dX1_paid_13 : decode cX1_paid 13 = .ok (.ifCond .eq 17, 3) := dk_153 0 17 (dk_at dksX1_paid_0 13 rfl rfl)
theorem dX1_paid_16 : decode cX1_paid 16 = .ok (.aload_n 0, 1) := dk_42 (dk_at dksX1_paid_0 16 rfl rfl)
theorem dX1_paid_17 : decode cX1_paid 17 = .ok (.getfield 118, 3) := dk_180 0 118 (dk_at dksX1_paid_0 17 rfl rfl)
theorem dX1_paid_20 : decode cX1_paid 20 = .ok (.bipush 24, 2) := dk_16 24 (dk_at dksX1_paid_0 20 rfl rfl)
theorem dX1_paid_22 : decode cX1_paid 22 = .ok (.iload_n 1, 1) := dk_27 (dk_at dksX1_paid_0 22 rfl rfl)
theorem dX1_paid_23 : decode cX1_paid 23 = .ok (.imul, 1) := dk_104 (dk_at dksX1_paid_0 23 rfl rfl)
theorem dX1_paid_24 : decode cX1_paid 24 = .ok (.iload_n 2, 1) := dk_28 (dk_at dksX1_paid_1 0 rfl rfl)
theorem dX1_paid_25 : decode cX1_paid 25 = .ok (.iadd, 1) := dk_96 (dk_at dksX1_paid_1 1 rfl rfl)
theorem dX1_paid_26 : decode cX1_paid 26 = .ok (.iaload, 1) := dk_46 (dk_at dksX1_paid_1 2 rfl rfl)
theorem dX1_paid_27 : decode cX1_paid 27 = .ok (.goto 4, 3) := dk_167 0 4 (dk_at dksX1_paid_1 3 rfl rfl)
theorem dX1_paid_30 : decode cX1_paid 30 = .ok (.iconst (-1), 1) := dk_2 (dk_at dksX1_paid_1 6 rfl rfl)
theorem dX1_paid_31 : decode cX1_paid 31 = .ok (.ireturn, 1) := dk_172 (dk_at dksX1_paid_1 7 rfl rfl)
abbrev cX1_owes : ByteArray := prog_8_method_61_code
def yX1_owes : MethodName := ⟨RX1, "owes", "(II)I"⟩
def dkwX1_owes_2 : List UInt8 := [180, 0, 118, 16, 24, 27, 104, 28, 96, 46, 21, 4, 100, 167, 0, 4, 3, 172]
abbrev dktX1_owes_2 : List UInt8 := dkwX1_owes_2 ++ []
def dkwX1_owes_1 : List UInt8 := [28, 182, 1, 43, 54, 4, 42, 180, 0, 118, 16, 24, 27, 104, 28, 96, 46, 21, 4, 164, 0, 20, 42]
abbrev dktX1_owes_1 : List UInt8 := dkwX1_owes_1 ++ dktX1_owes_2
def dkwX1_owes_0 : List UInt8 := [42, 28, 182, 0, 153, 154, 0, 5, 2, 172, 42, 27, 182, 0, 196, 62, 29, 156, 0, 5, 29, 172, 42, 27]
abbrev dktX1_owes_0 : List UInt8 := dkwX1_owes_0 ++ dktX1_owes_1
theorem dksX1_owes_0 : cX1_owes.data.toList.drop 0 = dktX1_owes_0 := by decide +kernel
theorem dksX1_owes_1 : cX1_owes.data.toList.drop 24 = dktX1_owes_1 := dk_seg dksX1_owes_0 24 rfl rfl
theorem dksX1_owes_2 : cX1_owes.data.toList.drop 47 = dktX1_owes_2 := dk_seg dksX1_owes_1 23 rfl rfl
theorem dX1_owes_0 : decode cX1_owes 0 = .ok (.aload_n 0, 1) := dk_42 (dk_at dksX1_owes_0 0 rfl rfl)
theorem dX1_owes_1 : decode cX1_owes 1 = .ok (.iload_n 2, 1) := dk_28 (dk_at dksX1_owes_0 1 rfl rfl)
theorem dX1_owes_2 : decode cX1_owes 2 = .ok (.invokevirtual 153, 3) := dk_182 0 153 (dk_at dksX1_owes_0 2 rfl rfl)
theorem dX1_owes_5 : decode cX1_owes 5 = .ok (.ifCond .ne 5, 3) := dk_154 0 5 (dk_at dksX1_owes_0 5 rfl rfl)
theorem dX1_owes_8 : decode cX1_owes 8 = .ok (.iconst (-1), 1) := dk_2 (dk_at dksX1_owes_0 8 rfl rfl)
theorem dX1_owes_9 : decode cX1_owes 9 = .ok (.ireturn, 1) := dk_172 (dk_at dksX1_owes_0 9 rfl rfl)
theorem dX1_owes_10 : decode cX1_owes 10 = .ok (.aload_n 0, 1) := dk_42 (dk_at dksX1_owes_0 10 rfl rfl)
theorem dX1_owes_11 : decode cX1_owes 11 = .ok (.iload_n 1, 1) := dk_27 (dk_at dksX1_owes_0 11 rfl rfl)
theorem dX1_owes_12 : decode cX1_owes 12 = .ok (.invokevirtual 196, 3) := dk_182 0 196 (dk_at dksX1_owes_0 12 rfl rfl)
theorem dX1_owes_15 : decode cX1_owes 15 = .ok (.istore_n 3, 1) := dk_62 (dk_at dksX1_owes_0 15 rfl rfl)
theorem dX1_owes_16 : decode cX1_owes 16 = .ok (.iload_n 3, 1) := dk_29 (dk_at dksX1_owes_0 16 rfl rfl)
theorem dX1_owes_17 : decode cX1_owes 17 = .ok (.ifCond .ge 5, 3) := dk_156 0 5 (dk_at dksX1_owes_0 17 rfl rfl)
theorem dX1_owes_20 : decode cX1_owes 20 = .ok (.iload_n 3, 1) := dk_29 (dk_at dksX1_owes_0 20 rfl rfl)
theorem dX1_owes_21 : decode cX1_owes 21 = .ok (.ireturn, 1) := dk_172 (dk_at dksX1_owes_0 21 rfl rfl)
theorem dX1_owes_22 : decode cX1_owes 22 = .ok (.aload_n 0, 1) := dk_42 (dk_at dksX1_owes_0 22 rfl rfl)
theorem dX1_owes_23 : decode cX1_owes 23 = .ok (.iload_n 1, 1) := dk_27 (dk_at dksX1_owes_0 23 rfl rfl)
theorem dX1_owes_24 : decode cX1_owes 24 = .ok (.iload_n 2, 1) := dk_28 (dk_at dksX1_owes_1 0 rfl rfl)
theorem dX1_owes_25 : decode cX1_owes 25 = .ok (.invokevirtual 299, 3) := dk_182 1 43 (dk_at dksX1_owes_1 1 rfl rfl)
theorem dX1_owes_28 : decode cX1_owes 28 = .ok (.istore 4, 2) := dk_54 4 (dk_at dksX1_owes_1 4 rfl rfl)
theorem dX1_owes_30 : decode cX1_owes 30 = .ok (.aload_n 0, 1) := dk_42 (dk_at dksX1_owes_1 6 rfl rfl)
theorem dX1_owes_31 : decode cX1_owes 31 = .ok (.getfield 118, 3) := dk_180 0 118 (dk_at dksX1_owes_1 7 rfl rfl)
theorem dX1_owes_34 : decode cX1_owes 34 = .ok (.bipush 24, 2) := dk_16 24 (dk_at dksX1_owes_1 10 rfl rfl)
theorem dX1_owes_36 : decode cX1_owes 36 = .ok (.iload_n 1, 1) := dk_27 (dk_at dksX1_owes_1 12 rfl rfl)
theorem dX1_owes_37 : decode cX1_owes 37 = .ok (.imul, 1) := dk_104 (dk_at dksX1_owes_1 13 rfl rfl)
theorem dX1_owes_38 : decode cX1_owes 38 = .ok (.iload_n 2, 1) := dk_28 (dk_at dksX1_owes_1 14 rfl rfl)
theorem dX1_owes_39 : decode cX1_owes 39 = .ok (.iadd, 1) := dk_96 (dk_at dksX1_owes_1 15 rfl rfl)
theorem dX1_owes_40 : decode cX1_owes 40 = .ok (.iaload, 1) := dk_46 (dk_at dksX1_owes_1 16 rfl rfl)
theorem dX1_owes_41 : decode cX1_owes 41 = .ok (.iload 4, 2) := dk_21 4 (dk_at dksX1_owes_1 17 rfl rfl)
theorem dX1_owes_43 : decode cX1_owes 43 = .ok (.if_icmp .le 20, 3) := dk_164 0 20 (dk_at dksX1_owes_1 19 rfl rfl)
theorem dX1_owes_46 : decode cX1_owes 46 = .ok (.aload_n 0, 1) := dk_42 (dk_at dksX1_owes_1 22 rfl rfl)
theorem dX1_owes_47 : decode cX1_owes 47 = .ok (.getfield 118, 3) := dk_180 0 118 (dk_at dksX1_owes_2 0 rfl rfl)
theorem dX1_owes_50 : decode cX1_owes 50 = .ok (.bipush 24, 2) := dk_16 24 (dk_at dksX1_owes_2 3 rfl rfl)
theorem dX1_owes_52 : decode cX1_owes 52 = .ok (.iload_n 1, 1) := dk_27 (dk_at dksX1_owes_2 5 rfl rfl)
theorem dX1_owes_53 : decode cX1_owes 53 = .ok (.imul, 1) := dk_104 (dk_at dksX1_owes_2 6 rfl rfl)
theorem dX1_owes_54 : decode cX1_owes 54 = .ok (.iload_n 2, 1) := dk_28 (dk_at dksX1_owes_2 7 rfl rfl)
theorem dX1_owes_55 : decode cX1_owes 55 = .ok (.iadd, 1) := dk_96 (dk_at dksX1_owes_2 8 rfl rfl)
theorem dX1_owes_56 : decode cX1_owes 56 = .ok (.iaload, 1) := dk_46 (dk_at dksX1_owes_2 9 rfl rfl)
theorem dX1_owes_57 : decode cX1_owes 57 = .ok (.iload 4, 2) := dk_21 4 (dk_at dksX1_owes_2 10 rfl rfl)
theorem dX1_owes_59 : decode cX1_owes 59 = .ok (.isub, 1) := dk_100 (dk_at dksX1_owes_2 12 rfl rfl)
theorem dX1_owes_60 : decode cX1_owes 60 = .ok (.goto 4, 3) := dk_167 0 4 (dk_at dksX1_owes_2 13 rfl rfl)
theorem dX1_owes_63 : decode cX1_owes 63 = .ok (.iconst 0, 1) := dk_3 (dk_at dksX1_owes_2 16 rfl rfl)
theorem dX1_owes_64 : decode cX1_owes 64 = .ok (.ireturn, 1) := dk_172 (dk_at dksX1_owes_2 17 rfl rfl)
abbrev cX1_mean : ByteArray := prog_8_method_62_code
def yX1_mean : MethodName := ⟨RX1, "mean", "(I)I"⟩
def dkwX1_mean_2 : List UInt8 := [167, 255, 225, 28, 154, 0, 11, 42, 7, 182, 0, 166, 167, 0, 10, 42, 27, 182, 1, 40, 28, 108, 172]
abbrev dktX1_mean_2 : List UInt8 := dkwX1_mean_2 ++ []
def dkwX1_mean_1 : List UInt8 := [180, 0, 118, 16, 24, 27, 104, 29, 96, 46, 158, 0, 7, 4, 167, 0, 4, 3, 96, 61, 132, 3, 1]
abbrev dktX1_mean_1 : List UInt8 := dkwX1_mean_1 ++ dktX1_mean_2
def dkwX1_mean_0 : List UInt8 := [42, 27, 182, 0, 190, 154, 0, 5, 2, 172, 3, 61, 3, 62, 29, 16, 24, 162, 0, 31, 28, 42]
abbrev dktX1_mean_0 : List UInt8 := dkwX1_mean_0 ++ dktX1_mean_1
theorem dksX1_mean_0 : cX1_mean.data.toList.drop 0 = dktX1_mean_0 := by decide +kernel
theorem dksX1_mean_1 : cX1_mean.data.toList.drop 22 = dktX1_mean_1 := dk_seg dksX1_mean_0 22 rfl rfl
theorem dksX1_mean_2 : cX1_mean.data.toList.drop 45 = dktX1_mean_2 := dk_seg dksX1_mean_1 23 rfl rfl
theorem dX1_mean_0 : decode cX1_mean 0 = .ok (.aload_n 0, 1) := dk_42 (dk_at dksX1_mean_0 0 rfl rfl)
theorem dX1_mean_1 : decode cX1_mean 1 = .ok (.iload_n 1, 1) := dk_27 (dk_at dksX1_mean_0 1 rfl rfl)
theorem dX1_mean_2 : decode cX1_mean 2 = .ok (.invokevirtual 190, 3) := dk_182 0 190 (dk_at dksX1_mean_0 2 rfl rfl)
theorem dX1_mean_5 : decode cX1_mean 5 = .ok (.ifCond .ne 5, 3) := dk_154 0 5 (dk_at dksX1_mean_0 5 rfl rfl)
theorem dX1_mean_8 : decode cX1_mean 8 = .ok (.iconst (-1), 1) := dk_2 (dk_at dksX1_mean_0 8 rfl rfl)
theorem dX1_mean_9 : decode cX1_mean 9 = .ok (.ireturn, 1) := dk_172 (dk_at dksX1_mean_0 9 rfl rfl)
theorem dX1_mean_10 : decode cX1_mean 10 = .ok (.iconst 0, 1) := dk_3 (dk_at dksX1_mean_0 10 rfl rfl)
theorem dX1_mean_11 : decode cX1_mean 11 = .ok (.istore_n 2, 1) := dk_61 (dk_at dksX1_mean_0 11 rfl rfl)
theorem dX1_mean_12 : decode cX1_mean 12 = .ok (.iconst 0, 1) := dk_3 (dk_at dksX1_mean_0 12 rfl rfl)
theorem dX1_mean_13 : decode cX1_mean 13 = .ok (.istore_n 3, 1) := dk_62 (dk_at dksX1_mean_0 13 rfl rfl)
theorem dX1_mean_14 : decode cX1_mean 14 = .ok (.iload_n 3, 1) := dk_29 (dk_at dksX1_mean_0 14 rfl rfl)
theorem dX1_mean_15 : decode cX1_mean 15 = .ok (.bipush 24, 2) := dk_16 24 (dk_at dksX1_mean_0 15 rfl rfl)
theorem dX1_mean_17 : decode cX1_mean 17 = .ok (.if_icmp .ge 31, 3) := dk_162 0 31 (dk_at dksX1_mean_0 17 rfl rfl)
theorem dX1_mean_20 : decode cX1_mean 20 = .ok (.iload_n 2, 1) := dk_28 (dk_at dksX1_mean_0 20 rfl rfl)
theorem dX1_mean_21 : decode cX1_mean 21 = .ok (.aload_n 0, 1) := dk_42 (dk_at dksX1_mean_0 21 rfl rfl)
theorem dX1_mean_22 : decode cX1_mean 22 = .ok (.getfield 118, 3) := dk_180 0 118 (dk_at dksX1_mean_1 0 rfl rfl)
theorem dX1_mean_25 : decode cX1_mean 25 = .ok (.bipush 24, 2) := dk_16 24 (dk_at dksX1_mean_1 3 rfl rfl)
theorem dX1_mean_27 : decode cX1_mean 27 = .ok (.iload_n 1, 1) := dk_27 (dk_at dksX1_mean_1 5 rfl rfl)
theorem dX1_mean_28 : decode cX1_mean 28 = .ok (.imul, 1) := dk_104 (dk_at dksX1_mean_1 6 rfl rfl)
theorem dX1_mean_29 : decode cX1_mean 29 = .ok (.iload_n 3, 1) := dk_29 (dk_at dksX1_mean_1 7 rfl rfl)
theorem dX1_mean_30 : decode cX1_mean 30 = .ok (.iadd, 1) := dk_96 (dk_at dksX1_mean_1 8 rfl rfl)
theorem dX1_mean_31 : decode cX1_mean 31 = .ok (.iaload, 1) := dk_46 (dk_at dksX1_mean_1 9 rfl rfl)
theorem dX1_mean_32 : decode cX1_mean 32 = .ok (.ifCond .le 7, 3) := dk_158 0 7 (dk_at dksX1_mean_1 10 rfl rfl)
theorem dX1_mean_35 : decode cX1_mean 35 = .ok (.iconst 1, 1) := dk_4 (dk_at dksX1_mean_1 13 rfl rfl)
theorem dX1_mean_36 : decode cX1_mean 36 = .ok (.goto 4, 3) := dk_167 0 4 (dk_at dksX1_mean_1 14 rfl rfl)
theorem dX1_mean_39 : decode cX1_mean 39 = .ok (.iconst 0, 1) := dk_3 (dk_at dksX1_mean_1 17 rfl rfl)
theorem dX1_mean_40 : decode cX1_mean 40 = .ok (.iadd, 1) := dk_96 (dk_at dksX1_mean_1 18 rfl rfl)
theorem dX1_mean_41 : decode cX1_mean 41 = .ok (.istore_n 2, 1) := dk_61 (dk_at dksX1_mean_1 19 rfl rfl)
theorem dX1_mean_42 : decode cX1_mean 42 = .ok (.iinc 3 1, 3) := dk_132 3 1 (dk_at dksX1_mean_1 20 rfl rfl)
theorem dX1_mean_45 : decode cX1_mean 45 = .ok (.goto (-31), 3) := dk_167 255 225 (dk_at dksX1_mean_2 0 rfl rfl)
theorem dX1_mean_48 : decode cX1_mean 48 = .ok (.iload_n 2, 1) := dk_28 (dk_at dksX1_mean_2 3 rfl rfl)
theorem dX1_mean_49 : decode cX1_mean 49 = .ok (.ifCond .ne 11, 3) := dk_154 0 11 (dk_at dksX1_mean_2 4 rfl rfl)
theorem dX1_mean_52 : decode cX1_mean 52 = .ok (.aload_n 0, 1) := dk_42 (dk_at dksX1_mean_2 7 rfl rfl)
theorem dX1_mean_53 : decode cX1_mean 53 = .ok (.iconst 4, 1) := dk_7 (dk_at dksX1_mean_2 8 rfl rfl)
theorem dX1_mean_54 : decode cX1_mean 54 = .ok (.invokevirtual 166, 3) := dk_182 0 166 (dk_at dksX1_mean_2 9 rfl rfl)
theorem dX1_mean_57 : decode cX1_mean 57 = .ok (.goto 10, 3) := dk_167 0 10 (dk_at dksX1_mean_2 12 rfl rfl)
theorem dX1_mean_60 : decode cX1_mean 60 = .ok (.aload_n 0, 1) := dk_42 (dk_at dksX1_mean_2 15 rfl rfl)
theorem dX1_mean_61 : decode cX1_mean 61 = .ok (.iload_n 1, 1) := dk_27 (dk_at dksX1_mean_2 16 rfl rfl)
theorem dX1_mean_62 : decode cX1_mean 62 = .ok (.invokevirtual 296, 3) := dk_182 1 40 (dk_at dksX1_mean_2 17 rfl rfl)
theorem dX1_mean_65 : decode cX1_mean 65 = .ok (.iload_n 2, 1) := dk_28 (dk_at dksX1_mean_2 20 rfl rfl)
theorem dX1_mean_66 : decode cX1_mean 66 = .ok (.idiv, 1) := dk_108 (dk_at dksX1_mean_2 21 rfl rfl)
theorem dX1_mean_67 : decode cX1_mean 67 = .ok (.ireturn, 1) := dk_172 (dk_at dksX1_mean_2 22 rfl rfl)
abbrev cX1_sheet : ByteArray := prog_8_method_64_code
def yX1_sheet : MethodName := ⟨RX1, "sheet", "(II)I"⟩
def dkwX1_sheet_2 : List UInt8 := [29, 96, 3, 79, 132, 3, 1, 167, 255, 235, 28, 172]
abbrev dktX1_sheet_2 : List UInt8 := dkwX1_sheet_2 ++ []
def dkwX1_sheet_1 : List UInt8 := [172, 42, 180, 0, 121, 27, 28, 79, 3, 62, 29, 16, 24, 162, 0, 21, 42, 180, 0, 124, 16, 24, 27, 104]
abbrev dktX1_sheet_1 : List UInt8 := dkwX1_sheet_1 ++ dktX1_sheet_2
def dkwX1_sheet_0 : List UInt8 := [27, 184, 1, 46, 153, 0, 9, 28, 16, 24, 164, 0, 5, 2, 172, 28, 156, 0, 9, 42, 8, 182, 0, 166]
abbrev dktX1_sheet_0 : List UInt8 := dkwX1_sheet_0 ++ dktX1_sheet_1
theorem dksX1_sheet_0 : cX1_sheet.data.toList.drop 0 = dktX1_sheet_0 := by decide +kernel
theorem dksX1_sheet_1 : cX1_sheet.data.toList.drop 24 = dktX1_sheet_1 := dk_seg dksX1_sheet_0 24 rfl rfl
theorem dksX1_sheet_2 : cX1_sheet.data.toList.drop 48 = dktX1_sheet_2 := dk_seg dksX1_sheet_1 24 rfl rfl
theorem dX1_sheet_0 : decode cX1_sheet 0 = .ok (.iload_n 1, 1) := dk_27 (dk_at dksX1_sheet_0 0 rfl rfl)
theorem dX1_sheet_1 : decode cX1_sheet 1 = .ok (.invokestatic 302, 3) := dk_184 1 46 (dk_at dksX1_sheet_0 1 rfl rfl)
theorem dX1_sheet_4 : decode cX1_sheet 4 = .ok (.ifCond .eq 9, 3) := dk_153 0 9 (dk_at dksX1_sheet_0 4 rfl rfl)
theorem dX1_sheet_7 : decode cX1_sheet 7 = .ok (.iload_n 2, 1) := dk_28 (dk_at dksX1_sheet_0 7 rfl rfl)
theorem dX1_sheet_8 : decode cX1_sheet 8 = .ok (.bipush 24, 2) := dk_16 24 (dk_at dksX1_sheet_0 8 rfl rfl)
theorem dX1_sheet_10 : decode cX1_sheet 10 = .ok (.if_icmp .le 5, 3) := dk_164 0 5 (dk_at dksX1_sheet_0 10 rfl rfl)
theorem dX1_sheet_13 : decode cX1_sheet 13 = .ok (.iconst (-1), 1) := dk_2 (dk_at dksX1_sheet_0 13 rfl rfl)
theorem dX1_sheet_14 : decode cX1_sheet 14 = .ok (.ireturn, 1) := dk_172 (dk_at dksX1_sheet_0 14 rfl rfl)
theorem dX1_sheet_15 : decode cX1_sheet 15 = .ok (.iload_n 2, 1) := dk_28 (dk_at dksX1_sheet_0 15 rfl rfl)
theorem dX1_sheet_16 : decode cX1_sheet 16 = .ok (.ifCond .ge 9, 3) := dk_156 0 9 (dk_at dksX1_sheet_0 16 rfl rfl)
theorem dX1_sheet_19 : decode cX1_sheet 19 = .ok (.aload_n 0, 1) := dk_42 (dk_at dksX1_sheet_0 19 rfl rfl)
theorem dX1_sheet_20 : decode cX1_sheet 20 = .ok (.iconst 5, 1) := dk_8 (dk_at dksX1_sheet_0 20 rfl rfl)
theorem dX1_sheet_21 : decode cX1_sheet 21 = .ok (.invokevirtual 166, 3) := dk_182 0 166 (dk_at dksX1_sheet_0 21 rfl rfl)
theorem dX1_sheet_24 : decode cX1_sheet 24 = .ok (.ireturn, 1) := dk_172 (dk_at dksX1_sheet_1 0 rfl rfl)
theorem dX1_sheet_25 : decode cX1_sheet 25 = .ok (.aload_n 0, 1) := dk_42 (dk_at dksX1_sheet_1 1 rfl rfl)
theorem dX1_sheet_26 : decode cX1_sheet 26 = .ok (.getfield 121, 3) := dk_180 0 121 (dk_at dksX1_sheet_1 2 rfl rfl)
theorem dX1_sheet_29 : decode cX1_sheet 29 = .ok (.iload_n 1, 1) := dk_27 (dk_at dksX1_sheet_1 5 rfl rfl)
theorem dX1_sheet_30 : decode cX1_sheet 30 = .ok (.iload_n 2, 1) := dk_28 (dk_at dksX1_sheet_1 6 rfl rfl)
theorem dX1_sheet_31 : decode cX1_sheet 31 = .ok (.iastore, 1) := dk_79 (dk_at dksX1_sheet_1 7 rfl rfl)
theorem dX1_sheet_32 : decode cX1_sheet 32 = .ok (.iconst 0, 1) := dk_3 (dk_at dksX1_sheet_1 8 rfl rfl)
theorem dX1_sheet_33 : decode cX1_sheet 33 = .ok (.istore_n 3, 1) := dk_62 (dk_at dksX1_sheet_1 9 rfl rfl)
theorem dX1_sheet_34 : decode cX1_sheet 34 = .ok (.iload_n 3, 1) := dk_29 (dk_at dksX1_sheet_1 10 rfl rfl)
theorem dX1_sheet_35 : decode cX1_sheet 35 = .ok (.bipush 24, 2) := dk_16 24 (dk_at dksX1_sheet_1 11 rfl rfl)
theorem dX1_sheet_37 : decode cX1_sheet 37 = .ok (.if_icmp .ge 21, 3) := dk_162 0 21 (dk_at dksX1_sheet_1 13 rfl rfl)
theorem dX1_sheet_40 : decode cX1_sheet 40 = .ok (.aload_n 0, 1) := dk_42 (dk_at dksX1_sheet_1 16 rfl rfl)
theorem dX1_sheet_41 : decode cX1_sheet 41 = .ok (.getfield 124, 3) := dk_180 0 124 (dk_at dksX1_sheet_1 17 rfl rfl)
theorem dX1_sheet_44 : decode cX1_sheet 44 = .ok (.bipush 24, 2) := dk_16 24 (dk_at dksX1_sheet_1 20 rfl rfl)
theorem dX1_sheet_46 : decode cX1_sheet 46 = .ok (.iload_n 1, 1) := dk_27 (dk_at dksX1_sheet_1 22 rfl rfl)
theorem dX1_sheet_47 : decode cX1_sheet 47 = .ok (.imul, 1) := dk_104 (dk_at dksX1_sheet_1 23 rfl rfl)
theorem dX1_sheet_48 : decode cX1_sheet 48 = .ok (.iload_n 3, 1) := dk_29 (dk_at dksX1_sheet_2 0 rfl rfl)
theorem dX1_sheet_49 : decode cX1_sheet 49 = .ok (.iadd, 1) := dk_96 (dk_at dksX1_sheet_2 1 rfl rfl)
theorem dX1_sheet_50 : decode cX1_sheet 50 = .ok (.iconst 0, 1) := dk_3 (dk_at dksX1_sheet_2 2 rfl rfl)
theorem dX1_sheet_51 : decode cX1_sheet 51 = .ok (.iastore, 1) := dk_79 (dk_at dksX1_sheet_2 3 rfl rfl)
theorem dX1_sheet_52 : decode cX1_sheet 52 = .ok (.iinc 3 1, 3) := dk_132 3 1 (dk_at dksX1_sheet_2 4 rfl rfl)
theorem dX1_sheet_55 : decode cX1_sheet 55 = .ok (.goto (-21), 3) := dk_167 255 235 (dk_at dksX1_sheet_2 7 rfl rfl)
theorem dX1_sheet_58 : decode cX1_sheet 58 = .ok (.iload_n 2, 1) := dk_28 (dk_at dksX1_sheet_2 10 rfl rfl)
theorem dX1_sheet_59 : decode cX1_sheet 59 = .ok (.ireturn, 1) := dk_172 (dk_at dksX1_sheet_2 11 rfl rfl)
abbrev cX1_isSheet : ByteArray := prog_8_method_63_code
def yX1_isSheet : MethodName := ⟨RX1, "isSheet", "(I)Z"⟩
def dkwX1_isSheet_0 : List UInt8 := [26, 3, 6, 184, 0, 131, 172]
abbrev dktX1_isSheet_0 : List UInt8 := dkwX1_isSheet_0 ++ []
theorem dksX1_isSheet_0 : cX1_isSheet.data.toList.drop 0 = dktX1_isSheet_0 := by decide +kernel
theorem dX1_isSheet_0 : decode cX1_isSheet 0 = .ok (.iload_n 0, 1) := dk_26 (dk_at dksX1_isSheet_0 0 rfl rfl)
theorem dX1_isSheet_1 : decode cX1_isSheet 1 = .ok (.iconst 0, 1) := dk_3 (dk_at dksX1_isSheet_0 1 rfl rfl)
theorem dX1_isSheet_2 : decode cX1_isSheet 2 = .ok (.iconst 3, 1) := dk_6 (dk_at dksX1_isSheet_0 2 rfl rfl)
theorem dX1_isSheet_3 : decode cX1_isSheet 3 = .ok (.invokestatic 131, 3) := dk_184 0 131 (dk_at dksX1_isSheet_0 3 rfl rfl)
theorem dX1_isSheet_6 : decode cX1_isSheet 6 = .ok (.ireturn, 1) := dk_172 (dk_at dksX1_isSheet_0 6 rfl rfl)
abbrev cX1_note : ByteArray := prog_8_method_65_code
def yX1_note : MethodName := ⟨RX1, "note", "(II)I"⟩
def dkwX1_note_4 : List UInt8 := [132, 4, 1, 167, 255, 223, 29, 172]
abbrev dktX1_note_4 : List UInt8 := dkwX1_note_4 ++ []
def dkwX1_note_3 : List UInt8 := [180, 0, 124, 16, 24, 27, 104, 21, 4, 96, 42, 180, 0, 118, 16, 24, 28, 104, 21, 4, 96, 46, 79]
abbrev dktX1_note_3 : List UInt8 := dkwX1_note_3 ++ dktX1_note_4
def dkwX1_note_2 : List UInt8 := [180, 0, 139, 167, 0, 9, 42, 180, 0, 121, 27, 46, 62, 3, 54, 4, 21, 4, 29, 162, 0, 33, 42]
abbrev dktX1_note_2 : List UInt8 := dkwX1_note_2 ++ dktX1_note_3
def dkwX1_note_1 : List UInt8 := [156, 0, 9, 42, 4, 182, 0, 166, 172, 42, 180, 0, 139, 42, 180, 0, 121, 27, 46, 162, 0, 10, 42]
abbrev dktX1_note_1 : List UInt8 := dkwX1_note_1 ++ dktX1_note_2
def dkwX1_note_0 : List UInt8 := [27, 184, 1, 46, 153, 0, 11, 42, 28, 182, 0, 190, 154, 0, 5, 2, 172, 42, 180, 0, 121, 27, 46]
abbrev dktX1_note_0 : List UInt8 := dkwX1_note_0 ++ dktX1_note_1
theorem dksX1_note_0 : cX1_note.data.toList.drop 0 = dktX1_note_0 := by decide +kernel
theorem dksX1_note_1 : cX1_note.data.toList.drop 23 = dktX1_note_1 := dk_seg dksX1_note_0 23 rfl rfl
theorem dksX1_note_2 : cX1_note.data.toList.drop 46 = dktX1_note_2 := dk_seg dksX1_note_1 23 rfl rfl
theorem dksX1_note_3 : cX1_note.data.toList.drop 69 = dktX1_note_3 := dk_seg dksX1_note_2 23 rfl rfl
theorem dksX1_note_4 : cX1_note.data.toList.drop 92 = dktX1_note_4 := dk_seg dksX1_note_3 23 rfl rfl
theorem dX1_note_0 : decode cX1_note 0 = .ok (.iload_n 1, 1) := dk_27 (dk_at dksX1_note_0 0 rfl rfl)
theorem dX1_note_1 : decode cX1_note 1 = .ok (.invokestatic 302, 3) := dk_184 1 46 (dk_at dksX1_note_0 1 rfl rfl)
theorem dX1_note_4 : decode cX1_note 4 = .ok (.ifCond .eq 11, 3) := dk_153 0 11 (dk_at dksX1_note_0 4 rfl rfl)
theorem dX1_note_7 : decode cX1_note 7 = .ok (.aload_n 0, 1) := dk_42 (dk_at dksX1_note_0 7 rfl rfl)
theorem dX1_note_8 : decode cX1_note 8 = .ok (.iload_n 2, 1) := dk_28 (dk_at dksX1_note_0 8 rfl rfl)
theorem dX1_note_9 : decode cX1_note 9 = .ok (.invokevirtual 190, 3) := dk_182 0 190 (dk_at dksX1_note_0 9 rfl rfl)
theorem dX1_note_12 : decode cX1_note 12 = .ok (.ifCond .ne 5, 3) := dk_154 0 5 (dk_at dksX1_note_0 12 rfl rfl)
theorem dX1_note_15 : decode cX1_note 15 = .ok (.iconst (-1), 1) := dk_2 (dk_at dksX1_note_0 15 rfl rfl)
theorem dX1_note_16 : decode cX1_note 16 = .ok (.ireturn, 1) := dk_172 (dk_at dksX1_note_0 16 rfl rfl)
theorem dX1_note_17 : decode cX1_note 17 = .ok (.aload_n 0, 1) := dk_42 (dk_at dksX1_note_0 17 rfl rfl)
theorem dX1_note_18 : decode cX1_note 18 = .ok (.getfield 121, 3) := dk_180 0 121 (dk_at dksX1_note_0 18 rfl rfl)
theorem dX1_note_21 : decode cX1_note 21 = .ok (.iload_n 1, 1) := dk_27 (dk_at dksX1_note_0 21 rfl rfl)
theorem dX1_note_22 : decode cX1_note 22 = .ok (.iaload, 1) := dk_46 (dk_at dksX1_note_0 22 rfl rfl)
theorem dX1_note_23 : decode cX1_note 23 = .ok (.ifCond .ge 9, 3) := dk_156 0 9 (dk_at dksX1_note_1 0 rfl rfl)
theorem dX1_note_26 : decode cX1_note 26 = .ok (.aload_n 0, 1) := dk_42 (dk_at dksX1_note_1 3 rfl rfl)
theorem dX1_note_27 : decode cX1_note 27 = .ok (.iconst 1, 1) := dk_4 (dk_at dksX1_note_1 4 rfl rfl)
theorem dX1_note_28 : decode cX1_note 28 = .ok (.invokevirtual 166, 3) := dk_182 0 166 (dk_at dksX1_note_1 5 rfl rfl)
theorem dX1_note_31 : decode cX1_note 31 = .ok (.ireturn, 1) := dk_172 (dk_at dksX1_note_1 8 rfl rfl)
theorem dX1_note_32 : decode cX1_note 32 = .ok (.aload_n 0, 1) := dk_42 (dk_at dksX1_note_1 9 rfl rfl)
theorem dX1_note_33 : decode cX1_note 33 = .ok (.getfield 139, 3) := dk_180 0 139 (dk_at dksX1_note_1 10 rfl rfl)
theorem dX1_note_36 : decode cX1_note 36 = .ok (.aload_n 0, 1) := dk_42 (dk_at dksX1_note_1 13 rfl rfl)
theorem dX1_note_37 : decode cX1_note 37 = .ok (.getfield 121, 3) := dk_180 0 121 (dk_at dksX1_note_1 14 rfl rfl)
theorem dX1_note_40 : decode cX1_note 40 = .ok (.iload_n 1, 1) := dk_27 (dk_at dksX1_note_1 17 rfl rfl)
theorem dX1_note_41 : decode cX1_note 41 = .ok (.iaload, 1) := dk_46 (dk_at dksX1_note_1 18 rfl rfl)
theorem dX1_note_42 : decode cX1_note 42 = .ok (.if_icmp .ge 10, 3) := dk_162 0 10 (dk_at dksX1_note_1 19 rfl rfl)
theorem dX1_note_45 : decode cX1_note 45 = .ok (.aload_n 0, 1) := dk_42 (dk_at dksX1_note_1 22 rfl rfl)
theorem dX1_note_46 : decode cX1_note 46 = .ok (.getfield 139, 3) := dk_180 0 139 (dk_at dksX1_note_2 0 rfl rfl)
theorem dX1_note_49 : decode cX1_note 49 = .ok (.goto 9, 3) := dk_167 0 9 (dk_at dksX1_note_2 3 rfl rfl)
theorem dX1_note_52 : decode cX1_note 52 = .ok (.aload_n 0, 1) := dk_42 (dk_at dksX1_note_2 6 rfl rfl)
theorem dX1_note_53 : decode cX1_note 53 = .ok (.getfield 121, 3) := dk_180 0 121 (dk_at dksX1_note_2 7 rfl rfl)
theorem dX1_note_56 : decode cX1_note 56 = .ok (.iload_n 1, 1) := dk_27 (dk_at dksX1_note_2 10 rfl rfl)
theorem dX1_note_57 : decode cX1_note 57 = .ok (.iaload, 1) := dk_46 (dk_at dksX1_note_2 11 rfl rfl)
theorem dX1_note_58 : decode cX1_note 58 = .ok (.istore_n 3, 1) := dk_62 (dk_at dksX1_note_2 12 rfl rfl)
theorem dX1_note_59 : decode cX1_note 59 = .ok (.iconst 0, 1) := dk_3 (dk_at dksX1_note_2 13 rfl rfl)
theorem dX1_note_60 : decode cX1_note 60 = .ok (.istore 4, 2) := dk_54 4 (dk_at dksX1_note_2 14 rfl rfl)
theorem dX1_note_62 : decode cX1_note 62 = .ok (.iload 4, 2) := dk_21 4 (dk_at dksX1_note_2 16 rfl rfl)
theorem dX1_note_64 : decode cX1_note 64 = .ok (.iload_n 3, 1) := dk_29 (dk_at dksX1_note_2 18 rfl rfl)
theorem dX1_note_65 : decode cX1_note 65 = .ok (.if_icmp .ge 33, 3) := dk_162 0 33 (dk_at dksX1_note_2 19 rfl rfl)
theorem dX1_note_68 : decode cX1_note 68 = .ok (.aload_n 0, 1) := dk_42 (dk_at dksX1_note_2 22 rfl rfl)
theorem dX1_note_69 : decode cX1_note 69 = .ok (.getfield 124, 3) := dk_180 0 124 (dk_at dksX1_note_3 0 rfl rfl)
theorem dX1_note_72 : decode cX1_note 72 = .ok (.bipush 24, 2) := dk_16 24 (dk_at dksX1_note_3 3 rfl rfl)
theorem dX1_note_74 : decode cX1_note 74 = .ok (.iload_n 1, 1) := dk_27 (dk_at dksX1_note_3 5 rfl rfl)
theorem dX1_note_75 : decode cX1_note 75 = .ok (.imul, 1) := dk_104 (dk_at dksX1_note_3 6 rfl rfl)
theorem dX1_note_76 : decode cX1_note 76 = .ok (.iload 4, 2) := dk_21 4 (dk_at dksX1_note_3 7 rfl rfl)
theorem dX1_note_78 : decode cX1_note 78 = .ok (.iadd, 1) := dk_96 (dk_at dksX1_note_3 9 rfl rfl)
theorem dX1_note_79 : decode cX1_note 79 = .ok (.aload_n 0, 1) := dk_42 (dk_at dksX1_note_3 10 rfl rfl)
theorem dX1_note_80 : decode cX1_note 80 = .ok (.getfield 118, 3) := dk_180 0 118 (dk_at dksX1_note_3 11 rfl rfl)
theorem dX1_note_83 : decode cX1_note 83 = .ok (.bipush 24, 2) := dk_16 24 (dk_at dksX1_note_3 14 rfl rfl)
theorem dX1_note_85 : decode cX1_note 85 = .ok (.iload_n 2, 1) := dk_28 (dk_at dksX1_note_3 16 rfl rfl)
theorem dX1_note_86 : decode cX1_note 86 = .ok (.imul, 1) := dk_104 (dk_at dksX1_note_3 17 rfl rfl)
theorem dX1_note_87 : decode cX1_note 87 = .ok (.iload 4, 2) := dk_21 4 (dk_at dksX1_note_3 18 rfl rfl)
theorem dX1_note_89 : decode cX1_note 89 = .ok (.iadd, 1) := dk_96 (dk_at dksX1_note_3 20 rfl rfl)
theorem dX1_note_90 : decode cX1_note 90 = .ok (.iaload, 1) := dk_46 (dk_at dksX1_note_3 21 rfl rfl)
theorem dX1_note_91 : decode cX1_note 91 = .ok (.iastore, 1) := dk_79 (dk_at dksX1_note_3 22 rfl rfl)
theorem dX1_note_92 : decode cX1_note 92 = .ok (.iinc 4 1, 3) := dk_132 4 1 (dk_at dksX1_note_4 0 rfl rfl)
theorem dX1_note_95 : decode cX1_note 95 = .ok (.goto (-33), 3) := dk_167 255 223 (dk_at dksX1_note_4 3 rfl rfl)
theorem dX1_note_98 : decode cX1_note 98 = .ok (.iload_n 3, 1) := dk_29 (dk_at dksX1_note_4 6 rfl rfl)
theorem dX1_note_99 : decode cX1_note 99 = .ok (.ireturn, 1) := dk_172 (dk_at dksX1_note_4 7 rfl rfl)
abbrev cX1_at : ByteArray := prog_8_method_66_code
def yX1_at : MethodName := ⟨RX1, "at", "(II)I"⟩
def dkwX1_at_2 : List UInt8 := [28, 96, 46, 167, 0, 8, 42, 5, 182, 0, 166, 172]
abbrev dktX1_at_2 : List UInt8 := dkwX1_at_2 ++ []
def dkwX1_at_1 : List UInt8 := [28, 3, 42, 180, 0, 121, 27, 46, 4, 100, 184, 0, 131, 153, 0, 17, 42, 180, 0, 124, 16, 24, 27, 104]
abbrev dktX1_at_1 : List UInt8 := dkwX1_at_1 ++ dktX1_at_2
def dkwX1_at_0 : List UInt8 := [27, 184, 1, 46, 154, 0, 5, 2, 172, 42, 180, 0, 121, 27, 46, 156, 0, 9, 42, 4, 182, 0, 166, 172]
abbrev dktX1_at_0 : List UInt8 := dkwX1_at_0 ++ dktX1_at_1
theorem dksX1_at_0 : cX1_at.data.toList.drop 0 = dktX1_at_0 := by decide +kernel
theorem dksX1_at_1 : cX1_at.data.toList.drop 24 = dktX1_at_1 := dk_seg dksX1_at_0 24 rfl rfl
theorem dksX1_at_2 : cX1_at.data.toList.drop 48 = dktX1_at_2 := dk_seg dksX1_at_1 24 rfl rfl
theorem dX1_at_0 : decode cX1_at 0 = .ok (.iload_n 1, 1) := dk_27 (dk_at dksX1_at_0 0 rfl rfl)
theorem dX1_at_1 : decode cX1_at 1 = .ok (.invokestatic 302, 3) := dk_184 1 46 (dk_at dksX1_at_0 1 rfl rfl)
theorem dX1_at_4 : decode cX1_at 4 = .ok (.ifCond .ne 5, 3) := dk_154 0 5 (dk_at dksX1_at_0 4 rfl rfl)
theorem dX1_at_7 : decode cX1_at 7 = .ok (.iconst (-1), 1) := dk_2 (dk_at dksX1_at_0 7 rfl rfl)
theorem dX1_at_8 : decode cX1_at 8 = .ok (.ireturn, 1) := dk_172 (dk_at dksX1_at_0 8 rfl rfl)
theorem dX1_at_9 : decode cX1_at 9 = .ok (.aload_n 0, 1) := dk_42 (dk_at dksX1_at_0 9 rfl rfl)
theorem dX1_at_10 : decode cX1_at 10 = .ok (.getfield 121, 3) := dk_180 0 121 (dk_at dksX1_at_0 10 rfl rfl)
theorem dX1_at_13 : decode cX1_at 13 = .ok (.iload_n 1, 1) := dk_27 (dk_at dksX1_at_0 13 rfl rfl)
theorem dX1_at_14 : decode cX1_at 14 = .ok (.iaload, 1) := dk_46 (dk_at dksX1_at_0 14 rfl rfl)
theorem dX1_at_15 : decode cX1_at 15 = .ok (.ifCond .ge 9, 3) := dk_156 0 9 (dk_at dksX1_at_0 15 rfl rfl)
theorem dX1_at_18 : decode cX1_at 18 = .ok (.aload_n 0, 1) := dk_42 (dk_at dksX1_at_0 18 rfl rfl)
theorem dX1_at_19 : decode cX1_at 19 = .ok (.iconst 1, 1) := dk_4 (dk_at dksX1_at_0 19 rfl rfl)
theorem dX1_at_20 : decode cX1_at 20 = .ok (.invokevirtual 166, 3) := dk_182 0 166 (dk_at dksX1_at_0 20 rfl rfl)
theorem dX1_at_23 : decode cX1_at 23 = .ok (.ireturn, 1) := dk_172 (dk_at dksX1_at_0 23 rfl rfl)
theorem dX1_at_24 : decode cX1_at 24 = .ok (.iload_n 2, 1) := dk_28 (dk_at dksX1_at_1 0 rfl rfl)
theorem dX1_at_25 : decode cX1_at 25 = .ok (.iconst 0, 1) := dk_3 (dk_at dksX1_at_1 1 rfl rfl)
theorem dX1_at_26 : decode cX1_at 26 = .ok (.aload_n 0, 1) := dk_42 (dk_at dksX1_at_1 2 rfl rfl)
theorem dX1_at_27 : decode cX1_at 27 = .ok (.getfield 121, 3) := dk_180 0 121 (dk_at dksX1_at_1 3 rfl rfl)
theorem dX1_at_30 : decode cX1_at 30 = .ok (.iload_n 1, 1) := dk_27 (dk_at dksX1_at_1 6 rfl rfl)
theorem dX1_at_31 : decode cX1_at 31 = .ok (.iaload, 1) := dk_46 (dk_at dksX1_at_1 7 rfl rfl)
theorem dX1_at_32 : decode cX1_at 32 = .ok (.iconst 1, 1) := dk_4 (dk_at dksX1_at_1 8 rfl rfl)
theorem dX1_at_33 : decode cX1_at 33 = .ok (.isub, 1) := dk_100 (dk_at dksX1_at_1 9 rfl rfl)
theorem dX1_at_34 : decode cX1_at 34 = .ok (.invokestatic 131, 3) := dk_184 0 131 (dk_at dksX1_at_1 10 rfl rfl)
theorem dX1_at_37 : decode cX1_at 37 = .ok (.ifCond .eq 17, 3) := dk_153 0 17 (dk_at dksX1_at_1 13 rfl rfl)
theorem dX1_at_40 : decode cX1_at 40 = .ok (.aload_n 0, 1) := dk_42 (dk_at dksX1_at_1 16 rfl rfl)
theorem dX1_at_41 : decode cX1_at 41 = .ok (.getfield 124, 3) := dk_180 0 124 (dk_at dksX1_at_1 17 rfl rfl)
theorem dX1_at_44 : decode cX1_at 44 = .ok (.bipush 24, 2) := dk_16 24 (dk_at dksX1_at_1 20 rfl rfl)
theorem dX1_at_46 : decode cX1_at 46 = .ok (.iload_n 1, 1) := dk_27 (dk_at dksX1_at_1 22 rfl rfl)
theorem dX1_at_47 : decode cX1_at 47 = .ok (.imul, 1) := dk_104 (dk_at dksX1_at_1 23 rfl rfl)
theorem dX1_at_48 : decode cX1_at 48 = .ok (.iload_n 2, 1) := dk_28 (dk_at dksX1_at_2 0 rfl rfl)
theorem dX1_at_49 : decode cX1_at 49 = .ok (.iadd, 1) := dk_96 (dk_at dksX1_at_2 1 rfl rfl)
theorem dX1_at_50 : decode cX1_at 50 = .ok (.iaload, 1) := dk_46 (dk_at dksX1_at_2 2 rfl rfl)
theorem dX1_at_51 : decode cX1_at 51 = .ok (.goto 8, 3) := dk_167 0 8 (dk_at dksX1_at_2 3 rfl rfl)
theorem dX1_at_54 : decode cX1_at 54 = .ok (.aload_n 0, 1) := dk_42 (dk_at dksX1_at_2 6 rfl rfl)
theorem dX1_at_55 : decode cX1_at 55 = .ok (.iconst 2, 1) := dk_5 (dk_at dksX1_at_2 7 rfl rfl)
theorem dX1_at_56 : decode cX1_at 56 = .ok (.invokevirtual 166, 3) := dk_182 0 166 (dk_at dksX1_at_2 8 rfl rfl)
theorem dX1_at_59 : decode cX1_at 59 = .ok (.ireturn, 1) := dk_172 (dk_at dksX1_at_2 11 rfl rfl)
abbrev cX1_tear : ByteArray := prog_8_method_67_code
def yX1_tear : MethodName := ⟨RX1, "tear", "(I)I"⟩
def dkwX1_tear_1 : List UInt8 := [42, 180, 0, 121, 27, 16, 247, 79, 4, 172]
abbrev dktX1_tear_1 : List UInt8 := dkwX1_tear_1 ++ []
def dkwX1_tear_0 : List UInt8 := [27, 184, 1, 46, 154, 0, 5, 2, 172, 42, 180, 0, 121, 27, 46, 156, 0, 9, 42, 4, 182, 0, 166, 172]
abbrev dktX1_tear_0 : List UInt8 := dkwX1_tear_0 ++ dktX1_tear_1
theorem dksX1_tear_0 : cX1_tear.data.toList.drop 0 = dktX1_tear_0 := by decide +kernel
theorem dksX1_tear_1 : cX1_tear.data.toList.drop 24 = dktX1_tear_1 := dk_seg dksX1_tear_0 24 rfl rfl
theorem dX1_tear_0 : decode cX1_tear 0 = .ok (.iload_n 1, 1) := dk_27 (dk_at dksX1_tear_0 0 rfl rfl)
theorem dX1_tear_1 : decode cX1_tear 1 = .ok (.invokestatic 302, 3) := dk_184 1 46 (dk_at dksX1_tear_0 1 rfl rfl)
theorem dX1_tear_4 : decode cX1_tear 4 = .ok (.ifCond .ne 5, 3) := dk_154 0 5 (dk_at dksX1_tear_0 4 rfl rfl)
theorem dX1_tear_7 : decode cX1_tear 7 = .ok (.iconst (-1), 1) := dk_2 (dk_at dksX1_tear_0 7 rfl rfl)
theorem dX1_tear_8 : decode cX1_tear 8 = .ok (.ireturn, 1) := dk_172 (dk_at dksX1_tear_0 8 rfl rfl)
theorem dX1_tear_9 : decode cX1_tear 9 = .ok (.aload_n 0, 1) := dk_42 (dk_at dksX1_tear_0 9 rfl rfl)
theorem dX1_tear_10 : decode cX1_tear 10 = .ok (.getfield 121, 3) := dk_180 0 121 (dk_at dksX1_tear_0 10 rfl rfl)
theorem dX1_tear_13 : decode cX1_tear 13 = .ok (.iload_n 1, 1) := dk_27 (dk_at dksX1_tear_0 13 rfl rfl)
theorem dX1_tear_14 : decode cX1_tear 14 = .ok (.iaload, 1) := dk_46 (dk_at dksX1_tear_0 14 rfl rfl)
theorem dX1_tear_15 : decode cX1_tear 15 = .ok (.ifCond .ge 9, 3) := dk_156 0 9 (dk_at dksX1_tear_0 15 rfl rfl)
theorem dX1_tear_18 : decode cX1_tear 18 = .ok (.aload_n 0, 1) := dk_42 (dk_at dksX1_tear_0 18 rfl rfl)
theorem dX1_tear_19 : decode cX1_tear 19 = .ok (.iconst 1, 1) := dk_4 (dk_at dksX1_tear_0 19 rfl rfl)
theorem dX1_tear_20 : decode cX1_tear 20 = .ok (.invokevirtual 166, 3) := dk_182 0 166 (dk_at dksX1_tear_0 20 rfl rfl)
theorem dX1_tear_23 : decode cX1_tear 23 = .ok (.ireturn, 1) := dk_172 (dk_at dksX1_tear_0 23 rfl rfl)
theorem dX1_tear_24 : decode cX1_tear 24 = .ok (.aload_n 0, 1) := dk_42 (dk_at dksX1_tear_1 0 rfl rfl)
theorem dX1_tear_25 : decode cX1_tear 25 = .ok (.getfield 121, 3) := dk_180 0 121 (dk_at dksX1_tear_1 1 rfl rfl)
theorem dX1_tear_28 : decode cX1_tear 28 = .ok (.iload_n 1, 1) := dk_27 (dk_at dksX1_tear_1 4 rfl rfl)
theorem dX1_tear_29 : decode cX1_tear 29 = .ok (.bipush (-9), 2) := dk_16 247 (dk_at dksX1_tear_1 5 rfl rfl)
theorem dX1_tear_31 : decode cX1_tear 31 = .ok (.iastore, 1) := dk_79 (dk_at dksX1_tear_1 7 rfl rfl)
theorem dX1_tear_32 : decode cX1_tear 32 = .ok (.iconst 1, 1) := dk_4 (dk_at dksX1_tear_1 8 rfl rfl)
theorem dX1_tear_33 : decode cX1_tear 33 = .ok (.ireturn, 1) := dk_172 (dk_at dksX1_tear_1 9 rfl rfl)
abbrev cX1_copy : ByteArray := prog_8_method_68_code
def yX1_copy : MethodName := ⟨RX1, "copy", "(IIIII)I"⟩
def dkwX1_copy_7 : List UInt8 := [180, 0, 127, 21, 6, 46, 79, 132, 6, 1, 167, 255, 224, 4, 172]
abbrev dktX1_copy_7 : List UInt8 := dkwX1_copy_7 ++ []
def dkwX1_copy_6 : List UInt8 := [21, 6, 21, 5, 162, 0, 31, 42, 180, 0, 124, 16, 24, 29, 104, 21, 4, 96, 21, 6, 96, 42]
abbrev dktX1_copy_6 : List UInt8 := dkwX1_copy_6 ++ dktX1_copy_7
def dkwX1_copy_5 : List UInt8 := [180, 0, 124, 16, 24, 27, 104, 28, 96, 21, 6, 96, 46, 79, 132, 6, 1, 167, 255, 225, 3, 54, 6]
abbrev dktX1_copy_5 : List UInt8 := dkwX1_copy_5 ++ dktX1_copy_6
def dkwX1_copy_4 : List UInt8 := [42, 5, 182, 0, 166, 172, 3, 54, 6, 21, 6, 21, 5, 162, 0, 30, 42, 180, 0, 127, 21, 6, 42]
abbrev dktX1_copy_4 : List UInt8 := dkwX1_copy_4 ++ dktX1_copy_5
def dkwX1_copy_3 : List UInt8 := [46, 133, 148, 157, 0, 21, 21, 4, 133, 21, 5, 133, 97, 42, 180, 0, 121, 29, 46, 133, 148, 158, 0, 9]
abbrev dktX1_copy_3 : List UInt8 := dkwX1_copy_3 ++ dktX1_copy_4
def dkwX1_copy_2 : List UInt8 := [182, 0, 166, 172, 28, 155, 0, 43, 21, 4, 155, 0, 38, 28, 133, 21, 5, 133, 97, 42, 180, 0, 121, 27]
abbrev dktX1_copy_2 : List UInt8 := dkwX1_copy_2 ++ dktX1_copy_3
def dkwX1_copy_1 : List UInt8 := [182, 0, 166, 172, 42, 180, 0, 121, 27, 46, 155, 0, 12, 42, 180, 0, 121, 29, 46, 156, 0, 9, 42, 4]
abbrev dktX1_copy_1 : List UInt8 := dkwX1_copy_1 ++ dktX1_copy_2
def dkwX1_copy_0 : List UInt8 := [27, 184, 1, 46, 153, 0, 10, 29, 184, 1, 46, 154, 0, 5, 2, 172, 21, 5, 156, 0, 9, 42, 8]
abbrev dktX1_copy_0 : List UInt8 := dkwX1_copy_0 ++ dktX1_copy_1
theorem dksX1_copy_0 : cX1_copy.data.toList.drop 0 = dktX1_copy_0 := by decide +kernel
theorem dksX1_copy_1 : cX1_copy.data.toList.drop 23 = dktX1_copy_1 := dk_seg dksX1_copy_0 23 rfl rfl
theorem dksX1_copy_2 : cX1_copy.data.toList.drop 47 = dktX1_copy_2 := dk_seg dksX1_copy_1 24 rfl rfl
theorem dksX1_copy_3 : cX1_copy.data.toList.drop 71 = dktX1_copy_3 := dk_seg dksX1_copy_2 24 rfl rfl
theorem dksX1_copy_4 : cX1_copy.data.toList.drop 95 = dktX1_copy_4 := dk_seg dksX1_copy_3 24 rfl rfl
theorem dksX1_copy_5 : cX1_copy.data.toList.drop 118 = dktX1_copy_5 := dk_seg dksX1_copy_4 23 rfl rfl
theorem dksX1_copy_6 : cX1_copy.data.toList.drop 141 = dktX1_copy_6 := dk_seg dksX1_copy_5 23 rfl rfl
theorem dksX1_copy_7 : cX1_copy.data.toList.drop 163 = dktX1_copy_7 := dk_seg dksX1_copy_6 22 rfl rfl
theorem dX1_copy_0 : decode cX1_copy 0 = .ok (.iload_n 1, 1) := dk_27 (dk_at dksX1_copy_0 0 rfl rfl)
theorem dX1_copy_1 : decode cX1_copy 1 = .ok (.invokestatic 302, 3) := dk_184 1 46 (dk_at dksX1_copy_0 1 rfl rfl)
theorem dX1_copy_4 : decode cX1_copy 4 = .ok (.ifCond .eq 10, 3) := dk_153 0 10 (dk_at dksX1_copy_0 4 rfl rfl)
theorem dX1_copy_7 : decode cX1_copy 7 = .ok (.iload_n 3, 1) := dk_29 (dk_at dksX1_copy_0 7 rfl rfl)
theorem dX1_copy_8 : decode cX1_copy 8 = .ok (.invokestatic 302, 3) := dk_184 1 46 (dk_at dksX1_copy_0 8 rfl rfl)
theorem dX1_copy_11 : decode cX1_copy 11 = .ok (.ifCond .ne 5, 3) := dk_154 0 5 (dk_at dksX1_copy_0 11 rfl rfl)
theorem dX1_copy_14 : decode cX1_copy 14 = .ok (.iconst (-1), 1) := dk_2 (dk_at dksX1_copy_0 14 rfl rfl)
theorem dX1_copy_15 : decode cX1_copy 15 = .ok (.ireturn, 1) := dk_172 (dk_at dksX1_copy_0 15 rfl rfl)
theorem dX1_copy_16 : decode cX1_copy 16 = .ok (.iload 5, 2) := dk_21 5 (dk_at dksX1_copy_0 16 rfl rfl)
theorem dX1_copy_18 : decode cX1_copy 18 = .ok (.ifCond .ge 9, 3) := dk_156 0 9 (dk_at dksX1_copy_0 18 rfl rfl)
theorem dX1_copy_21 : decode cX1_copy 21 = .ok (.aload_n 0, 1) := dk_42 (dk_at dksX1_copy_0 21 rfl rfl)
theorem dX1_copy_22 : decode cX1_copy 22 = .ok (.iconst 5, 1) := dk_8 (dk_at dksX1_copy_0 22 rfl rfl)
theorem dX1_copy_23 : decode cX1_copy 23 = .ok (.invokevirtual 166, 3) := dk_182 0 166 (dk_at dksX1_copy_1 0 rfl rfl)
theorem dX1_copy_26 : decode cX1_copy 26 = .ok (.ireturn, 1) := dk_172 (dk_at dksX1_copy_1 3 rfl rfl)
theorem dX1_copy_27 : decode cX1_copy 27 = .ok (.aload_n 0, 1) := dk_42 (dk_at dksX1_copy_1 4 rfl rfl)
theorem dX1_copy_28 : decode cX1_copy 28 = .ok (.getfield 121, 3) := dk_180 0 121 (dk_at dksX1_copy_1 5 rfl rfl)
theorem dX1_copy_31 : decode cX1_copy 31 = .ok (.iload_n 1, 1) := dk_27 (dk_at dksX1_copy_1 8 rfl rfl)
theorem dX1_copy_32 : decode cX1_copy 32 = .ok (.iaload, 1) := dk_46 (dk_at dksX1_copy_1 9 rfl rfl)
theorem dX1_copy_33 : decode cX1_copy 33 = .ok (.ifCond .lt 12, 3) := dk_155 0 12 (dk_at dksX1_copy_1 10 rfl rfl)
theorem dX1_copy_36 : decode cX1_copy 36 = .ok (.aload_n 0, 1) := dk_42 (dk_at dksX1_copy_1 13 rfl rfl)
theorem dX1_copy_37 : decode cX1_copy 37 = .ok (.getfield 121, 3) := dk_180 0 121 (dk_at dksX1_copy_1 14 rfl rfl)
theorem dX1_copy_40 : decode cX1_copy 40 = .ok (.iload_n 3, 1) := dk_29 (dk_at dksX1_copy_1 17 rfl rfl)
theorem dX1_copy_41 : decode cX1_copy 41 = .ok (.iaload, 1) := dk_46 (dk_at dksX1_copy_1 18 rfl rfl)
theorem dX1_copy_42 : decode cX1_copy 42 = .ok (.ifCond .ge 9, 3) := dk_156 0 9 (dk_at dksX1_copy_1 19 rfl rfl)
theorem dX1_copy_45 : decode cX1_copy 45 = .ok (.aload_n 0, 1) := dk_42 (dk_at dksX1_copy_1 22 rfl rfl)
theorem dX1_copy_46 : decode cX1_copy 46 = .ok (.iconst 1, 1) := dk_4 (dk_at dksX1_copy_1 23 rfl rfl)
theorem dX1_copy_47 : decode cX1_copy 47 = .ok (.invokevirtual 166, 3) := dk_182 0 166 (dk_at dksX1_copy_2 0 rfl rfl)
theorem dX1_copy_50 : decode cX1_copy 50 = .ok (.ireturn, 1) := dk_172 (dk_at dksX1_copy_2 3 rfl rfl)
theorem dX1_copy_51 : decode cX1_copy 51 = .ok (.iload_n 2, 1) := dk_28 (dk_at dksX1_copy_2 4 rfl rfl)
theorem dX1_copy_52 : decode cX1_copy 52 = .ok (.ifCond .lt 43, 3) := dk_155 0 43 (dk_at dksX1_copy_2 5 rfl rfl)
theorem dX1_copy_55 : decode cX1_copy 55 = .ok (.iload 4, 2) := dk_21 4 (dk_at dksX1_copy_2 8 rfl rfl)
theorem dX1_copy_57 : decode cX1_copy 57 = .ok (.ifCond .lt 38, 3) := dk_155 0 38 (dk_at dksX1_copy_2 10 rfl rfl)
theorem dX1_copy_60 : decode cX1_copy 60 = .ok (.iload_n 2, 1) := dk_28 (dk_at dksX1_copy_2 13 rfl rfl)
theorem dX1_copy_61 : decode cX1_copy 61 = .ok (.i2l, 1) := dk_133 (dk_at dksX1_copy_2 14 rfl rfl)
theorem dX1_copy_62 : decode cX1_copy 62 = .ok (.iload 5, 2) := dk_21 5 (dk_at dksX1_copy_2 15 rfl rfl)
theorem dX1_copy_64 : decode cX1_copy 64 = .ok (.i2l, 1) := dk_133 (dk_at dksX1_copy_2 17 rfl rfl)
theorem dX1_copy_65 : decode cX1_copy 65 = .ok (.ladd, 1) := dk_97 (dk_at dksX1_copy_2 18 rfl rfl)
theorem dX1_copy_66 : decode cX1_copy 66 = .ok (.aload_n 0, 1) := dk_42 (dk_at dksX1_copy_2 19 rfl rfl)
theorem dX1_copy_67 : decode cX1_copy 67 = .ok (.getfield 121, 3) := dk_180 0 121 (dk_at dksX1_copy_2 20 rfl rfl)
theorem dX1_copy_70 : decode cX1_copy 70 = .ok (.iload_n 1, 1) := dk_27 (dk_at dksX1_copy_2 23 rfl rfl)
theorem dX1_copy_71 : decode cX1_copy 71 = .ok (.iaload, 1) := dk_46 (dk_at dksX1_copy_3 0 rfl rfl)
theorem dX1_copy_72 : decode cX1_copy 72 = .ok (.i2l, 1) := dk_133 (dk_at dksX1_copy_3 1 rfl rfl)
theorem dX1_copy_73 : decode cX1_copy 73 = .ok (.lcmp, 1) := dk_148 (dk_at dksX1_copy_3 2 rfl rfl)
theorem dX1_copy_74 : decode cX1_copy 74 = .ok (.ifCond .gt 21, 3) := dk_157 0 21 (dk_at dksX1_copy_3 3 rfl rfl)
theorem dX1_copy_77 : decode cX1_copy 77 = .ok (.iload 4, 2) := dk_21 4 (dk_at dksX1_copy_3 6 rfl rfl)
theorem dX1_copy_79 : decode cX1_copy 79 = .ok (.i2l, 1) := dk_133 (dk_at dksX1_copy_3 8 rfl rfl)
theorem dX1_copy_80 : decode cX1_copy 80 = .ok (.iload 5, 2) := dk_21 5 (dk_at dksX1_copy_3 9 rfl rfl)
theorem dX1_copy_82 : decode cX1_copy 82 = .ok (.i2l, 1) := dk_133 (dk_at dksX1_copy_3 11 rfl rfl)
theorem dX1_copy_83 : decode cX1_copy 83 = .ok (.ladd, 1) := dk_97 (dk_at dksX1_copy_3 12 rfl rfl)
theorem dX1_copy_84 : decode cX1_copy 84 = .ok (.aload_n 0, 1) := dk_42 (dk_at dksX1_copy_3 13 rfl rfl)
theorem dX1_copy_85 : decode cX1_copy 85 = .ok (.getfield 121, 3) := dk_180 0 121 (dk_at dksX1_copy_3 14 rfl rfl)
theorem dX1_copy_88 : decode cX1_copy 88 = .ok (.iload_n 3, 1) := dk_29 (dk_at dksX1_copy_3 17 rfl rfl)
theorem dX1_copy_89 : decode cX1_copy 89 = .ok (.iaload, 1) := dk_46 (dk_at dksX1_copy_3 18 rfl rfl)
theorem dX1_copy_90 : decode cX1_copy 90 = .ok (.i2l, 1) := dk_133 (dk_at dksX1_copy_3 19 rfl rfl)
theorem dX1_copy_91 : decode cX1_copy 91 = .ok (.lcmp, 1) := dk_148 (dk_at dksX1_copy_3 20 rfl rfl)
theorem dX1_copy_92 : decode cX1_copy 92 = .ok (.ifCond .le 9, 3) := dk_158 0 9 (dk_at dksX1_copy_3 21 rfl rfl)
theorem dX1_copy_95 : decode cX1_copy 95 = .ok (.aload_n 0, 1) := dk_42 (dk_at dksX1_copy_4 0 rfl rfl)
theorem dX1_copy_96 : decode cX1_copy 96 = .ok (.iconst 2, 1) := dk_5 (dk_at dksX1_copy_4 1 rfl rfl)
theorem dX1_copy_97 : decode cX1_copy 97 = .ok (.invokevirtual 166, 3) := dk_182 0 166 (dk_at dksX1_copy_4 2 rfl rfl)
theorem dX1_copy_100 : decode cX1_copy 100 = .ok (.ireturn, 1) := dk_172 (dk_at dksX1_copy_4 5 rfl rfl)
theorem dX1_copy_101 : decode cX1_copy 101 = .ok (.iconst 0, 1) := dk_3 (dk_at dksX1_copy_4 6 rfl rfl)
theorem dX1_copy_102 : decode cX1_copy 102 = .ok (.istore 6, 2) := dk_54 6 (dk_at dksX1_copy_4 7 rfl rfl)
theorem dX1_copy_104 : decode cX1_copy 104 = .ok (.iload 6, 2) := dk_21 6 (dk_at dksX1_copy_4 9 rfl rfl)
theorem dX1_copy_106 : decode cX1_copy 106 = .ok (.iload 5, 2) := dk_21 5 (dk_at dksX1_copy_4 11 rfl rfl)
theorem dX1_copy_108 : decode cX1_copy 108 = .ok (.if_icmp .ge 30, 3) := dk_162 0 30 (dk_at dksX1_copy_4 13 rfl rfl)
theorem dX1_copy_111 : decode cX1_copy 111 = .ok (.aload_n 0, 1) := dk_42 (dk_at dksX1_copy_4 16 rfl rfl)
theorem dX1_copy_112 : decode cX1_copy 112 = .ok (.getfield 127, 3) := dk_180 0 127 (dk_at dksX1_copy_4 17 rfl rfl)
theorem dX1_copy_115 : decode cX1_copy 115 = .ok (.iload 6, 2) := dk_21 6 (dk_at dksX1_copy_4 20 rfl rfl)
theorem dX1_copy_117 : decode cX1_copy 117 = .ok (.aload_n 0, 1) := dk_42 (dk_at dksX1_copy_4 22 rfl rfl)
theorem dX1_copy_118 : decode cX1_copy 118 = .ok (.getfield 124, 3) := dk_180 0 124 (dk_at dksX1_copy_5 0 rfl rfl)
theorem dX1_copy_121 : decode cX1_copy 121 = .ok (.bipush 24, 2) := dk_16 24 (dk_at dksX1_copy_5 3 rfl rfl)
theorem dX1_copy_123 : decode cX1_copy 123 = .ok (.iload_n 1, 1) := dk_27 (dk_at dksX1_copy_5 5 rfl rfl)
theorem dX1_copy_124 : decode cX1_copy 124 = .ok (.imul, 1) := dk_104 (dk_at dksX1_copy_5 6 rfl rfl)
theorem dX1_copy_125 : decode cX1_copy 125 = .ok (.iload_n 2, 1) := dk_28 (dk_at dksX1_copy_5 7 rfl rfl)
theorem dX1_copy_126 : decode cX1_copy 126 = .ok (.iadd, 1) := dk_96 (dk_at dksX1_copy_5 8 rfl rfl)
theorem dX1_copy_127 : decode cX1_copy 127 = .ok (.iload 6, 2) := dk_21 6 (dk_at dksX1_copy_5 9 rfl rfl)
theorem dX1_copy_129 : decode cX1_copy 129 = .ok (.iadd, 1) := dk_96 (dk_at dksX1_copy_5 11 rfl rfl)
theorem dX1_copy_130 : decode cX1_copy 130 = .ok (.iaload, 1) := dk_46 (dk_at dksX1_copy_5 12 rfl rfl)
theorem dX1_copy_131 : decode cX1_copy 131 = .ok (.iastore, 1) := dk_79 (dk_at dksX1_copy_5 13 rfl rfl)
theorem dX1_copy_132 : decode cX1_copy 132 = .ok (.iinc 6 1, 3) := dk_132 6 1 (dk_at dksX1_copy_5 14 rfl rfl)
theorem dX1_copy_135 : decode cX1_copy 135 = .ok (.goto (-31), 3) := dk_167 255 225 (dk_at dksX1_copy_5 17 rfl rfl)
theorem dX1_copy_138 : decode cX1_copy 138 = .ok (.iconst 0, 1) := dk_3 (dk_at dksX1_copy_5 20 rfl rfl)
theorem dX1_copy_139 : decode cX1_copy 139 = .ok (.istore 6, 2) := dk_54 6 (dk_at dksX1_copy_5 21 rfl rfl)
theorem dX1_copy_141 : decode cX1_copy 141 = .ok (.iload 6, 2) := dk_21 6 (dk_at dksX1_copy_6 0 rfl rfl)
theorem dX1_copy_143 : decode cX1_copy 143 = .ok (.iload 5, 2) := dk_21 5 (dk_at dksX1_copy_6 2 rfl rfl)
theorem dX1_copy_145 : decode cX1_copy 145 = .ok (.if_icmp .ge 31, 3) := dk_162 0 31 (dk_at dksX1_copy_6 4 rfl rfl)
theorem dX1_copy_148 : decode cX1_copy 148 = .ok (.aload_n 0, 1) := dk_42 (dk_at dksX1_copy_6 7 rfl rfl)
theorem dX1_copy_149 : decode cX1_copy 149 = .ok (.getfield 124, 3) := dk_180 0 124 (dk_at dksX1_copy_6 8 rfl rfl)
theorem dX1_copy_152 : decode cX1_copy 152 = .ok (.bipush 24, 2) := dk_16 24 (dk_at dksX1_copy_6 11 rfl rfl)
theorem dX1_copy_154 : decode cX1_copy 154 = .ok (.iload_n 3, 1) := dk_29 (dk_at dksX1_copy_6 13 rfl rfl)
theorem dX1_copy_155 : decode cX1_copy 155 = .ok (.imul, 1) := dk_104 (dk_at dksX1_copy_6 14 rfl rfl)
theorem dX1_copy_156 : decode cX1_copy 156 = .ok (.iload 4, 2) := dk_21 4 (dk_at dksX1_copy_6 15 rfl rfl)
theorem dX1_copy_158 : decode cX1_copy 158 = .ok (.iadd, 1) := dk_96 (dk_at dksX1_copy_6 17 rfl rfl)
theorem dX1_copy_159 : decode cX1_copy 159 = .ok (.iload 6, 2) := dk_21 6 (dk_at dksX1_copy_6 18 rfl rfl)
theorem dX1_copy_161 : decode cX1_copy 161 = .ok (.iadd, 1) := dk_96 (dk_at dksX1_copy_6 20 rfl rfl)
theorem dX1_copy_162 : decode cX1_copy 162 = .ok (.aload_n 0, 1) := dk_42 (dk_at dksX1_copy_6 21 rfl rfl)
theorem dX1_copy_163 : decode cX1_copy 163 = .ok (.getfield 127, 3) := dk_180 0 127 (dk_at dksX1_copy_7 0 rfl rfl)
theorem dX1_copy_166 : decode cX1_copy 166 = .ok (.iload 6, 2) := dk_21 6 (dk_at dksX1_copy_7 3 rfl rfl)
theorem dX1_copy_168 : decode cX1_copy 168 = .ok (.iaload, 1) := dk_46 (dk_at dksX1_copy_7 5 rfl rfl)
theorem dX1_copy_169 : decode cX1_copy 169 = .ok (.iastore, 1) := dk_79 (dk_at dksX1_copy_7 6 rfl rfl)
theorem dX1_copy_170 : decode cX1_copy 170 = .ok (.iinc 6 1, 3) := dk_132 6 1 (dk_at dksX1_copy_7 7 rfl rfl)
theorem dX1_copy_173 : decode cX1_copy 173 = .ok (.goto (-32), 3) := dk_167 255 224 (dk_at dksX1_copy_7 10 rfl rfl)
theorem dX1_copy_176 : decode cX1_copy 176 = .ok (.iconst 1, 1) := dk_4 (dk_at dksX1_copy_7 13 rfl rfl)
theorem dX1_copy_177 : decode cX1_copy 177 = .ok (.ireturn, 1) := dk_172 (dk_at dksX1_copy_7 14 rfl rfl)
abbrev cX1_upper : ByteArray := prog_8_method_69_code
def yX1_upper : MethodName := ⟨RX1, "upper", "()J"⟩
theorem dX1_upper_0 : decode cX1_upper 0 = .ok (.aload_n 0, 1) := by decide +kernel
theorem dX1_upper_1 : decode cX1_upper 1 = .ok (.getfield 252, 3) := by decide +kernel
theorem dX1_upper_4 : decode cX1_upper 4 = .ok (.lreturn, 1) := by decide +kernel
abbrev cX1_lower : ByteArray := prog_8_method_70_code
def yX1_lower : MethodName := ⟨RX1, "lower", "()J"⟩
theorem dX1_lower_0 : decode cX1_lower 0 = .ok (.aload_n 0, 1) := by decide +kernel
theorem dX1_lower_1 : decode cX1_lower 1 = .ok (.getfield 105, 3) := by decide +kernel
theorem dX1_lower_4 : decode cX1_lower 4 = .ok (.lreturn, 1) := by decide +kernel
abbrev cX1_count : ByteArray := prog_8_method_72_code
def yX1_count : MethodName := ⟨RX1, "count", "(I)I"⟩
def dkwX1_count_0 : List UInt8 := [27, 3, 6, 184, 0, 131, 153, 0, 11, 42, 27, 182, 1, 49, 167, 0, 4, 2, 172]
abbrev dktX1_count_0 : List UInt8 := dkwX1_count_0 ++ []
theorem dksX1_count_0 : cX1_count.data.toList.drop 0 = dktX1_count_0 := by decide +kernel
theorem dX1_count_0 : decode cX1_count 0 = .ok (.iload_n 1, 1) := dk_27 (dk_at dksX1_count_0 0 rfl rfl)
theorem dX1_count_1 : decode cX1_count 1 = .ok (.iconst 0, 1) := dk_3 (dk_at dksX1_count_0 1 rfl rfl)
theorem dX1_count_2 : decode cX1_count 2 = .ok (.iconst 3, 1) := dk_6 (dk_at dksX1_count_0 2 rfl rfl)
theorem dX1_count_3 : decode cX1_count 3 = .ok (.invokestatic 131, 3) := dk_184 0 131 (dk_at dksX1_count_0 3 rfl rfl)
theorem dX1_count_6 : decode cX1_count 6 = .ok (.ifCond .eq 11, 3) := dk_153 0 11 (dk_at dksX1_count_0 6 rfl rfl)
theorem dX1_count_9 : decode cX1_count 9 = .ok (.aload_n 0, 1) := dk_42 (dk_at dksX1_count_0 9 rfl rfl)
theorem dX1_count_10 : decode cX1_count 10 = .ok (.iload_n 1, 1) := dk_27 (dk_at dksX1_count_0 10 rfl rfl)
theorem dX1_count_11 : decode cX1_count 11 = .ok (.invokevirtual 305, 3) := dk_182 1 49 (dk_at dksX1_count_0 11 rfl rfl)
theorem dX1_count_14 : decode cX1_count 14 = .ok (.goto 4, 3) := dk_167 0 4 (dk_at dksX1_count_0 14 rfl rfl)
theorem dX1_count_17 : decode cX1_count 17 = .ok (.iconst (-1), 1) := dk_2 (dk_at dksX1_count_0 17 rfl rfl)
theorem dX1_count_18 : decode cX1_count 18 = .ok (.ireturn, 1) := dk_172 (dk_at dksX1_count_0 18 rfl rfl)
abbrev cX1_tellsCount : ByteArray := prog_8_method_71_code
def yX1_tellsCount : MethodName := ⟨RX1, "tellsCount", "(I)I"⟩
def dkwX1_tellsCount_1 : List UInt8 := [5, 160, 0, 10, 42, 180, 0, 170, 167, 0, 7, 42, 180, 0, 173, 172]
abbrev dktX1_tellsCount_1 : List UInt8 := dkwX1_tellsCount_1 ++ []
def dkwX1_tellsCount_0 : List UInt8 := [27, 154, 0, 10, 42, 180, 0, 139, 167, 0, 31, 27, 4, 160, 0, 10, 42, 180, 0, 142, 167, 0, 19, 27]
abbrev dktX1_tellsCount_0 : List UInt8 := dkwX1_tellsCount_0 ++ dktX1_tellsCount_1
theorem dksX1_tellsCount_0 : cX1_tellsCount.data.toList.drop 0 = dktX1_tellsCount_0 := by decide +kernel
theorem dksX1_tellsCount_1 : cX1_tellsCount.data.toList.drop 24 = dktX1_tellsCount_1 := dk_seg dksX1_tellsCount_0 24 rfl rfl
theorem dX1_tellsCount_0 : decode cX1_tellsCount 0 = .ok (.iload_n 1, 1) := dk_27 (dk_at dksX1_tellsCount_0 0 rfl rfl)
theorem dX1_tellsCount_1 : decode cX1_tellsCount 1 = .ok (.ifCond .ne 10, 3) := dk_154 0 10 (dk_at dksX1_tellsCount_0 1 rfl rfl)
theorem dX1_tellsCount_4 : decode cX1_tellsCount 4 = .ok (.aload_n 0, 1) := dk_42 (dk_at dksX1_tellsCount_0 4 rfl rfl)
theorem dX1_tellsCount_5 : decode cX1_tellsCount 5 = .ok (.getfield 139, 3) := dk_180 0 139 (dk_at dksX1_tellsCount_0 5 rfl rfl)
theorem dX1_tellsCount_8 : decode cX1_tellsCount 8 = .ok (.goto 31, 3) := dk_167 0 31 (dk_at dksX1_tellsCount_0 8 rfl rfl)
theorem dX1_tellsCount_11 : decode cX1_tellsCount 11 = .ok (.iload_n 1, 1) := dk_27 (dk_at dksX1_tellsCount_0 11 rfl rfl)
theorem dX1_tellsCount_12 : decode cX1_tellsCount 12 = .ok (.iconst 1, 1) := dk_4 (dk_at dksX1_tellsCount_0 12 rfl rfl)
theorem dX1_tellsCount_13 : decode cX1_tellsCount 13 = .ok (.if_icmp .ne 10, 3) := dk_160 0 10 (dk_at dksX1_tellsCount_0 13 rfl rfl)
theorem dX1_tellsCount_16 : decode cX1_tellsCount 16 = .ok (.aload_n 0, 1) := dk_42 (dk_at dksX1_tellsCount_0 16 rfl rfl)
theorem dX1_tellsCount_17 : decode cX1_tellsCount 17 = .ok (.getfield 142, 3) := dk_180 0 142 (dk_at dksX1_tellsCount_0 17 rfl rfl)
theorem dX1_tellsCount_20 : decode cX1_tellsCount 20 = .ok (.goto 19, 3) := dk_167 0 19 (dk_at dksX1_tellsCount_0 20 rfl rfl)
theorem dX1_tellsCount_23 : decode cX1_tellsCount 23 = .ok (.iload_n 1, 1) := dk_27 (dk_at dksX1_tellsCount_0 23 rfl rfl)
theorem dX1_tellsCount_24 : decode cX1_tellsCount 24 = .ok (.iconst 2, 1) := dk_5 (dk_at dksX1_tellsCount_1 0 rfl rfl)
theorem dX1_tellsCount_25 : decode cX1_tellsCount 25 = .ok (.if_icmp .ne 10, 3) := dk_160 0 10 (dk_at dksX1_tellsCount_1 1 rfl rfl)
theorem dX1_tellsCount_28 : decode cX1_tellsCount 28 = .ok (.aload_n 0, 1) := dk_42 (dk_at dksX1_tellsCount_1 4 rfl rfl)
theorem dX1_tellsCount_29 : decode cX1_tellsCount 29 = .ok (.getfield 170, 3) := dk_180 0 170 (dk_at dksX1_tellsCount_1 5 rfl rfl)
theorem dX1_tellsCount_32 : decode cX1_tellsCount 32 = .ok (.goto 7, 3) := dk_167 0 7 (dk_at dksX1_tellsCount_1 8 rfl rfl)
theorem dX1_tellsCount_35 : decode cX1_tellsCount 35 = .ok (.aload_n 0, 1) := dk_42 (dk_at dksX1_tellsCount_1 11 rfl rfl)
theorem dX1_tellsCount_36 : decode cX1_tellsCount 36 = .ok (.getfield 173, 3) := dk_180 0 173 (dk_at dksX1_tellsCount_1 12 rfl rfl)
theorem dX1_tellsCount_39 : decode cX1_tellsCount 39 = .ok (.ireturn, 1) := dk_172 (dk_at dksX1_tellsCount_1 15 rfl rfl)
abbrev cX1_finding : ByteArray := prog_8_method_73_code
def yX1_finding : MethodName := ⟨RX1, "finding", "()I"⟩
theorem dX1_finding_0 : decode cX1_finding 0 = .ok (.aload_n 0, 1) := by decide +kernel
theorem dX1_finding_1 : decode cX1_finding 1 = .ok (.getfield 135, 3) := by decide +kernel
theorem dX1_finding_4 : decode cX1_finding 4 = .ok (.ireturn, 1) := by decide +kernel
abbrev cX1_findings : ByteArray := prog_8_method_74_code
def yX1_findings : MethodName := ⟨RX1, "findings", "(I)I"⟩
def dkwX1_findings_0 : List UInt8 := [27, 4, 8, 184, 0, 131, 153, 0, 12, 42, 180, 0, 7, 27, 46, 167, 0, 4, 2, 172]
abbrev dktX1_findings_0 : List UInt8 := dkwX1_findings_0 ++ []
theorem dksX1_findings_0 : cX1_findings.data.toList.drop 0 = dktX1_findings_0 := by decide +kernel
theorem dX1_findings_0 : decode cX1_findings 0 = .ok (.iload_n 1, 1) := dk_27 (dk_at dksX1_findings_0 0 rfl rfl)
theorem dX1_findings_1 : decode cX1_findings 1 = .ok (.iconst 1, 1) := dk_4 (dk_at dksX1_findings_0 1 rfl rfl)
theorem dX1_findings_2 : decode cX1_findings 2 = .ok (.iconst 5, 1) := dk_8 (dk_at dksX1_findings_0 2 rfl rfl)
theorem dX1_findings_3 : decode cX1_findings 3 = .ok (.invokestatic 131, 3) := dk_184 0 131 (dk_at dksX1_findings_0 3 rfl rfl)
theorem dX1_findings_6 : decode cX1_findings 6 = .ok (.ifCond .eq 12, 3) := dk_153 0 12 (dk_at dksX1_findings_0 6 rfl rfl)
theorem dX1_findings_9 : decode cX1_findings 9 = .ok (.aload_n 0, 1) := dk_42 (dk_at dksX1_findings_0 9 rfl rfl)
theorem dX1_findings_10 : decode cX1_findings 10 = .ok (.getfield 7, 3) := dk_180 0 7 (dk_at dksX1_findings_0 10 rfl rfl)
theorem dX1_findings_13 : decode cX1_findings 13 = .ok (.iload_n 1, 1) := dk_27 (dk_at dksX1_findings_0 13 rfl rfl)
theorem dX1_findings_14 : decode cX1_findings 14 = .ok (.iaload, 1) := dk_46 (dk_at dksX1_findings_0 14 rfl rfl)
theorem dX1_findings_15 : decode cX1_findings 15 = .ok (.goto 4, 3) := dk_167 0 4 (dk_at dksX1_findings_0 15 rfl rfl)
theorem dX1_findings_18 : decode cX1_findings 18 = .ok (.iconst (-1), 1) := dk_2 (dk_at dksX1_findings_0 18 rfl rfl)
theorem dX1_findings_19 : decode cX1_findings 19 = .ok (.ireturn, 1) := dk_172 (dk_at dksX1_findings_0 19 rfl rfl)
abbrev cX1_digest : ByteArray := prog_8_method_75_code
def yX1_digest : MethodName := ⟨RX1, "digest", "()J"⟩
def dkwX1_digest_9 : List UInt8 := [132, 4, 1, 167, 255, 222, 132, 3, 1, 167, 255, 181, 31, 173]
abbrev dktX1_digest_9 : List UInt8 := dkwX1_digest_9 ++ []
def dkwX1_digest_8 : List UInt8 := [162, 0, 29, 20, 1, 54, 31, 105, 42, 180, 0, 124, 16, 24, 29, 104, 21, 4, 96, 46, 133, 97, 64]
abbrev dktX1_digest_8 : List UInt8 := dkwX1_digest_8 ++ dktX1_digest_9
def dkwX1_digest_7 : List UInt8 := [2, 167, 0, 9, 42, 180, 0, 121, 29, 46, 133, 97, 64, 3, 54, 4, 21, 4, 42, 180, 0, 121, 29, 46]
abbrev dktX1_digest_7 : List UInt8 := dkwX1_digest_7 ++ dktX1_digest_8
def dkwX1_digest_6 : List UInt8 := [167, 255, 215, 3, 62, 29, 7, 162, 0, 76, 20, 1, 54, 31, 105, 42, 180, 0, 121, 29, 46, 156, 0, 7]
abbrev dktX1_digest_6 : List UInt8 := dkwX1_digest_6 ++ dktX1_digest_7
def dkwX1_digest_5 : List UInt8 := [20, 1, 54, 31, 105, 42, 29, 21, 4, 182, 0, 163, 133, 97, 64, 132, 4, 1, 167, 255, 232, 132, 3, 1]
abbrev dktX1_digest_5 : List UInt8 := dkwX1_digest_5 ++ dktX1_digest_6
def dkwX1_digest_4 : List UInt8 := [167, 255, 195, 3, 62, 29, 42, 180, 0, 142, 162, 0, 39, 3, 54, 4, 21, 4, 6, 163, 0, 24]
abbrev dktX1_digest_4 : List UInt8 := dkwX1_digest_4 ++ dktX1_digest_5
def dkwX1_digest_3 : List UInt8 := [20, 1, 54, 31, 105, 42, 180, 0, 115, 29, 46, 42, 29, 182, 1, 40, 100, 133, 97, 64, 132, 3, 1]
abbrev dktX1_digest_3 : List UInt8 := dkwX1_digest_3 ++ dktX1_digest_4
def dkwX1_digest_2 : List UInt8 := [163, 0, 24, 20, 1, 54, 31, 105, 42, 29, 21, 4, 182, 0, 156, 133, 97, 64, 132, 4, 1, 167, 255, 232]
abbrev dktX1_digest_2 : List UInt8 := dkwX1_digest_2 ++ dktX1_digest_3
def dkwX1_digest_1 : List UInt8 := [132, 3, 1, 167, 255, 235, 3, 62, 29, 42, 180, 0, 139, 162, 0, 59, 3, 54, 4, 21, 4, 7]
abbrev dktX1_digest_1 : List UInt8 := dkwX1_digest_1 ++ dktX1_digest_2
def dkwX1_digest_0 : List UInt8 := [20, 1, 52, 64, 3, 62, 29, 6, 163, 0, 22, 20, 1, 54, 31, 105, 42, 29, 182, 1, 49, 133, 97, 64]
abbrev dktX1_digest_0 : List UInt8 := dkwX1_digest_0 ++ dktX1_digest_1
theorem dksX1_digest_0 : cX1_digest.data.toList.drop 0 = dktX1_digest_0 := by decide +kernel
theorem dksX1_digest_1 : cX1_digest.data.toList.drop 24 = dktX1_digest_1 := dk_seg dksX1_digest_0 24 rfl rfl
theorem dksX1_digest_2 : cX1_digest.data.toList.drop 46 = dktX1_digest_2 := dk_seg dksX1_digest_1 22 rfl rfl
theorem dksX1_digest_3 : cX1_digest.data.toList.drop 70 = dktX1_digest_3 := dk_seg dksX1_digest_2 24 rfl rfl
theorem dksX1_digest_4 : cX1_digest.data.toList.drop 93 = dktX1_digest_4 := dk_seg dksX1_digest_3 23 rfl rfl
theorem dksX1_digest_5 : cX1_digest.data.toList.drop 115 = dktX1_digest_5 := dk_seg dksX1_digest_4 22 rfl rfl
theorem dksX1_digest_6 : cX1_digest.data.toList.drop 139 = dktX1_digest_6 := dk_seg dksX1_digest_5 24 rfl rfl
theorem dksX1_digest_7 : cX1_digest.data.toList.drop 163 = dktX1_digest_7 := dk_seg dksX1_digest_6 24 rfl rfl
theorem dksX1_digest_8 : cX1_digest.data.toList.drop 187 = dktX1_digest_8 := dk_seg dksX1_digest_7 24 rfl rfl
theorem dksX1_digest_9 : cX1_digest.data.toList.drop 210 = dktX1_digest_9 := dk_seg dksX1_digest_8 23 rfl rfl
theorem dX1_digest_0 : decode cX1_digest 0 = .ok (.ldc2_w 308, 3) := dk_20 1 52 (dk_at dksX1_digest_0 0 rfl rfl)
theorem dX1_digest_3 : decode cX1_digest 3 = .ok (.lstore_n 1, 1) := dk_64 (dk_at dksX1_digest_0 3 rfl rfl)
theorem dX1_digest_4 : decode cX1_digest 4 = .ok (.iconst 0, 1) := dk_3 (dk_at dksX1_digest_0 4 rfl rfl)
theorem dX1_digest_5 : decode cX1_digest 5 = .ok (.istore_n 3, 1) := dk_62 (dk_at dksX1_digest_0 5 rfl rfl)
theorem dX1_digest_6 : decode cX1_digest 6 = .ok (.iload_n 3, 1) := dk_29 (dk_at dksX1_digest_0 6 rfl rfl)
theorem dX1_digest_7 : decode cX1_digest 7 = .ok (.iconst 3, 1) := dk_6 (dk_at dksX1_digest_0 7 rfl rfl)
theorem dX1_digest_8 : decode cX1_digest 8 = .ok (.if_icmp .gt 22, 3) := dk_163 0 22 (dk_at dksX1_digest_0 8 rfl rfl)
theorem dX1_digest_11 : decode cX1_digest 11 = .ok (.ldc2_w 310, 3) := dk_20 1 54 (dk_at dksX1_digest_0 11 rfl rfl)
theorem dX1_digest_14 : decode cX1_digest 14 = .ok (.lload_n 1, 1) := dk_31 (dk_at dksX1_digest_0 14 rfl rfl)
theorem dX1_digest_15 : decode cX1_digest 15 = .ok (.lmul, 1) := dk_105 (dk_at dksX1_digest_0 15 rfl rfl)
theorem dX1_digest_16 : decode cX1_digest 16 = .ok (.aload_n 0, 1) := dk_42 (dk_at dksX1_digest_0 16 rfl rfl)
theorem dX1_digest_17 : decode cX1_digest 17 = .ok (.iload_n 3, 1) := dk_29 (dk_at dksX1_digest_0 17 rfl rfl)
theorem dX1_digest_18 : decode cX1_digest 18 = .ok (.invokevirtual 305, 3) := dk_182 1 49 (dk_at dksX1_digest_0 18 rfl rfl)
theorem dX1_digest_21 : decode cX1_digest 21 = .ok (.i2l, 1) := dk_133 (dk_at dksX1_digest_0 21 rfl rfl)
theorem dX1_digest_22 : decode cX1_digest 22 = .ok (.ladd, 1) := dk_97 (dk_at dksX1_digest_0 22 rfl rfl)
theorem dX1_digest_23 : decode cX1_digest 23 = .ok (.lstore_n 1, 1) := dk_64 (dk_at dksX1_digest_0 23 rfl rfl)
theorem dX1_digest_24 : decode cX1_digest 24 = .ok (.iinc 3 1, 3) := dk_132 3 1 (dk_at dksX1_digest_1 0 rfl rfl)
theorem dX1_digest_27 : decode cX1_digest 27 = .ok (.goto (-21), 3) := dk_167 255 235 (dk_at dksX1_digest_1 3 rfl rfl)
theorem dX1_digest_30 : decode cX1_digest 30 = .ok (.iconst 0, 1) := dk_3 (dk_at dksX1_digest_1 6 rfl rfl)
theorem dX1_digest_31 : decode cX1_digest 31 = .ok (.istore_n 3, 1) := dk_62 (dk_at dksX1_digest_1 7 rfl rfl)
theorem dX1_digest_32 : decode cX1_digest 32 = .ok (.iload_n 3, 1) := dk_29 (dk_at dksX1_digest_1 8 rfl rfl)
theorem dX1_digest_33 : decode cX1_digest 33 = .ok (.aload_n 0, 1) := dk_42 (dk_at dksX1_digest_1 9 rfl rfl)
theorem dX1_digest_34 : decode cX1_digest 34 = .ok (.getfield 139, 3) := dk_180 0 139 (dk_at dksX1_digest_1 10 rfl rfl)
theorem dX1_digest_37 : decode cX1_digest 37 = .ok (.if_icmp .ge 59, 3) := dk_162 0 59 (dk_at dksX1_digest_1 13 rfl rfl)
theorem dX1_digest_40 : decode cX1_digest 40 = .ok (.iconst 0, 1) := dk_3 (dk_at dksX1_digest_1 16 rfl rfl)
theorem dX1_digest_41 : decode cX1_digest 41 = .ok (.istore 4, 2) := dk_54 4 (dk_at dksX1_digest_1 17 rfl rfl)
theorem dX1_digest_43 : decode cX1_digest 43 = .ok (.iload 4, 2) := dk_21 4 (dk_at dksX1_digest_1 19 rfl rfl)
theorem dX1_digest_45 : decode cX1_digest 45 = .ok (.iconst 4, 1) := dk_7 (dk_at dksX1_digest_1 21 rfl rfl)
theorem dX1_digest_46 : decode cX1_digest 46 = .ok (.if_icmp .gt 24, 3) := dk_163 0 24 (dk_at dksX1_digest_2 0 rfl rfl)
theorem dX1_digest_49 : decode cX1_digest 49 = .ok (.ldc2_w 310, 3) := dk_20 1 54 (dk_at dksX1_digest_2 3 rfl rfl)
theorem dX1_digest_52 : decode cX1_digest 52 = .ok (.lload_n 1, 1) := dk_31 (dk_at dksX1_digest_2 6 rfl rfl)
theorem dX1_digest_53 : decode cX1_digest 53 = .ok (.lmul, 1) := dk_105 (dk_at dksX1_digest_2 7 rfl rfl)
theorem dX1_digest_54 : decode cX1_digest 54 = .ok (.aload_n 0, 1) := dk_42 (dk_at dksX1_digest_2 8 rfl rfl)
theorem dX1_digest_55 : decode cX1_digest 55 = .ok (.iload_n 3, 1) := dk_29 (dk_at dksX1_digest_2 9 rfl rfl)
theorem dX1_digest_56 : decode cX1_digest 56 = .ok (.iload 4, 2) := dk_21 4 (dk_at dksX1_digest_2 10 rfl rfl)
theorem dX1_digest_58 : decode cX1_digest 58 = .ok (.invokevirtual 156, 3) := dk_182 0 156 (dk_at dksX1_digest_2 12 rfl rfl)
theorem dX1_digest_61 : decode cX1_digest 61 = .ok (.i2l, 1) := dk_133 (dk_at dksX1_digest_2 15 rfl rfl)
theorem dX1_digest_62 : decode cX1_digest 62 = .ok (.ladd, 1) := dk_97 (dk_at dksX1_digest_2 16 rfl rfl)
theorem dX1_digest_63 : decode cX1_digest 63 = .ok (.lstore_n 1, 1) := dk_64 (dk_at dksX1_digest_2 17 rfl rfl)
theorem dX1_digest_64 : decode cX1_digest 64 = .ok (.iinc 4 1, 3) := dk_132 4 1 (dk_at dksX1_digest_2 18 rfl rfl)
theorem dX1_digest_67 : decode cX1_digest 67 = .ok (.goto (-24), 3) := dk_167 255 232 (dk_at dksX1_digest_2 21 rfl rfl)
theorem dX1_digest_70 : decode cX1_digest 70 = .ok (.ldc2_w 310, 3) := dk_20 1 54 (dk_at dksX1_digest_3 0 rfl rfl)
theorem dX1_digest_73 : decode cX1_digest 73 = .ok (.lload_n 1, 1) := dk_31 (dk_at dksX1_digest_3 3 rfl rfl)
theorem dX1_digest_74 : decode cX1_digest 74 = .ok (.lmul, 1) := dk_105 (dk_at dksX1_digest_3 4 rfl rfl)
theorem dX1_digest_75 : decode cX1_digest 75 = .ok (.aload_n 0, 1) := dk_42 (dk_at dksX1_digest_3 5 rfl rfl)
theorem dX1_digest_76 : decode cX1_digest 76 = .ok (.getfield 115, 3) := dk_180 0 115 (dk_at dksX1_digest_3 6 rfl rfl)
theorem dX1_digest_79 : decode cX1_digest 79 = .ok (.iload_n 3, 1) := dk_29 (dk_at dksX1_digest_3 9 rfl rfl)
theorem dX1_digest_80 : decode cX1_digest 80 = .ok (.iaload, 1) := dk_46 (dk_at dksX1_digest_3 10 rfl rfl)
theorem dX1_digest_81 : decode cX1_digest 81 = .ok (.aload_n 0, 1) := dk_42 (dk_at dksX1_digest_3 11 rfl rfl)
theorem dX1_digest_82 : decode cX1_digest 82 = .ok (.iload_n 3, 1) := dk_29 (dk_at dksX1_digest_3 12 rfl rfl)
theorem dX1_digest_83 : decode cX1_digest 83 = .ok (.invokevirtual 296, 3) := dk_182 1 40 (dk_at dksX1_digest_3 13 rfl rfl)
theorem dX1_digest_86 : decode cX1_digest 86 = .ok (.isub, 1) := dk_100 (dk_at dksX1_digest_3 16 rfl rfl)
theorem dX1_digest_87 : decode cX1_digest 87 = .ok (.i2l, 1) := dk_133 (dk_at dksX1_digest_3 17 rfl rfl)
theorem dX1_digest_88 : decode cX1_digest 88 = .ok (.ladd, 1) := dk_97 (dk_at dksX1_digest_3 18 rfl rfl)
theorem dX1_digest_89 : decode cX1_digest 89 = .ok (.lstore_n 1, 1) := dk_64 (dk_at dksX1_digest_3 19 rfl rfl)
theorem dX1_digest_90 : decode cX1_digest 90 = .ok (.iinc 3 1, 3) := dk_132 3 1 (dk_at dksX1_digest_3 20 rfl rfl)
theorem dX1_digest_93 : decode cX1_digest 93 = .ok (.goto (-61), 3) := dk_167 255 195 (dk_at dksX1_digest_4 0 rfl rfl)
theorem dX1_digest_96 : decode cX1_digest 96 = .ok (.iconst 0, 1) := dk_3 (dk_at dksX1_digest_4 3 rfl rfl)
theorem dX1_digest_97 : decode cX1_digest 97 = .ok (.istore_n 3, 1) := dk_62 (dk_at dksX1_digest_4 4 rfl rfl)
theorem dX1_digest_98 : decode cX1_digest 98 = .ok (.iload_n 3, 1) := dk_29 (dk_at dksX1_digest_4 5 rfl rfl)
theorem dX1_digest_99 : decode cX1_digest 99 = .ok (.aload_n 0, 1) := dk_42 (dk_at dksX1_digest_4 6 rfl rfl)
theorem dX1_digest_100 : decode cX1_digest 100 = .ok (.getfield 142, 3) := dk_180 0 142 (dk_at dksX1_digest_4 7 rfl rfl)
theorem dX1_digest_103 : decode cX1_digest 103 = .ok (.if_icmp .ge 39, 3) := dk_162 0 39 (dk_at dksX1_digest_4 10 rfl rfl)
theorem dX1_digest_106 : decode cX1_digest 106 = .ok (.iconst 0, 1) := dk_3 (dk_at dksX1_digest_4 13 rfl rfl)
theorem dX1_digest_107 : decode cX1_digest 107 = .ok (.istore 4, 2) := dk_54 4 (dk_at dksX1_digest_4 14 rfl rfl)
theorem dX1_digest_109 : decode cX1_digest 109 = .ok (.iload 4, 2) := dk_21 4 (dk_at dksX1_digest_4 16 rfl rfl)
theorem dX1_digest_111 : decode cX1_digest 111 = .ok (.iconst 3, 1) := dk_6 (dk_at dksX1_digest_4 18 rfl rfl)
theorem dX1_digest_112 : decode cX1_digest 112 = .ok (.if_icmp .gt 24, 3) := dk_163 0 24 (dk_at dksX1_digest_4 19 rfl rfl)
theorem dX1_digest_115 : decode cX1_digest 115 = .ok (.ldc2_w 310, 3) := dk_20 1 54 (dk_at dksX1_digest_5 0 rfl rfl)
theorem dX1_digest_118 : decode cX1_digest 118 = .ok (.lload_n 1, 1) := dk_31 (dk_at dksX1_digest_5 3 rfl rfl)
theorem dX1_digest_119 : decode cX1_digest 119 = .ok (.lmul, 1) := dk_105 (dk_at dksX1_digest_5 4 rfl rfl)
theorem dX1_digest_120 : decode cX1_digest 120 = .ok (.aload_n 0, 1) := dk_42 (dk_at dksX1_digest_5 5 rfl rfl)
theorem dX1_digest_121 : decode cX1_digest 121 = .ok (.iload_n 3, 1) := dk_29 (dk_at dksX1_digest_5 6 rfl rfl)
theorem dX1_digest_122 : decode cX1_digest 122 = .ok (.iload 4, 2) := dk_21 4 (dk_at dksX1_digest_5 7 rfl rfl)
theorem dX1_digest_124 : decode cX1_digest 124 = .ok (.invokevirtual 163, 3) := dk_182 0 163 (dk_at dksX1_digest_5 9 rfl rfl)
theorem dX1_digest_127 : decode cX1_digest 127 = .ok (.i2l, 1) := dk_133 (dk_at dksX1_digest_5 12 rfl rfl)
theorem dX1_digest_128 : decode cX1_digest 128 = .ok (.ladd, 1) := dk_97 (dk_at dksX1_digest_5 13 rfl rfl)
theorem dX1_digest_129 : decode cX1_digest 129 = .ok (.lstore_n 1, 1) := dk_64 (dk_at dksX1_digest_5 14 rfl rfl)
theorem dX1_digest_130 : decode cX1_digest 130 = .ok (.iinc 4 1, 3) := dk_132 4 1 (dk_at dksX1_digest_5 15 rfl rfl)
theorem dX1_digest_133 : decode cX1_digest 133 = .ok (.goto (-24), 3) := dk_167 255 232 (dk_at dksX1_digest_5 18 rfl rfl)
theorem dX1_digest_136 : decode cX1_digest 136 = .ok (.iinc 3 1, 3) := dk_132 3 1 (dk_at dksX1_digest_5 21 rfl rfl)
theorem dX1_digest_139 : decode cX1_digest 139 = .ok (.goto (-41), 3) := dk_167 255 215 (dk_at dksX1_digest_6 0 rfl rfl)
theorem dX1_digest_142 : decode cX1_digest 142 = .ok (.iconst 0, 1) := dk_3 (dk_at dksX1_digest_6 3 rfl rfl)
theorem dX1_digest_143 : decode cX1_digest 143 = .ok (.istore_n 3, 1) := dk_62 (dk_at dksX1_digest_6 4 rfl rfl)
theorem dX1_digest_144 : decode cX1_digest 144 = .ok (.iload_n 3, 1) := dk_29 (dk_at dksX1_digest_6 5 rfl rfl)
theorem dX1_digest_145 : decode cX1_digest 145 = .ok (.iconst 4, 1) := dk_7 (dk_at dksX1_digest_6 6 rfl rfl)
theorem dX1_digest_146 : decode cX1_digest 146 = .ok (.if_icmp .ge 76, 3) := dk_162 0 76 (dk_at dksX1_digest_6 7 rfl rfl)
theorem dX1_digest_149 : decode cX1_digest 149 = .ok (.ldc2_w 310, 3) := dk_20 1 54 (dk_at dksX1_digest_6 10 rfl rfl)
theorem dX1_digest_152 : decode cX1_digest 152 = .ok (.lload_n 1, 1) := dk_31 (dk_at dksX1_digest_6 13 rfl rfl)
theorem dX1_digest_153 : decode cX1_digest 153 = .ok (.lmul, 1) := dk_105 (dk_at dksX1_digest_6 14 rfl rfl)
theorem dX1_digest_154 : decode cX1_digest 154 = .ok (.aload_n 0, 1) := dk_42 (dk_at dksX1_digest_6 15 rfl rfl)
theorem dX1_digest_155 : decode cX1_digest 155 = .ok (.getfield 121, 3) := dk_180 0 121 (dk_at dksX1_digest_6 16 rfl rfl)
theorem dX1_digest_158 : decode cX1_digest 158 = .ok (.iload_n 3, 1) := dk_29 (dk_at dksX1_digest_6 19 rfl rfl)
theorem dX1_digest_159 : decode cX1_digest 159 = .ok (.iaload, 1) := dk_46 (dk_at dksX1_digest_6 20 rfl rfl)
theorem dX1_digest_160 : decode cX1_digest 160 = .ok (.ifCond .ge 7, 3) := dk_156 0 7 (dk_at dksX1_digest_6 21 rfl rfl)
theorem dX1_digest_163 : decode cX1_digest 163 = .ok (.iconst (-1), 1) := dk_2 (dk_at dksX1_digest_7 0 rfl rfl)
theorem dX1_digest_164 : decode cX1_digest 164 = .ok (.goto 9, 3) := dk_167 0 9 (dk_at dksX1_digest_7 1 rfl rfl)
theorem dX1_digest_167 : decode cX1_digest 167 = .ok (.aload_n 0, 1) := dk_42 (dk_at dksX1_digest_7 4 rfl rfl)
theorem dX1_digest_168 : decode cX1_digest 168 = .ok (.getfield 121, 3) := dk_180 0 121 (dk_at dksX1_digest_7 5 rfl rfl)
theorem dX1_digest_171 : decode cX1_digest 171 = .ok (.iload_n 3, 1) := dk_29 (dk_at dksX1_digest_7 8 rfl rfl)
theorem dX1_digest_172 : decode cX1_digest 172 = .ok (.iaload, 1) := dk_46 (dk_at dksX1_digest_7 9 rfl rfl)
theorem dX1_digest_173 : decode cX1_digest 173 = .ok (.i2l, 1) := dk_133 (dk_at dksX1_digest_7 10 rfl rfl)
theorem dX1_digest_174 : decode cX1_digest 174 = .ok (.ladd, 1) := dk_97 (dk_at dksX1_digest_7 11 rfl rfl)
theorem dX1_digest_175 : decode cX1_digest 175 = .ok (.lstore_n 1, 1) := dk_64 (dk_at dksX1_digest_7 12 rfl rfl)
theorem dX1_digest_176 : decode cX1_digest 176 = .ok (.iconst 0, 1) := dk_3 (dk_at dksX1_digest_7 13 rfl rfl)
theorem dX1_digest_177 : decode cX1_digest 177 = .ok (.istore 4, 2) := dk_54 4 (dk_at dksX1_digest_7 14 rfl rfl)
theorem dX1_digest_179 : decode cX1_digest 179 = .ok (.iload 4, 2) := dk_21 4 (dk_at dksX1_digest_7 16 rfl rfl)
theorem dX1_digest_181 : decode cX1_digest 181 = .ok (.aload_n 0, 1) := dk_42 (dk_at dksX1_digest_7 18 rfl rfl)
theorem dX1_digest_182 : decode cX1_digest 182 = .ok (.getfield 121, 3) := dk_180 0 121 (dk_at dksX1_digest_7 19 rfl rfl)
theorem dX1_digest_185 : decode cX1_digest 185 = .ok (.iload_n 3, 1) := dk_29 (dk_at dksX1_digest_7 22 rfl rfl)
theorem dX1_digest_186 : decode cX1_digest 186 = .ok (.iaload, 1) := dk_46 (dk_at dksX1_digest_7 23 rfl rfl)
theorem dX1_digest_187 : decode cX1_digest 187 = .ok (.if_icmp .ge 29, 3) := dk_162 0 29 (dk_at dksX1_digest_8 0 rfl rfl)
theorem dX1_digest_190 : decode cX1_digest 190 = .ok (.ldc2_w 310, 3) := dk_20 1 54 (dk_at dksX1_digest_8 3 rfl rfl)
theorem dX1_digest_193 : decode cX1_digest 193 = .ok (.lload_n 1, 1) := dk_31 (dk_at dksX1_digest_8 6 rfl rfl)
theorem dX1_digest_194 : decode cX1_digest 194 = .ok (.lmul, 1) := dk_105 (dk_at dksX1_digest_8 7 rfl rfl)
theorem dX1_digest_195 : decode cX1_digest 195 = .ok (.aload_n 0, 1) := dk_42 (dk_at dksX1_digest_8 8 rfl rfl)
theorem dX1_digest_196 : decode cX1_digest 196 = .ok (.getfield 124, 3) := dk_180 0 124 (dk_at dksX1_digest_8 9 rfl rfl)
theorem dX1_digest_199 : decode cX1_digest 199 = .ok (.bipush 24, 2) := dk_16 24 (dk_at dksX1_digest_8 12 rfl rfl)
theorem dX1_digest_201 : decode cX1_digest 201 = .ok (.iload_n 3, 1) := dk_29 (dk_at dksX1_digest_8 14 rfl rfl)
theorem dX1_digest_202 : decode cX1_digest 202 = .ok (.imul, 1) := dk_104 (dk_at dksX1_digest_8 15 rfl rfl)
theorem dX1_digest_203 : decode cX1_digest 203 = .ok (.iload 4, 2) := dk_21 4 (dk_at dksX1_digest_8 16 rfl rfl)
theorem dX1_digest_205 : decode cX1_digest 205 = .ok (.iadd, 1) := dk_96 (dk_at dksX1_digest_8 18 rfl rfl)
theorem dX1_digest_206 : decode cX1_digest 206 = .ok (.iaload, 1) := dk_46 (dk_at dksX1_digest_8 19 rfl rfl)
theorem dX1_digest_207 : decode cX1_digest 207 = .ok (.i2l, 1) := dk_133 (dk_at dksX1_digest_8 20 rfl rfl)
theorem dX1_digest_208 : decode cX1_digest 208 = .ok (.ladd, 1) := dk_97 (dk_at dksX1_digest_8 21 rfl rfl)
theorem dX1_digest_209 : decode cX1_digest 209 = .ok (.lstore_n 1, 1) := dk_64 (dk_at dksX1_digest_8 22 rfl rfl)
theorem dX1_digest_210 : decode cX1_digest 210 = .ok (.iinc 4 1, 3) := dk_132 4 1 (dk_at dksX1_digest_9 0 rfl rfl)
theorem dX1_digest_213 : decode cX1_digest 213 = .ok (.goto (-34), 3) := dk_167 255 222 (dk_at dksX1_digest_9 3 rfl rfl)
theorem dX1_digest_216 : decode cX1_digest 216 = .ok (.iinc 3 1, 3) := dk_132 3 1 (dk_at dksX1_digest_9 6 rfl rfl)
theorem dX1_digest_219 : decode cX1_digest 219 = .ok (.goto (-75), 3) := dk_167 255 181 (dk_at dksX1_digest_9 9 rfl rfl)
theorem dX1_digest_222 : decode cX1_digest 222 = .ok (.lload_n 1, 1) := dk_31 (dk_at dksX1_digest_9 12 rfl rfl)
theorem dX1_digest_223 : decode cX1_digest 223 = .ok (.lreturn, 1) := dk_173 (dk_at dksX1_digest_9 13 rfl rfl)
theorem q71 : (Jvm.Cond.initialized "HeirHuntersModel") ∈ lw_all := lw_g (lw_at lw_m1 2 rfl) rfl
theorem q860 : (Jvm.Cond.instantiable "HeirHuntersModel" (55 : Nat)) ∈ lw_all := lw_g (lw_at lw_m4 71 rfl) rfl
theorem q862 : (Jvm.Cond.instanceMethod ({ cls := "HeirHuntersModel", name := "<init>", desc := "()V" } : Jvm.MethodName)) ∈ lw_all := lw_g (lw_at lw_m4 73 rfl) rfl
theorem q863 : (Jvm.Cond.code ({ cls := "HeirHuntersModel", name := "<init>", desc := "()V" } : Jvm.MethodName) prog_8_method_1_code (2 : Nat) (Option.none : Option Jvm.ClassFile.FieldType)) ∈ lw_all := lw_g (lw_at lw_m4 74 rfl) rfl
theorem q864 : (Jvm.Cond.methodLink "HeirHuntersModel" (1 : Nat) ({ cls := "java/lang/Object", name := "<init>", desc := "()V" } : Jvm.MethodName)) ∈ lw_all := lw_g (lw_at lw_m4 75 rfl) rfl
theorem q865 : (Jvm.Cond.fieldLink "HeirHuntersModel" (135 : Nat) "HeirHuntersModel" "finding" "I") ∈ lw_all := lw_g (lw_at lw_m4 76 rfl) rfl
theorem q866 : (Jvm.Cond.fieldLink "HeirHuntersModel" (7 : Nat) "HeirHuntersModel" "findings" "[I") ∈ lw_all := lw_g (lw_at lw_m4 77 rfl) rfl
theorem q867 : (Jvm.Cond.fieldLink "HeirHuntersModel" (139 : Nat) "HeirHuntersModel" "persons" "I") ∈ lw_all := lw_g (lw_at lw_m4 78 rfl) rfl
theorem q868 : (Jvm.Cond.fieldLink "HeirHuntersModel" (13 : Nat) "HeirHuntersModel" "lands" "[I") ∈ lw_all := lw_g (lw_at lw_m4 79 rfl) rfl
theorem q869 : (Jvm.Cond.fieldLink "HeirHuntersModel" (16 : Nat) "HeirHuntersModel" "borns" "[I") ∈ lw_all := lw_g (lw_at lw_m4 80 rfl) rfl
theorem q870 : (Jvm.Cond.fieldLink "HeirHuntersModel" (19 : Nat) "HeirHuntersModel" "deads" "[I") ∈ lw_all := lw_g (lw_at lw_m4 81 rfl) rfl
theorem q871 : (Jvm.Cond.fieldLink "HeirHuntersModel" (142 : Nat) "HeirHuntersModel" "lines" "I") ∈ lw_all := lw_g (lw_at lw_m4 82 rfl) rfl
theorem q872 : (Jvm.Cond.fieldLink "HeirHuntersModel" (22 : Nat) "HeirHuntersModel" "kinds" "[I") ∈ lw_all := lw_g (lw_at lw_m4 83 rfl) rfl
theorem q873 : (Jvm.Cond.fieldLink "HeirHuntersModel" (25 : Nat) "HeirHuntersModel" "parents" "[I") ∈ lw_all := lw_g (lw_at lw_m4 84 rfl) rfl
theorem q874 : (Jvm.Cond.fieldLink "HeirHuntersModel" (28 : Nat) "HeirHuntersModel" "children" "[I") ∈ lw_all := lw_g (lw_at lw_m4 85 rfl) rfl
theorem q875 : (Jvm.Cond.fieldLink "HeirHuntersModel" (31 : Nat) "HeirHuntersModel" "acts" "[I") ∈ lw_all := lw_g (lw_at lw_m4 86 rfl) rfl
theorem q876 : (Jvm.Cond.fieldLink "HeirHuntersModel" (34 : Nat) "HeirHuntersModel" "costs" "[I") ∈ lw_all := lw_g (lw_at lw_m4 87 rfl) rfl
theorem q877 : (Jvm.Cond.fieldLink "HeirHuntersModel" (37 : Nat) "HeirHuntersModel" "proofs" "[I") ∈ lw_all := lw_g (lw_at lw_m4 88 rfl) rfl
theorem q878 : (Jvm.Cond.fieldLink "HeirHuntersModel" (40 : Nat) "HeirHuntersModel" "isStruck" "[Z") ∈ lw_all := lw_g (lw_at lw_m4 89 rfl) rfl
theorem q879 : (Jvm.Cond.fieldLink "HeirHuntersModel" (170 : Nat) "HeirHuntersModel" "couples" "I") ∈ lw_all := lw_g (lw_at lw_m4 90 rfl) rfl
theorem q880 : (Jvm.Cond.fieldLink "HeirHuntersModel" (44 : Nat) "HeirHuntersModel" "firsts" "[I") ∈ lw_all := lw_g (lw_at lw_m4 91 rfl) rfl
theorem q881 : (Jvm.Cond.fieldLink "HeirHuntersModel" (47 : Nat) "HeirHuntersModel" "seconds" "[I") ∈ lw_all := lw_g (lw_at lw_m4 92 rfl) rfl
theorem q882 : (Jvm.Cond.fieldLink "HeirHuntersModel" (50 : Nat) "HeirHuntersModel" "coupleFrom" "[I") ∈ lw_all := lw_g (lw_at lw_m4 93 rfl) rfl
theorem q883 : (Jvm.Cond.fieldLink "HeirHuntersModel" (53 : Nat) "HeirHuntersModel" "coupleTo" "[I") ∈ lw_all := lw_g (lw_at lw_m4 94 rfl) rfl
theorem q884 : (Jvm.Cond.fieldLink "HeirHuntersModel" (173 : Nat) "HeirHuntersModel" "laws" "I") ∈ lw_all := lw_g (lw_at lw_m4 95 rfl) rfl
theorem q885 : (Jvm.Cond.fieldLink "HeirHuntersModel" (56 : Nat) "HeirHuntersModel" "lawLand" "[I") ∈ lw_all := lw_g (lw_at lw_m4 96 rfl) rfl
theorem q886 : (Jvm.Cond.fieldLink "HeirHuntersModel" (59 : Nat) "HeirHuntersModel" "lawDay" "[I") ∈ lw_all := lw_g (lw_at lw_m4 97 rfl) rfl
theorem q887 : (Jvm.Cond.fieldLink "HeirHuntersModel" (62 : Nat) "HeirHuntersModel" "lawUp" "[I") ∈ lw_all := lw_g (lw_at lw_m4 98 rfl) rfl
theorem q888 : (Jvm.Cond.fieldLink "HeirHuntersModel" (65 : Nat) "HeirHuntersModel" "lawLow" "[I") ∈ lw_all := lw_g (lw_at lw_m4 99 rfl) rfl
theorem q889 : (Jvm.Cond.fieldLink "HeirHuntersModel" (68 : Nat) "HeirHuntersModel" "lawAdopts" "[Z") ∈ lw_all := lw_g (lw_at lw_m4 100 rfl) rfl
theorem q890 : (Jvm.Cond.fieldLink "HeirHuntersModel" (71 : Nat) "HeirHuntersModel" "lawCircles" "[I") ∈ lw_all := lw_g (lw_at lw_m4 101 rfl) rfl
theorem q891 : (Jvm.Cond.fieldLink "HeirHuntersModel" (74 : Nat) "HeirHuntersModel" "ups" "[J") ∈ lw_all := lw_g (lw_at lw_m4 102 rfl) rfl
theorem q892 : (Jvm.Cond.fieldLink "HeirHuntersModel" (78 : Nat) "HeirHuntersModel" "lows" "[J") ∈ lw_all := lw_g (lw_at lw_m4 103 rfl) rfl
theorem q893 : (Jvm.Cond.fieldLink "HeirHuntersModel" (180 : Nat) "HeirHuntersModel" "sumUp" "J") ∈ lw_all := lw_g (lw_at lw_m4 104 rfl) rfl
theorem q894 : (Jvm.Cond.fieldLink "HeirHuntersModel" (183 : Nat) "HeirHuntersModel" "sumLow" "J") ∈ lw_all := lw_g (lw_at lw_m4 105 rfl) rfl
theorem q895 : (Jvm.Cond.fieldLink "HeirHuntersModel" (202 : Nat) "HeirHuntersModel" "dead" "I") ∈ lw_all := lw_g (lw_at lw_m4 106 rfl) rfl
theorem q896 : (Jvm.Cond.fieldLink "HeirHuntersModel" (205 : Nat) "HeirHuntersModel" "deathDay" "I") ∈ lw_all := lw_g (lw_at lw_m4 107 rfl) rfl
theorem q897 : (Jvm.Cond.fieldLink "HeirHuntersModel" (208 : Nat) "HeirHuntersModel" "law" "I") ∈ lw_all := lw_g (lw_at lw_m4 108 rfl) rfl
theorem q898 : (Jvm.Cond.fieldLink "HeirHuntersModel" (81 : Nat) "HeirHuntersModel" "counts" "[Z") ∈ lw_all := lw_g (lw_at lw_m4 109 rfl) rfl
theorem q899 : (Jvm.Cond.fieldLink "HeirHuntersModel" (84 : Nat) "HeirHuntersModel" "survives" "[Z") ∈ lw_all := lw_g (lw_at lw_m4 110 rfl) rfl
theorem q900 : (Jvm.Cond.fieldLink "HeirHuntersModel" (87 : Nat) "HeirHuntersModel" "takes" "[Z") ∈ lw_all := lw_g (lw_at lw_m4 111 rfl) rfl
theorem q901 : (Jvm.Cond.fieldLink "HeirHuntersModel" (199 : Nat) "HeirHuntersModel" "opens" "I") ∈ lw_all := lw_g (lw_at lw_m4 112 rfl) rfl
theorem q902 : (Jvm.Cond.fieldLink "HeirHuntersModel" (90 : Nat) "HeirHuntersModel" "openLines" "[I") ∈ lw_all := lw_g (lw_at lw_m4 113 rfl) rfl
theorem q903 : (Jvm.Cond.fieldLink "HeirHuntersModel" (93 : Nat) "HeirHuntersModel" "order" "[I") ∈ lw_all := lw_g (lw_at lw_m4 114 rfl) rfl
theorem q904 : (Jvm.Cond.fieldLink "HeirHuntersModel" (96 : Nat) "HeirHuntersModel" "partUps" "[J") ∈ lw_all := lw_g (lw_at lw_m4 115 rfl) rfl
theorem q905 : (Jvm.Cond.fieldLink "HeirHuntersModel" (99 : Nat) "HeirHuntersModel" "partLows" "[J") ∈ lw_all := lw_g (lw_at lw_m4 116 rfl) rfl
theorem q906 : (Jvm.Cond.fieldLink "HeirHuntersModel" (225 : Nat) "HeirHuntersModel" "many" "I") ∈ lw_all := lw_g (lw_at lw_m4 117 rfl) rfl
theorem q907 : (Jvm.Cond.fieldLink "HeirHuntersModel" (102 : Nat) "HeirHuntersModel" "heads" "[I") ∈ lw_all := lw_g (lw_at lw_m4 118 rfl) rfl
theorem q908 : (Jvm.Cond.fieldLink "HeirHuntersModel" (239 : Nat) "HeirHuntersModel" "circle" "I") ∈ lw_all := lw_g (lw_at lw_m4 119 rfl) rfl
theorem q909 : (Jvm.Cond.fieldLink "HeirHuntersModel" (252 : Nat) "HeirHuntersModel" "upper" "J") ∈ lw_all := lw_g (lw_at lw_m4 120 rfl) rfl
theorem q910 : (Jvm.Cond.fieldLink "HeirHuntersModel" (105 : Nat) "HeirHuntersModel" "lower" "J") ∈ lw_all := lw_g (lw_at lw_m4 121 rfl) rfl
theorem q911 : (Jvm.Cond.fieldLink "HeirHuntersModel" (109 : Nat) "HeirHuntersModel" "wayUps" "[J") ∈ lw_all := lw_g (lw_at lw_m4 122 rfl) rfl
theorem q912 : (Jvm.Cond.fieldLink "HeirHuntersModel" (112 : Nat) "HeirHuntersModel" "wayLows" "[J") ∈ lw_all := lw_g (lw_at lw_m4 123 rfl) rfl
theorem q913 : (Jvm.Cond.fieldLink "HeirHuntersModel" (286 : Nat) "HeirHuntersModel" "worthUp" "J") ∈ lw_all := lw_g (lw_at lw_m4 124 rfl) rfl
theorem q914 : (Jvm.Cond.fieldLink "HeirHuntersModel" (289 : Nat) "HeirHuntersModel" "worthLow" "J") ∈ lw_all := lw_g (lw_at lw_m4 125 rfl) rfl
theorem q915 : (Jvm.Cond.fieldLink "HeirHuntersModel" (115 : Nat) "HeirHuntersModel" "sums" "[I") ∈ lw_all := lw_g (lw_at lw_m4 126 rfl) rfl
theorem q916 : (Jvm.Cond.fieldLink "HeirHuntersModel" (118 : Nat) "HeirHuntersModel" "pays" "[I") ∈ lw_all := lw_g (lw_at lw_m4 127 rfl) rfl
theorem q917 : (Jvm.Cond.fieldLink "HeirHuntersModel" (121 : Nat) "HeirHuntersModel" "sizes" "[I") ∈ lw_all := lw_g (lw_at lw_m4 128 rfl) rfl
theorem q918 : (Jvm.Cond.fieldLink "HeirHuntersModel" (124 : Nat) "HeirHuntersModel" "sheets" "[I") ∈ lw_all := lw_g (lw_at lw_m4 129 rfl) rfl
theorem q919 : (Jvm.Cond.fieldLink "HeirHuntersModel" (127 : Nat) "HeirHuntersModel" "moving" "[I") ∈ lw_all := lw_g (lw_at lw_m4 130 rfl) rfl
theorem q920 : (Jvm.Cond.lays "HeirHuntersModel" "HeirHuntersModel" "finding" "I") ∈ lw_all := lw_g (lw_at lw_m4 131 rfl) rfl
theorem q921 : (Jvm.Cond.soleField "HeirHuntersModel" "finding") ∈ lw_all := lw_g (lw_at lw_m4 132 rfl) rfl
theorem q922 : (Jvm.Cond.laysFinal "HeirHuntersModel" "HeirHuntersModel" "findings" "[I") ∈ lw_all := lw_g (lw_at lw_m4 133 rfl) rfl
theorem q923 : (Jvm.Cond.soleField "HeirHuntersModel" "findings") ∈ lw_all := lw_g (lw_at lw_m4 134 rfl) rfl
theorem q924 : (Jvm.Cond.lays "HeirHuntersModel" "HeirHuntersModel" "persons" "I") ∈ lw_all := lw_g (lw_at lw_m4 135 rfl) rfl
theorem q925 : (Jvm.Cond.soleField "HeirHuntersModel" "persons") ∈ lw_all := lw_g (lw_at lw_m4 136 rfl) rfl
theorem q926 : (Jvm.Cond.laysFinal "HeirHuntersModel" "HeirHuntersModel" "lands" "[I") ∈ lw_all := lw_g (lw_at lw_m4 137 rfl) rfl
theorem q927 : (Jvm.Cond.soleField "HeirHuntersModel" "lands") ∈ lw_all := lw_g (lw_at lw_m4 138 rfl) rfl
theorem q928 : (Jvm.Cond.laysFinal "HeirHuntersModel" "HeirHuntersModel" "borns" "[I") ∈ lw_all := lw_g (lw_at lw_m4 139 rfl) rfl
theorem q929 : (Jvm.Cond.soleField "HeirHuntersModel" "borns") ∈ lw_all := lw_g (lw_at lw_m4 140 rfl) rfl
theorem q930 : (Jvm.Cond.laysFinal "HeirHuntersModel" "HeirHuntersModel" "deads" "[I") ∈ lw_all := lw_g (lw_at lw_m4 141 rfl) rfl
theorem q931 : (Jvm.Cond.soleField "HeirHuntersModel" "deads") ∈ lw_all := lw_g (lw_at lw_m4 142 rfl) rfl
theorem q932 : (Jvm.Cond.lays "HeirHuntersModel" "HeirHuntersModel" "lines" "I") ∈ lw_all := lw_g (lw_at lw_m4 143 rfl) rfl
theorem q933 : (Jvm.Cond.soleField "HeirHuntersModel" "lines") ∈ lw_all := lw_g (lw_at lw_m4 144 rfl) rfl
theorem q934 : (Jvm.Cond.laysFinal "HeirHuntersModel" "HeirHuntersModel" "kinds" "[I") ∈ lw_all := lw_g (lw_at lw_m4 145 rfl) rfl
theorem q935 : (Jvm.Cond.soleField "HeirHuntersModel" "kinds") ∈ lw_all := lw_g (lw_at lw_m4 146 rfl) rfl
theorem q936 : (Jvm.Cond.laysFinal "HeirHuntersModel" "HeirHuntersModel" "parents" "[I") ∈ lw_all := lw_g (lw_at lw_m4 147 rfl) rfl
theorem q937 : (Jvm.Cond.soleField "HeirHuntersModel" "parents") ∈ lw_all := lw_g (lw_at lw_m4 148 rfl) rfl
theorem q938 : (Jvm.Cond.laysFinal "HeirHuntersModel" "HeirHuntersModel" "children" "[I") ∈ lw_all := lw_g (lw_at lw_m4 149 rfl) rfl
theorem q939 : (Jvm.Cond.soleField "HeirHuntersModel" "children") ∈ lw_all := lw_g (lw_at lw_m4 150 rfl) rfl
theorem q940 : (Jvm.Cond.laysFinal "HeirHuntersModel" "HeirHuntersModel" "acts" "[I") ∈ lw_all := lw_g (lw_at lw_m4 151 rfl) rfl
theorem q941 : (Jvm.Cond.soleField "HeirHuntersModel" "acts") ∈ lw_all := lw_g (lw_at lw_m4 152 rfl) rfl
theorem q942 : (Jvm.Cond.laysFinal "HeirHuntersModel" "HeirHuntersModel" "costs" "[I") ∈ lw_all := lw_g (lw_at lw_m4 153 rfl) rfl
theorem q943 : (Jvm.Cond.soleField "HeirHuntersModel" "costs") ∈ lw_all := lw_g (lw_at lw_m4 154 rfl) rfl
theorem q944 : (Jvm.Cond.laysFinal "HeirHuntersModel" "HeirHuntersModel" "proofs" "[I") ∈ lw_all := lw_g (lw_at lw_m4 155 rfl) rfl
theorem q945 : (Jvm.Cond.soleField "HeirHuntersModel" "proofs") ∈ lw_all := lw_g (lw_at lw_m4 156 rfl) rfl
theorem q946 : (Jvm.Cond.laysFinal "HeirHuntersModel" "HeirHuntersModel" "isStruck" "[Z") ∈ lw_all := lw_g (lw_at lw_m4 157 rfl) rfl
theorem q947 : (Jvm.Cond.soleField "HeirHuntersModel" "isStruck") ∈ lw_all := lw_g (lw_at lw_m4 158 rfl) rfl
theorem q948 : (Jvm.Cond.lays "HeirHuntersModel" "HeirHuntersModel" "couples" "I") ∈ lw_all := lw_g (lw_at lw_m4 159 rfl) rfl
theorem q949 : (Jvm.Cond.soleField "HeirHuntersModel" "couples") ∈ lw_all := lw_g (lw_at lw_m4 160 rfl) rfl
theorem q950 : (Jvm.Cond.laysFinal "HeirHuntersModel" "HeirHuntersModel" "firsts" "[I") ∈ lw_all := lw_g (lw_at lw_m4 161 rfl) rfl
theorem q951 : (Jvm.Cond.soleField "HeirHuntersModel" "firsts") ∈ lw_all := lw_g (lw_at lw_m4 162 rfl) rfl
theorem q952 : (Jvm.Cond.laysFinal "HeirHuntersModel" "HeirHuntersModel" "seconds" "[I") ∈ lw_all := lw_g (lw_at lw_m4 163 rfl) rfl
theorem q953 : (Jvm.Cond.soleField "HeirHuntersModel" "seconds") ∈ lw_all := lw_g (lw_at lw_m4 164 rfl) rfl
theorem q954 : (Jvm.Cond.laysFinal "HeirHuntersModel" "HeirHuntersModel" "coupleFrom" "[I") ∈ lw_all := lw_g (lw_at lw_m4 165 rfl) rfl
theorem q955 : (Jvm.Cond.soleField "HeirHuntersModel" "coupleFrom") ∈ lw_all := lw_g (lw_at lw_m4 166 rfl) rfl
theorem q956 : (Jvm.Cond.laysFinal "HeirHuntersModel" "HeirHuntersModel" "coupleTo" "[I") ∈ lw_all := lw_g (lw_at lw_m4 167 rfl) rfl
theorem q957 : (Jvm.Cond.soleField "HeirHuntersModel" "coupleTo") ∈ lw_all := lw_g (lw_at lw_m4 168 rfl) rfl
theorem q958 : (Jvm.Cond.lays "HeirHuntersModel" "HeirHuntersModel" "laws" "I") ∈ lw_all := lw_g (lw_at lw_m4 169 rfl) rfl
theorem q959 : (Jvm.Cond.soleField "HeirHuntersModel" "laws") ∈ lw_all := lw_g (lw_at lw_m4 170 rfl) rfl
theorem q960 : (Jvm.Cond.laysFinal "HeirHuntersModel" "HeirHuntersModel" "lawLand" "[I") ∈ lw_all := lw_g (lw_at lw_m4 171 rfl) rfl
theorem q961 : (Jvm.Cond.soleField "HeirHuntersModel" "lawLand") ∈ lw_all := lw_g (lw_at lw_m4 172 rfl) rfl
theorem q962 : (Jvm.Cond.laysFinal "HeirHuntersModel" "HeirHuntersModel" "lawDay" "[I") ∈ lw_all := lw_g (lw_at lw_m4 173 rfl) rfl
theorem q963 : (Jvm.Cond.soleField "HeirHuntersModel" "lawDay") ∈ lw_all := lw_g (lw_at lw_m4 174 rfl) rfl
theorem q964 : (Jvm.Cond.laysFinal "HeirHuntersModel" "HeirHuntersModel" "lawUp" "[I") ∈ lw_all := lw_g (lw_at lw_m4 175 rfl) rfl
theorem q965 : (Jvm.Cond.soleField "HeirHuntersModel" "lawUp") ∈ lw_all := lw_g (lw_at lw_m4 176 rfl) rfl
theorem q966 : (Jvm.Cond.laysFinal "HeirHuntersModel" "HeirHuntersModel" "lawLow" "[I") ∈ lw_all := lw_g (lw_at lw_m4 177 rfl) rfl
theorem q967 : (Jvm.Cond.soleField "HeirHuntersModel" "lawLow") ∈ lw_all := lw_g (lw_at lw_m4 178 rfl) rfl
theorem q968 : (Jvm.Cond.laysFinal "HeirHuntersModel" "HeirHuntersModel" "lawAdopts" "[Z") ∈ lw_all := lw_g (lw_at lw_m4 179 rfl) rfl
theorem q969 : (Jvm.Cond.soleField "HeirHuntersModel" "lawAdopts") ∈ lw_all := lw_g (lw_at lw_m4 180 rfl) rfl
theorem q970 : (Jvm.Cond.laysFinal "HeirHuntersModel" "HeirHuntersModel" "lawCircles" "[I") ∈ lw_all := lw_g (lw_at lw_m4 181 rfl) rfl
theorem q971 : (Jvm.Cond.soleField "HeirHuntersModel" "lawCircles") ∈ lw_all := lw_g (lw_at lw_m4 182 rfl) rfl
theorem q972 : (Jvm.Cond.laysFinal "HeirHuntersModel" "HeirHuntersModel" "ups" "[J") ∈ lw_all := lw_g (lw_at lw_m4 183 rfl) rfl
theorem q973 : (Jvm.Cond.soleField "HeirHuntersModel" "ups") ∈ lw_all := lw_g (lw_at lw_m4 184 rfl) rfl
theorem q974 : (Jvm.Cond.laysFinal "HeirHuntersModel" "HeirHuntersModel" "lows" "[J") ∈ lw_all := lw_g (lw_at lw_m4 185 rfl) rfl
theorem q975 : (Jvm.Cond.soleField "HeirHuntersModel" "lows") ∈ lw_all := lw_g (lw_at lw_m4 186 rfl) rfl
theorem q976 : (Jvm.Cond.lays "HeirHuntersModel" "HeirHuntersModel" "sumUp" "J") ∈ lw_all := lw_g (lw_at lw_m4 187 rfl) rfl
theorem q977 : (Jvm.Cond.soleField "HeirHuntersModel" "sumUp") ∈ lw_all := lw_g (lw_at lw_m4 188 rfl) rfl
theorem q978 : (Jvm.Cond.lays "HeirHuntersModel" "HeirHuntersModel" "sumLow" "J") ∈ lw_all := lw_g (lw_at lw_m4 189 rfl) rfl
theorem q979 : (Jvm.Cond.soleField "HeirHuntersModel" "sumLow") ∈ lw_all := lw_g (lw_at lw_m4 190 rfl) rfl
theorem q980 : (Jvm.Cond.lays "HeirHuntersModel" "HeirHuntersModel" "dead" "I") ∈ lw_all := lw_g (lw_at lw_m4 191 rfl) rfl
theorem q981 : (Jvm.Cond.soleField "HeirHuntersModel" "dead") ∈ lw_all := lw_g (lw_at lw_m4 192 rfl) rfl
theorem q982 : (Jvm.Cond.lays "HeirHuntersModel" "HeirHuntersModel" "deathDay" "I") ∈ lw_all := lw_g (lw_at lw_m4 193 rfl) rfl
theorem q983 : (Jvm.Cond.soleField "HeirHuntersModel" "deathDay") ∈ lw_all := lw_g (lw_at lw_m4 194 rfl) rfl
theorem q984 : (Jvm.Cond.lays "HeirHuntersModel" "HeirHuntersModel" "law" "I") ∈ lw_all := lw_g (lw_at lw_m4 195 rfl) rfl
theorem q985 : (Jvm.Cond.soleField "HeirHuntersModel" "law") ∈ lw_all := lw_g (lw_at lw_m4 196 rfl) rfl
theorem q986 : (Jvm.Cond.laysFinal "HeirHuntersModel" "HeirHuntersModel" "counts" "[Z") ∈ lw_all := lw_g (lw_at lw_m4 197 rfl) rfl
theorem q987 : (Jvm.Cond.soleField "HeirHuntersModel" "counts") ∈ lw_all := lw_g (lw_at lw_m4 198 rfl) rfl
theorem q988 : (Jvm.Cond.laysFinal "HeirHuntersModel" "HeirHuntersModel" "survives" "[Z") ∈ lw_all := lw_g (lw_at lw_m4 199 rfl) rfl
theorem q989 : (Jvm.Cond.soleField "HeirHuntersModel" "survives") ∈ lw_all := lw_g (lw_at lw_m4 200 rfl) rfl
theorem q990 : (Jvm.Cond.laysFinal "HeirHuntersModel" "HeirHuntersModel" "takes" "[Z") ∈ lw_all := lw_g (lw_at lw_m4 201 rfl) rfl
theorem q991 : (Jvm.Cond.soleField "HeirHuntersModel" "takes") ∈ lw_all := lw_g (lw_at lw_m4 202 rfl) rfl
theorem q992 : (Jvm.Cond.lays "HeirHuntersModel" "HeirHuntersModel" "opens" "I") ∈ lw_all := lw_g (lw_at lw_m4 203 rfl) rfl
theorem q993 : (Jvm.Cond.soleField "HeirHuntersModel" "opens") ∈ lw_all := lw_g (lw_at lw_m4 204 rfl) rfl
theorem q994 : (Jvm.Cond.laysFinal "HeirHuntersModel" "HeirHuntersModel" "openLines" "[I") ∈ lw_all := lw_g (lw_at lw_m4 205 rfl) rfl
theorem q995 : (Jvm.Cond.soleField "HeirHuntersModel" "openLines") ∈ lw_all := lw_g (lw_at lw_m4 206 rfl) rfl
theorem q996 : (Jvm.Cond.laysFinal "HeirHuntersModel" "HeirHuntersModel" "order" "[I") ∈ lw_all := lw_g (lw_at lw_m4 207 rfl) rfl
theorem q997 : (Jvm.Cond.soleField "HeirHuntersModel" "order") ∈ lw_all := lw_g (lw_at lw_m4 208 rfl) rfl
theorem q998 : (Jvm.Cond.laysFinal "HeirHuntersModel" "HeirHuntersModel" "partUps" "[J") ∈ lw_all := lw_g (lw_at lw_m4 209 rfl) rfl
theorem q999 : (Jvm.Cond.soleField "HeirHuntersModel" "partUps") ∈ lw_all := lw_g (lw_at lw_m4 210 rfl) rfl
theorem q1000 : (Jvm.Cond.laysFinal "HeirHuntersModel" "HeirHuntersModel" "partLows" "[J") ∈ lw_all := lw_g (lw_at lw_m4 211 rfl) rfl
theorem q1001 : (Jvm.Cond.soleField "HeirHuntersModel" "partLows") ∈ lw_all := lw_g (lw_at lw_m4 212 rfl) rfl
theorem q1002 : (Jvm.Cond.lays "HeirHuntersModel" "HeirHuntersModel" "many" "I") ∈ lw_all := lw_g (lw_at lw_m4 213 rfl) rfl
theorem q1003 : (Jvm.Cond.soleField "HeirHuntersModel" "many") ∈ lw_all := lw_g (lw_at lw_m4 214 rfl) rfl
theorem q1004 : (Jvm.Cond.laysFinal "HeirHuntersModel" "HeirHuntersModel" "heads" "[I") ∈ lw_all := lw_g (lw_at lw_m4 215 rfl) rfl
theorem q1005 : (Jvm.Cond.soleField "HeirHuntersModel" "heads") ∈ lw_all := lw_g (lw_at lw_m4 216 rfl) rfl
theorem q1006 : (Jvm.Cond.lays "HeirHuntersModel" "HeirHuntersModel" "circle" "I") ∈ lw_all := lw_g (lw_at lw_m4 217 rfl) rfl
theorem q1007 : (Jvm.Cond.soleField "HeirHuntersModel" "circle") ∈ lw_all := lw_g (lw_at lw_m4 218 rfl) rfl
theorem q1008 : (Jvm.Cond.lays "HeirHuntersModel" "HeirHuntersModel" "upper" "J") ∈ lw_all := lw_g (lw_at lw_m4 219 rfl) rfl
theorem q1009 : (Jvm.Cond.soleField "HeirHuntersModel" "upper") ∈ lw_all := lw_g (lw_at lw_m4 220 rfl) rfl
theorem q1010 : (Jvm.Cond.lays "HeirHuntersModel" "HeirHuntersModel" "lower" "J") ∈ lw_all := lw_g (lw_at lw_m4 221 rfl) rfl
theorem q1011 : (Jvm.Cond.soleField "HeirHuntersModel" "lower") ∈ lw_all := lw_g (lw_at lw_m4 222 rfl) rfl
theorem q1012 : (Jvm.Cond.laysFinal "HeirHuntersModel" "HeirHuntersModel" "wayUps" "[J") ∈ lw_all := lw_g (lw_at lw_m4 223 rfl) rfl
theorem q1013 : (Jvm.Cond.soleField "HeirHuntersModel" "wayUps") ∈ lw_all := lw_g (lw_at lw_m4 224 rfl) rfl
theorem q1014 : (Jvm.Cond.laysFinal "HeirHuntersModel" "HeirHuntersModel" "wayLows" "[J") ∈ lw_all := lw_g (lw_at lw_m4 225 rfl) rfl
theorem q1015 : (Jvm.Cond.soleField "HeirHuntersModel" "wayLows") ∈ lw_all := lw_g (lw_at lw_m4 226 rfl) rfl
theorem q1016 : (Jvm.Cond.lays "HeirHuntersModel" "HeirHuntersModel" "worthUp" "J") ∈ lw_all := lw_g (lw_at lw_m4 227 rfl) rfl
theorem q1017 : (Jvm.Cond.soleField "HeirHuntersModel" "worthUp") ∈ lw_all := lw_g (lw_at lw_m4 228 rfl) rfl
theorem q1018 : (Jvm.Cond.lays "HeirHuntersModel" "HeirHuntersModel" "worthLow" "J") ∈ lw_all := lw_g (lw_at lw_m4 229 rfl) rfl
theorem q1019 : (Jvm.Cond.soleField "HeirHuntersModel" "worthLow") ∈ lw_all := lw_g (lw_at lw_m4 230 rfl) rfl
theorem q1020 : (Jvm.Cond.laysFinal "HeirHuntersModel" "HeirHuntersModel" "sums" "[I") ∈ lw_all := lw_g (lw_at lw_m4 231 rfl) rfl
theorem q1021 : (Jvm.Cond.soleField "HeirHuntersModel" "sums") ∈ lw_all := lw_g (lw_at lw_m4 232 rfl) rfl
theorem q1022 : (Jvm.Cond.laysFinal "HeirHuntersModel" "HeirHuntersModel" "pays" "[I") ∈ lw_all := lw_g (lw_at lw_m4 233 rfl) rfl
theorem q1023 : (Jvm.Cond.soleField "HeirHuntersModel" "pays") ∈ lw_all := lw_g (lw_at lw_m4 234 rfl) rfl
theorem q1024 : (Jvm.Cond.laysFinal "HeirHuntersModel" "HeirHuntersModel" "sizes" "[I") ∈ lw_all := lw_g (lw_at lw_m4 235 rfl) rfl
theorem q1025 : (Jvm.Cond.soleField "HeirHuntersModel" "sizes") ∈ lw_all := lw_g (lw_at lw_m4 236 rfl) rfl
theorem q1026 : (Jvm.Cond.laysFinal "HeirHuntersModel" "HeirHuntersModel" "sheets" "[I") ∈ lw_all := lw_g (lw_at lw_m4 237 rfl) rfl
theorem q1027 : (Jvm.Cond.soleField "HeirHuntersModel" "sheets") ∈ lw_all := lw_g (lw_at lw_m4 238 rfl) rfl
theorem q1028 : (Jvm.Cond.laysFinal "HeirHuntersModel" "HeirHuntersModel" "moving" "[I") ∈ lw_all := lw_g (lw_at lw_m4 239 rfl) rfl
theorem q1029 : (Jvm.Cond.soleField "HeirHuntersModel" "moving") ∈ lw_all := lw_g (lw_at lw_m5 0 rfl) rfl
theorem q1030 : (Jvm.Cond.superclass "HeirHuntersModel" "java/lang/Object") ∈ lw_all := lw_g (lw_at lw_m5 1 rfl) rfl
theorem q1032 : (Jvm.Cond.instanceMethod ({ cls := "HeirHuntersModel", name := "person", desc := "(III)I" } : Jvm.MethodName)) ∈ lw_all := lw_g (lw_at lw_m5 3 rfl) rfl
theorem q1033 : (Jvm.Cond.selects "HeirHuntersModel" ({ cls := "HeirHuntersModel", name := "person", desc := "(III)I" } : Jvm.MethodName) ({ cls := "HeirHuntersModel", name := "person", desc := "(III)I" } : Jvm.MethodName)) ∈ lw_all := lw_g (lw_at lw_m5 4 rfl) rfl
theorem q1034 : (Jvm.Cond.code ({ cls := "HeirHuntersModel", name := "person", desc := "(III)I" } : Jvm.MethodName) prog_8_method_8_code (4 : Nat) (Option.some Jvm.ClassFile.FieldType.int)) ∈ lw_all := lw_g (lw_at lw_m5 5 rfl) rfl
theorem q1035 : (Jvm.Cond.methodLink "HeirHuntersModel" (131 : Nat) ({ cls := "HeirHuntersModel", name := "in", desc := "(III)Z" } : Jvm.MethodName)) ∈ lw_all := lw_g (lw_at lw_m5 6 rfl) rfl
theorem q1036 : (Jvm.Cond.static ({ cls := "HeirHuntersModel", name := "in", desc := "(III)Z" } : Jvm.MethodName)) ∈ lw_all := lw_g (lw_at lw_m5 7 rfl) rfl
theorem q1037 : (Jvm.Cond.code ({ cls := "HeirHuntersModel", name := "in", desc := "(III)Z" } : Jvm.MethodName) prog_8_method_3_code (3 : Nat) (Option.some Jvm.ClassFile.FieldType.boolean)) ∈ lw_all := lw_g (lw_at lw_m5 8 rfl) rfl
theorem q1038 : (Jvm.Cond.methodLink "HeirHuntersModel" (145 : Nat) ({ cls := "HeirHuntersModel", name := "isDay", desc := "(I)Z" } : Jvm.MethodName)) ∈ lw_all := lw_g (lw_at lw_m5 9 rfl) rfl
theorem q1039 : (Jvm.Cond.static ({ cls := "HeirHuntersModel", name := "isDay", desc := "(I)Z" } : Jvm.MethodName)) ∈ lw_all := lw_g (lw_at lw_m5 10 rfl) rfl
theorem q1040 : (Jvm.Cond.code ({ cls := "HeirHuntersModel", name := "isDay", desc := "(I)Z" } : Jvm.MethodName) prog_8_method_4_code (1 : Nat) (Option.some Jvm.ClassFile.FieldType.boolean)) ∈ lw_all := lw_g (lw_at lw_m5 11 rfl) rfl
theorem q1041 : (Jvm.Cond.constant "HeirHuntersModel" (130 : Nat) (100000 : Int32)) ∈ lw_all := lw_g (lw_at lw_m5 12 rfl) rfl
theorem q1043 : (Jvm.Cond.instanceMethod ({ cls := "HeirHuntersModel", name := "told", desc := "(II)I" } : Jvm.MethodName)) ∈ lw_all := lw_g (lw_at lw_m5 14 rfl) rfl
theorem q1044 : (Jvm.Cond.selects "HeirHuntersModel" ({ cls := "HeirHuntersModel", name := "told", desc := "(II)I" } : Jvm.MethodName) ({ cls := "HeirHuntersModel", name := "told", desc := "(II)I" } : Jvm.MethodName)) ∈ lw_all := lw_g (lw_at lw_m5 15 rfl) rfl
theorem q1045 : (Jvm.Cond.code ({ cls := "HeirHuntersModel", name := "told", desc := "(II)I" } : Jvm.MethodName) prog_8_method_11_code (3 : Nat) (Option.some Jvm.ClassFile.FieldType.int)) ∈ lw_all := lw_g (lw_at lw_m5 16 rfl) rfl
theorem q1046 : (Jvm.Cond.methodLink "HeirHuntersModel" (153 : Nat) ({ cls := "HeirHuntersModel", name := "isPerson", desc := "(I)Z" } : Jvm.MethodName)) ∈ lw_all := lw_g (lw_at lw_m5 17 rfl) rfl
theorem q1047 : (Jvm.Cond.privateMethod ({ cls := "HeirHuntersModel", name := "isPerson", desc := "(I)Z" } : Jvm.MethodName)) ∈ lw_tbl := lw_at lw_m5 18 rfl
theorem q1048 : (Jvm.Cond.instanceMethod ({ cls := "HeirHuntersModel", name := "isPerson", desc := "(I)Z" } : Jvm.MethodName)) ∈ lw_all := lw_g (lw_at lw_m5 19 rfl) rfl
theorem q1049 : (Jvm.Cond.code ({ cls := "HeirHuntersModel", name := "isPerson", desc := "(I)Z" } : Jvm.MethodName) prog_8_method_6_code (2 : Nat) (Option.some Jvm.ClassFile.FieldType.boolean)) ∈ lw_all := lw_g (lw_at lw_m5 20 rfl) rfl
theorem q1050 : (Jvm.Cond.methodLink "HeirHuntersModel" (156 : Nat) ({ cls := "HeirHuntersModel", name := "tells", desc := "(II)I" } : Jvm.MethodName)) ∈ lw_all := lw_g (lw_at lw_m5 21 rfl) rfl
theorem q1051 : (Jvm.Cond.privateMethod ({ cls := "HeirHuntersModel", name := "tells", desc := "(II)I" } : Jvm.MethodName)) ∈ lw_tbl := lw_at lw_m5 22 rfl
theorem q1052 : (Jvm.Cond.instanceMethod ({ cls := "HeirHuntersModel", name := "tells", desc := "(II)I" } : Jvm.MethodName)) ∈ lw_all := lw_g (lw_at lw_m5 23 rfl) rfl
theorem q1053 : (Jvm.Cond.code ({ cls := "HeirHuntersModel", name := "tells", desc := "(II)I" } : Jvm.MethodName) prog_8_method_10_code (3 : Nat) (Option.some Jvm.ClassFile.FieldType.int)) ∈ lw_all := lw_g (lw_at lw_m5 24 rfl) rfl
theorem q1054 : (Jvm.Cond.methodLink "HeirHuntersModel" (149 : Nat) ({ cls := "HeirHuntersModel", name := "linesOf", desc := "(IZ)I" } : Jvm.MethodName)) ∈ lw_all := lw_g (lw_at lw_m5 25 rfl) rfl
theorem q1055 : (Jvm.Cond.privateMethod ({ cls := "HeirHuntersModel", name := "linesOf", desc := "(IZ)I" } : Jvm.MethodName)) ∈ lw_tbl := lw_at lw_m5 26 rfl
theorem q1056 : (Jvm.Cond.instanceMethod ({ cls := "HeirHuntersModel", name := "linesOf", desc := "(IZ)I" } : Jvm.MethodName)) ∈ lw_all := lw_g (lw_at lw_m5 27 rfl) rfl
theorem q1057 : (Jvm.Cond.code ({ cls := "HeirHuntersModel", name := "linesOf", desc := "(IZ)I" } : Jvm.MethodName) prog_8_method_9_code (5 : Nat) (Option.some Jvm.ClassFile.FieldType.int)) ∈ lw_all := lw_g (lw_at lw_m5 28 rfl) rfl
theorem q1059 : (Jvm.Cond.instanceMethod ({ cls := "HeirHuntersModel", name := "die", desc := "(II)I" } : Jvm.MethodName)) ∈ lw_all := lw_g (lw_at lw_m5 30 rfl) rfl
theorem q1060 : (Jvm.Cond.selects "HeirHuntersModel" ({ cls := "HeirHuntersModel", name := "die", desc := "(II)I" } : Jvm.MethodName) ({ cls := "HeirHuntersModel", name := "die", desc := "(II)I" } : Jvm.MethodName)) ∈ lw_all := lw_g (lw_at lw_m5 31 rfl) rfl
theorem q1061 : (Jvm.Cond.code ({ cls := "HeirHuntersModel", name := "die", desc := "(II)I" } : Jvm.MethodName) prog_8_method_12_code (3 : Nat) (Option.some Jvm.ClassFile.FieldType.int)) ∈ lw_all := lw_g (lw_at lw_m5 32 rfl) rfl
theorem q1063 : (Jvm.Cond.instanceMethod ({ cls := "HeirHuntersModel", name := "line", desc := "(IIIII)I" } : Jvm.MethodName)) ∈ lw_all := lw_g (lw_at lw_m5 34 rfl) rfl
theorem q1064 : (Jvm.Cond.selects "HeirHuntersModel" ({ cls := "HeirHuntersModel", name := "line", desc := "(IIIII)I" } : Jvm.MethodName) ({ cls := "HeirHuntersModel", name := "line", desc := "(IIIII)I" } : Jvm.MethodName)) ∈ lw_all := lw_g (lw_at lw_m5 35 rfl) rfl
theorem q1065 : (Jvm.Cond.code ({ cls := "HeirHuntersModel", name := "line", desc := "(IIIII)I" } : Jvm.MethodName) prog_8_method_13_code (8 : Nat) (Option.some Jvm.ClassFile.FieldType.int)) ∈ lw_all := lw_g (lw_at lw_m5 36 rfl) rfl
theorem q1067 : (Jvm.Cond.instanceMethod ({ cls := "HeirHuntersModel", name := "lineTold", desc := "(II)I" } : Jvm.MethodName)) ∈ lw_all := lw_g (lw_at lw_m5 38 rfl) rfl
theorem q1068 : (Jvm.Cond.selects "HeirHuntersModel" ({ cls := "HeirHuntersModel", name := "lineTold", desc := "(II)I" } : Jvm.MethodName) ({ cls := "HeirHuntersModel", name := "lineTold", desc := "(II)I" } : Jvm.MethodName)) ∈ lw_all := lw_g (lw_at lw_m5 39 rfl) rfl
theorem q1069 : (Jvm.Cond.code ({ cls := "HeirHuntersModel", name := "lineTold", desc := "(II)I" } : Jvm.MethodName) prog_8_method_15_code (3 : Nat) (Option.some Jvm.ClassFile.FieldType.int)) ∈ lw_all := lw_g (lw_at lw_m5 40 rfl) rfl
theorem q1070 : (Jvm.Cond.methodLink "HeirHuntersModel" (160 : Nat) ({ cls := "HeirHuntersModel", name := "isLine", desc := "(I)Z" } : Jvm.MethodName)) ∈ lw_all := lw_g (lw_at lw_m5 41 rfl) rfl
theorem q1071 : (Jvm.Cond.privateMethod ({ cls := "HeirHuntersModel", name := "isLine", desc := "(I)Z" } : Jvm.MethodName)) ∈ lw_tbl := lw_at lw_m5 42 rfl
theorem q1072 : (Jvm.Cond.instanceMethod ({ cls := "HeirHuntersModel", name := "isLine", desc := "(I)Z" } : Jvm.MethodName)) ∈ lw_all := lw_g (lw_at lw_m5 43 rfl) rfl
theorem q1073 : (Jvm.Cond.code ({ cls := "HeirHuntersModel", name := "isLine", desc := "(I)Z" } : Jvm.MethodName) prog_8_method_7_code (2 : Nat) (Option.some Jvm.ClassFile.FieldType.boolean)) ∈ lw_all := lw_g (lw_at lw_m5 44 rfl) rfl
theorem q1074 : (Jvm.Cond.methodLink "HeirHuntersModel" (163 : Nat) ({ cls := "HeirHuntersModel", name := "tellsLine", desc := "(II)I" } : Jvm.MethodName)) ∈ lw_all := lw_g (lw_at lw_m5 45 rfl) rfl
theorem q1075 : (Jvm.Cond.privateMethod ({ cls := "HeirHuntersModel", name := "tellsLine", desc := "(II)I" } : Jvm.MethodName)) ∈ lw_tbl := lw_at lw_m5 46 rfl
theorem q1076 : (Jvm.Cond.instanceMethod ({ cls := "HeirHuntersModel", name := "tellsLine", desc := "(II)I" } : Jvm.MethodName)) ∈ lw_all := lw_g (lw_at lw_m5 47 rfl) rfl
theorem q1077 : (Jvm.Cond.code ({ cls := "HeirHuntersModel", name := "tellsLine", desc := "(II)I" } : Jvm.MethodName) prog_8_method_14_code (3 : Nat) (Option.some Jvm.ClassFile.FieldType.int)) ∈ lw_all := lw_g (lw_at lw_m5 48 rfl) rfl
theorem q1079 : (Jvm.Cond.instanceMethod ({ cls := "HeirHuntersModel", name := "mark", desc := "(II)I" } : Jvm.MethodName)) ∈ lw_all := lw_g (lw_at lw_m5 50 rfl) rfl
theorem q1080 : (Jvm.Cond.selects "HeirHuntersModel" ({ cls := "HeirHuntersModel", name := "mark", desc := "(II)I" } : Jvm.MethodName) ({ cls := "HeirHuntersModel", name := "mark", desc := "(II)I" } : Jvm.MethodName)) ∈ lw_all := lw_g (lw_at lw_m5 51 rfl) rfl
theorem q1081 : (Jvm.Cond.code ({ cls := "HeirHuntersModel", name := "mark", desc := "(II)I" } : Jvm.MethodName) prog_8_method_16_code (4 : Nat) (Option.some Jvm.ClassFile.FieldType.int)) ∈ lw_all := lw_g (lw_at lw_m5 52 rfl) rfl
theorem q1082 : (Jvm.Cond.methodLink "HeirHuntersModel" (166 : Nat) ({ cls := "HeirHuntersModel", name := "meets", desc := "(I)I" } : Jvm.MethodName)) ∈ lw_all := lw_g (lw_at lw_m5 53 rfl) rfl
theorem q1083 : (Jvm.Cond.privateMethod ({ cls := "HeirHuntersModel", name := "meets", desc := "(I)I" } : Jvm.MethodName)) ∈ lw_tbl := lw_at lw_m5 54 rfl
theorem q1084 : (Jvm.Cond.instanceMethod ({ cls := "HeirHuntersModel", name := "meets", desc := "(I)I" } : Jvm.MethodName)) ∈ lw_all := lw_g (lw_at lw_m5 55 rfl) rfl
theorem q1085 : (Jvm.Cond.code ({ cls := "HeirHuntersModel", name := "meets", desc := "(I)I" } : Jvm.MethodName) prog_8_method_5_code (2 : Nat) (Option.some Jvm.ClassFile.FieldType.int)) ∈ lw_all := lw_g (lw_at lw_m5 56 rfl) rfl
theorem q1087 : (Jvm.Cond.instanceMethod ({ cls := "HeirHuntersModel", name := "prove", desc := "(II)I" } : Jvm.MethodName)) ∈ lw_all := lw_g (lw_at lw_m5 58 rfl) rfl
theorem q1088 : (Jvm.Cond.selects "HeirHuntersModel" ({ cls := "HeirHuntersModel", name := "prove", desc := "(II)I" } : Jvm.MethodName) ({ cls := "HeirHuntersModel", name := "prove", desc := "(II)I" } : Jvm.MethodName)) ∈ lw_all := lw_g (lw_at lw_m5 59 rfl) rfl
theorem q1089 : (Jvm.Cond.code ({ cls := "HeirHuntersModel", name := "prove", desc := "(II)I" } : Jvm.MethodName) prog_8_method_17_code (3 : Nat) (Option.some Jvm.ClassFile.FieldType.int)) ∈ lw_all := lw_g (lw_at lw_m5 60 rfl) rfl
theorem q1091 : (Jvm.Cond.instanceMethod ({ cls := "HeirHuntersModel", name := "strike", desc := "(I)I" } : Jvm.MethodName)) ∈ lw_all := lw_g (lw_at lw_m5 62 rfl) rfl
theorem q1092 : (Jvm.Cond.selects "HeirHuntersModel" ({ cls := "HeirHuntersModel", name := "strike", desc := "(I)I" } : Jvm.MethodName) ({ cls := "HeirHuntersModel", name := "strike", desc := "(I)I" } : Jvm.MethodName)) ∈ lw_all := lw_g (lw_at lw_m5 63 rfl) rfl
theorem q1093 : (Jvm.Cond.code ({ cls := "HeirHuntersModel", name := "strike", desc := "(I)I" } : Jvm.MethodName) prog_8_method_18_code (2 : Nat) (Option.some Jvm.ClassFile.FieldType.int)) ∈ lw_all := lw_g (lw_at lw_m5 64 rfl) rfl
theorem q1095 : (Jvm.Cond.instanceMethod ({ cls := "HeirHuntersModel", name := "couple", desc := "(IIII)I" } : Jvm.MethodName)) ∈ lw_all := lw_g (lw_at lw_m5 66 rfl) rfl
theorem q1096 : (Jvm.Cond.selects "HeirHuntersModel" ({ cls := "HeirHuntersModel", name := "couple", desc := "(IIII)I" } : Jvm.MethodName) ({ cls := "HeirHuntersModel", name := "couple", desc := "(IIII)I" } : Jvm.MethodName)) ∈ lw_all := lw_g (lw_at lw_m5 67 rfl) rfl
theorem q1097 : (Jvm.Cond.code ({ cls := "HeirHuntersModel", name := "couple", desc := "(IIII)I" } : Jvm.MethodName) prog_8_method_19_code (5 : Nat) (Option.some Jvm.ClassFile.FieldType.int)) ∈ lw_all := lw_g (lw_at lw_m5 68 rfl) rfl
theorem q1099 : (Jvm.Cond.instanceMethod ({ cls := "HeirHuntersModel", name := "law", desc := "(IIIIZI)I" } : Jvm.MethodName)) ∈ lw_all := lw_g (lw_at lw_m5 70 rfl) rfl
theorem q1100 : (Jvm.Cond.selects "HeirHuntersModel" ({ cls := "HeirHuntersModel", name := "law", desc := "(IIIIZI)I" } : Jvm.MethodName) ({ cls := "HeirHuntersModel", name := "law", desc := "(IIIIZI)I" } : Jvm.MethodName)) ∈ lw_all := lw_g (lw_at lw_m5 71 rfl) rfl
theorem q1101 : (Jvm.Cond.code ({ cls := "HeirHuntersModel", name := "law", desc := "(IIIIZI)I" } : Jvm.MethodName) prog_8_method_20_code (7 : Nat) (Option.some Jvm.ClassFile.FieldType.int)) ∈ lw_all := lw_g (lw_at lw_m5 72 rfl) rfl
theorem q1103 : (Jvm.Cond.instanceMethod ({ cls := "HeirHuntersModel", name := "lawOf", desc := "(I)I" } : Jvm.MethodName)) ∈ lw_all := lw_g (lw_at lw_m5 74 rfl) rfl
theorem q1104 : (Jvm.Cond.selects "HeirHuntersModel" ({ cls := "HeirHuntersModel", name := "lawOf", desc := "(I)I" } : Jvm.MethodName) ({ cls := "HeirHuntersModel", name := "lawOf", desc := "(I)I" } : Jvm.MethodName)) ∈ lw_all := lw_g (lw_at lw_m5 75 rfl) rfl
theorem q1105 : (Jvm.Cond.code ({ cls := "HeirHuntersModel", name := "lawOf", desc := "(I)I" } : Jvm.MethodName) prog_8_method_27_code (3 : Nat) (Option.some Jvm.ClassFile.FieldType.int)) ∈ lw_all := lw_g (lw_at lw_m5 76 rfl) rfl
theorem q1106 : (Jvm.Cond.methodLink "HeirHuntersModel" (196 : Nat) ({ cls := "HeirHuntersModel", name := "asked", desc := "(I)I" } : Jvm.MethodName)) ∈ lw_all := lw_g (lw_at lw_m5 77 rfl) rfl
theorem q1107 : (Jvm.Cond.privateMethod ({ cls := "HeirHuntersModel", name := "asked", desc := "(I)I" } : Jvm.MethodName)) ∈ lw_tbl := lw_at lw_m5 78 rfl
theorem q1108 : (Jvm.Cond.instanceMethod ({ cls := "HeirHuntersModel", name := "asked", desc := "(I)I" } : Jvm.MethodName)) ∈ lw_all := lw_g (lw_at lw_m5 79 rfl) rfl
theorem q1109 : (Jvm.Cond.code ({ cls := "HeirHuntersModel", name := "asked", desc := "(I)I" } : Jvm.MethodName) prog_8_method_26_code (2 : Nat) (Option.some Jvm.ClassFile.FieldType.int)) ∈ lw_all := lw_g (lw_at lw_m5 80 rfl) rfl
theorem q1110 : (Jvm.Cond.methodLink "HeirHuntersModel" (190 : Nat) ({ cls := "HeirHuntersModel", name := "isDead", desc := "(I)Z" } : Jvm.MethodName)) ∈ lw_all := lw_g (lw_at lw_m5 81 rfl) rfl
theorem q1111 : (Jvm.Cond.privateMethod ({ cls := "HeirHuntersModel", name := "isDead", desc := "(I)Z" } : Jvm.MethodName)) ∈ lw_tbl := lw_at lw_m5 82 rfl
theorem q1112 : (Jvm.Cond.instanceMethod ({ cls := "HeirHuntersModel", name := "isDead", desc := "(I)Z" } : Jvm.MethodName)) ∈ lw_all := lw_g (lw_at lw_m5 83 rfl) rfl
theorem q1113 : (Jvm.Cond.code ({ cls := "HeirHuntersModel", name := "isDead", desc := "(I)Z" } : Jvm.MethodName) prog_8_method_24_code (2 : Nat) (Option.some Jvm.ClassFile.FieldType.boolean)) ∈ lw_all := lw_g (lw_at lw_m5 84 rfl) rfl
theorem q1114 : (Jvm.Cond.methodLink "HeirHuntersModel" (193 : Nat) ({ cls := "HeirHuntersModel", name := "lawFor", desc := "(I)I" } : Jvm.MethodName)) ∈ lw_all := lw_g (lw_at lw_m5 85 rfl) rfl
theorem q1115 : (Jvm.Cond.privateMethod ({ cls := "HeirHuntersModel", name := "lawFor", desc := "(I)I" } : Jvm.MethodName)) ∈ lw_tbl := lw_at lw_m5 86 rfl
theorem q1116 : (Jvm.Cond.instanceMethod ({ cls := "HeirHuntersModel", name := "lawFor", desc := "(I)I" } : Jvm.MethodName)) ∈ lw_all := lw_g (lw_at lw_m5 87 rfl) rfl
theorem q1117 : (Jvm.Cond.code ({ cls := "HeirHuntersModel", name := "lawFor", desc := "(I)I" } : Jvm.MethodName) prog_8_method_25_code (5 : Nat) (Option.some Jvm.ClassFile.FieldType.int)) ∈ lw_all := lw_g (lw_at lw_m5 88 rfl) rfl
theorem q1119 : (Jvm.Cond.instanceMethod ({ cls := "HeirHuntersModel", name := "share", desc := "(IIZ)I" } : Jvm.MethodName)) ∈ lw_all := lw_g (lw_at lw_m5 90 rfl) rfl
theorem q1120 : (Jvm.Cond.selects "HeirHuntersModel" ({ cls := "HeirHuntersModel", name := "share", desc := "(IIZ)I" } : Jvm.MethodName) ({ cls := "HeirHuntersModel", name := "share", desc := "(IIZ)I" } : Jvm.MethodName)) ∈ lw_all := lw_g (lw_at lw_m5 91 rfl) rfl
theorem q1121 : (Jvm.Cond.code ({ cls := "HeirHuntersModel", name := "share", desc := "(IIZ)I" } : Jvm.MethodName) prog_8_method_41_code (6 : Nat) (Option.some Jvm.ClassFile.FieldType.int)) ∈ lw_all := lw_g (lw_at lw_m5 92 rfl) rfl
theorem q1122 : (Jvm.Cond.methodLink "HeirHuntersModel" (255 : Nat) ({ cls := "HeirHuntersModel", name := "isTaker", desc := "(I)Z" } : Jvm.MethodName)) ∈ lw_all := lw_g (lw_at lw_m5 93 rfl) rfl
theorem q1123 : (Jvm.Cond.privateMethod ({ cls := "HeirHuntersModel", name := "isTaker", desc := "(I)Z" } : Jvm.MethodName)) ∈ lw_tbl := lw_at lw_m5 94 rfl
theorem q1124 : (Jvm.Cond.instanceMethod ({ cls := "HeirHuntersModel", name := "isTaker", desc := "(I)Z" } : Jvm.MethodName)) ∈ lw_all := lw_g (lw_at lw_m5 95 rfl) rfl
theorem q1125 : (Jvm.Cond.code ({ cls := "HeirHuntersModel", name := "isTaker", desc := "(I)Z" } : Jvm.MethodName) prog_8_method_40_code (2 : Nat) (Option.some Jvm.ClassFile.FieldType.boolean)) ∈ lw_all := lw_g (lw_at lw_m5 96 rfl) rfl
theorem q1126 : (Jvm.Cond.methodLink "HeirHuntersModel" (258 : Nat) ({ cls := "HeirHuntersModel", name := "setOpen", desc := "()V" } : Jvm.MethodName)) ∈ lw_all := lw_g (lw_at lw_m5 97 rfl) rfl
theorem q1127 : (Jvm.Cond.privateMethod ({ cls := "HeirHuntersModel", name := "setOpen", desc := "()V" } : Jvm.MethodName)) ∈ lw_tbl := lw_at lw_m5 98 rfl
theorem q1128 : (Jvm.Cond.instanceMethod ({ cls := "HeirHuntersModel", name := "setOpen", desc := "()V" } : Jvm.MethodName)) ∈ lw_all := lw_g (lw_at lw_m5 99 rfl) rfl
theorem q1129 : (Jvm.Cond.code ({ cls := "HeirHuntersModel", name := "setOpen", desc := "()V" } : Jvm.MethodName) prog_8_method_28_code (2 : Nat) (Option.none : Option Jvm.ClassFile.FieldType)) ∈ lw_all := lw_g (lw_at lw_m5 100 rfl) rfl
theorem q1130 : (Jvm.Cond.methodLink "HeirHuntersModel" (261 : Nat) ({ cls := "HeirHuntersModel", name := "partAll", desc := "(IZI)V" } : Jvm.MethodName)) ∈ lw_all := lw_g (lw_at lw_m5 101 rfl) rfl
theorem q1131 : (Jvm.Cond.privateMethod ({ cls := "HeirHuntersModel", name := "partAll", desc := "(IZI)V" } : Jvm.MethodName)) ∈ lw_tbl := lw_at lw_m5 102 rfl
theorem q1132 : (Jvm.Cond.instanceMethod ({ cls := "HeirHuntersModel", name := "partAll", desc := "(IZI)V" } : Jvm.MethodName)) ∈ lw_all := lw_g (lw_at lw_m5 103 rfl) rfl
theorem q1133 : (Jvm.Cond.code ({ cls := "HeirHuntersModel", name := "partAll", desc := "(IZI)V" } : Jvm.MethodName) prog_8_method_38_code (10 : Nat) (Option.none : Option Jvm.ClassFile.FieldType)) ∈ lw_all := lw_g (lw_at lw_m5 104 rfl) rfl
theorem q1134 : (Jvm.Cond.methodLink "HeirHuntersModel" (235 : Nat) ({ cls := "HeirHuntersModel", name := "begin", desc := "(IZI)V" } : Jvm.MethodName)) ∈ lw_all := lw_g (lw_at lw_m5 105 rfl) rfl
theorem q1135 : (Jvm.Cond.privateMethod ({ cls := "HeirHuntersModel", name := "begin", desc := "(IZI)V" } : Jvm.MethodName)) ∈ lw_tbl := lw_at lw_m5 106 rfl
theorem q1136 : (Jvm.Cond.instanceMethod ({ cls := "HeirHuntersModel", name := "begin", desc := "(IZI)V" } : Jvm.MethodName)) ∈ lw_all := lw_g (lw_at lw_m5 107 rfl) rfl
theorem q1137 : (Jvm.Cond.code ({ cls := "HeirHuntersModel", name := "begin", desc := "(IZI)V" } : Jvm.MethodName) prog_8_method_30_code (8 : Nat) (Option.none : Option Jvm.ClassFile.FieldType)) ∈ lw_all := lw_g (lw_at lw_m5 108 rfl) rfl
theorem q1138 : (Jvm.Cond.methodLink "HeirHuntersModel" (211 : Nat) ({ cls := "HeirHuntersModel", name := "setOrder", desc := "()V" } : Jvm.MethodName)) ∈ lw_all := lw_g (lw_at lw_m5 109 rfl) rfl
theorem q1139 : (Jvm.Cond.privateMethod ({ cls := "HeirHuntersModel", name := "setOrder", desc := "()V" } : Jvm.MethodName)) ∈ lw_tbl := lw_at lw_m5 110 rfl
theorem q1140 : (Jvm.Cond.instanceMethod ({ cls := "HeirHuntersModel", name := "setOrder", desc := "()V" } : Jvm.MethodName)) ∈ lw_all := lw_g (lw_at lw_m5 111 rfl) rfl
theorem q1141 : (Jvm.Cond.code ({ cls := "HeirHuntersModel", name := "setOrder", desc := "()V" } : Jvm.MethodName) prog_8_method_29_code (3 : Nat) (Option.none : Option Jvm.ClassFile.FieldType)) ∈ lw_all := lw_g (lw_at lw_m5 112 rfl) rfl
theorem q1142 : (Jvm.Cond.methodLink "HeirHuntersModel" (242 : Nat) ({ cls := "HeirHuntersModel", name := "setHeads", desc := "(I)V" } : Jvm.MethodName)) ∈ lw_all := lw_g (lw_at lw_m5 113 rfl) rfl
theorem q1143 : (Jvm.Cond.privateMethod ({ cls := "HeirHuntersModel", name := "setHeads", desc := "(I)V" } : Jvm.MethodName)) ∈ lw_tbl := lw_at lw_m5 114 rfl
theorem q1144 : (Jvm.Cond.instanceMethod ({ cls := "HeirHuntersModel", name := "setHeads", desc := "(I)V" } : Jvm.MethodName)) ∈ lw_all := lw_g (lw_at lw_m5 115 rfl) rfl
theorem q1145 : (Jvm.Cond.code ({ cls := "HeirHuntersModel", name := "setHeads", desc := "(I)V" } : Jvm.MethodName) prog_8_method_35_code (4 : Nat) (Option.none : Option Jvm.ClassFile.FieldType)) ∈ lw_all := lw_g (lw_at lw_m5 116 rfl) rfl
theorem q1146 : (Jvm.Cond.methodLink "HeirHuntersModel" (228 : Nat) ({ cls := "HeirHuntersModel", name := "addHead", desc := "(I)V" } : Jvm.MethodName)) ∈ lw_all := lw_g (lw_at lw_m5 117 rfl) rfl
theorem q1147 : (Jvm.Cond.privateMethod ({ cls := "HeirHuntersModel", name := "addHead", desc := "(I)V" } : Jvm.MethodName)) ∈ lw_tbl := lw_at lw_m5 118 rfl
theorem q1148 : (Jvm.Cond.instanceMethod ({ cls := "HeirHuntersModel", name := "addHead", desc := "(I)V" } : Jvm.MethodName)) ∈ lw_all := lw_g (lw_at lw_m5 119 rfl) rfl
theorem q1149 : (Jvm.Cond.code ({ cls := "HeirHuntersModel", name := "addHead", desc := "(I)V" } : Jvm.MethodName) prog_8_method_36_code (2 : Nat) (Option.none : Option Jvm.ClassFile.FieldType)) ∈ lw_all := lw_g (lw_at lw_m5 120 rfl) rfl
theorem q1150 : (Jvm.Cond.methodLink "HeirHuntersModel" (232 : Nat) ({ cls := "HeirHuntersModel", name := "mayTake", desc := "(I)Z" } : Jvm.MethodName)) ∈ lw_all := lw_g (lw_at lw_m5 121 rfl) rfl
theorem q1151 : (Jvm.Cond.privateMethod ({ cls := "HeirHuntersModel", name := "mayTake", desc := "(I)Z" } : Jvm.MethodName)) ∈ lw_tbl := lw_at lw_m5 122 rfl
theorem q1152 : (Jvm.Cond.instanceMethod ({ cls := "HeirHuntersModel", name := "mayTake", desc := "(I)Z" } : Jvm.MethodName)) ∈ lw_all := lw_g (lw_at lw_m5 123 rfl) rfl
theorem q1153 : (Jvm.Cond.code ({ cls := "HeirHuntersModel", name := "mayTake", desc := "(I)Z" } : Jvm.MethodName) prog_8_method_34_code (2 : Nat) (Option.some Jvm.ClassFile.FieldType.boolean)) ∈ lw_all := lw_g (lw_at lw_m5 124 rfl) rfl
theorem q1154 : (Jvm.Cond.methodLink "HeirHuntersModel" (245 : Nat) ({ cls := "HeirHuntersModel", name := "coupled", desc := "()I" } : Jvm.MethodName)) ∈ lw_all := lw_g (lw_at lw_m5 125 rfl) rfl
theorem q1155 : (Jvm.Cond.privateMethod ({ cls := "HeirHuntersModel", name := "coupled", desc := "()I" } : Jvm.MethodName)) ∈ lw_tbl := lw_at lw_m5 126 rfl
theorem q1156 : (Jvm.Cond.instanceMethod ({ cls := "HeirHuntersModel", name := "coupled", desc := "()I" } : Jvm.MethodName)) ∈ lw_all := lw_g (lw_at lw_m5 127 rfl) rfl
theorem q1157 : (Jvm.Cond.code ({ cls := "HeirHuntersModel", name := "coupled", desc := "()I" } : Jvm.MethodName) prog_8_method_37_code (3 : Nat) (Option.some Jvm.ClassFile.FieldType.int)) ∈ lw_all := lw_g (lw_at lw_m5 128 rfl) rfl
theorem q1158 : (Jvm.Cond.methodLink "HeirHuntersModel" (214 : Nat) ({ cls := "HeirHuntersModel", name := "gets", desc := "(IJJ)V" } : Jvm.MethodName)) ∈ lw_all := lw_g (lw_at lw_m5 129 rfl) rfl
theorem q1159 : (Jvm.Cond.privateMethod ({ cls := "HeirHuntersModel", name := "gets", desc := "(IJJ)V" } : Jvm.MethodName)) ∈ lw_tbl := lw_at lw_m5 130 rfl
theorem q1160 : (Jvm.Cond.instanceMethod ({ cls := "HeirHuntersModel", name := "gets", desc := "(IJJ)V" } : Jvm.MethodName)) ∈ lw_all := lw_g (lw_at lw_m5 131 rfl) rfl
theorem q1161 : (Jvm.Cond.code ({ cls := "HeirHuntersModel", name := "gets", desc := "(IJJ)V" } : Jvm.MethodName) prog_8_method_23_code (6 : Nat) (Option.none : Option Jvm.ClassFile.FieldType)) ∈ lw_all := lw_g (lw_at lw_m5 132 rfl) rfl
theorem q1162 : (Jvm.Cond.methodLink "HeirHuntersModel" (186 : Nat) ({ cls := "HeirHuntersModel", name := "add", desc := "(JJJJ)V" } : Jvm.MethodName)) ∈ lw_all := lw_g (lw_at lw_m5 133 rfl) rfl
theorem q1163 : (Jvm.Cond.privateMethod ({ cls := "HeirHuntersModel", name := "add", desc := "(JJJJ)V" } : Jvm.MethodName)) ∈ lw_tbl := lw_at lw_m5 134 rfl
theorem q1164 : (Jvm.Cond.instanceMethod ({ cls := "HeirHuntersModel", name := "add", desc := "(JJJJ)V" } : Jvm.MethodName)) ∈ lw_all := lw_g (lw_at lw_m5 135 rfl) rfl
theorem q1165 : (Jvm.Cond.code ({ cls := "HeirHuntersModel", name := "add", desc := "(JJJJ)V" } : Jvm.MethodName) prog_8_method_22_code (17 : Nat) (Option.none : Option Jvm.ClassFile.FieldType)) ∈ lw_all := lw_g (lw_at lw_m5 136 rfl) rfl
theorem q1166 : (Jvm.Cond.methodLink "HeirHuntersModel" (176 : Nat) ({ cls := "HeirHuntersModel", name := "divisor", desc := "(JJ)J" } : Jvm.MethodName)) ∈ lw_all := lw_g (lw_at lw_m5 137 rfl) rfl
theorem q1167 : (Jvm.Cond.static ({ cls := "HeirHuntersModel", name := "divisor", desc := "(JJ)J" } : Jvm.MethodName)) ∈ lw_all := lw_g (lw_at lw_m5 138 rfl) rfl
theorem q1168 : (Jvm.Cond.code ({ cls := "HeirHuntersModel", name := "divisor", desc := "(JJ)J" } : Jvm.MethodName) prog_8_method_21_code (10 : Nat) (Option.some Jvm.ClassFile.FieldType.long)) ∈ lw_all := lw_g (lw_at lw_m5 139 rfl) rfl
theorem q1169 : (Jvm.Cond.methodLink "HeirHuntersModel" (222 : Nat) ({ cls := "HeirHuntersModel", name := "give", desc := "(IJJ)V" } : Jvm.MethodName)) ∈ lw_all := lw_g (lw_at lw_m5 140 rfl) rfl
theorem q1170 : (Jvm.Cond.privateMethod ({ cls := "HeirHuntersModel", name := "give", desc := "(IJJ)V" } : Jvm.MethodName)) ∈ lw_tbl := lw_at lw_m5 141 rfl
theorem q1171 : (Jvm.Cond.instanceMethod ({ cls := "HeirHuntersModel", name := "give", desc := "(IJJ)V" } : Jvm.MethodName)) ∈ lw_all := lw_g (lw_at lw_m5 142 rfl) rfl
theorem q1172 : (Jvm.Cond.code ({ cls := "HeirHuntersModel", name := "give", desc := "(IJJ)V" } : Jvm.MethodName) prog_8_method_31_code (6 : Nat) (Option.none : Option Jvm.ClassFile.FieldType)) ∈ lw_all := lw_g (lw_at lw_m5 143 rfl) rfl
theorem q1173 : (Jvm.Cond.methodLink "HeirHuntersModel" (249 : Nat) ({ cls := "HeirHuntersModel", name := "comeDown", desc := "()V" } : Jvm.MethodName)) ∈ lw_all := lw_g (lw_at lw_m5 144 rfl) rfl
theorem q1174 : (Jvm.Cond.privateMethod ({ cls := "HeirHuntersModel", name := "comeDown", desc := "()V" } : Jvm.MethodName)) ∈ lw_tbl := lw_at lw_m5 145 rfl
theorem q1175 : (Jvm.Cond.instanceMethod ({ cls := "HeirHuntersModel", name := "comeDown", desc := "()V" } : Jvm.MethodName)) ∈ lw_all := lw_g (lw_at lw_m5 146 rfl) rfl
theorem q1176 : (Jvm.Cond.code ({ cls := "HeirHuntersModel", name := "comeDown", desc := "()V" } : Jvm.MethodName) prog_8_method_32_code (7 : Nat) (Option.none : Option Jvm.ClassFile.FieldType)) ∈ lw_all := lw_g (lw_at lw_m5 147 rfl) rfl
theorem q1177 : (Jvm.Cond.methodLink "HeirHuntersModel" (218 : Nat) ({ cls := "HeirHuntersModel", name := "isHeir", desc := "(II)Z" } : Jvm.MethodName)) ∈ lw_all := lw_g (lw_at lw_m5 148 rfl) rfl
theorem q1178 : (Jvm.Cond.privateMethod ({ cls := "HeirHuntersModel", name := "isHeir", desc := "(II)Z" } : Jvm.MethodName)) ∈ lw_tbl := lw_at lw_m5 149 rfl
theorem q1179 : (Jvm.Cond.instanceMethod ({ cls := "HeirHuntersModel", name := "isHeir", desc := "(II)Z" } : Jvm.MethodName)) ∈ lw_all := lw_g (lw_at lw_m5 150 rfl) rfl
theorem q1180 : (Jvm.Cond.code ({ cls := "HeirHuntersModel", name := "isHeir", desc := "(II)Z" } : Jvm.MethodName) prog_8_method_33_code (4 : Nat) (Option.some Jvm.ClassFile.FieldType.boolean)) ∈ lw_all := lw_g (lw_at lw_m5 151 rfl) rfl
theorem q1181 : (Jvm.Cond.methodLink "HeirHuntersModel" (264 : Nat) ({ cls := "HeirHuntersModel", name := "tell", desc := "(JJ)I" } : Jvm.MethodName)) ∈ lw_all := lw_g (lw_at lw_m5 152 rfl) rfl
theorem q1182 : (Jvm.Cond.privateMethod ({ cls := "HeirHuntersModel", name := "tell", desc := "(JJ)I" } : Jvm.MethodName)) ∈ lw_tbl := lw_at lw_m5 153 rfl
theorem q1183 : (Jvm.Cond.instanceMethod ({ cls := "HeirHuntersModel", name := "tell", desc := "(JJ)I" } : Jvm.MethodName)) ∈ lw_all := lw_g (lw_at lw_m5 154 rfl) rfl
theorem q1184 : (Jvm.Cond.code ({ cls := "HeirHuntersModel", name := "tell", desc := "(JJ)I" } : Jvm.MethodName) prog_8_method_39_code (7 : Nat) (Option.some Jvm.ClassFile.FieldType.int)) ∈ lw_all := lw_g (lw_at lw_m5 155 rfl) rfl
theorem q1186 : (Jvm.Cond.instanceMethod ({ cls := "HeirHuntersModel", name := "circle", desc := "(IZ)I" } : Jvm.MethodName)) ∈ lw_all := lw_g (lw_at lw_m5 157 rfl) rfl
theorem q1187 : (Jvm.Cond.selects "HeirHuntersModel" ({ cls := "HeirHuntersModel", name := "circle", desc := "(IZ)I" } : Jvm.MethodName) ({ cls := "HeirHuntersModel", name := "circle", desc := "(IZ)I" } : Jvm.MethodName)) ∈ lw_all := lw_g (lw_at lw_m5 158 rfl) rfl
theorem q1188 : (Jvm.Cond.code ({ cls := "HeirHuntersModel", name := "circle", desc := "(IZ)I" } : Jvm.MethodName) prog_8_method_42_code (4 : Nat) (Option.some Jvm.ClassFile.FieldType.int)) ∈ lw_all := lw_g (lw_at lw_m5 159 rfl) rfl
theorem q1190 : (Jvm.Cond.instanceMethod ({ cls := "HeirHuntersModel", name := "heirs", desc := "(IZ)I" } : Jvm.MethodName)) ∈ lw_all := lw_g (lw_at lw_m5 161 rfl) rfl
theorem q1191 : (Jvm.Cond.selects "HeirHuntersModel" ({ cls := "HeirHuntersModel", name := "heirs", desc := "(IZ)I" } : Jvm.MethodName) ({ cls := "HeirHuntersModel", name := "heirs", desc := "(IZ)I" } : Jvm.MethodName)) ∈ lw_all := lw_g (lw_at lw_m5 162 rfl) rfl
theorem q1192 : (Jvm.Cond.code ({ cls := "HeirHuntersModel", name := "heirs", desc := "(IZ)I" } : Jvm.MethodName) prog_8_method_43_code (6 : Nat) (Option.some Jvm.ClassFile.FieldType.int)) ∈ lw_all := lw_g (lw_at lw_m5 163 rfl) rfl
theorem q1194 : (Jvm.Cond.instanceMethod ({ cls := "HeirHuntersModel", name := "bound", desc := "(IIZ)I" } : Jvm.MethodName)) ∈ lw_all := lw_g (lw_at lw_m5 165 rfl) rfl
theorem q1195 : (Jvm.Cond.selects "HeirHuntersModel" ({ cls := "HeirHuntersModel", name := "bound", desc := "(IIZ)I" } : Jvm.MethodName) ({ cls := "HeirHuntersModel", name := "bound", desc := "(IIZ)I" } : Jvm.MethodName)) ∈ lw_all := lw_g (lw_at lw_m5 166 rfl) rfl
theorem q1196 : (Jvm.Cond.code ({ cls := "HeirHuntersModel", name := "bound", desc := "(IIZ)I" } : Jvm.MethodName) prog_8_method_48_code (6 : Nat) (Option.some Jvm.ClassFile.FieldType.int)) ∈ lw_all := lw_g (lw_at lw_m5 167 rfl) rfl
theorem q1197 : (Jvm.Cond.methodLink "HeirHuntersModel" (275 : Nat) ({ cls := "HeirHuntersModel", name := "askedOpen", desc := "(I)I" } : Jvm.MethodName)) ∈ lw_all := lw_g (lw_at lw_m5 168 rfl) rfl
theorem q1198 : (Jvm.Cond.privateMethod ({ cls := "HeirHuntersModel", name := "askedOpen", desc := "(I)I" } : Jvm.MethodName)) ∈ lw_tbl := lw_at lw_m5 169 rfl
theorem q1199 : (Jvm.Cond.instanceMethod ({ cls := "HeirHuntersModel", name := "askedOpen", desc := "(I)I" } : Jvm.MethodName)) ∈ lw_all := lw_g (lw_at lw_m5 170 rfl) rfl
theorem q1200 : (Jvm.Cond.code ({ cls := "HeirHuntersModel", name := "askedOpen", desc := "(I)I" } : Jvm.MethodName) prog_8_method_47_code (3 : Nat) (Option.some Jvm.ClassFile.FieldType.int)) ∈ lw_all := lw_g (lw_at lw_m5 171 rfl) rfl
theorem q1201 : (Jvm.Cond.methodLink "HeirHuntersModel" (272 : Nat) ({ cls := "HeirHuntersModel", name := "setWays", desc := "(I)V" } : Jvm.MethodName)) ∈ lw_all := lw_g (lw_at lw_m5 172 rfl) rfl
theorem q1202 : (Jvm.Cond.privateMethod ({ cls := "HeirHuntersModel", name := "setWays", desc := "(I)V" } : Jvm.MethodName)) ∈ lw_tbl := lw_at lw_m5 173 rfl
theorem q1203 : (Jvm.Cond.instanceMethod ({ cls := "HeirHuntersModel", name := "setWays", desc := "(I)V" } : Jvm.MethodName)) ∈ lw_all := lw_g (lw_at lw_m5 174 rfl) rfl
theorem q1204 : (Jvm.Cond.code ({ cls := "HeirHuntersModel", name := "setWays", desc := "(I)V" } : Jvm.MethodName) prog_8_method_45_code (4 : Nat) (Option.none : Option Jvm.ClassFile.FieldType)) ∈ lw_all := lw_g (lw_at lw_m5 175 rfl) rfl
theorem q1205 : (Jvm.Cond.methodLink "HeirHuntersModel" (278 : Nat) ({ cls := "HeirHuntersModel", name := "wayOf", desc := "(IZII)I" } : Jvm.MethodName)) ∈ lw_all := lw_g (lw_at lw_m5 176 rfl) rfl
theorem q1206 : (Jvm.Cond.privateMethod ({ cls := "HeirHuntersModel", name := "wayOf", desc := "(IZII)I" } : Jvm.MethodName)) ∈ lw_tbl := lw_at lw_m5 177 rfl
theorem q1207 : (Jvm.Cond.instanceMethod ({ cls := "HeirHuntersModel", name := "wayOf", desc := "(IZII)I" } : Jvm.MethodName)) ∈ lw_all := lw_g (lw_at lw_m5 178 rfl) rfl
theorem q1208 : (Jvm.Cond.code ({ cls := "HeirHuntersModel", name := "wayOf", desc := "(IZII)I" } : Jvm.MethodName) prog_8_method_46_code (9 : Nat) (Option.some Jvm.ClassFile.FieldType.int)) ∈ lw_all := lw_g (lw_at lw_m5 179 rfl) rfl
theorem q1209 : (Jvm.Cond.methodLink "HeirHuntersModel" (268 : Nat) ({ cls := "HeirHuntersModel", name := "isBelow", desc := "(JJJJ)Z" } : Jvm.MethodName)) ∈ lw_all := lw_g (lw_at lw_m5 180 rfl) rfl
theorem q1210 : (Jvm.Cond.static ({ cls := "HeirHuntersModel", name := "isBelow", desc := "(JJJJ)Z" } : Jvm.MethodName)) ∈ lw_all := lw_g (lw_at lw_m5 181 rfl) rfl
theorem q1211 : (Jvm.Cond.code ({ cls := "HeirHuntersModel", name := "isBelow", desc := "(JJJJ)Z" } : Jvm.MethodName) prog_8_method_44_code (25 : Nat) (Option.some Jvm.ClassFile.FieldType.boolean)) ∈ lw_all := lw_g (lw_at lw_m5 182 rfl) rfl
theorem q1213 : (Jvm.Cond.instanceMethod ({ cls := "HeirHuntersModel", name := "spread", desc := "(I)I" } : Jvm.MethodName)) ∈ lw_all := lw_g (lw_at lw_m5 184 rfl) rfl
theorem q1214 : (Jvm.Cond.selects "HeirHuntersModel" ({ cls := "HeirHuntersModel", name := "spread", desc := "(I)I" } : Jvm.MethodName) ({ cls := "HeirHuntersModel", name := "spread", desc := "(I)I" } : Jvm.MethodName)) ∈ lw_all := lw_g (lw_at lw_m5 185 rfl) rfl
theorem q1215 : (Jvm.Cond.code ({ cls := "HeirHuntersModel", name := "spread", desc := "(I)I" } : Jvm.MethodName) prog_8_method_50_code (3 : Nat) (Option.some Jvm.ClassFile.FieldType.int)) ∈ lw_all := lw_g (lw_at lw_m5 186 rfl) rfl
theorem q1216 : (Jvm.Cond.methodLink "HeirHuntersModel" (282 : Nat) ({ cls := "HeirHuntersModel", name := "spreadOf", desc := "(II)V" } : Jvm.MethodName)) ∈ lw_all := lw_g (lw_at lw_m5 187 rfl) rfl
theorem q1217 : (Jvm.Cond.privateMethod ({ cls := "HeirHuntersModel", name := "spreadOf", desc := "(II)V" } : Jvm.MethodName)) ∈ lw_tbl := lw_at lw_m5 188 rfl
theorem q1218 : (Jvm.Cond.instanceMethod ({ cls := "HeirHuntersModel", name := "spreadOf", desc := "(II)V" } : Jvm.MethodName)) ∈ lw_all := lw_g (lw_at lw_m5 189 rfl) rfl
theorem q1219 : (Jvm.Cond.code ({ cls := "HeirHuntersModel", name := "spreadOf", desc := "(II)V" } : Jvm.MethodName) prog_8_method_49_code (6 : Nat) (Option.none : Option Jvm.ClassFile.FieldType)) ∈ lw_all := lw_g (lw_at lw_m5 190 rfl) rfl
theorem q1221 : (Jvm.Cond.instanceMethod ({ cls := "HeirHuntersModel", name := "worth", desc := "(II)I" } : Jvm.MethodName)) ∈ lw_all := lw_g (lw_at lw_m5 192 rfl) rfl
theorem q1222 : (Jvm.Cond.selects "HeirHuntersModel" ({ cls := "HeirHuntersModel", name := "worth", desc := "(II)I" } : Jvm.MethodName) ({ cls := "HeirHuntersModel", name := "worth", desc := "(II)I" } : Jvm.MethodName)) ∈ lw_all := lw_g (lw_at lw_m5 193 rfl) rfl
theorem q1223 : (Jvm.Cond.code ({ cls := "HeirHuntersModel", name := "worth", desc := "(II)I" } : Jvm.MethodName) prog_8_method_52_code (5 : Nat) (Option.some Jvm.ClassFile.FieldType.int)) ∈ lw_all := lw_g (lw_at lw_m5 194 rfl) rfl
theorem q1224 : (Jvm.Cond.methodLink "HeirHuntersModel" (292 : Nat) ({ cls := "HeirHuntersModel", name := "worthOf", desc := "(I)V" } : Jvm.MethodName)) ∈ lw_all := lw_g (lw_at lw_m5 195 rfl) rfl
theorem q1225 : (Jvm.Cond.privateMethod ({ cls := "HeirHuntersModel", name := "worthOf", desc := "(I)V" } : Jvm.MethodName)) ∈ lw_tbl := lw_at lw_m5 196 rfl
theorem q1226 : (Jvm.Cond.instanceMethod ({ cls := "HeirHuntersModel", name := "worthOf", desc := "(I)V" } : Jvm.MethodName)) ∈ lw_all := lw_g (lw_at lw_m5 197 rfl) rfl
theorem q1227 : (Jvm.Cond.code ({ cls := "HeirHuntersModel", name := "worthOf", desc := "(I)V" } : Jvm.MethodName) prog_8_method_51_code (6 : Nat) (Option.none : Option Jvm.ClassFile.FieldType)) ∈ lw_all := lw_g (lw_at lw_m5 198 rfl) rfl
theorem q1229 : (Jvm.Cond.instanceMethod ({ cls := "HeirHuntersModel", name := "look", desc := "(I)I" } : Jvm.MethodName)) ∈ lw_all := lw_g (lw_at lw_m5 200 rfl) rfl
theorem q1230 : (Jvm.Cond.selects "HeirHuntersModel" ({ cls := "HeirHuntersModel", name := "look", desc := "(I)I" } : Jvm.MethodName) ({ cls := "HeirHuntersModel", name := "look", desc := "(I)I" } : Jvm.MethodName)) ∈ lw_all := lw_g (lw_at lw_m5 201 rfl) rfl
theorem q1231 : (Jvm.Cond.code ({ cls := "HeirHuntersModel", name := "look", desc := "(I)I" } : Jvm.MethodName) prog_8_method_53_code (9 : Nat) (Option.some Jvm.ClassFile.FieldType.int)) ∈ lw_all := lw_g (lw_at lw_m5 202 rfl) rfl
theorem q1233 : (Jvm.Cond.instanceMethod ({ cls := "HeirHuntersModel", name := "open", desc := "()I" } : Jvm.MethodName)) ∈ lw_all := lw_g (lw_at lw_m5 204 rfl) rfl
theorem q1234 : (Jvm.Cond.selects "HeirHuntersModel" ({ cls := "HeirHuntersModel", name := "open", desc := "()I" } : Jvm.MethodName) ({ cls := "HeirHuntersModel", name := "open", desc := "()I" } : Jvm.MethodName)) ∈ lw_all := lw_g (lw_at lw_m5 205 rfl) rfl
theorem q1235 : (Jvm.Cond.code ({ cls := "HeirHuntersModel", name := "open", desc := "()I" } : Jvm.MethodName) prog_8_method_54_code (1 : Nat) (Option.some Jvm.ClassFile.FieldType.int)) ∈ lw_all := lw_g (lw_at lw_m5 206 rfl) rfl
theorem q1237 : (Jvm.Cond.instanceMethod ({ cls := "HeirHuntersModel", name := "estate", desc := "(II)I" } : Jvm.MethodName)) ∈ lw_all := lw_g (lw_at lw_m5 208 rfl) rfl
theorem q1238 : (Jvm.Cond.selects "HeirHuntersModel" ({ cls := "HeirHuntersModel", name := "estate", desc := "(II)I" } : Jvm.MethodName) ({ cls := "HeirHuntersModel", name := "estate", desc := "(II)I" } : Jvm.MethodName)) ∈ lw_all := lw_g (lw_at lw_m5 209 rfl) rfl
theorem q1239 : (Jvm.Cond.code ({ cls := "HeirHuntersModel", name := "estate", desc := "(II)I" } : Jvm.MethodName) prog_8_method_56_code (4 : Nat) (Option.some Jvm.ClassFile.FieldType.int)) ∈ lw_all := lw_g (lw_at lw_m5 210 rfl) rfl
theorem q1240 : (Jvm.Cond.constant "HeirHuntersModel" (295 : Nat) (1000000000 : Int32)) ∈ lw_all := lw_g (lw_at lw_m5 211 rfl) rfl
theorem q1242 : (Jvm.Cond.instanceMethod ({ cls := "HeirHuntersModel", name := "pay", desc := "(III)I" } : Jvm.MethodName)) ∈ lw_all := lw_g (lw_at lw_m5 213 rfl) rfl
theorem q1243 : (Jvm.Cond.selects "HeirHuntersModel" ({ cls := "HeirHuntersModel", name := "pay", desc := "(III)I" } : Jvm.MethodName) ({ cls := "HeirHuntersModel", name := "pay", desc := "(III)I" } : Jvm.MethodName)) ∈ lw_all := lw_g (lw_at lw_m5 214 rfl) rfl
theorem q1244 : (Jvm.Cond.code ({ cls := "HeirHuntersModel", name := "pay", desc := "(III)I" } : Jvm.MethodName) prog_8_method_57_code (4 : Nat) (Option.some Jvm.ClassFile.FieldType.int)) ∈ lw_all := lw_g (lw_at lw_m5 215 rfl) rfl
theorem q1245 : (Jvm.Cond.methodLink "HeirHuntersModel" (296 : Nat) ({ cls := "HeirHuntersModel", name := "allPaid", desc := "(I)I" } : Jvm.MethodName)) ∈ lw_all := lw_g (lw_at lw_m5 216 rfl) rfl
theorem q1246 : (Jvm.Cond.privateMethod ({ cls := "HeirHuntersModel", name := "allPaid", desc := "(I)I" } : Jvm.MethodName)) ∈ lw_tbl := lw_at lw_m5 217 rfl
theorem q1247 : (Jvm.Cond.instanceMethod ({ cls := "HeirHuntersModel", name := "allPaid", desc := "(I)I" } : Jvm.MethodName)) ∈ lw_all := lw_g (lw_at lw_m5 218 rfl) rfl
theorem q1248 : (Jvm.Cond.code ({ cls := "HeirHuntersModel", name := "allPaid", desc := "(I)I" } : Jvm.MethodName) prog_8_method_55_code (4 : Nat) (Option.some Jvm.ClassFile.FieldType.int)) ∈ lw_all := lw_g (lw_at lw_m5 219 rfl) rfl
theorem q1250 : (Jvm.Cond.instanceMethod ({ cls := "HeirHuntersModel", name := "due", desc := "(II)I" } : Jvm.MethodName)) ∈ lw_all := lw_g (lw_at lw_m5 221 rfl) rfl
theorem q1251 : (Jvm.Cond.selects "HeirHuntersModel" ({ cls := "HeirHuntersModel", name := "due", desc := "(II)I" } : Jvm.MethodName) ({ cls := "HeirHuntersModel", name := "due", desc := "(II)I" } : Jvm.MethodName)) ∈ lw_all := lw_g (lw_at lw_m5 222 rfl) rfl
theorem q1252 : (Jvm.Cond.code ({ cls := "HeirHuntersModel", name := "due", desc := "(II)I" } : Jvm.MethodName) prog_8_method_59_code (4 : Nat) (Option.some Jvm.ClassFile.FieldType.int)) ∈ lw_all := lw_g (lw_at lw_m5 223 rfl) rfl
theorem q1253 : (Jvm.Cond.methodLink "HeirHuntersModel" (299 : Nat) ({ cls := "HeirHuntersModel", name := "dueOf", desc := "(II)I" } : Jvm.MethodName)) ∈ lw_all := lw_g (lw_at lw_m5 224 rfl) rfl
theorem q1254 : (Jvm.Cond.privateMethod ({ cls := "HeirHuntersModel", name := "dueOf", desc := "(II)I" } : Jvm.MethodName)) ∈ lw_tbl := lw_at lw_m5 225 rfl
theorem q1255 : (Jvm.Cond.instanceMethod ({ cls := "HeirHuntersModel", name := "dueOf", desc := "(II)I" } : Jvm.MethodName)) ∈ lw_all := lw_g (lw_at lw_m5 226 rfl) rfl
theorem q1256 : (Jvm.Cond.code ({ cls := "HeirHuntersModel", name := "dueOf", desc := "(II)I" } : Jvm.MethodName) prog_8_method_58_code (3 : Nat) (Option.some Jvm.ClassFile.FieldType.int)) ∈ lw_all := lw_g (lw_at lw_m5 227 rfl) rfl
theorem q1258 : (Jvm.Cond.instanceMethod ({ cls := "HeirHuntersModel", name := "paid", desc := "(II)I" } : Jvm.MethodName)) ∈ lw_all := lw_g (lw_at lw_m5 229 rfl) rfl
theorem q1259 : (Jvm.Cond.selects "HeirHuntersModel" ({ cls := "HeirHuntersModel", name := "paid", desc := "(II)I" } : Jvm.MethodName) ({ cls := "HeirHuntersModel", name := "paid", desc := "(II)I" } : Jvm.MethodName)) ∈ lw_all := lw_g (lw_at lw_m5 230 rfl) rfl
theorem q1260 : (Jvm.Cond.code ({ cls := "HeirHuntersModel", name := "paid", desc := "(II)I" } : Jvm.MethodName) prog_8_method_60_code (3 : Nat) (Option.some Jvm.ClassFile.FieldType.int)) ∈ lw_all := lw_g (lw_at lw_m5 231 rfl) rfl
theorem q1262 : (Jvm.Cond.instanceMethod ({ cls := "HeirHuntersModel", name := "owes", desc := "(II)I" } : Jvm.MethodName)) ∈ lw_all := lw_g (lw_at lw_m5 233 rfl) rfl
theorem q1263 : (Jvm.Cond.selects "HeirHuntersModel" ({ cls := "HeirHuntersModel", name := "owes", desc := "(II)I" } : Jvm.MethodName) ({ cls := "HeirHuntersModel", name := "owes", desc := "(II)I" } : Jvm.MethodName)) ∈ lw_all := lw_g (lw_at lw_m5 234 rfl) rfl
theorem q1264 : (Jvm.Cond.code ({ cls := "HeirHuntersModel", name := "owes", desc := "(II)I" } : Jvm.MethodName) prog_8_method_61_code (5 : Nat) (Option.some Jvm.ClassFile.FieldType.int)) ∈ lw_all := lw_g (lw_at lw_m5 235 rfl) rfl
theorem q1266 : (Jvm.Cond.instanceMethod ({ cls := "HeirHuntersModel", name := "mean", desc := "(I)I" } : Jvm.MethodName)) ∈ lw_all := lw_g (lw_at lw_m5 237 rfl) rfl
theorem q1267 : (Jvm.Cond.selects "HeirHuntersModel" ({ cls := "HeirHuntersModel", name := "mean", desc := "(I)I" } : Jvm.MethodName) ({ cls := "HeirHuntersModel", name := "mean", desc := "(I)I" } : Jvm.MethodName)) ∈ lw_all := lw_g (lw_at lw_m5 238 rfl) rfl
theorem q1268 : (Jvm.Cond.code ({ cls := "HeirHuntersModel", name := "mean", desc := "(I)I" } : Jvm.MethodName) prog_8_method_62_code (4 : Nat) (Option.some Jvm.ClassFile.FieldType.int)) ∈ lw_all := lw_g (lw_at lw_m5 239 rfl) rfl
theorem q1270 : (Jvm.Cond.instanceMethod ({ cls := "HeirHuntersModel", name := "sheet", desc := "(II)I" } : Jvm.MethodName)) ∈ lw_all := lw_g (lw_at lw_m6 1 rfl) rfl
theorem q1271 : (Jvm.Cond.selects "HeirHuntersModel" ({ cls := "HeirHuntersModel", name := "sheet", desc := "(II)I" } : Jvm.MethodName) ({ cls := "HeirHuntersModel", name := "sheet", desc := "(II)I" } : Jvm.MethodName)) ∈ lw_all := lw_g (lw_at lw_m6 2 rfl) rfl
theorem q1272 : (Jvm.Cond.code ({ cls := "HeirHuntersModel", name := "sheet", desc := "(II)I" } : Jvm.MethodName) prog_8_method_64_code (4 : Nat) (Option.some Jvm.ClassFile.FieldType.int)) ∈ lw_all := lw_g (lw_at lw_m6 3 rfl) rfl
theorem q1273 : (Jvm.Cond.methodLink "HeirHuntersModel" (302 : Nat) ({ cls := "HeirHuntersModel", name := "isSheet", desc := "(I)Z" } : Jvm.MethodName)) ∈ lw_all := lw_g (lw_at lw_m6 4 rfl) rfl
theorem q1274 : (Jvm.Cond.static ({ cls := "HeirHuntersModel", name := "isSheet", desc := "(I)Z" } : Jvm.MethodName)) ∈ lw_all := lw_g (lw_at lw_m6 5 rfl) rfl
theorem q1275 : (Jvm.Cond.code ({ cls := "HeirHuntersModel", name := "isSheet", desc := "(I)Z" } : Jvm.MethodName) prog_8_method_63_code (1 : Nat) (Option.some Jvm.ClassFile.FieldType.boolean)) ∈ lw_all := lw_g (lw_at lw_m6 6 rfl) rfl
theorem q1277 : (Jvm.Cond.instanceMethod ({ cls := "HeirHuntersModel", name := "note", desc := "(II)I" } : Jvm.MethodName)) ∈ lw_all := lw_g (lw_at lw_m6 8 rfl) rfl
theorem q1278 : (Jvm.Cond.selects "HeirHuntersModel" ({ cls := "HeirHuntersModel", name := "note", desc := "(II)I" } : Jvm.MethodName) ({ cls := "HeirHuntersModel", name := "note", desc := "(II)I" } : Jvm.MethodName)) ∈ lw_all := lw_g (lw_at lw_m6 9 rfl) rfl
theorem q1279 : (Jvm.Cond.code ({ cls := "HeirHuntersModel", name := "note", desc := "(II)I" } : Jvm.MethodName) prog_8_method_65_code (5 : Nat) (Option.some Jvm.ClassFile.FieldType.int)) ∈ lw_all := lw_g (lw_at lw_m6 10 rfl) rfl
theorem q1281 : (Jvm.Cond.instanceMethod ({ cls := "HeirHuntersModel", name := "at", desc := "(II)I" } : Jvm.MethodName)) ∈ lw_all := lw_g (lw_at lw_m6 12 rfl) rfl
theorem q1282 : (Jvm.Cond.selects "HeirHuntersModel" ({ cls := "HeirHuntersModel", name := "at", desc := "(II)I" } : Jvm.MethodName) ({ cls := "HeirHuntersModel", name := "at", desc := "(II)I" } : Jvm.MethodName)) ∈ lw_all := lw_g (lw_at lw_m6 13 rfl) rfl
theorem q1283 : (Jvm.Cond.code ({ cls := "HeirHuntersModel", name := "at", desc := "(II)I" } : Jvm.MethodName) prog_8_method_66_code (3 : Nat) (Option.some Jvm.ClassFile.FieldType.int)) ∈ lw_all := lw_g (lw_at lw_m6 14 rfl) rfl
theorem q1285 : (Jvm.Cond.instanceMethod ({ cls := "HeirHuntersModel", name := "tear", desc := "(I)I" } : Jvm.MethodName)) ∈ lw_all := lw_g (lw_at lw_m6 16 rfl) rfl
theorem q1286 : (Jvm.Cond.selects "HeirHuntersModel" ({ cls := "HeirHuntersModel", name := "tear", desc := "(I)I" } : Jvm.MethodName) ({ cls := "HeirHuntersModel", name := "tear", desc := "(I)I" } : Jvm.MethodName)) ∈ lw_all := lw_g (lw_at lw_m6 17 rfl) rfl
theorem q1287 : (Jvm.Cond.code ({ cls := "HeirHuntersModel", name := "tear", desc := "(I)I" } : Jvm.MethodName) prog_8_method_67_code (2 : Nat) (Option.some Jvm.ClassFile.FieldType.int)) ∈ lw_all := lw_g (lw_at lw_m6 18 rfl) rfl
theorem q1289 : (Jvm.Cond.instanceMethod ({ cls := "HeirHuntersModel", name := "copy", desc := "(IIIII)I" } : Jvm.MethodName)) ∈ lw_all := lw_g (lw_at lw_m6 20 rfl) rfl
theorem q1290 : (Jvm.Cond.selects "HeirHuntersModel" ({ cls := "HeirHuntersModel", name := "copy", desc := "(IIIII)I" } : Jvm.MethodName) ({ cls := "HeirHuntersModel", name := "copy", desc := "(IIIII)I" } : Jvm.MethodName)) ∈ lw_all := lw_g (lw_at lw_m6 21 rfl) rfl
theorem q1291 : (Jvm.Cond.code ({ cls := "HeirHuntersModel", name := "copy", desc := "(IIIII)I" } : Jvm.MethodName) prog_8_method_68_code (7 : Nat) (Option.some Jvm.ClassFile.FieldType.int)) ∈ lw_all := lw_g (lw_at lw_m6 22 rfl) rfl
theorem q1293 : (Jvm.Cond.instanceMethod ({ cls := "HeirHuntersModel", name := "upper", desc := "()J" } : Jvm.MethodName)) ∈ lw_all := lw_g (lw_at lw_m6 24 rfl) rfl
theorem q1294 : (Jvm.Cond.selects "HeirHuntersModel" ({ cls := "HeirHuntersModel", name := "upper", desc := "()J" } : Jvm.MethodName) ({ cls := "HeirHuntersModel", name := "upper", desc := "()J" } : Jvm.MethodName)) ∈ lw_all := lw_g (lw_at lw_m6 25 rfl) rfl
theorem q1295 : (Jvm.Cond.code ({ cls := "HeirHuntersModel", name := "upper", desc := "()J" } : Jvm.MethodName) prog_8_method_69_code (1 : Nat) (Option.some Jvm.ClassFile.FieldType.long)) ∈ lw_all := lw_g (lw_at lw_m6 26 rfl) rfl
theorem q1297 : (Jvm.Cond.instanceMethod ({ cls := "HeirHuntersModel", name := "lower", desc := "()J" } : Jvm.MethodName)) ∈ lw_all := lw_g (lw_at lw_m6 28 rfl) rfl
theorem q1298 : (Jvm.Cond.selects "HeirHuntersModel" ({ cls := "HeirHuntersModel", name := "lower", desc := "()J" } : Jvm.MethodName) ({ cls := "HeirHuntersModel", name := "lower", desc := "()J" } : Jvm.MethodName)) ∈ lw_all := lw_g (lw_at lw_m6 29 rfl) rfl
theorem q1299 : (Jvm.Cond.code ({ cls := "HeirHuntersModel", name := "lower", desc := "()J" } : Jvm.MethodName) prog_8_method_70_code (1 : Nat) (Option.some Jvm.ClassFile.FieldType.long)) ∈ lw_all := lw_g (lw_at lw_m6 30 rfl) rfl
theorem q1301 : (Jvm.Cond.instanceMethod ({ cls := "HeirHuntersModel", name := "count", desc := "(I)I" } : Jvm.MethodName)) ∈ lw_all := lw_g (lw_at lw_m6 32 rfl) rfl
theorem q1302 : (Jvm.Cond.selects "HeirHuntersModel" ({ cls := "HeirHuntersModel", name := "count", desc := "(I)I" } : Jvm.MethodName) ({ cls := "HeirHuntersModel", name := "count", desc := "(I)I" } : Jvm.MethodName)) ∈ lw_all := lw_g (lw_at lw_m6 33 rfl) rfl
theorem q1303 : (Jvm.Cond.code ({ cls := "HeirHuntersModel", name := "count", desc := "(I)I" } : Jvm.MethodName) prog_8_method_72_code (2 : Nat) (Option.some Jvm.ClassFile.FieldType.int)) ∈ lw_all := lw_g (lw_at lw_m6 34 rfl) rfl
theorem q1304 : (Jvm.Cond.methodLink "HeirHuntersModel" (305 : Nat) ({ cls := "HeirHuntersModel", name := "tellsCount", desc := "(I)I" } : Jvm.MethodName)) ∈ lw_all := lw_g (lw_at lw_m6 35 rfl) rfl
theorem q1305 : (Jvm.Cond.privateMethod ({ cls := "HeirHuntersModel", name := "tellsCount", desc := "(I)I" } : Jvm.MethodName)) ∈ lw_tbl := lw_at lw_m6 36 rfl
theorem q1306 : (Jvm.Cond.instanceMethod ({ cls := "HeirHuntersModel", name := "tellsCount", desc := "(I)I" } : Jvm.MethodName)) ∈ lw_all := lw_g (lw_at lw_m6 37 rfl) rfl
theorem q1307 : (Jvm.Cond.code ({ cls := "HeirHuntersModel", name := "tellsCount", desc := "(I)I" } : Jvm.MethodName) prog_8_method_71_code (2 : Nat) (Option.some Jvm.ClassFile.FieldType.int)) ∈ lw_all := lw_g (lw_at lw_m6 38 rfl) rfl
theorem q1309 : (Jvm.Cond.instanceMethod ({ cls := "HeirHuntersModel", name := "finding", desc := "()I" } : Jvm.MethodName)) ∈ lw_all := lw_g (lw_at lw_m6 40 rfl) rfl
theorem q1310 : (Jvm.Cond.selects "HeirHuntersModel" ({ cls := "HeirHuntersModel", name := "finding", desc := "()I" } : Jvm.MethodName) ({ cls := "HeirHuntersModel", name := "finding", desc := "()I" } : Jvm.MethodName)) ∈ lw_all := lw_g (lw_at lw_m6 41 rfl) rfl
theorem q1311 : (Jvm.Cond.code ({ cls := "HeirHuntersModel", name := "finding", desc := "()I" } : Jvm.MethodName) prog_8_method_73_code (1 : Nat) (Option.some Jvm.ClassFile.FieldType.int)) ∈ lw_all := lw_g (lw_at lw_m6 42 rfl) rfl
theorem q1313 : (Jvm.Cond.instanceMethod ({ cls := "HeirHuntersModel", name := "findings", desc := "(I)I" } : Jvm.MethodName)) ∈ lw_all := lw_g (lw_at lw_m6 44 rfl) rfl
theorem q1314 : (Jvm.Cond.selects "HeirHuntersModel" ({ cls := "HeirHuntersModel", name := "findings", desc := "(I)I" } : Jvm.MethodName) ({ cls := "HeirHuntersModel", name := "findings", desc := "(I)I" } : Jvm.MethodName)) ∈ lw_all := lw_g (lw_at lw_m6 45 rfl) rfl
theorem q1315 : (Jvm.Cond.code ({ cls := "HeirHuntersModel", name := "findings", desc := "(I)I" } : Jvm.MethodName) prog_8_method_74_code (2 : Nat) (Option.some Jvm.ClassFile.FieldType.int)) ∈ lw_all := lw_g (lw_at lw_m6 46 rfl) rfl
theorem q1317 : (Jvm.Cond.instanceMethod ({ cls := "HeirHuntersModel", name := "digest", desc := "()J" } : Jvm.MethodName)) ∈ lw_all := lw_g (lw_at lw_m6 48 rfl) rfl
theorem q1318 : (Jvm.Cond.selects "HeirHuntersModel" ({ cls := "HeirHuntersModel", name := "digest", desc := "()J" } : Jvm.MethodName) ({ cls := "HeirHuntersModel", name := "digest", desc := "()J" } : Jvm.MethodName)) ∈ lw_all := lw_g (lw_at lw_m6 49 rfl) rfl
theorem q1319 : (Jvm.Cond.code ({ cls := "HeirHuntersModel", name := "digest", desc := "()J" } : Jvm.MethodName) prog_8_method_75_code (5 : Nat) (Option.some Jvm.ClassFile.FieldType.long)) ∈ lw_all := lw_g (lw_at lw_m6 50 rfl) rfl
theorem q1320 : (Jvm.Cond.constantLong "HeirHuntersModel" (308 : Nat) (17 : Int64)) ∈ lw_all := lw_g (lw_at lw_m6 51 rfl) rfl
theorem q1321 : (Jvm.Cond.constantLong "HeirHuntersModel" (310 : Nat) (31 : Int64)) ∈ lw_all := lw_g (lw_at lw_m6 52 rfl) rfl
theorem in_X1 : ∀ w ∈ wsX10, w ∈ lw_all := lw_in wsX10 [920, 922, 924, 926, 928, 930, 932, 934, 936, 938, 940, 942, 944, 946, 948, 950, 952, 954, 956, 958, 960, 962, 964, 966, 968, 970, 972, 974, 976, 978, 980, 982, 984, 986, 988, 990, 992, 994, 996, 998, 1000, 1002, 1004, 1006, 1008, 1010, 1012, 1014, 1016, 1018, 1020, 1022, 1024, 1026, 1028] (by decide +kernel) (by decide +kernel)
end
