/-! FloodLentModel -/
set_option maxRecDepth 100000
def RX5 : String := "FloodLentModel"
def TX5 : u_T := fun k => match k with
  | 0 => ("FloodLentModel", "thrown", "I", false)
  | 1 => ("FloodLentModel", "world", "[I", true)
  | 2 => ("FloodLentModel", "images", "[I", true)
  | 3 => ("FloodLentModel", "hasImage", "[Z", true)
  | 4 => ("FloodLentModel", "tape", "[B", true)
  | 5 => ("FloodLentModel", "taped", "I", false)
  | 6 => ("FloodLentModel", "five", "[I", true)
  | 7 => ("FloodLentModel", "size", "I", false)
  | 8 => ("FloodLentModel", "at", "I", false)
  | 9 => ("FloodLentModel", "from", "I", false)
  | 10 => ("FloodLentModel", "token", "I", false)
  | 11 => ("FloodLentModel", "value", "I", false)
  | 12 => ("FloodLentModel", "faultKind", "I", false)
  | 13 => ("FloodLentModel", "faultPlace", "I", false)
  | 14 => ("FloodLentModel", "fresh", "[I", true)
  | 15 => ("FloodLentModel", "water", "[I", true)
  | 16 => ("FloodLentModel", "waterBehind", "[I", true)
  | 17 => ("FloodLentModel", "flooded", "[I", true)
  | 18 => ("FloodLentModel", "lent", "[I", true)
  | 19 => ("FloodLentModel", "cropped", "[I", true)
  | 20 => ("FloodLentModel", "sky", "I", false)
  | 21 => ("FloodLentModel", "sea", "I", false)
  | 22 => ("FloodLentModel", "drunk", "I", false)
  | 23 => ("FloodLentModel", "firstWrong", "I", false)
  | 24 => ("FloodLentModel", "coming", "I", false)
  | 25 => ("FloodLentModel", "lendsNothing", "I", false)
  | 26 => ("FloodLentModel", "takersWere", "[I", true)
  | 27 => ("FloodLentModel", "bestBrought", "I", false)
  | 28 => ("FloodLentModel", "wisestAbove", "J", false)
  | 29 => ("FloodLentModel", "debts", "[I", true)
  | 30 => ("FloodLentModel", "cleared", "[I", true)
  | 31 => ("FloodLentModel", "clearedMany", "I", false)
  | 32 => ("FloodLentModel", "clearedBy", "I", false)
  | 33 => ("FloodLentModel", "row", "[I", true)
  | 34 => ("FloodLentModel", "paying", "[I", true)
  | 35 => ("FloodLentModel", "drawn", "J", false)
  | 36 => ("FloodLentModel", "many", "[I", true)
  | 37 => ("FloodLentModel", "width", "[I", true)
  | 38 => ("FloodLentModel", "numbers", "[J", true)
  | _ => ("FloodLentModel", "moving", "[J", true)
def tyX5 : Nat → FieldType := fun k => match k with
  | 0 => .int
  | 1 => .array .int
  | 2 => .array .int
  | 3 => .array .boolean
  | 4 => .array .byte
  | 5 => .int
  | 6 => .array .int
  | 7 => .int
  | 8 => .int
  | 9 => .int
  | 10 => .int
  | 11 => .int
  | 12 => .int
  | 13 => .int
  | 14 => .array .int
  | 15 => .array .int
  | 16 => .array .int
  | 17 => .array .int
  | 18 => .array .int
  | 19 => .array .int
  | 20 => .int
  | 21 => .int
  | 22 => .int
  | 23 => .int
  | 24 => .int
  | 25 => .int
  | 26 => .array .int
  | 27 => .int
  | 28 => .long
  | 29 => .array .int
  | 30 => .array .int
  | 31 => .int
  | 32 => .int
  | 33 => .array .int
  | 34 => .array .int
  | 35 => .long
  | 36 => .array .int
  | 37 => .array .int
  | 38 => .array .long
  | _ => .array .long
abbrev wsX50 : List Cond := u_ws RX5 TX5 40
set_option maxRecDepth 100000 in
theorem nmX5 : ∀ a, a < 40 → ∀ b, b < 40 → a ≠ b → (TX5 a).2.1 ≠ (TX5 b).2.1 := by decide +kernel
set_option maxRecDepth 100000 in
theorem tyX5_ok : ∀ k, k < 40 → parseFieldDescriptor (TX5 k).2.2.1 = some (tyX5 k) := by decide +kernel
abbrev cX5_init : ByteArray := prog_13_method_1_code
def yX5_init : MethodName := ⟨RX5, "<init>", "()V"⟩
def dkwX5_init_8 : List UInt8 := [181, 0, 77, 177]
abbrev dktX5_init_8 : List UInt8 := dkwX5_init_8 ++ []
def dkwX5_init_7 : List UInt8 := [181, 0, 67, 42, 7, 188, 10, 181, 0, 70, 42, 17, 0, 240, 188, 11, 181, 0, 73, 42, 16, 60, 188, 11]
abbrev dktX5_init_7 : List UInt8 := dkwX5_init_7 ++ dktX5_init_8
def dkwX5_init_6 : List UInt8 := [181, 0, 64, 42, 7, 188, 10, 89, 3, 2, 79, 89, 4, 2, 79, 89, 5, 2, 79, 89, 6, 2, 79]
abbrev dktX5_init_6 : List UInt8 := dkwX5_init_6 ++ dktX5_init_7
def dkwX5_init_5 : List UInt8 := [181, 0, 55, 42, 16, 120, 188, 10, 181, 0, 58, 42, 16, 6, 188, 10, 181, 0, 61, 42, 16, 36, 188, 10]
abbrev dktX5_init_5 : List UInt8 := dkwX5_init_5 ++ dktX5_init_6
def dkwX5_init_4 : List UInt8 := [188, 10, 181, 0, 46, 42, 2, 181, 0, 49, 42, 6, 188, 10, 181, 0, 52, 42, 16, 36, 188, 10]
abbrev dktX5_init_4 : List UInt8 := dkwX5_init_4 ++ dktX5_init_5
def dkwX5_init_3 : List UInt8 := [188, 10, 181, 0, 37, 42, 16, 9, 188, 10, 181, 0, 40, 42, 16, 24, 188, 10, 181, 0, 43, 42, 16, 24]
abbrev dktX5_init_3 : List UInt8 := dkwX5_init_3 ++ dktX5_init_4
def dkwX5_init_2 : List UInt8 := [181, 0, 27, 42, 17, 0, 160, 188, 10, 181, 0, 31, 42, 16, 6, 188, 10, 181, 0, 34, 42, 17, 0, 180]
abbrev dktX5_init_2 : List UInt8 := dkwX5_init_2 ++ dktX5_init_3
def dkwX5_init_1 : List UInt8 := [188, 4, 181, 0, 16, 42, 17, 6, 64, 188, 8, 181, 0, 20, 42, 8, 188, 10, 181, 0, 24, 42, 2]
abbrev dktX5_init_1 : List UInt8 := dkwX5_init_1 ++ dktX5_init_2
def dkwX5_init_0 : List UInt8 := [42, 183, 0, 3, 42, 17, 0, 160, 188, 10, 181, 0, 9, 42, 17, 1, 224, 188, 10, 181, 0, 13, 42, 6]
abbrev dktX5_init_0 : List UInt8 := dkwX5_init_0 ++ dktX5_init_1
theorem dksX5_init_0 : cX5_init.data.toList.drop 0 = dktX5_init_0 := by decide +kernel
theorem dksX5_init_1 : cX5_init.data.toList.drop 24 = dktX5_init_1 := dk_seg dksX5_init_0 24 rfl rfl
theorem dksX5_init_2 : cX5_init.data.toList.drop 47 = dktX5_init_2 := dk_seg dksX5_init_1 23 rfl rfl
theorem dksX5_init_3 : cX5_init.data.toList.drop 71 = dktX5_init_3 := dk_seg dksX5_init_2 24 rfl rfl
theorem dksX5_init_4 : cX5_init.data.toList.drop 95 = dktX5_init_4 := dk_seg dksX5_init_3 24 rfl rfl
theorem dksX5_init_5 : cX5_init.data.toList.drop 117 = dktX5_init_5 := dk_seg dksX5_init_4 22 rfl rfl
theorem dksX5_init_6 : cX5_init.data.toList.drop 141 = dktX5_init_6 := dk_seg dksX5_init_5 24 rfl rfl
theorem dksX5_init_7 : cX5_init.data.toList.drop 164 = dktX5_init_7 := dk_seg dksX5_init_6 23 rfl rfl
theorem dksX5_init_8 : cX5_init.data.toList.drop 188 = dktX5_init_8 := dk_seg dksX5_init_7 24 rfl rfl
theorem dX5_init_0 : decode cX5_init 0 = .ok (.aload_n 0, 1) := dk_42 (dk_at dksX5_init_0 0 rfl rfl)
theorem dX5_init_1 : decode cX5_init 1 = .ok (.invokespecial 3, 3) := dk_183 0 3 (dk_at dksX5_init_0 1 rfl rfl)
theorem dX5_init_4 : decode cX5_init 4 = .ok (.aload_n 0, 1) := dk_42 (dk_at dksX5_init_0 4 rfl rfl)
theorem dX5_init_5 : decode cX5_init 5 = .ok (.sipush 160, 3) := dk_17 0 160 (dk_at dksX5_init_0 5 rfl rfl)
theorem dX5_init_8 : decode cX5_init 8 = .ok (.newarray .int, 2) := dk_188_10 (dk_at dksX5_init_0 8 rfl rfl)
theorem dX5_init_10 : decode cX5_init 10 = .ok (.putfield 9, 3) := dk_181 0 9 (dk_at dksX5_init_0 10 rfl rfl)
theorem dX5_init_13 : decode cX5_init 13 = .ok (.aload_n 0, 1) := dk_42 (dk_at dksX5_init_0 13 rfl rfl)
theorem dX5_init_14 : decode cX5_init 14 = .ok (.sipush 480, 3) := dk_17 1 224 (dk_at dksX5_init_0 14 rfl rfl)
theorem dX5_init_17 : decode cX5_init 17 = .ok (.newarray .int, 2) := dk_188_10 (dk_at dksX5_init_0 17 rfl rfl)
theorem dX5_init_19 : decode cX5_init 19 = .ok (.putfield 13, 3) := dk_181 0 13 (dk_at dksX5_init_0 19 rfl rfl)
theorem dX5_init_22 : decode cX5_init 22 = .ok (.aload_n 0, 1) := dk_42 (dk_at dksX5_init_0 22 rfl rfl)
theorem dX5_init_23 : decode cX5_init 23 = .ok (.iconst 3, 1) := dk_6 (dk_at dksX5_init_0 23 rfl rfl)
theorem dX5_init_24 : decode cX5_init 24 = .ok (.newarray .boolean, 2) := dk_188_4 (dk_at dksX5_init_1 0 rfl rfl)
theorem dX5_init_26 : decode cX5_init 26 = .ok (.putfield 16, 3) := dk_181 0 16 (dk_at dksX5_init_1 2 rfl rfl)
theorem dX5_init_29 : decode cX5_init 29 = .ok (.aload_n 0, 1) := dk_42 (dk_at dksX5_init_1 5 rfl rfl)
theorem dX5_init_30 : decode cX5_init 30 = .ok (.sipush 1600, 3) := dk_17 6 64 (dk_at dksX5_init_1 6 rfl rfl)
theorem dX5_init_33 : decode cX5_init 33 = .ok (.newarray .byte, 2) := dk_188_8 (dk_at dksX5_init_1 9 rfl rfl)
theorem dX5_init_35 : decode cX5_init 35 = .ok (.putfield 20, 3) := dk_181 0 20 (dk_at dksX5_init_1 11 rfl rfl)
theorem dX5_init_38 : decode cX5_init 38 = .ok (.aload_n 0, 1) := dk_42 (dk_at dksX5_init_1 14 rfl rfl)
theorem dX5_init_39 : decode cX5_init 39 = .ok (.iconst 5, 1) := dk_8 (dk_at dksX5_init_1 15 rfl rfl)
theorem dX5_init_40 : decode cX5_init 40 = .ok (.newarray .int, 2) := dk_188_10 (dk_at dksX5_init_1 16 rfl rfl)
theorem dX5_init_42 : decode cX5_init 42 = .ok (.putfield 24, 3) := dk_181 0 24 (dk_at dksX5_init_1 18 rfl rfl)
theorem dX5_init_45 : decode cX5_init 45 = .ok (.aload_n 0, 1) := dk_42 (dk_at dksX5_init_1 21 rfl rfl)
theorem dX5_init_46 : decode cX5_init 46 = .ok (.iconst (-1), 1) := dk_2 (dk_at dksX5_init_1 22 rfl rfl)
theorem dX5_init_47 : decode cX5_init 47 = .ok (.putfield 27, 3) := dk_181 0 27 (dk_at dksX5_init_2 0 rfl rfl)
theorem dX5_init_50 : decode cX5_init 50 = .ok (.aload_n 0, 1) := dk_42 (dk_at dksX5_init_2 3 rfl rfl)
theorem dX5_init_51 : decode cX5_init 51 = .ok (.sipush 160, 3) := dk_17 0 160 (dk_at dksX5_init_2 4 rfl rfl)
theorem dX5_init_54 : decode cX5_init 54 = .ok (.newarray .int, 2) := dk_188_10 (dk_at dksX5_init_2 7 rfl rfl)
theorem dX5_init_56 : decode cX5_init 56 = .ok (.putfield 31, 3) := dk_181 0 31 (dk_at dksX5_init_2 9 rfl rfl)
theorem dX5_init_59 : decode cX5_init 59 = .ok (.aload_n 0, 1) := dk_42 (dk_at dksX5_init_2 12 rfl rfl)
theorem dX5_init_60 : decode cX5_init 60 = .ok (.bipush 6, 2) := dk_16 6 (dk_at dksX5_init_2 13 rfl rfl)
theorem dX5_init_62 : decode cX5_init 62 = .ok (.newarray .int, 2) := dk_188_10 (dk_at dksX5_init_2 15 rfl rfl)
theorem dX5_init_64 : decode cX5_init 64 = .ok (.putfield 34, 3) := dk_181 0 34 (dk_at dksX5_init_2 17 rfl rfl)
theorem dX5_init_67 : decode cX5_init 67 = .ok (.aload_n 0, 1) := dk_42 (dk_at dksX5_init_2 20 rfl rfl)
theorem dX5_init_68 : decode cX5_init 68 = .ok (.sipush 180, 3) := dk_17 0 180 (dk_at dksX5_init_2 21 rfl rfl)
theorem dX5_init_71 : decode cX5_init 71 = .ok (.newarray .int, 2) := dk_188_10 (dk_at dksX5_init_3 0 rfl rfl)
theorem dX5_init_73 : decode cX5_init 73 = .ok (.putfield 37, 3) := dk_181 0 37 (dk_at dksX5_init_3 2 rfl rfl)
theorem dX5_init_76 : decode cX5_init 76 = .ok (.aload_n 0, 1) := dk_42 (dk_at dksX5_init_3 5 rfl rfl)
theorem dX5_init_77 : decode cX5_init 77 = .ok (.bipush 9, 2) := dk_16 9 (dk_at dksX5_init_3 6 rfl rfl)
theorem dX5_init_79 : decode cX5_init 79 = .ok (.newarray .int, 2) := dk_188_10 (dk_at dksX5_init_3 8 rfl rfl)
theorem dX5_init_81 : decode cX5_init 81 = .ok (.putfield 40, 3) := dk_181 0 40 (dk_at dksX5_init_3 10 rfl rfl)
theorem dX5_init_84 : decode cX5_init 84 = .ok (.aload_n 0, 1) := dk_42 (dk_at dksX5_init_3 13 rfl rfl)
theorem dX5_init_85 : decode cX5_init 85 = .ok (.bipush 24, 2) := dk_16 24 (dk_at dksX5_init_3 14 rfl rfl)
theorem dX5_init_87 : decode cX5_init 87 = .ok (.newarray .int, 2) := dk_188_10 (dk_at dksX5_init_3 16 rfl rfl)
theorem dX5_init_89 : decode cX5_init 89 = .ok (.putfield 43, 3) := dk_181 0 43 (dk_at dksX5_init_3 18 rfl rfl)
theorem dX5_init_92 : decode cX5_init 92 = .ok (.aload_n 0, 1) := dk_42 (dk_at dksX5_init_3 21 rfl rfl)
theorem dX5_init_93 : decode cX5_init 93 = .ok (.bipush 24, 2) := dk_16 24 (dk_at dksX5_init_3 22 rfl rfl)
theorem dX5_init_95 : decode cX5_init 95 = .ok (.newarray .int, 2) := dk_188_10 (dk_at dksX5_init_4 0 rfl rfl)
theorem dX5_init_97 : decode cX5_init 97 = .ok (.putfield 46, 3) := dk_181 0 46 (dk_at dksX5_init_4 2 rfl rfl)
theorem dX5_init_100 : decode cX5_init 100 = .ok (.aload_n 0, 1) := dk_42 (dk_at dksX5_init_4 5 rfl rfl)
theorem dX5_init_101 : decode cX5_init 101 = .ok (.iconst (-1), 1) := dk_2 (dk_at dksX5_init_4 6 rfl rfl)
theorem dX5_init_102 : decode cX5_init 102 = .ok (.putfield 49, 3) := dk_181 0 49 (dk_at dksX5_init_4 7 rfl rfl)
theorem dX5_init_105 : decode cX5_init 105 = .ok (.aload_n 0, 1) := dk_42 (dk_at dksX5_init_4 10 rfl rfl)
theorem dX5_init_106 : decode cX5_init 106 = .ok (.iconst 3, 1) := dk_6 (dk_at dksX5_init_4 11 rfl rfl)
theorem dX5_init_107 : decode cX5_init 107 = .ok (.newarray .int, 2) := dk_188_10 (dk_at dksX5_init_4 12 rfl rfl)
theorem dX5_init_109 : decode cX5_init 109 = .ok (.putfield 52, 3) := dk_181 0 52 (dk_at dksX5_init_4 14 rfl rfl)
theorem dX5_init_112 : decode cX5_init 112 = .ok (.aload_n 0, 1) := dk_42 (dk_at dksX5_init_4 17 rfl rfl)
theorem dX5_init_113 : decode cX5_init 113 = .ok (.bipush 36, 2) := dk_16 36 (dk_at dksX5_init_4 18 rfl rfl)
theorem dX5_init_115 : decode cX5_init 115 = .ok (.newarray .int, 2) := dk_188_10 (dk_at dksX5_init_4 20 rfl rfl)
theorem dX5_init_117 : decode cX5_init 117 = .ok (.putfield 55, 3) := dk_181 0 55 (dk_at dksX5_init_5 0 rfl rfl)
theorem dX5_init_120 : decode cX5_init 120 = .ok (.aload_n 0, 1) := dk_42 (dk_at dksX5_init_5 3 rfl rfl)
theorem dX5_init_121 : decode cX5_init 121 = .ok (.bipush 120, 2) := dk_16 120 (dk_at dksX5_init_5 4 rfl rfl)
theorem dX5_init_123 : decode cX5_init 123 = .ok (.newarray .int, 2) := dk_188_10 (dk_at dksX5_init_5 6 rfl rfl)
theorem dX5_init_125 : decode cX5_init 125 = .ok (.putfield 58, 3) := dk_181 0 58 (dk_at dksX5_init_5 8 rfl rfl)
theorem dX5_init_128 : decode cX5_init 128 = .ok (.aload_n 0, 1) := dk_42 (dk_at dksX5_init_5 11 rfl rfl)
theorem dX5_init_129 : decode cX5_init 129 = .ok (.bipush 6, 2) := dk_16 6 (dk_at dksX5_init_5 12 rfl rfl)
theorem dX5_init_131 : decode cX5_init 131 = .ok (.newarray .int, 2) := dk_188_10 (dk_at dksX5_init_5 14 rfl rfl)
theorem dX5_init_133 : decode cX5_init 133 = .ok (.putfield 61, 3) := dk_181 0 61 (dk_at dksX5_init_5 16 rfl rfl)
theorem dX5_init_136 : decode cX5_init 136 = .ok (.aload_n 0, 1) := dk_42 (dk_at dksX5_init_5 19 rfl rfl)
theorem dX5_init_137 : decode cX5_init 137 = .ok (.bipush 36, 2) := dk_16 36 (dk_at dksX5_init_5 20 rfl rfl)
theorem dX5_init_139 : decode cX5_init 139 = .ok (.newarray .int, 2) := dk_188_10 (dk_at dksX5_init_5 22 rfl rfl)
theorem dX5_init_141 : decode cX5_init 141 = .ok (.putfield 64, 3) := dk_181 0 64 (dk_at dksX5_init_6 0 rfl rfl)
theorem dX5_init_144 : decode cX5_init 144 = .ok (.aload_n 0, 1) := dk_42 (dk_at dksX5_init_6 3 rfl rfl)
theorem dX5_init_145 : decode cX5_init 145 = .ok (.iconst 4, 1) := dk_7 (dk_at dksX5_init_6 4 rfl rfl)
theorem dX5_init_146 : decode cX5_init 146 = .ok (.newarray .int, 2) := dk_188_10 (dk_at dksX5_init_6 5 rfl rfl)
theorem dX5_init_148 : decode cX5_init 148 = .ok (.dup, 1) := dk_89 (dk_at dksX5_init_6 7 rfl rfl)
theorem dX5_init_149 : decode cX5_init 149 = .ok (.iconst 0, 1) := dk_3 (dk_at dksX5_init_6 8 rfl rfl)
theorem dX5_init_150 : decode cX5_init 150 = .ok (.iconst (-1), 1) := dk_2 (dk_at dksX5_init_6 9 rfl rfl)
theorem dX5_init_151 : decode cX5_init 151 = .ok (.iastore, 1) := dk_79 (dk_at dksX5_init_6 10 rfl rfl)
theorem dX5_init_152 : decode cX5_init 152 = .ok (.dup, 1) := dk_89 (dk_at dksX5_init_6 11 rfl rfl)
theorem dX5_init_153 : decode cX5_init 153 = .ok (.iconst 1, 1) := dk_4 (dk_at dksX5_init_6 12 rfl rfl)
theorem dX5_init_154 : decode cX5_init 154 = .ok (.iconst (-1), 1) := dk_2 (dk_at dksX5_init_6 13 rfl rfl)
theorem dX5_init_155 : decode cX5_init 155 = .ok (.iastore, 1) := dk_79 (dk_at dksX5_init_6 14 rfl rfl)
theorem dX5_init_156 : decode cX5_init 156 = .ok (.dup, 1) := dk_89 (dk_at dksX5_init_6 15 rfl rfl)
theorem dX5_init_157 : decode cX5_init 157 = .ok (.iconst 2, 1) := dk_5 (dk_at dksX5_init_6 16 rfl rfl)
theorem dX5_init_158 : decode cX5_init 158 = .ok (.iconst (-1), 1) := dk_2 (dk_at dksX5_init_6 17 rfl rfl)
theorem dX5_init_159 : decode cX5_init 159 = .ok (.iastore, 1) := dk_79 (dk_at dksX5_init_6 18 rfl rfl)
theorem dX5_init_160 : decode cX5_init 160 = .ok (.dup, 1) := dk_89 (dk_at dksX5_init_6 19 rfl rfl)
theorem dX5_init_161 : decode cX5_init 161 = .ok (.iconst 3, 1) := dk_6 (dk_at dksX5_init_6 20 rfl rfl)
theorem dX5_init_162 : decode cX5_init 162 = .ok (.iconst (-1), 1) := dk_2 (dk_at dksX5_init_6 21 rfl rfl)
theorem dX5_init_163 : decode cX5_init 163 = .ok (.iastore, 1) := dk_79 (dk_at dksX5_init_6 22 rfl rfl)
theorem dX5_init_164 : decode cX5_init 164 = .ok (.putfield 67, 3) := dk_181 0 67 (dk_at dksX5_init_7 0 rfl rfl)
theorem dX5_init_167 : decode cX5_init 167 = .ok (.aload_n 0, 1) := dk_42 (dk_at dksX5_init_7 3 rfl rfl)
theorem dX5_init_168 : decode cX5_init 168 = .ok (.iconst 4, 1) := dk_7 (dk_at dksX5_init_7 4 rfl rfl)
theorem dX5_init_169 : decode cX5_init 169 = .ok (.newarray .int, 2) := dk_188_10 (dk_at dksX5_init_7 5 rfl rfl)
theorem dX5_init_171 : decode cX5_init 171 = .ok (.putfield 70, 3) := dk_181 0 70 (dk_at dksX5_init_7 7 rfl rfl)
theorem dX5_init_174 : decode cX5_init 174 = .ok (.aload_n 0, 1) := dk_42 (dk_at dksX5_init_7 10 rfl rfl)
theorem dX5_init_175 : decode cX5_init 175 = .ok (.sipush 240, 3) := dk_17 0 240 (dk_at dksX5_init_7 11 rfl rfl)
theorem dX5_init_178 : decode cX5_init 178 = .ok (.newarray .long, 2) := dk_188_11 (dk_at dksX5_init_7 14 rfl rfl)
theorem dX5_init_180 : decode cX5_init 180 = .ok (.putfield 73, 3) := dk_181 0 73 (dk_at dksX5_init_7 16 rfl rfl)
theorem dX5_init_183 : decode cX5_init 183 = .ok (.aload_n 0, 1) := dk_42 (dk_at dksX5_init_7 19 rfl rfl)
theorem dX5_init_184 : decode cX5_init 184 = .ok (.bipush 60, 2) := dk_16 60 (dk_at dksX5_init_7 20 rfl rfl)
theorem dX5_init_186 : decode cX5_init 186 = .ok (.newarray .long, 2) := dk_188_11 (dk_at dksX5_init_7 22 rfl rfl)
theorem dX5_init_188 : decode cX5_init 188 = .ok (.putfield 77, 3) := dk_181 0 77 (dk_at dksX5_init_8 0 rfl rfl)
theorem dX5_init_191 : decode cX5_init 191 = .ok (.return_, 1) := dk_177 (dk_at dksX5_init_8 3 rfl rfl)
abbrev cX5_image : ByteArray := prog_13_method_4_code
def yX5_image : MethodName := ⟨RX5, "image", "(I)I"⟩
def dkwX5_image_2 : List UInt8 := [42, 180, 0, 16, 27, 4, 84, 3, 172]
abbrev dktX5_image_2 : List UInt8 := dkwX5_image_2 ++ []
def dkwX5_image_1 : List UInt8 := [42, 180, 0, 13, 17, 0, 160, 27, 104, 28, 96, 42, 180, 0, 9, 28, 46, 79, 132, 2, 1, 167, 255, 228]
abbrev dktX5_image_1 : List UInt8 := dkwX5_image_1 ++ dktX5_image_2
def dkwX5_image_0 : List UInt8 := [27, 133, 9, 20, 0, 83, 184, 0, 85, 154, 0, 6, 16, 254, 172, 3, 61, 28, 17, 0, 160, 162, 0, 27]
abbrev dktX5_image_0 : List UInt8 := dkwX5_image_0 ++ dktX5_image_1
theorem dksX5_image_0 : cX5_image.data.toList.drop 0 = dktX5_image_0 := by decide +kernel
theorem dksX5_image_1 : cX5_image.data.toList.drop 24 = dktX5_image_1 := dk_seg dksX5_image_0 24 rfl rfl
theorem dksX5_image_2 : cX5_image.data.toList.drop 48 = dktX5_image_2 := dk_seg dksX5_image_1 24 rfl rfl
theorem dX5_image_0 : decode cX5_image 0 = .ok (.iload_n 1, 1) := dk_27 (dk_at dksX5_image_0 0 rfl rfl)
theorem dX5_image_1 : decode cX5_image 1 = .ok (.i2l, 1) := dk_133 (dk_at dksX5_image_0 1 rfl rfl)
theorem dX5_image_2 : decode cX5_image 2 = .ok (.lconst 0, 1) := dk_9 (dk_at dksX5_image_0 2 rfl rfl)
theorem dX5_image_3 : decode cX5_image 3 = .ok (.ldc2_w 83, 3) := dk_20 0 83 (dk_at dksX5_image_0 3 rfl rfl)
theorem dX5_image_6 : decode cX5_image 6 = .ok (.invokestatic 85, 3) := dk_184 0 85 (dk_at dksX5_image_0 6 rfl rfl)
theorem dX5_image_9 : decode cX5_image 9 = .ok (.ifCond .ne 6, 3) := dk_154 0 6 (dk_at dksX5_image_0 9 rfl rfl)
theorem dX5_image_12 : decode cX5_image 12 = .ok (.bipush (-2), 2) := dk_16 254 (dk_at dksX5_image_0 12 rfl rfl)
theorem dX5_image_14 : decode cX5_image 14 = .ok (.ireturn, 1) := dk_172 (dk_at dksX5_image_0 14 rfl rfl)
theorem dX5_image_15 : decode cX5_image 15 = .ok (.iconst 0, 1) := dk_3 (dk_at dksX5_image_0 15 rfl rfl)
theorem dX5_image_16 : decode cX5_image 16 = .ok (.istore_n 2, 1) := dk_61 (dk_at dksX5_image_0 16 rfl rfl)
theorem dX5_image_17 : decode cX5_image 17 = .ok (.iload_n 2, 1) := dk_28 (dk_at dksX5_image_0 17 rfl rfl)
theorem dX5_image_18 : decode cX5_image 18 = .ok (.sipush 160, 3) := dk_17 0 160 (dk_at dksX5_image_0 18 rfl rfl)
theorem dX5_image_21 : decode cX5_image 21 = .ok (.if_icmp .ge 27, 3) := dk_162 0 27 (dk_at dksX5_image_0 21 rfl rfl)
theorem dX5_image_24 : decode cX5_image 24 = .ok (.aload_n 0, 1) := dk_42 (dk_at dksX5_image_1 0 rfl rfl)
theorem dX5_image_25 : decode cX5_image 25 = .ok (.getfield 13, 3) := dk_180 0 13 (dk_at dksX5_image_1 1 rfl rfl)
theorem dX5_image_28 : decode cX5_image 28 = .ok (.sipush 160, 3) := dk_17 0 160 (dk_at dksX5_image_1 4 rfl rfl)
theorem dX5_image_31 : decode cX5_image 31 = .ok (.iload_n 1, 1) := dk_27 (dk_at dksX5_image_1 7 rfl rfl)
theorem dX5_image_32 : decode cX5_image 32 = .ok (.imul, 1) := dk_104 (dk_at dksX5_image_1 8 rfl rfl)
theorem dX5_image_33 : decode cX5_image 33 = .ok (.iload_n 2, 1) := dk_28 (dk_at dksX5_image_1 9 rfl rfl)
theorem dX5_image_34 : decode cX5_image 34 = .ok (.iadd, 1) := dk_96 (dk_at dksX5_image_1 10 rfl rfl)
theorem dX5_image_35 : decode cX5_image 35 = .ok (.aload_n 0, 1) := dk_42 (dk_at dksX5_image_1 11 rfl rfl)
theorem dX5_image_36 : decode cX5_image 36 = .ok (.getfield 9, 3) := dk_180 0 9 (dk_at dksX5_image_1 12 rfl rfl)
theorem dX5_image_39 : decode cX5_image 39 = .ok (.iload_n 2, 1) := dk_28 (dk_at dksX5_image_1 15 rfl rfl)
theorem dX5_image_40 : decode cX5_image 40 = .ok (.iaload, 1) := dk_46 (dk_at dksX5_image_1 16 rfl rfl)
theorem dX5_image_41 : decode cX5_image 41 = .ok (.iastore, 1) := dk_79 (dk_at dksX5_image_1 17 rfl rfl)
theorem dX5_image_42 : decode cX5_image 42 = .ok (.iinc 2 1, 3) := dk_132 2 1 (dk_at dksX5_image_1 18 rfl rfl)
theorem dX5_image_45 : decode cX5_image 45 = .ok (.goto (-28), 3) := dk_167 255 228 (dk_at dksX5_image_1 21 rfl rfl)
theorem dX5_image_48 : decode cX5_image 48 = .ok (.aload_n 0, 1) := dk_42 (dk_at dksX5_image_2 0 rfl rfl)
theorem dX5_image_49 : decode cX5_image 49 = .ok (.getfield 16, 3) := dk_180 0 16 (dk_at dksX5_image_2 1 rfl rfl)
theorem dX5_image_52 : decode cX5_image 52 = .ok (.iload_n 1, 1) := dk_27 (dk_at dksX5_image_2 4 rfl rfl)
theorem dX5_image_53 : decode cX5_image 53 = .ok (.iconst 1, 1) := dk_4 (dk_at dksX5_image_2 5 rfl rfl)
theorem dX5_image_54 : decode cX5_image 54 = .ok (.bastore, 1) := dk_84 (dk_at dksX5_image_2 6 rfl rfl)
theorem dX5_image_55 : decode cX5_image 55 = .ok (.iconst 0, 1) := dk_3 (dk_at dksX5_image_2 7 rfl rfl)
theorem dX5_image_56 : decode cX5_image 56 = .ok (.ireturn, 1) := dk_172 (dk_at dksX5_image_2 8 rfl rfl)
abbrev cX5_in : ByteArray := prog_13_method_3_code
def yX5_in : MethodName := ⟨RX5, "in", "(JJJ)Z"⟩
def dkwX5_in_0 : List UInt8 := [30, 32, 148, 155, 0, 14, 30, 22, 4, 148, 157, 0, 7, 4, 167, 0, 4, 3, 172]
abbrev dktX5_in_0 : List UInt8 := dkwX5_in_0 ++ []
theorem dksX5_in_0 : cX5_in.data.toList.drop 0 = dktX5_in_0 := by decide +kernel
theorem dX5_in_0 : decode cX5_in 0 = .ok (.lload_n 0, 1) := dk_30 (dk_at dksX5_in_0 0 rfl rfl)
theorem dX5_in_1 : decode cX5_in 1 = .ok (.lload_n 2, 1) := dk_32 (dk_at dksX5_in_0 1 rfl rfl)
theorem dX5_in_2 : decode cX5_in 2 = .ok (.lcmp, 1) := dk_148 (dk_at dksX5_in_0 2 rfl rfl)
theorem dX5_in_3 : decode cX5_in 3 = .ok (.ifCond .lt 14, 3) := dk_155 0 14 (dk_at dksX5_in_0 3 rfl rfl)
theorem dX5_in_6 : decode cX5_in 6 = .ok (.lload_n 0, 1) := dk_30 (dk_at dksX5_in_0 6 rfl rfl)
theorem dX5_in_7 : decode cX5_in 7 = .ok (.lload 4, 2) := dk_22 4 (dk_at dksX5_in_0 7 rfl rfl)
theorem dX5_in_9 : decode cX5_in 9 = .ok (.lcmp, 1) := dk_148 (dk_at dksX5_in_0 9 rfl rfl)
theorem dX5_in_10 : decode cX5_in 10 = .ok (.ifCond .gt 7, 3) := dk_157 0 7 (dk_at dksX5_in_0 10 rfl rfl)
theorem dX5_in_13 : decode cX5_in 13 = .ok (.iconst 1, 1) := dk_4 (dk_at dksX5_in_0 13 rfl rfl)
theorem dX5_in_14 : decode cX5_in 14 = .ok (.goto 4, 3) := dk_167 0 4 (dk_at dksX5_in_0 14 rfl rfl)
theorem dX5_in_17 : decode cX5_in 17 = .ok (.iconst 0, 1) := dk_3 (dk_at dksX5_in_0 17 rfl rfl)
theorem dX5_in_18 : decode cX5_in 18 = .ok (.ireturn, 1) := dk_172 (dk_at dksX5_in_0 18 rfl rfl)
abbrev cX5_restore : ByteArray := prog_13_method_5_code
def yX5_restore : MethodName := ⟨RX5, "restore", "(I)I"⟩
def dkwX5_restore_2 : List UInt8 := [27, 104, 28, 96, 46, 79, 132, 2, 1, 167, 255, 228, 3, 172]
abbrev dktX5_restore_2 : List UInt8 := dkwX5_restore_2 ++ []
def dkwX5_restore_1 : List UInt8 := [16, 250, 172, 3, 61, 28, 17, 0, 160, 162, 0, 27, 42, 180, 0, 9, 28, 42, 180, 0, 13, 17, 0, 160]
abbrev dktX5_restore_1 : List UInt8 := dkwX5_restore_1 ++ dktX5_restore_2
def dkwX5_restore_0 : List UInt8 := [27, 133, 9, 20, 0, 83, 184, 0, 85, 154, 0, 6, 16, 254, 172, 42, 180, 0, 16, 27, 51, 154, 0, 6]
abbrev dktX5_restore_0 : List UInt8 := dkwX5_restore_0 ++ dktX5_restore_1
theorem dksX5_restore_0 : cX5_restore.data.toList.drop 0 = dktX5_restore_0 := by decide +kernel
theorem dksX5_restore_1 : cX5_restore.data.toList.drop 24 = dktX5_restore_1 := dk_seg dksX5_restore_0 24 rfl rfl
theorem dksX5_restore_2 : cX5_restore.data.toList.drop 48 = dktX5_restore_2 := dk_seg dksX5_restore_1 24 rfl rfl
theorem dX5_restore_0 : decode cX5_restore 0 = .ok (.iload_n 1, 1) := dk_27 (dk_at dksX5_restore_0 0 rfl rfl)
theorem dX5_restore_1 : decode cX5_restore 1 = .ok (.i2l, 1) := dk_133 (dk_at dksX5_restore_0 1 rfl rfl)
theorem dX5_restore_2 : decode cX5_restore 2 = .ok (.lconst 0, 1) := dk_9 (dk_at dksX5_restore_0 2 rfl rfl)
theorem dX5_restore_3 : decode cX5_restore 3 = .ok (.ldc2_w 83, 3) := dk_20 0 83 (dk_at dksX5_restore_0 3 rfl rfl)
theorem dX5_restore_6 : decode cX5_restore 6 = .ok (.invokestatic 85, 3) := dk_184 0 85 (dk_at dksX5_restore_0 6 rfl rfl)
theorem dX5_restore_9 : decode cX5_restore 9 = .ok (.ifCond .ne 6, 3) := dk_154 0 6 (dk_at dksX5_restore_0 9 rfl rfl)
theorem dX5_restore_12 : decode cX5_restore 12 = .ok (.bipush (-2), 2) := dk_16 254 (dk_at dksX5_restore_0 12 rfl rfl)
theorem dX5_restore_14 : decode cX5_restore 14 = .ok (.ireturn, 1) := dk_172 (dk_at dksX5_restore_0 14 rfl rfl)
theorem dX5_restore_15 : decode cX5_restore 15 = .ok (.aload_n 0, 1) := dk_42 (dk_at dksX5_restore_0 15 rfl rfl)
theorem dX5_restore_16 : decode cX5_restore 16 = .ok (.getfield 16, 3) := dk_180 0 16 (dk_at dksX5_restore_0 16 rfl rfl)
theorem dX5_restore_19 : decode cX5_restore 19 = .ok (.iload_n 1, 1) := dk_27 (dk_at dksX5_restore_0 19 rfl rfl)
theorem dX5_restore_20 : decode cX5_restore 20 = .ok (.baload, 1) := dk_51 (dk_at dksX5_restore_0 20 rfl rfl)
theorem dX5_restore_21 : decode cX5_restore 21 = .ok (.ifCond .ne 6, 3) := dk_154 0 6 (dk_at dksX5_restore_0 21 rfl rfl)
theorem dX5_restore_24 : decode cX5_restore 24 = .ok (.bipush (-6), 2) := dk_16 250 (dk_at dksX5_restore_1 0 rfl rfl)
theorem dX5_restore_26 : decode cX5_restore 26 = .ok (.ireturn, 1) := dk_172 (dk_at dksX5_restore_1 2 rfl rfl)
theorem dX5_restore_27 : decode cX5_restore 27 = .ok (.iconst 0, 1) := dk_3 (dk_at dksX5_restore_1 3 rfl rfl)
theorem dX5_restore_28 : decode cX5_restore 28 = .ok (.istore_n 2, 1) := dk_61 (dk_at dksX5_restore_1 4 rfl rfl)
theorem dX5_restore_29 : decode cX5_restore 29 = .ok (.iload_n 2, 1) := dk_28 (dk_at dksX5_restore_1 5 rfl rfl)
theorem dX5_restore_30 : decode cX5_restore 30 = .ok (.sipush 160, 3) := dk_17 0 160 (dk_at dksX5_restore_1 6 rfl rfl)
theorem dX5_restore_33 : decode cX5_restore 33 = .ok (.if_icmp .ge 27, 3) := dk_162 0 27 (dk_at dksX5_restore_1 9 rfl rfl)
theorem dX5_restore_36 : decode cX5_restore 36 = .ok (.aload_n 0, 1) := dk_42 (dk_at dksX5_restore_1 12 rfl rfl)
theorem dX5_restore_37 : decode cX5_restore 37 = .ok (.getfield 9, 3) := dk_180 0 9 (dk_at dksX5_restore_1 13 rfl rfl)
theorem dX5_restore_40 : decode cX5_restore 40 = .ok (.iload_n 2, 1) := dk_28 (dk_at dksX5_restore_1 16 rfl rfl)
theorem dX5_restore_41 : decode cX5_restore 41 = .ok (.aload_n 0, 1) := dk_42 (dk_at dksX5_restore_1 17 rfl rfl)
theorem dX5_restore_42 : decode cX5_restore 42 = .ok (.getfield 13, 3) := dk_180 0 13 (dk_at dksX5_restore_1 18 rfl rfl)
theorem dX5_restore_45 : decode cX5_restore 45 = .ok (.sipush 160, 3) := dk_17 0 160 (dk_at dksX5_restore_1 21 rfl rfl)
theorem dX5_restore_48 : decode cX5_restore 48 = .ok (.iload_n 1, 1) := dk_27 (dk_at dksX5_restore_2 0 rfl rfl)
theorem dX5_restore_49 : decode cX5_restore 49 = .ok (.imul, 1) := dk_104 (dk_at dksX5_restore_2 1 rfl rfl)
theorem dX5_restore_50 : decode cX5_restore 50 = .ok (.iload_n 2, 1) := dk_28 (dk_at dksX5_restore_2 2 rfl rfl)
theorem dX5_restore_51 : decode cX5_restore 51 = .ok (.iadd, 1) := dk_96 (dk_at dksX5_restore_2 3 rfl rfl)
theorem dX5_restore_52 : decode cX5_restore 52 = .ok (.iaload, 1) := dk_46 (dk_at dksX5_restore_2 4 rfl rfl)
theorem dX5_restore_53 : decode cX5_restore 53 = .ok (.iastore, 1) := dk_79 (dk_at dksX5_restore_2 5 rfl rfl)
theorem dX5_restore_54 : decode cX5_restore 54 = .ok (.iinc 2 1, 3) := dk_132 2 1 (dk_at dksX5_restore_2 6 rfl rfl)
theorem dX5_restore_57 : decode cX5_restore 57 = .ok (.goto (-28), 3) := dk_167 255 228 (dk_at dksX5_restore_2 9 rfl rfl)
theorem dX5_restore_60 : decode cX5_restore 60 = .ok (.iconst 0, 1) := dk_3 (dk_at dksX5_restore_2 12 rfl rfl)
theorem dX5_restore_61 : decode cX5_restore 61 = .ok (.ireturn, 1) := dk_172 (dk_at dksX5_restore_2 13 rfl rfl)
abbrev cX5_feed : ByteArray := prog_13_method_16_code
def yX5_feed : MethodName := ⟨RX5, "feed", "(IIIII)I"⟩
def dkwX5_feed_5 : List UInt8 := [180, 0, 97, 172]
abbrev dktX5_feed_5 : List UInt8 := dkwX5_feed_5 ++ []
def dkwX5_feed_4 : List UInt8 := [100, 122, 145, 84, 132, 6, 1, 167, 255, 213, 42, 89, 180, 0, 97, 16, 20, 96, 181, 0, 97, 42]
abbrev dktX5_feed_4 : List UInt8 := dkwX5_feed_4 ++ dktX5_feed_5
def dkwX5_feed_3 : List UInt8 := [180, 0, 97, 21, 6, 96, 42, 180, 0, 24, 21, 6, 7, 108, 46, 16, 24, 16, 8, 21, 6, 7, 112, 104]
abbrev dktX5_feed_3 : List UInt8 := dkwX5_feed_3 ++ dktX5_feed_4
def dkwX5_feed_2 : List UInt8 := [180, 0, 24, 7, 21, 5, 79, 3, 54, 6, 21, 6, 16, 20, 162, 0, 42, 42, 180, 0, 20, 42]
abbrev dktX5_feed_2 : List UInt8 := dkwX5_feed_2 ++ dktX5_feed_3
def dkwX5_feed_1 : List UInt8 := [180, 0, 24, 4, 28, 79, 42, 180, 0, 24, 5, 29, 79, 42, 180, 0, 24, 6, 21, 4, 79, 42]
abbrev dktX5_feed_1 : List UInt8 := dkwX5_feed_1 ++ dktX5_feed_2
def dkwX5_feed_0 : List UInt8 := [42, 180, 0, 97, 16, 20, 96, 17, 6, 64, 164, 0, 5, 2, 172, 42, 180, 0, 24, 3, 27, 79, 42]
abbrev dktX5_feed_0 : List UInt8 := dkwX5_feed_0 ++ dktX5_feed_1
theorem dksX5_feed_0 : cX5_feed.data.toList.drop 0 = dktX5_feed_0 := by decide +kernel
theorem dksX5_feed_1 : cX5_feed.data.toList.drop 23 = dktX5_feed_1 := dk_seg dksX5_feed_0 23 rfl rfl
theorem dksX5_feed_2 : cX5_feed.data.toList.drop 45 = dktX5_feed_2 := dk_seg dksX5_feed_1 22 rfl rfl
theorem dksX5_feed_3 : cX5_feed.data.toList.drop 67 = dktX5_feed_3 := dk_seg dksX5_feed_2 22 rfl rfl
theorem dksX5_feed_4 : cX5_feed.data.toList.drop 91 = dktX5_feed_4 := dk_seg dksX5_feed_3 24 rfl rfl
theorem dksX5_feed_5 : cX5_feed.data.toList.drop 113 = dktX5_feed_5 := dk_seg dksX5_feed_4 22 rfl rfl
theorem dX5_feed_0 : decode cX5_feed 0 = .ok (.aload_n 0, 1) := dk_42 (dk_at dksX5_feed_0 0 rfl rfl)
theorem dX5_feed_1 : decode cX5_feed 1 = .ok (.getfield 97, 3) := dk_180 0 97 (dk_at dksX5_feed_0 1 rfl rfl)
theorem dX5_feed_4 : decode cX5_feed 4 = .ok (.bipush 20, 2) := dk_16 20 (dk_at dksX5_feed_0 4 rfl rfl)
theorem dX5_feed_6 : decode cX5_feed 6 = .ok (.iadd, 1) := dk_96 (dk_at dksX5_feed_0 6 rfl rfl)
theorem dX5_feed_7 : decode cX5_feed 7 = .ok (.sipush 1600, 3) := dk_17 6 64 (dk_at dksX5_feed_0 7 rfl rfl)
theorem dX5_feed_10 : decode cX5_feed 10 = .ok (.if_icmp .le 5, 3) := dk_164 0 5 (dk_at dksX5_feed_0 10 rfl rfl)
theorem dX5_feed_13 : decode cX5_feed 13 = .ok (.iconst (-1), 1) := dk_2 (dk_at dksX5_feed_0 13 rfl rfl)
theorem dX5_feed_14 : decode cX5_feed 14 = .ok (.ireturn, 1) := dk_172 (dk_at dksX5_feed_0 14 rfl rfl)
theorem dX5_feed_15 : decode cX5_feed 15 = .ok (.aload_n 0, 1) := dk_42 (dk_at dksX5_feed_0 15 rfl rfl)
theorem dX5_feed_16 : decode cX5_feed 16 = .ok (.getfield 24, 3) := dk_180 0 24 (dk_at dksX5_feed_0 16 rfl rfl)
theorem dX5_feed_19 : decode cX5_feed 19 = .ok (.iconst 0, 1) := dk_3 (dk_at dksX5_feed_0 19 rfl rfl)
theorem dX5_feed_20 : decode cX5_feed 20 = .ok (.iload_n 1, 1) := dk_27 (dk_at dksX5_feed_0 20 rfl rfl)
theorem dX5_feed_21 : decode cX5_feed 21 = .ok (.iastore, 1) := dk_79 (dk_at dksX5_feed_0 21 rfl rfl)
theorem dX5_feed_22 : decode cX5_feed 22 = .ok (.aload_n 0, 1) := dk_42 (dk_at dksX5_feed_0 22 rfl rfl)
theorem dX5_feed_23 : decode cX5_feed 23 = .ok (.getfield 24, 3) := dk_180 0 24 (dk_at dksX5_feed_1 0 rfl rfl)
theorem dX5_feed_26 : decode cX5_feed 26 = .ok (.iconst 1, 1) := dk_4 (dk_at dksX5_feed_1 3 rfl rfl)
theorem dX5_feed_27 : decode cX5_feed 27 = .ok (.iload_n 2, 1) := dk_28 (dk_at dksX5_feed_1 4 rfl rfl)
theorem dX5_feed_28 : decode cX5_feed 28 = .ok (.iastore, 1) := dk_79 (dk_at dksX5_feed_1 5 rfl rfl)
theorem dX5_feed_29 : decode cX5_feed 29 = .ok (.aload_n 0, 1) := dk_42 (dk_at dksX5_feed_1 6 rfl rfl)
theorem dX5_feed_30 : decode cX5_feed 30 = .ok (.getfield 24, 3) := dk_180 0 24 (dk_at dksX5_feed_1 7 rfl rfl)
theorem dX5_feed_33 : decode cX5_feed 33 = .ok (.iconst 2, 1) := dk_5 (dk_at dksX5_feed_1 10 rfl rfl)
theorem dX5_feed_34 : decode cX5_feed 34 = .ok (.iload_n 3, 1) := dk_29 (dk_at dksX5_feed_1 11 rfl rfl)
theorem dX5_feed_35 : decode cX5_feed 35 = .ok (.iastore, 1) := dk_79 (dk_at dksX5_feed_1 12 rfl rfl)
theorem dX5_feed_36 : decode cX5_feed 36 = .ok (.aload_n 0, 1) := dk_42 (dk_at dksX5_feed_1 13 rfl rfl)
theorem dX5_feed_37 : decode cX5_feed 37 = .ok (.getfield 24, 3) := dk_180 0 24 (dk_at dksX5_feed_1 14 rfl rfl)
theorem dX5_feed_40 : decode cX5_feed 40 = .ok (.iconst 3, 1) := dk_6 (dk_at dksX5_feed_1 17 rfl rfl)
theorem dX5_feed_41 : decode cX5_feed 41 = .ok (.iload 4, 2) := dk_21 4 (dk_at dksX5_feed_1 18 rfl rfl)
theorem dX5_feed_43 : decode cX5_feed 43 = .ok (.iastore, 1) := dk_79 (dk_at dksX5_feed_1 20 rfl rfl)
theorem dX5_feed_44 : decode cX5_feed 44 = .ok (.aload_n 0, 1) := dk_42 (dk_at dksX5_feed_1 21 rfl rfl)
theorem dX5_feed_45 : decode cX5_feed 45 = .ok (.getfield 24, 3) := dk_180 0 24 (dk_at dksX5_feed_2 0 rfl rfl)
theorem dX5_feed_48 : decode cX5_feed 48 = .ok (.iconst 4, 1) := dk_7 (dk_at dksX5_feed_2 3 rfl rfl)
theorem dX5_feed_49 : decode cX5_feed 49 = .ok (.iload 5, 2) := dk_21 5 (dk_at dksX5_feed_2 4 rfl rfl)
theorem dX5_feed_51 : decode cX5_feed 51 = .ok (.iastore, 1) := dk_79 (dk_at dksX5_feed_2 6 rfl rfl)
theorem dX5_feed_52 : decode cX5_feed 52 = .ok (.iconst 0, 1) := dk_3 (dk_at dksX5_feed_2 7 rfl rfl)
theorem dX5_feed_53 : decode cX5_feed 53 = .ok (.istore 6, 2) := dk_54 6 (dk_at dksX5_feed_2 8 rfl rfl)
theorem dX5_feed_55 : decode cX5_feed 55 = .ok (.iload 6, 2) := dk_21 6 (dk_at dksX5_feed_2 10 rfl rfl)
theorem dX5_feed_57 : decode cX5_feed 57 = .ok (.bipush 20, 2) := dk_16 20 (dk_at dksX5_feed_2 12 rfl rfl)
theorem dX5_feed_59 : decode cX5_feed 59 = .ok (.if_icmp .ge 42, 3) := dk_162 0 42 (dk_at dksX5_feed_2 14 rfl rfl)
theorem dX5_feed_62 : decode cX5_feed 62 = .ok (.aload_n 0, 1) := dk_42 (dk_at dksX5_feed_2 17 rfl rfl)
theorem dX5_feed_63 : decode cX5_feed 63 = .ok (.getfield 20, 3) := dk_180 0 20 (dk_at dksX5_feed_2 18 rfl rfl)
theorem dX5_feed_66 : decode cX5_feed 66 = .ok (.aload_n 0, 1) := dk_42 (dk_at dksX5_feed_2 21 rfl rfl)
theorem dX5_feed_67 : decode cX5_feed 67 = .ok (.getfield 97, 3) := dk_180 0 97 (dk_at dksX5_feed_3 0 rfl rfl)
theorem dX5_feed_70 : decode cX5_feed 70 = .ok (.iload 6, 2) := dk_21 6 (dk_at dksX5_feed_3 3 rfl rfl)
theorem dX5_feed_72 : decode cX5_feed 72 = .ok (.iadd, 1) := dk_96 (dk_at dksX5_feed_3 5 rfl rfl)
theorem dX5_feed_73 : decode cX5_feed 73 = .ok (.aload_n 0, 1) := dk_42 (dk_at dksX5_feed_3 6 rfl rfl)
theorem dX5_feed_74 : decode cX5_feed 74 = .ok (.getfield 24, 3) := dk_180 0 24 (dk_at dksX5_feed_3 7 rfl rfl)
theorem dX5_feed_77 : decode cX5_feed 77 = .ok (.iload 6, 2) := dk_21 6 (dk_at dksX5_feed_3 10 rfl rfl)
theorem dX5_feed_79 : decode cX5_feed 79 = .ok (.iconst 4, 1) := dk_7 (dk_at dksX5_feed_3 12 rfl rfl)
theorem dX5_feed_80 : decode cX5_feed 80 = .ok (.idiv, 1) := dk_108 (dk_at dksX5_feed_3 13 rfl rfl)
theorem dX5_feed_81 : decode cX5_feed 81 = .ok (.iaload, 1) := dk_46 (dk_at dksX5_feed_3 14 rfl rfl)
theorem dX5_feed_82 : decode cX5_feed 82 = .ok (.bipush 24, 2) := dk_16 24 (dk_at dksX5_feed_3 15 rfl rfl)
theorem dX5_feed_84 : decode cX5_feed 84 = .ok (.bipush 8, 2) := dk_16 8 (dk_at dksX5_feed_3 17 rfl rfl)
theorem dX5_feed_86 : decode cX5_feed 86 = .ok (.iload 6, 2) := dk_21 6 (dk_at dksX5_feed_3 19 rfl rfl)
theorem dX5_feed_88 : decode cX5_feed 88 = .ok (.iconst 4, 1) := dk_7 (dk_at dksX5_feed_3 21 rfl rfl)
theorem dX5_feed_89 : decode cX5_feed 89 = .ok (.irem, 1) := dk_112 (dk_at dksX5_feed_3 22 rfl rfl)
theorem dX5_feed_90 : decode cX5_feed 90 = .ok (.imul, 1) := dk_104 (dk_at dksX5_feed_3 23 rfl rfl)
theorem dX5_feed_91 : decode cX5_feed 91 = .ok (.isub, 1) := dk_100 (dk_at dksX5_feed_4 0 rfl rfl)
theorem dX5_feed_92 : decode cX5_feed 92 = .ok (.ishr, 1) := dk_122 (dk_at dksX5_feed_4 1 rfl rfl)
theorem dX5_feed_93 : decode cX5_feed 93 = .ok (.i2b, 1) := dk_145 (dk_at dksX5_feed_4 2 rfl rfl)
theorem dX5_feed_94 : decode cX5_feed 94 = .ok (.bastore, 1) := dk_84 (dk_at dksX5_feed_4 3 rfl rfl)
theorem dX5_feed_95 : decode cX5_feed 95 = .ok (.iinc 6 1, 3) := dk_132 6 1 (dk_at dksX5_feed_4 4 rfl rfl)
theorem dX5_feed_98 : decode cX5_feed 98 = .ok (.goto (-43), 3) := dk_167 255 213 (dk_at dksX5_feed_4 7 rfl rfl)
theorem dX5_feed_101 : decode cX5_feed 101 = .ok (.aload_n 0, 1) := dk_42 (dk_at dksX5_feed_4 10 rfl rfl)
theorem dX5_feed_102 : decode cX5_feed 102 = .ok (.dup, 1) := dk_89 (dk_at dksX5_feed_4 11 rfl rfl)
theorem dX5_feed_103 : decode cX5_feed 103 = .ok (.getfield 97, 3) := dk_180 0 97 (dk_at dksX5_feed_4 12 rfl rfl)
theorem dX5_feed_106 : decode cX5_feed 106 = .ok (.bipush 20, 2) := dk_16 20 (dk_at dksX5_feed_4 15 rfl rfl)
theorem dX5_feed_108 : decode cX5_feed 108 = .ok (.iadd, 1) := dk_96 (dk_at dksX5_feed_4 17 rfl rfl)
theorem dX5_feed_109 : decode cX5_feed 109 = .ok (.putfield 97, 3) := dk_181 0 97 (dk_at dksX5_feed_4 18 rfl rfl)
theorem dX5_feed_112 : decode cX5_feed 112 = .ok (.aload_n 0, 1) := dk_42 (dk_at dksX5_feed_4 21 rfl rfl)
theorem dX5_feed_113 : decode cX5_feed 113 = .ok (.getfield 97, 3) := dk_180 0 97 (dk_at dksX5_feed_5 0 rfl rfl)
theorem dX5_feed_116 : decode cX5_feed 116 = .ok (.ireturn, 1) := dk_172 (dk_at dksX5_feed_5 3 rfl rfl)
abbrev cX5_end : ByteArray := prog_13_method_17_code
def yX5_end : MethodName := ⟨RX5, "end", "(I)I"⟩
def dkwX5_end_0 : List UInt8 := [27, 133, 9, 42, 180, 0, 97, 133, 184, 0, 85, 154, 0, 5, 2, 172, 42, 27, 181, 0, 97, 27, 172]
abbrev dktX5_end_0 : List UInt8 := dkwX5_end_0 ++ []
theorem dksX5_end_0 : cX5_end.data.toList.drop 0 = dktX5_end_0 := by decide +kernel
theorem dX5_end_0 : decode cX5_end 0 = .ok (.iload_n 1, 1) := dk_27 (dk_at dksX5_end_0 0 rfl rfl)
theorem dX5_end_1 : decode cX5_end 1 = .ok (.i2l, 1) := dk_133 (dk_at dksX5_end_0 1 rfl rfl)
theorem dX5_end_2 : decode cX5_end 2 = .ok (.lconst 0, 1) := dk_9 (dk_at dksX5_end_0 2 rfl rfl)
theorem dX5_end_3 : decode cX5_end 3 = .ok (.aload_n 0, 1) := dk_42 (dk_at dksX5_end_0 3 rfl rfl)
theorem dX5_end_4 : decode cX5_end 4 = .ok (.getfield 97, 3) := dk_180 0 97 (dk_at dksX5_end_0 4 rfl rfl)
theorem dX5_end_7 : decode cX5_end 7 = .ok (.i2l, 1) := dk_133 (dk_at dksX5_end_0 7 rfl rfl)
theorem dX5_end_8 : decode cX5_end 8 = .ok (.invokestatic 85, 3) := dk_184 0 85 (dk_at dksX5_end_0 8 rfl rfl)
theorem dX5_end_11 : decode cX5_end 11 = .ok (.ifCond .ne 5, 3) := dk_154 0 5 (dk_at dksX5_end_0 11 rfl rfl)
theorem dX5_end_14 : decode cX5_end 14 = .ok (.iconst (-1), 1) := dk_2 (dk_at dksX5_end_0 14 rfl rfl)
theorem dX5_end_15 : decode cX5_end 15 = .ok (.ireturn, 1) := dk_172 (dk_at dksX5_end_0 15 rfl rfl)
theorem dX5_end_16 : decode cX5_end 16 = .ok (.aload_n 0, 1) := dk_42 (dk_at dksX5_end_0 16 rfl rfl)
theorem dX5_end_17 : decode cX5_end 17 = .ok (.iload_n 1, 1) := dk_27 (dk_at dksX5_end_0 17 rfl rfl)
theorem dX5_end_18 : decode cX5_end 18 = .ok (.putfield 97, 3) := dk_181 0 97 (dk_at dksX5_end_0 18 rfl rfl)
theorem dX5_end_21 : decode cX5_end 21 = .ok (.iload_n 1, 1) := dk_27 (dk_at dksX5_end_0 21 rfl rfl)
theorem dX5_end_22 : decode cX5_end 22 = .ok (.ireturn, 1) := dk_172 (dk_at dksX5_end_0 22 rfl rfl)
abbrev cX5_fault : ByteArray := prog_13_method_27_code
def yX5_fault : MethodName := ⟨RX5, "fault", "(I)I"⟩
def dkwX5_fault_1 : List UInt8 := [172]
abbrev dktX5_fault_1 : List UInt8 := dkwX5_fault_1 ++ []
def dkwX5_fault_0 : List UInt8 := [27, 154, 0, 10, 42, 180, 0, 134, 167, 0, 16, 27, 4, 160, 0, 10, 42, 180, 0, 27, 167, 0, 4, 2]
abbrev dktX5_fault_0 : List UInt8 := dkwX5_fault_0 ++ dktX5_fault_1
theorem dksX5_fault_0 : cX5_fault.data.toList.drop 0 = dktX5_fault_0 := by decide +kernel
theorem dksX5_fault_1 : cX5_fault.data.toList.drop 24 = dktX5_fault_1 := dk_seg dksX5_fault_0 24 rfl rfl
theorem dX5_fault_0 : decode cX5_fault 0 = .ok (.iload_n 1, 1) := dk_27 (dk_at dksX5_fault_0 0 rfl rfl)
theorem dX5_fault_1 : decode cX5_fault 1 = .ok (.ifCond .ne 10, 3) := dk_154 0 10 (dk_at dksX5_fault_0 1 rfl rfl)
theorem dX5_fault_4 : decode cX5_fault 4 = .ok (.aload_n 0, 1) := dk_42 (dk_at dksX5_fault_0 4 rfl rfl)
theorem dX5_fault_5 : decode cX5_fault 5 = .ok (.getfield 134, 3) := dk_180 0 134 (dk_at dksX5_fault_0 5 rfl rfl)
theorem dX5_fault_8 : decode cX5_fault 8 = .ok (.goto 16, 3) := dk_167 0 16 (dk_at dksX5_fault_0 8 rfl rfl)
theorem dX5_fault_11 : decode cX5_fault 11 = .ok (.iload_n 1, 1) := dk_27 (dk_at dksX5_fault_0 11 rfl rfl)
theorem dX5_fault_12 : decode cX5_fault 12 = .ok (.iconst 1, 1) := dk_4 (dk_at dksX5_fault_0 12 rfl rfl)
theorem dX5_fault_13 : decode cX5_fault 13 = .ok (.if_icmp .ne 10, 3) := dk_160 0 10 (dk_at dksX5_fault_0 13 rfl rfl)
theorem dX5_fault_16 : decode cX5_fault 16 = .ok (.aload_n 0, 1) := dk_42 (dk_at dksX5_fault_0 16 rfl rfl)
theorem dX5_fault_17 : decode cX5_fault 17 = .ok (.getfield 27, 3) := dk_180 0 27 (dk_at dksX5_fault_0 17 rfl rfl)
theorem dX5_fault_20 : decode cX5_fault 20 = .ok (.goto 4, 3) := dk_167 0 4 (dk_at dksX5_fault_0 20 rfl rfl)
theorem dX5_fault_23 : decode cX5_fault 23 = .ok (.iconst (-1), 1) := dk_2 (dk_at dksX5_fault_0 23 rfl rfl)
theorem dX5_fault_24 : decode cX5_fault 24 = .ok (.ireturn, 1) := dk_172 (dk_at dksX5_fault_1 0 rfl rfl)
abbrev cX5_plain : ByteArray := prog_13_method_35_code
def yX5_plain : MethodName := ⟨RX5, "plain", "()I"⟩
def dkwX5_plain_5 : List UInt8 := [180, 0, 9, 7, 46, 172]
abbrev dktX5_plain_5 : List UInt8 := dkwX5_plain_5 ++ []
def dkwX5_plain_4 : List UInt8 := [162, 0, 21, 42, 180, 0, 9, 27, 42, 180, 0, 31, 27, 46, 79, 132, 1, 1, 167, 255, 234, 42]
abbrev dktX5_plain_4 : List UInt8 := dkwX5_plain_4 ++ dktX5_plain_5
def dkwX5_plain_3 : List UInt8 := [182, 0, 238, 167, 255, 238, 42, 182, 0, 137, 154, 0, 6, 16, 252, 172, 3, 60, 27, 17, 0, 160]
abbrev dktX5_plain_3 : List UInt8 := dkwX5_plain_3 ++ dktX5_plain_4
def dkwX5_plain_2 : List UInt8 := [167, 255, 239, 42, 182, 0, 154, 42, 182, 0, 137, 153, 0, 17, 42, 180, 0, 113, 153, 0, 10, 42]
abbrev dktX5_plain_2 : List UInt8 := dkwX5_plain_2 ++ dktX5_plain_3
def dkwX5_plain_1 : List UInt8 := [2, 181, 0, 27, 3, 60, 27, 17, 0, 160, 162, 0, 16, 42, 180, 0, 31, 27, 3, 79, 132, 1, 1]
abbrev dktX5_plain_1 : List UInt8 := dkwX5_plain_1 ++ dktX5_plain_2
def dkwX5_plain_0 : List UInt8 := [42, 42, 180, 0, 97, 181, 0, 100, 42, 3, 181, 0, 97, 42, 3, 181, 0, 103, 42, 3, 181, 0, 134, 42]
abbrev dktX5_plain_0 : List UInt8 := dkwX5_plain_0 ++ dktX5_plain_1
theorem dksX5_plain_0 : cX5_plain.data.toList.drop 0 = dktX5_plain_0 := by decide +kernel
theorem dksX5_plain_1 : cX5_plain.data.toList.drop 24 = dktX5_plain_1 := dk_seg dksX5_plain_0 24 rfl rfl
theorem dksX5_plain_2 : cX5_plain.data.toList.drop 47 = dktX5_plain_2 := dk_seg dksX5_plain_1 23 rfl rfl
theorem dksX5_plain_3 : cX5_plain.data.toList.drop 69 = dktX5_plain_3 := dk_seg dksX5_plain_2 22 rfl rfl
theorem dksX5_plain_4 : cX5_plain.data.toList.drop 91 = dktX5_plain_4 := dk_seg dksX5_plain_3 22 rfl rfl
theorem dksX5_plain_5 : cX5_plain.data.toList.drop 113 = dktX5_plain_5 := dk_seg dksX5_plain_4 22 rfl rfl
theorem dX5_plain_0 : decode cX5_plain 0 = .ok (.aload_n 0, 1) := dk_42 (dk_at dksX5_plain_0 0 rfl rfl)
theorem dX5_plain_1 : decode cX5_plain 1 = .ok (.aload_n 0, 1) := dk_42 (dk_at dksX5_plain_0 1 rfl rfl)
theorem dX5_plain_2 : decode cX5_plain 2 = .ok (.getfield 97, 3) := dk_180 0 97 (dk_at dksX5_plain_0 2 rfl rfl)
theorem dX5_plain_5 : decode cX5_plain 5 = .ok (.putfield 100, 3) := dk_181 0 100 (dk_at dksX5_plain_0 5 rfl rfl)
theorem dX5_plain_8 : decode cX5_plain 8 = .ok (.aload_n 0, 1) := dk_42 (dk_at dksX5_plain_0 8 rfl rfl)
theorem dX5_plain_9 : decode cX5_plain 9 = .ok (.iconst 0, 1) := dk_3 (dk_at dksX5_plain_0 9 rfl rfl)
theorem dX5_plain_10 : decode cX5_plain 10 = .ok (.putfield 97, 3) := dk_181 0 97 (dk_at dksX5_plain_0 10 rfl rfl)
theorem dX5_plain_13 : decode cX5_plain 13 = .ok (.aload_n 0, 1) := dk_42 (dk_at dksX5_plain_0 13 rfl rfl)
theorem dX5_plain_14 : decode cX5_plain 14 = .ok (.iconst 0, 1) := dk_3 (dk_at dksX5_plain_0 14 rfl rfl)
theorem dX5_plain_15 : decode cX5_plain 15 = .ok (.putfield 103, 3) := dk_181 0 103 (dk_at dksX5_plain_0 15 rfl rfl)
theorem dX5_plain_18 : decode cX5_plain 18 = .ok (.aload_n 0, 1) := dk_42 (dk_at dksX5_plain_0 18 rfl rfl)
theorem dX5_plain_19 : decode cX5_plain 19 = .ok (.iconst 0, 1) := dk_3 (dk_at dksX5_plain_0 19 rfl rfl)
theorem dX5_plain_20 : decode cX5_plain 20 = .ok (.putfield 134, 3) := dk_181 0 134 (dk_at dksX5_plain_0 20 rfl rfl)
theorem dX5_plain_23 : decode cX5_plain 23 = .ok (.aload_n 0, 1) := dk_42 (dk_at dksX5_plain_0 23 rfl rfl)
theorem dX5_plain_24 : decode cX5_plain 24 = .ok (.iconst (-1), 1) := dk_2 (dk_at dksX5_plain_1 0 rfl rfl)
theorem dX5_plain_25 : decode cX5_plain 25 = .ok (.putfield 27, 3) := dk_181 0 27 (dk_at dksX5_plain_1 1 rfl rfl)
theorem dX5_plain_28 : decode cX5_plain 28 = .ok (.iconst 0, 1) := dk_3 (dk_at dksX5_plain_1 4 rfl rfl)
theorem dX5_plain_29 : decode cX5_plain 29 = .ok (.istore_n 1, 1) := dk_60 (dk_at dksX5_plain_1 5 rfl rfl)
theorem dX5_plain_30 : decode cX5_plain 30 = .ok (.iload_n 1, 1) := dk_27 (dk_at dksX5_plain_1 6 rfl rfl)
theorem dX5_plain_31 : decode cX5_plain 31 = .ok (.sipush 160, 3) := dk_17 0 160 (dk_at dksX5_plain_1 7 rfl rfl)
theorem dX5_plain_34 : decode cX5_plain 34 = .ok (.if_icmp .ge 16, 3) := dk_162 0 16 (dk_at dksX5_plain_1 10 rfl rfl)
theorem dX5_plain_37 : decode cX5_plain 37 = .ok (.aload_n 0, 1) := dk_42 (dk_at dksX5_plain_1 13 rfl rfl)
theorem dX5_plain_38 : decode cX5_plain 38 = .ok (.getfield 31, 3) := dk_180 0 31 (dk_at dksX5_plain_1 14 rfl rfl)
theorem dX5_plain_41 : decode cX5_plain 41 = .ok (.iload_n 1, 1) := dk_27 (dk_at dksX5_plain_1 17 rfl rfl)
theorem dX5_plain_42 : decode cX5_plain 42 = .ok (.iconst 0, 1) := dk_3 (dk_at dksX5_plain_1 18 rfl rfl)
theorem dX5_plain_43 : decode cX5_plain 43 = .ok (.iastore, 1) := dk_79 (dk_at dksX5_plain_1 19 rfl rfl)
theorem dX5_plain_44 : decode cX5_plain 44 = .ok (.iinc 1 1, 3) := dk_132 1 1 (dk_at dksX5_plain_1 20 rfl rfl)
theorem dX5_plain_47 : decode cX5_plain 47 = .ok (.goto (-17), 3) := dk_167 255 239 (dk_at dksX5_plain_2 0 rfl rfl)
theorem dX5_plain_50 : decode cX5_plain 50 = .ok (.aload_n 0, 1) := dk_42 (dk_at dksX5_plain_2 3 rfl rfl)
theorem dX5_plain_51 : decode cX5_plain 51 = .ok (.invokevirtual 154, 3) := dk_182 0 154 (dk_at dksX5_plain_2 4 rfl rfl)
theorem dX5_plain_54 : decode cX5_plain 54 = .ok (.aload_n 0, 1) := dk_42 (dk_at dksX5_plain_2 7 rfl rfl)
theorem dX5_plain_55 : decode cX5_plain 55 = .ok (.invokevirtual 137, 3) := dk_182 0 137 (dk_at dksX5_plain_2 8 rfl rfl)
theorem dX5_plain_58 : decode cX5_plain 58 = .ok (.ifCond .eq 17, 3) := dk_153 0 17 (dk_at dksX5_plain_2 11 rfl rfl)
theorem dX5_plain_61 : decode cX5_plain 61 = .ok (.aload_n 0, 1) := dk_42 (dk_at dksX5_plain_2 14 rfl rfl)
theorem dX5_plain_62 : decode cX5_plain 62 = .ok (.getfield 113, 3) := dk_180 0 113 (dk_at dksX5_plain_2 15 rfl rfl)
theorem dX5_plain_65 : decode cX5_plain 65 = .ok (.ifCond .eq 10, 3) := dk_153 0 10 (dk_at dksX5_plain_2 18 rfl rfl)
theorem dX5_plain_68 : decode cX5_plain 68 = .ok (.aload_n 0, 1) := dk_42 (dk_at dksX5_plain_2 21 rfl rfl)
theorem dX5_plain_69 : decode cX5_plain 69 = .ok (.invokevirtual 238, 3) := dk_182 0 238 (dk_at dksX5_plain_3 0 rfl rfl)
theorem dX5_plain_72 : decode cX5_plain 72 = .ok (.goto (-18), 3) := dk_167 255 238 (dk_at dksX5_plain_3 3 rfl rfl)
theorem dX5_plain_75 : decode cX5_plain 75 = .ok (.aload_n 0, 1) := dk_42 (dk_at dksX5_plain_3 6 rfl rfl)
theorem dX5_plain_76 : decode cX5_plain 76 = .ok (.invokevirtual 137, 3) := dk_182 0 137 (dk_at dksX5_plain_3 7 rfl rfl)
theorem dX5_plain_79 : decode cX5_plain 79 = .ok (.ifCond .ne 6, 3) := dk_154 0 6 (dk_at dksX5_plain_3 10 rfl rfl)
theorem dX5_plain_82 : decode cX5_plain 82 = .ok (.bipush (-4), 2) := dk_16 252 (dk_at dksX5_plain_3 13 rfl rfl)
theorem dX5_plain_84 : decode cX5_plain 84 = .ok (.ireturn, 1) := dk_172 (dk_at dksX5_plain_3 15 rfl rfl)
theorem dX5_plain_85 : decode cX5_plain 85 = .ok (.iconst 0, 1) := dk_3 (dk_at dksX5_plain_3 16 rfl rfl)
theorem dX5_plain_86 : decode cX5_plain 86 = .ok (.istore_n 1, 1) := dk_60 (dk_at dksX5_plain_3 17 rfl rfl)
theorem dX5_plain_87 : decode cX5_plain 87 = .ok (.iload_n 1, 1) := dk_27 (dk_at dksX5_plain_3 18 rfl rfl)
theorem dX5_plain_88 : decode cX5_plain 88 = .ok (.sipush 160, 3) := dk_17 0 160 (dk_at dksX5_plain_3 19 rfl rfl)
theorem dX5_plain_91 : decode cX5_plain 91 = .ok (.if_icmp .ge 21, 3) := dk_162 0 21 (dk_at dksX5_plain_4 0 rfl rfl)
theorem dX5_plain_94 : decode cX5_plain 94 = .ok (.aload_n 0, 1) := dk_42 (dk_at dksX5_plain_4 3 rfl rfl)
theorem dX5_plain_95 : decode cX5_plain 95 = .ok (.getfield 9, 3) := dk_180 0 9 (dk_at dksX5_plain_4 4 rfl rfl)
theorem dX5_plain_98 : decode cX5_plain 98 = .ok (.iload_n 1, 1) := dk_27 (dk_at dksX5_plain_4 7 rfl rfl)
theorem dX5_plain_99 : decode cX5_plain 99 = .ok (.aload_n 0, 1) := dk_42 (dk_at dksX5_plain_4 8 rfl rfl)
theorem dX5_plain_100 : decode cX5_plain 100 = .ok (.getfield 31, 3) := dk_180 0 31 (dk_at dksX5_plain_4 9 rfl rfl)
theorem dX5_plain_103 : decode cX5_plain 103 = .ok (.iload_n 1, 1) := dk_27 (dk_at dksX5_plain_4 12 rfl rfl)
theorem dX5_plain_104 : decode cX5_plain 104 = .ok (.iaload, 1) := dk_46 (dk_at dksX5_plain_4 13 rfl rfl)
theorem dX5_plain_105 : decode cX5_plain 105 = .ok (.iastore, 1) := dk_79 (dk_at dksX5_plain_4 14 rfl rfl)
theorem dX5_plain_106 : decode cX5_plain 106 = .ok (.iinc 1 1, 3) := dk_132 1 1 (dk_at dksX5_plain_4 15 rfl rfl)
theorem dX5_plain_109 : decode cX5_plain 109 = .ok (.goto (-22), 3) := dk_167 255 234 (dk_at dksX5_plain_4 18 rfl rfl)
theorem dX5_plain_112 : decode cX5_plain 112 = .ok (.aload_n 0, 1) := dk_42 (dk_at dksX5_plain_4 21 rfl rfl)
theorem dX5_plain_113 : decode cX5_plain 113 = .ok (.getfield 9, 3) := dk_180 0 9 (dk_at dksX5_plain_5 0 rfl rfl)
theorem dX5_plain_116 : decode cX5_plain 116 = .ok (.iconst 4, 1) := dk_7 (dk_at dksX5_plain_5 3 rfl rfl)
theorem dX5_plain_117 : decode cX5_plain 117 = .ok (.iaload, 1) := dk_46 (dk_at dksX5_plain_5 4 rfl rfl)
theorem dX5_plain_118 : decode cX5_plain 118 = .ok (.ireturn, 1) := dk_172 (dk_at dksX5_plain_5 5 rfl rfl)
abbrev cX5_advance : ByteArray := prog_13_method_19_code
def yX5_advance : MethodName := ⟨RX5, "advance", "()V"⟩
def dkwX5_advance_10 : List UInt8 := [96, 181, 0, 103, 177]
abbrev dktX5_advance_10 : List UInt8 := dkwX5_advance_10 ++ []
def dkwX5_advance_9 : List UInt8 := [167, 0, 28, 42, 27, 16, 59, 160, 0, 7, 6, 167, 0, 4, 7, 181, 0, 113, 42, 89, 180, 0, 103, 4]
abbrev dktX5_advance_9 : List UInt8 := dkwX5_advance_9 ++ dktX5_advance_10
def dkwX5_advance_8 : List UInt8 := [184, 0, 128, 181, 0, 124, 42, 89, 180, 0, 103, 4, 96, 181, 0, 103, 167, 255, 197, 42, 5, 181, 0, 113]
abbrev dktX5_advance_8 : List UInt8 := dkwX5_advance_8 ++ dktX5_advance_9
def dkwX5_advance_7 : List UInt8 := [42, 18, 127, 16, 10, 42, 180, 0, 124, 104, 42, 42, 180, 0, 103, 182, 0, 106, 96, 16, 48, 100]
abbrev dktX5_advance_7 : List UInt8 := dkwX5_advance_7 ++ dktX5_advance_8
def dkwX5_advance_6 : List UInt8 := [181, 0, 124, 42, 42, 180, 0, 103, 182, 0, 106, 133, 20, 0, 120, 20, 0, 122, 184, 0, 85, 153, 0, 44]
abbrev dktX5_advance_6 : List UInt8 := dkwX5_advance_6 ++ dktX5_advance_7
def dkwX5_advance_5 : List UInt8 := [181, 0, 113, 167, 0, 117, 27, 133, 20, 0, 120, 20, 0, 122, 184, 0, 85, 153, 0, 78, 42, 3]
abbrev dktX5_advance_5 : List UInt8 := dkwX5_advance_5 ++ dktX5_advance_6
def dkwX5_advance_4 : List UInt8 := [20, 0, 118, 184, 0, 85, 153, 0, 16, 42, 89, 180, 0, 103, 4, 96, 181, 0, 103, 167, 255, 225, 42, 4]
abbrev dktX5_advance_4 : List UInt8 := dkwX5_advance_4 ++ dktX5_advance_5
def dkwX5_advance_3 : List UInt8 := [20, 0, 116, 20, 0, 118, 184, 0, 85, 153, 0, 45, 42, 42, 180, 0, 103, 182, 0, 106, 133, 20, 0, 116]
abbrev dktX5_advance_3 : List UInt8 := dkwX5_advance_3 ++ dktX5_advance_4
def dkwX5_advance_2 : List UInt8 := [42, 42, 180, 0, 103, 182, 0, 106, 60, 27, 2, 160, 0, 11, 42, 3, 181, 0, 113, 167, 0, 173, 27, 133]
abbrev dktX5_advance_2 : List UInt8 := dkwX5_advance_2 ++ dktX5_advance_3
def dkwX5_advance_1 : List UInt8 := [160, 0, 16, 42, 89, 180, 0, 103, 4, 96, 181, 0, 103, 167, 255, 220, 42, 42, 180, 0, 103, 181, 0, 110]
abbrev dktX5_advance_1 : List UInt8 := dkwX5_advance_1 ++ dktX5_advance_2
def dkwX5_advance_0 : List UInt8 := [42, 42, 180, 0, 103, 182, 0, 106, 16, 32, 159, 0, 16, 42, 42, 180, 0, 103, 182, 0, 106, 16, 10]
abbrev dktX5_advance_0 : List UInt8 := dkwX5_advance_0 ++ dktX5_advance_1
theorem dksX5_advance_0 : cX5_advance.data.toList.drop 0 = dktX5_advance_0 := by decide +kernel
theorem dksX5_advance_1 : cX5_advance.data.toList.drop 23 = dktX5_advance_1 := dk_seg dksX5_advance_0 23 rfl rfl
theorem dksX5_advance_2 : cX5_advance.data.toList.drop 47 = dktX5_advance_2 := dk_seg dksX5_advance_1 24 rfl rfl
theorem dksX5_advance_3 : cX5_advance.data.toList.drop 71 = dktX5_advance_3 := dk_seg dksX5_advance_2 24 rfl rfl
theorem dksX5_advance_4 : cX5_advance.data.toList.drop 95 = dktX5_advance_4 := dk_seg dksX5_advance_3 24 rfl rfl
theorem dksX5_advance_5 : cX5_advance.data.toList.drop 119 = dktX5_advance_5 := dk_seg dksX5_advance_4 24 rfl rfl
theorem dksX5_advance_6 : cX5_advance.data.toList.drop 141 = dktX5_advance_6 := dk_seg dksX5_advance_5 22 rfl rfl
theorem dksX5_advance_7 : cX5_advance.data.toList.drop 165 = dktX5_advance_7 := dk_seg dksX5_advance_6 24 rfl rfl
theorem dksX5_advance_8 : cX5_advance.data.toList.drop 187 = dktX5_advance_8 := dk_seg dksX5_advance_7 22 rfl rfl
theorem dksX5_advance_9 : cX5_advance.data.toList.drop 211 = dktX5_advance_9 := dk_seg dksX5_advance_8 24 rfl rfl
theorem dksX5_advance_10 : cX5_advance.data.toList.drop 235 = dktX5_advance_10 := dk_seg dksX5_advance_9 24 rfl rfl
theorem dX5_advance_0 : decode cX5_advance 0 = .ok (.aload_n 0, 1) := dk_42 (dk_at dksX5_advance_0 0 rfl rfl)
theorem dX5_advance_1 : decode cX5_advance 1 = .ok (.aload_n 0, 1) := dk_42 (dk_at dksX5_advance_0 1 rfl rfl)
theorem dX5_advance_2 : decode cX5_advance 2 = .ok (.getfield 103, 3) := dk_180 0 103 (dk_at dksX5_advance_0 2 rfl rfl)
theorem dX5_advance_5 : decode cX5_advance 5 = .ok (.invokevirtual 106, 3) := dk_182 0 106 (dk_at dksX5_advance_0 5 rfl rfl)
theorem dX5_advance_8 : decode cX5_advance 8 = .ok (.bipush 32, 2) := dk_16 32 (dk_at dksX5_advance_0 8 rfl rfl)
theorem dX5_advance_10 : decode cX5_advance 10 = .ok (.if_icmp .eq 16, 3) := dk_159 0 16 (dk_at dksX5_advance_0 10 rfl rfl)
theorem dX5_advance_13 : decode cX5_advance 13 = .ok (.aload_n 0, 1) := dk_42 (dk_at dksX5_advance_0 13 rfl rfl)
theorem dX5_advance_14 : decode cX5_advance 14 = .ok (.aload_n 0, 1) := dk_42 (dk_at dksX5_advance_0 14 rfl rfl)
theorem dX5_advance_15 : decode cX5_advance 15 = .ok (.getfield 103, 3) := dk_180 0 103 (dk_at dksX5_advance_0 15 rfl rfl)
theorem dX5_advance_18 : decode cX5_advance 18 = .ok (.invokevirtual 106, 3) := dk_182 0 106 (dk_at dksX5_advance_0 18 rfl rfl)
theorem dX5_advance_21 : decode cX5_advance 21 = .ok (.bipush 10, 2) := dk_16 10 (dk_at dksX5_advance_0 21 rfl rfl)
theorem dX5_advance_23 : decode cX5_advance 23 = .ok (.if_icmp .ne 16, 3) := dk_160 0 16 (dk_at dksX5_advance_1 0 rfl rfl)
theorem dX5_advance_26 : decode cX5_advance 26 = .ok (.aload_n 0, 1) := dk_42 (dk_at dksX5_advance_1 3 rfl rfl)
theorem dX5_advance_27 : decode cX5_advance 27 = .ok (.dup, 1) := dk_89 (dk_at dksX5_advance_1 4 rfl rfl)
theorem dX5_advance_28 : decode cX5_advance 28 = .ok (.getfield 103, 3) := dk_180 0 103 (dk_at dksX5_advance_1 5 rfl rfl)
theorem dX5_advance_31 : decode cX5_advance 31 = .ok (.iconst 1, 1) := dk_4 (dk_at dksX5_advance_1 8 rfl rfl)
theorem dX5_advance_32 : decode cX5_advance 32 = .ok (.iadd, 1) := dk_96 (dk_at dksX5_advance_1 9 rfl rfl)
theorem dX5_advance_33 : decode cX5_advance 33 = .ok (.putfield 103, 3) := dk_181 0 103 (dk_at dksX5_advance_1 10 rfl rfl)
theorem dX5_advance_36 : decode cX5_advance 36 = .ok (.goto (-36), 3) := dk_167 255 220 (dk_at dksX5_advance_1 13 rfl rfl)
theorem dX5_advance_39 : decode cX5_advance 39 = .ok (.aload_n 0, 1) := dk_42 (dk_at dksX5_advance_1 16 rfl rfl)
theorem dX5_advance_40 : decode cX5_advance 40 = .ok (.aload_n 0, 1) := dk_42 (dk_at dksX5_advance_1 17 rfl rfl)
theorem dX5_advance_41 : decode cX5_advance 41 = .ok (.getfield 103, 3) := dk_180 0 103 (dk_at dksX5_advance_1 18 rfl rfl)
theorem dX5_advance_44 : decode cX5_advance 44 = .ok (.putfield 110, 3) := dk_181 0 110 (dk_at dksX5_advance_1 21 rfl rfl)
theorem dX5_advance_47 : decode cX5_advance 47 = .ok (.aload_n 0, 1) := dk_42 (dk_at dksX5_advance_2 0 rfl rfl)
theorem dX5_advance_48 : decode cX5_advance 48 = .ok (.aload_n 0, 1) := dk_42 (dk_at dksX5_advance_2 1 rfl rfl)
theorem dX5_advance_49 : decode cX5_advance 49 = .ok (.getfield 103, 3) := dk_180 0 103 (dk_at dksX5_advance_2 2 rfl rfl)
theorem dX5_advance_52 : decode cX5_advance 52 = .ok (.invokevirtual 106, 3) := dk_182 0 106 (dk_at dksX5_advance_2 5 rfl rfl)
theorem dX5_advance_55 : decode cX5_advance 55 = .ok (.istore_n 1, 1) := dk_60 (dk_at dksX5_advance_2 8 rfl rfl)
theorem dX5_advance_56 : decode cX5_advance 56 = .ok (.iload_n 1, 1) := dk_27 (dk_at dksX5_advance_2 9 rfl rfl)
theorem dX5_advance_57 : decode cX5_advance 57 = .ok (.iconst (-1), 1) := dk_2 (dk_at dksX5_advance_2 10 rfl rfl)
theorem dX5_advance_58 : decode cX5_advance 58 = .ok (.if_icmp .ne 11, 3) := dk_160 0 11 (dk_at dksX5_advance_2 11 rfl rfl)
theorem dX5_advance_61 : decode cX5_advance 61 = .ok (.aload_n 0, 1) := dk_42 (dk_at dksX5_advance_2 14 rfl rfl)
theorem dX5_advance_62 : decode cX5_advance 62 = .ok (.iconst 0, 1) := dk_3 (dk_at dksX5_advance_2 15 rfl rfl)
theorem dX5_advance_63 : decode cX5_advance 63 = .ok (.putfield 113, 3) := dk_181 0 113 (dk_at dksX5_advance_2 16 rfl rfl)
theorem dX5_advance_66 : decode cX5_advance 66 = .ok (.goto 173, 3) := dk_167 0 173 (dk_at dksX5_advance_2 19 rfl rfl)
theorem dX5_advance_69 : decode cX5_advance 69 = .ok (.iload_n 1, 1) := dk_27 (dk_at dksX5_advance_2 22 rfl rfl)
theorem dX5_advance_70 : decode cX5_advance 70 = .ok (.i2l, 1) := dk_133 (dk_at dksX5_advance_2 23 rfl rfl)
theorem dX5_advance_71 : decode cX5_advance 71 = .ok (.ldc2_w 116, 3) := dk_20 0 116 (dk_at dksX5_advance_3 0 rfl rfl)
theorem dX5_advance_74 : decode cX5_advance 74 = .ok (.ldc2_w 118, 3) := dk_20 0 118 (dk_at dksX5_advance_3 3 rfl rfl)
theorem dX5_advance_77 : decode cX5_advance 77 = .ok (.invokestatic 85, 3) := dk_184 0 85 (dk_at dksX5_advance_3 6 rfl rfl)
theorem dX5_advance_80 : decode cX5_advance 80 = .ok (.ifCond .eq 45, 3) := dk_153 0 45 (dk_at dksX5_advance_3 9 rfl rfl)
theorem dX5_advance_83 : decode cX5_advance 83 = .ok (.aload_n 0, 1) := dk_42 (dk_at dksX5_advance_3 12 rfl rfl)
theorem dX5_advance_84 : decode cX5_advance 84 = .ok (.aload_n 0, 1) := dk_42 (dk_at dksX5_advance_3 13 rfl rfl)
theorem dX5_advance_85 : decode cX5_advance 85 = .ok (.getfield 103, 3) := dk_180 0 103 (dk_at dksX5_advance_3 14 rfl rfl)
theorem dX5_advance_88 : decode cX5_advance 88 = .ok (.invokevirtual 106, 3) := dk_182 0 106 (dk_at dksX5_advance_3 17 rfl rfl)
theorem dX5_advance_91 : decode cX5_advance 91 = .ok (.i2l, 1) := dk_133 (dk_at dksX5_advance_3 20 rfl rfl)
theorem dX5_advance_92 : decode cX5_advance 92 = .ok (.ldc2_w 116, 3) := dk_20 0 116 (dk_at dksX5_advance_3 21 rfl rfl)
theorem dX5_advance_95 : decode cX5_advance 95 = .ok (.ldc2_w 118, 3) := dk_20 0 118 (dk_at dksX5_advance_4 0 rfl rfl)
theorem dX5_advance_98 : decode cX5_advance 98 = .ok (.invokestatic 85, 3) := dk_184 0 85 (dk_at dksX5_advance_4 3 rfl rfl)
theorem dX5_advance_101 : decode cX5_advance 101 = .ok (.ifCond .eq 16, 3) := dk_153 0 16 (dk_at dksX5_advance_4 6 rfl rfl)
theorem dX5_advance_104 : decode cX5_advance 104 = .ok (.aload_n 0, 1) := dk_42 (dk_at dksX5_advance_4 9 rfl rfl)
theorem dX5_advance_105 : decode cX5_advance 105 = .ok (.dup, 1) := dk_89 (dk_at dksX5_advance_4 10 rfl rfl)
theorem dX5_advance_106 : decode cX5_advance 106 = .ok (.getfield 103, 3) := dk_180 0 103 (dk_at dksX5_advance_4 11 rfl rfl)
theorem dX5_advance_109 : decode cX5_advance 109 = .ok (.iconst 1, 1) := dk_4 (dk_at dksX5_advance_4 14 rfl rfl)
theorem dX5_advance_110 : decode cX5_advance 110 = .ok (.iadd, 1) := dk_96 (dk_at dksX5_advance_4 15 rfl rfl)
theorem dX5_advance_111 : decode cX5_advance 111 = .ok (.putfield 103, 3) := dk_181 0 103 (dk_at dksX5_advance_4 16 rfl rfl)
theorem dX5_advance_114 : decode cX5_advance 114 = .ok (.goto (-31), 3) := dk_167 255 225 (dk_at dksX5_advance_4 19 rfl rfl)
theorem dX5_advance_117 : decode cX5_advance 117 = .ok (.aload_n 0, 1) := dk_42 (dk_at dksX5_advance_4 22 rfl rfl)
theorem dX5_advance_118 : decode cX5_advance 118 = .ok (.iconst 1, 1) := dk_4 (dk_at dksX5_advance_4 23 rfl rfl)
theorem dX5_advance_119 : decode cX5_advance 119 = .ok (.putfield 113, 3) := dk_181 0 113 (dk_at dksX5_advance_5 0 rfl rfl)
theorem dX5_advance_122 : decode cX5_advance 122 = .ok (.goto 117, 3) := dk_167 0 117 (dk_at dksX5_advance_5 3 rfl rfl)
theorem dX5_advance_125 : decode cX5_advance 125 = .ok (.iload_n 1, 1) := dk_27 (dk_at dksX5_advance_5 6 rfl rfl)
theorem dX5_advance_126 : decode cX5_advance 126 = .ok (.i2l, 1) := dk_133 (dk_at dksX5_advance_5 7 rfl rfl)
theorem dX5_advance_127 : decode cX5_advance 127 = .ok (.ldc2_w 120, 3) := dk_20 0 120 (dk_at dksX5_advance_5 8 rfl rfl)
theorem dX5_advance_130 : decode cX5_advance 130 = .ok (.ldc2_w 122, 3) := dk_20 0 122 (dk_at dksX5_advance_5 11 rfl rfl)
theorem dX5_advance_133 : decode cX5_advance 133 = .ok (.invokestatic 85, 3) := dk_184 0 85 (dk_at dksX5_advance_5 14 rfl rfl)
theorem dX5_advance_136 : decode cX5_advance 136 = .ok (.ifCond .eq 78, 3) := dk_153 0 78 (dk_at dksX5_advance_5 17 rfl rfl)
theorem dX5_advance_139 : decode cX5_advance 139 = .ok (.aload_n 0, 1) := dk_42 (dk_at dksX5_advance_5 20 rfl rfl)
theorem dX5_advance_140 : decode cX5_advance 140 = .ok (.iconst 0, 1) := dk_3 (dk_at dksX5_advance_5 21 rfl rfl)
theorem dX5_advance_141 : decode cX5_advance 141 = .ok (.putfield 124, 3) := dk_181 0 124 (dk_at dksX5_advance_6 0 rfl rfl)
theorem dX5_advance_144 : decode cX5_advance 144 = .ok (.aload_n 0, 1) := dk_42 (dk_at dksX5_advance_6 3 rfl rfl)
theorem dX5_advance_145 : decode cX5_advance 145 = .ok (.aload_n 0, 1) := dk_42 (dk_at dksX5_advance_6 4 rfl rfl)
theorem dX5_advance_146 : decode cX5_advance 146 = .ok (.getfield 103, 3) := dk_180 0 103 (dk_at dksX5_advance_6 5 rfl rfl)
theorem dX5_advance_149 : decode cX5_advance 149 = .ok (.invokevirtual 106, 3) := dk_182 0 106 (dk_at dksX5_advance_6 8 rfl rfl)
theorem dX5_advance_152 : decode cX5_advance 152 = .ok (.i2l, 1) := dk_133 (dk_at dksX5_advance_6 11 rfl rfl)
theorem dX5_advance_153 : decode cX5_advance 153 = .ok (.ldc2_w 120, 3) := dk_20 0 120 (dk_at dksX5_advance_6 12 rfl rfl)
theorem dX5_advance_156 : decode cX5_advance 156 = .ok (.ldc2_w 122, 3) := dk_20 0 122 (dk_at dksX5_advance_6 15 rfl rfl)
theorem dX5_advance_159 : decode cX5_advance 159 = .ok (.invokestatic 85, 3) := dk_184 0 85 (dk_at dksX5_advance_6 18 rfl rfl)
theorem dX5_advance_162 : decode cX5_advance 162 = .ok (.ifCond .eq 44, 3) := dk_153 0 44 (dk_at dksX5_advance_6 21 rfl rfl)
theorem dX5_advance_165 : decode cX5_advance 165 = .ok (.aload_n 0, 1) := dk_42 (dk_at dksX5_advance_7 0 rfl rfl)
theorem dX5_advance_166 : decode cX5_advance 166 = .ok (.ldc 127, 2) := dk_18 127 (dk_at dksX5_advance_7 1 rfl rfl)
theorem dX5_advance_168 : decode cX5_advance 168 = .ok (.bipush 10, 2) := dk_16 10 (dk_at dksX5_advance_7 3 rfl rfl)
theorem dX5_advance_170 : decode cX5_advance 170 = .ok (.aload_n 0, 1) := dk_42 (dk_at dksX5_advance_7 5 rfl rfl)
theorem dX5_advance_171 : decode cX5_advance 171 = .ok (.getfield 124, 3) := dk_180 0 124 (dk_at dksX5_advance_7 6 rfl rfl)
theorem dX5_advance_174 : decode cX5_advance 174 = .ok (.imul, 1) := dk_104 (dk_at dksX5_advance_7 9 rfl rfl)
theorem dX5_advance_175 : decode cX5_advance 175 = .ok (.aload_n 0, 1) := dk_42 (dk_at dksX5_advance_7 10 rfl rfl)
theorem dX5_advance_176 : decode cX5_advance 176 = .ok (.aload_n 0, 1) := dk_42 (dk_at dksX5_advance_7 11 rfl rfl)
theorem dX5_advance_177 : decode cX5_advance 177 = .ok (.getfield 103, 3) := dk_180 0 103 (dk_at dksX5_advance_7 12 rfl rfl)
theorem dX5_advance_180 : decode cX5_advance 180 = .ok (.invokevirtual 106, 3) := dk_182 0 106 (dk_at dksX5_advance_7 15 rfl rfl)
theorem dX5_advance_183 : decode cX5_advance 183 = .ok (.iadd, 1) := dk_96 (dk_at dksX5_advance_7 18 rfl rfl)
theorem dX5_advance_184 : decode cX5_advance 184 = .ok (.bipush 48, 2) := dk_16 48 (dk_at dksX5_advance_7 19 rfl rfl)
theorem dX5_advance_186 : decode cX5_advance 186 = .ok (.isub, 1) := dk_100 (dk_at dksX5_advance_7 21 rfl rfl)
theorem dX5_advance_187 : decode cX5_advance 187 = .ok (.invokestatic 128, 3) := dk_184 0 128 (dk_at dksX5_advance_8 0 rfl rfl)
theorem dX5_advance_190 : decode cX5_advance 190 = .ok (.putfield 124, 3) := dk_181 0 124 (dk_at dksX5_advance_8 3 rfl rfl)
theorem dX5_advance_193 : decode cX5_advance 193 = .ok (.aload_n 0, 1) := dk_42 (dk_at dksX5_advance_8 6 rfl rfl)
theorem dX5_advance_194 : decode cX5_advance 194 = .ok (.dup, 1) := dk_89 (dk_at dksX5_advance_8 7 rfl rfl)
theorem dX5_advance_195 : decode cX5_advance 195 = .ok (.getfield 103, 3) := dk_180 0 103 (dk_at dksX5_advance_8 8 rfl rfl)
theorem dX5_advance_198 : decode cX5_advance 198 = .ok (.iconst 1, 1) := dk_4 (dk_at dksX5_advance_8 11 rfl rfl)
theorem dX5_advance_199 : decode cX5_advance 199 = .ok (.iadd, 1) := dk_96 (dk_at dksX5_advance_8 12 rfl rfl)
theorem dX5_advance_200 : decode cX5_advance 200 = .ok (.putfield 103, 3) := dk_181 0 103 (dk_at dksX5_advance_8 13 rfl rfl)
theorem dX5_advance_203 : decode cX5_advance 203 = .ok (.goto (-59), 3) := dk_167 255 197 (dk_at dksX5_advance_8 16 rfl rfl)
theorem dX5_advance_206 : decode cX5_advance 206 = .ok (.aload_n 0, 1) := dk_42 (dk_at dksX5_advance_8 19 rfl rfl)
theorem dX5_advance_207 : decode cX5_advance 207 = .ok (.iconst 2, 1) := dk_5 (dk_at dksX5_advance_8 20 rfl rfl)
theorem dX5_advance_208 : decode cX5_advance 208 = .ok (.putfield 113, 3) := dk_181 0 113 (dk_at dksX5_advance_8 21 rfl rfl)
theorem dX5_advance_211 : decode cX5_advance 211 = .ok (.goto 28, 3) := dk_167 0 28 (dk_at dksX5_advance_9 0 rfl rfl)
theorem dX5_advance_214 : decode cX5_advance 214 = .ok (.aload_n 0, 1) := dk_42 (dk_at dksX5_advance_9 3 rfl rfl)
theorem dX5_advance_215 : decode cX5_advance 215 = .ok (.iload_n 1, 1) := dk_27 (dk_at dksX5_advance_9 4 rfl rfl)
theorem dX5_advance_216 : decode cX5_advance 216 = .ok (.bipush 59, 2) := dk_16 59 (dk_at dksX5_advance_9 5 rfl rfl)
theorem dX5_advance_218 : decode cX5_advance 218 = .ok (.if_icmp .ne 7, 3) := dk_160 0 7 (dk_at dksX5_advance_9 7 rfl rfl)
theorem dX5_advance_221 : decode cX5_advance 221 = .ok (.iconst 3, 1) := dk_6 (dk_at dksX5_advance_9 10 rfl rfl)
theorem dX5_advance_222 : decode cX5_advance 222 = .ok (.goto 4, 3) := dk_167 0 4 (dk_at dksX5_advance_9 11 rfl rfl)
theorem dX5_advance_225 : decode cX5_advance 225 = .ok (.iconst 4, 1) := dk_7 (dk_at dksX5_advance_9 14 rfl rfl)
theorem dX5_advance_226 : decode cX5_advance 226 = .ok (.putfield 113, 3) := dk_181 0 113 (dk_at dksX5_advance_9 15 rfl rfl)
theorem dX5_advance_229 : decode cX5_advance 229 = .ok (.aload_n 0, 1) := dk_42 (dk_at dksX5_advance_9 18 rfl rfl)
theorem dX5_advance_230 : decode cX5_advance 230 = .ok (.dup, 1) := dk_89 (dk_at dksX5_advance_9 19 rfl rfl)
theorem dX5_advance_231 : decode cX5_advance 231 = .ok (.getfield 103, 3) := dk_180 0 103 (dk_at dksX5_advance_9 20 rfl rfl)
theorem dX5_advance_234 : decode cX5_advance 234 = .ok (.iconst 1, 1) := dk_4 (dk_at dksX5_advance_9 23 rfl rfl)
theorem dX5_advance_235 : decode cX5_advance 235 = .ok (.iadd, 1) := dk_96 (dk_at dksX5_advance_10 0 rfl rfl)
theorem dX5_advance_236 : decode cX5_advance 236 = .ok (.putfield 103, 3) := dk_181 0 103 (dk_at dksX5_advance_10 1 rfl rfl)
theorem dX5_advance_239 : decode cX5_advance 239 = .ok (.return_, 1) := dk_177 (dk_at dksX5_advance_10 4 rfl rfl)
abbrev cX5_see : ByteArray := prog_13_method_18_code
def yX5_see : MethodName := ⟨RX5, "see", "(I)I"⟩
def dkwX5_see_0 : List UInt8 := [27, 42, 180, 0, 100, 162, 0, 16, 42, 180, 0, 20, 27, 51, 17, 0, 255, 126, 167, 0, 4, 2, 172]
abbrev dktX5_see_0 : List UInt8 := dkwX5_see_0 ++ []
theorem dksX5_see_0 : cX5_see.data.toList.drop 0 = dktX5_see_0 := by decide +kernel
theorem dX5_see_0 : decode cX5_see 0 = .ok (.iload_n 1, 1) := dk_27 (dk_at dksX5_see_0 0 rfl rfl)
theorem dX5_see_1 : decode cX5_see 1 = .ok (.aload_n 0, 1) := dk_42 (dk_at dksX5_see_0 1 rfl rfl)
theorem dX5_see_2 : decode cX5_see 2 = .ok (.getfield 100, 3) := dk_180 0 100 (dk_at dksX5_see_0 2 rfl rfl)
theorem dX5_see_5 : decode cX5_see 5 = .ok (.if_icmp .ge 16, 3) := dk_162 0 16 (dk_at dksX5_see_0 5 rfl rfl)
theorem dX5_see_8 : decode cX5_see 8 = .ok (.aload_n 0, 1) := dk_42 (dk_at dksX5_see_0 8 rfl rfl)
theorem dX5_see_9 : decode cX5_see 9 = .ok (.getfield 20, 3) := dk_180 0 20 (dk_at dksX5_see_0 9 rfl rfl)
theorem dX5_see_12 : decode cX5_see 12 = .ok (.iload_n 1, 1) := dk_27 (dk_at dksX5_see_0 12 rfl rfl)
theorem dX5_see_13 : decode cX5_see 13 = .ok (.baload, 1) := dk_51 (dk_at dksX5_see_0 13 rfl rfl)
theorem dX5_see_14 : decode cX5_see 14 = .ok (.sipush 255, 3) := dk_17 0 255 (dk_at dksX5_see_0 14 rfl rfl)
theorem dX5_see_17 : decode cX5_see 17 = .ok (.iand, 1) := dk_126 (dk_at dksX5_see_0 17 rfl rfl)
theorem dX5_see_18 : decode cX5_see 18 = .ok (.goto 4, 3) := dk_167 0 4 (dk_at dksX5_see_0 18 rfl rfl)
theorem dX5_see_21 : decode cX5_see 21 = .ok (.iconst (-1), 1) := dk_2 (dk_at dksX5_see_0 21 rfl rfl)
theorem dX5_see_22 : decode cX5_see 22 = .ok (.ireturn, 1) := dk_172 (dk_at dksX5_see_0 22 rfl rfl)
abbrev cX5_good : ByteArray := prog_13_method_20_code
def yX5_good : MethodName := ⟨RX5, "good", "()Z"⟩
def dkwX5_good_0 : List UInt8 := [42, 180, 0, 134, 154, 0, 7, 4, 167, 0, 4, 3, 172]
abbrev dktX5_good_0 : List UInt8 := dkwX5_good_0 ++ []
theorem dksX5_good_0 : cX5_good.data.toList.drop 0 = dktX5_good_0 := by decide +kernel
theorem dX5_good_0 : decode cX5_good 0 = .ok (.aload_n 0, 1) := dk_42 (dk_at dksX5_good_0 0 rfl rfl)
theorem dX5_good_1 : decode cX5_good 1 = .ok (.getfield 134, 3) := dk_180 0 134 (dk_at dksX5_good_0 1 rfl rfl)
theorem dX5_good_4 : decode cX5_good 4 = .ok (.ifCond .ne 7, 3) := dk_154 0 7 (dk_at dksX5_good_0 4 rfl rfl)
theorem dX5_good_7 : decode cX5_good 7 = .ok (.iconst 1, 1) := dk_4 (dk_at dksX5_good_0 7 rfl rfl)
theorem dX5_good_8 : decode cX5_good 8 = .ok (.goto 4, 3) := dk_167 0 4 (dk_at dksX5_good_0 8 rfl rfl)
theorem dX5_good_11 : decode cX5_good 11 = .ok (.iconst 0, 1) := dk_3 (dk_at dksX5_good_0 11 rfl rfl)
theorem dX5_good_12 : decode cX5_good 12 = .ok (.ireturn, 1) := dk_172 (dk_at dksX5_good_0 12 rfl rfl)
abbrev cX5_readLine : ByteArray := prog_13_method_34_code
def yX5_readLine : MethodName := ⟨RX5, "readLine", "()V"⟩
def dkwX5_readLine_4 : List UInt8 := [42, 182, 0, 137, 153, 0, 7, 42, 182, 0, 154, 42, 180, 0, 31, 7, 92, 46, 4, 96, 79, 177]
abbrev dktX5_readLine_4 : List UInt8 := dkwX5_readLine_4 ++ []
def dkwX5_readLine_3 : List UInt8 := [42, 182, 0, 235, 42, 182, 0, 137, 153, 0, 16, 42, 180, 0, 113, 6, 159, 0, 8, 42, 4, 182, 0, 160]
abbrev dktX5_readLine_3 : List UInt8 := dkwX5_readLine_3 ++ dktX5_readLine_4
def dkwX5_readLine_2 : List UInt8 := [180, 0, 31, 16, 7, 42, 18, 233, 3, 42, 180, 0, 31, 8, 46, 4, 100, 182, 0, 173, 79, 167, 0, 7]
abbrev dktX5_readLine_2 : List UInt8 := dkwX5_readLine_2 ++ dktX5_readLine_3
def dkwX5_readLine_1 : List UInt8 := [16, 30, 182, 0, 173, 79, 42, 180, 0, 31, 16, 6, 42, 18, 231, 3, 16, 100, 182, 0, 173, 79, 42]
abbrev dktX5_readLine_1 : List UInt8 := dkwX5_readLine_1 ++ dktX5_readLine_2
def dkwX5_readLine_0 : List UInt8 := [42, 180, 0, 31, 7, 46, 154, 0, 65, 42, 18, 227, 182, 0, 164, 42, 180, 0, 31, 8, 42, 18, 229, 7]
abbrev dktX5_readLine_0 : List UInt8 := dkwX5_readLine_0 ++ dktX5_readLine_1
theorem dksX5_readLine_0 : cX5_readLine.data.toList.drop 0 = dktX5_readLine_0 := by decide +kernel
theorem dksX5_readLine_1 : cX5_readLine.data.toList.drop 24 = dktX5_readLine_1 := dk_seg dksX5_readLine_0 24 rfl rfl
theorem dksX5_readLine_2 : cX5_readLine.data.toList.drop 47 = dktX5_readLine_2 := dk_seg dksX5_readLine_1 23 rfl rfl
theorem dksX5_readLine_3 : cX5_readLine.data.toList.drop 71 = dktX5_readLine_3 := dk_seg dksX5_readLine_2 24 rfl rfl
theorem dksX5_readLine_4 : cX5_readLine.data.toList.drop 95 = dktX5_readLine_4 := dk_seg dksX5_readLine_3 24 rfl rfl
theorem dX5_readLine_0 : decode cX5_readLine 0 = .ok (.aload_n 0, 1) := dk_42 (dk_at dksX5_readLine_0 0 rfl rfl)
theorem dX5_readLine_1 : decode cX5_readLine 1 = .ok (.getfield 31, 3) := dk_180 0 31 (dk_at dksX5_readLine_0 1 rfl rfl)
theorem dX5_readLine_4 : decode cX5_readLine 4 = .ok (.iconst 4, 1) := dk_7 (dk_at dksX5_readLine_0 4 rfl rfl)
theorem dX5_readLine_5 : decode cX5_readLine 5 = .ok (.iaload, 1) := dk_46 (dk_at dksX5_readLine_0 5 rfl rfl)
theorem dX5_readLine_6 : decode cX5_readLine 6 = .ok (.ifCond .ne 65, 3) := dk_154 0 65 (dk_at dksX5_readLine_0 6 rfl rfl)
theorem dX5_readLine_9 : decode cX5_readLine 9 = .ok (.aload_n 0, 1) := dk_42 (dk_at dksX5_readLine_0 9 rfl rfl)
theorem dX5_readLine_10 : decode cX5_readLine 10 = .ok (.ldc 227, 2) := dk_18 227 (dk_at dksX5_readLine_0 10 rfl rfl)
theorem dX5_readLine_12 : decode cX5_readLine 12 = .ok (.invokevirtual 164, 3) := dk_182 0 164 (dk_at dksX5_readLine_0 12 rfl rfl)
theorem dX5_readLine_15 : decode cX5_readLine 15 = .ok (.aload_n 0, 1) := dk_42 (dk_at dksX5_readLine_0 15 rfl rfl)
theorem dX5_readLine_16 : decode cX5_readLine 16 = .ok (.getfield 31, 3) := dk_180 0 31 (dk_at dksX5_readLine_0 16 rfl rfl)
theorem dX5_readLine_19 : decode cX5_readLine 19 = .ok (.iconst 5, 1) := dk_8 (dk_at dksX5_readLine_0 19 rfl rfl)
theorem dX5_readLine_20 : decode cX5_readLine 20 = .ok (.aload_n 0, 1) := dk_42 (dk_at dksX5_readLine_0 20 rfl rfl)
theorem dX5_readLine_21 : decode cX5_readLine 21 = .ok (.ldc 229, 2) := dk_18 229 (dk_at dksX5_readLine_0 21 rfl rfl)
theorem dX5_readLine_23 : decode cX5_readLine 23 = .ok (.iconst 4, 1) := dk_7 (dk_at dksX5_readLine_0 23 rfl rfl)
theorem dX5_readLine_24 : decode cX5_readLine 24 = .ok (.bipush 30, 2) := dk_16 30 (dk_at dksX5_readLine_1 0 rfl rfl)
theorem dX5_readLine_26 : decode cX5_readLine 26 = .ok (.invokevirtual 173, 3) := dk_182 0 173 (dk_at dksX5_readLine_1 2 rfl rfl)
theorem dX5_readLine_29 : decode cX5_readLine 29 = .ok (.iastore, 1) := dk_79 (dk_at dksX5_readLine_1 5 rfl rfl)
theorem dX5_readLine_30 : decode cX5_readLine 30 = .ok (.aload_n 0, 1) := dk_42 (dk_at dksX5_readLine_1 6 rfl rfl)
theorem dX5_readLine_31 : decode cX5_readLine 31 = .ok (.getfield 31, 3) := dk_180 0 31 (dk_at dksX5_readLine_1 7 rfl rfl)
theorem dX5_readLine_34 : decode cX5_readLine 34 = .ok (.bipush 6, 2) := dk_16 6 (dk_at dksX5_readLine_1 10 rfl rfl)
theorem dX5_readLine_36 : decode cX5_readLine 36 = .ok (.aload_n 0, 1) := dk_42 (dk_at dksX5_readLine_1 12 rfl rfl)
theorem dX5_readLine_37 : decode cX5_readLine 37 = .ok (.ldc 231, 2) := dk_18 231 (dk_at dksX5_readLine_1 13 rfl rfl)
theorem dX5_readLine_39 : decode cX5_readLine 39 = .ok (.iconst 0, 1) := dk_3 (dk_at dksX5_readLine_1 15 rfl rfl)
theorem dX5_readLine_40 : decode cX5_readLine 40 = .ok (.bipush 100, 2) := dk_16 100 (dk_at dksX5_readLine_1 16 rfl rfl)
theorem dX5_readLine_42 : decode cX5_readLine 42 = .ok (.invokevirtual 173, 3) := dk_182 0 173 (dk_at dksX5_readLine_1 18 rfl rfl)
theorem dX5_readLine_45 : decode cX5_readLine 45 = .ok (.iastore, 1) := dk_79 (dk_at dksX5_readLine_1 21 rfl rfl)
theorem dX5_readLine_46 : decode cX5_readLine 46 = .ok (.aload_n 0, 1) := dk_42 (dk_at dksX5_readLine_1 22 rfl rfl)
theorem dX5_readLine_47 : decode cX5_readLine 47 = .ok (.getfield 31, 3) := dk_180 0 31 (dk_at dksX5_readLine_2 0 rfl rfl)
theorem dX5_readLine_50 : decode cX5_readLine 50 = .ok (.bipush 7, 2) := dk_16 7 (dk_at dksX5_readLine_2 3 rfl rfl)
theorem dX5_readLine_52 : decode cX5_readLine 52 = .ok (.aload_n 0, 1) := dk_42 (dk_at dksX5_readLine_2 5 rfl rfl)
theorem dX5_readLine_53 : decode cX5_readLine 53 = .ok (.ldc 233, 2) := dk_18 233 (dk_at dksX5_readLine_2 6 rfl rfl)
theorem dX5_readLine_55 : decode cX5_readLine 55 = .ok (.iconst 0, 1) := dk_3 (dk_at dksX5_readLine_2 8 rfl rfl)
theorem dX5_readLine_56 : decode cX5_readLine 56 = .ok (.aload_n 0, 1) := dk_42 (dk_at dksX5_readLine_2 9 rfl rfl)
theorem dX5_readLine_57 : decode cX5_readLine 57 = .ok (.getfield 31, 3) := dk_180 0 31 (dk_at dksX5_readLine_2 10 rfl rfl)
theorem dX5_readLine_60 : decode cX5_readLine 60 = .ok (.iconst 5, 1) := dk_8 (dk_at dksX5_readLine_2 13 rfl rfl)
theorem dX5_readLine_61 : decode cX5_readLine 61 = .ok (.iaload, 1) := dk_46 (dk_at dksX5_readLine_2 14 rfl rfl)
theorem dX5_readLine_62 : decode cX5_readLine 62 = .ok (.iconst 1, 1) := dk_4 (dk_at dksX5_readLine_2 15 rfl rfl)
theorem dX5_readLine_63 : decode cX5_readLine 63 = .ok (.isub, 1) := dk_100 (dk_at dksX5_readLine_2 16 rfl rfl)
theorem dX5_readLine_64 : decode cX5_readLine 64 = .ok (.invokevirtual 173, 3) := dk_182 0 173 (dk_at dksX5_readLine_2 17 rfl rfl)
theorem dX5_readLine_67 : decode cX5_readLine 67 = .ok (.iastore, 1) := dk_79 (dk_at dksX5_readLine_2 20 rfl rfl)
theorem dX5_readLine_68 : decode cX5_readLine 68 = .ok (.goto 7, 3) := dk_167 0 7 (dk_at dksX5_readLine_2 21 rfl rfl)
theorem dX5_readLine_71 : decode cX5_readLine 71 = .ok (.aload_n 0, 1) := dk_42 (dk_at dksX5_readLine_3 0 rfl rfl)
theorem dX5_readLine_72 : decode cX5_readLine 72 = .ok (.invokevirtual 235, 3) := dk_182 0 235 (dk_at dksX5_readLine_3 1 rfl rfl)
theorem dX5_readLine_75 : decode cX5_readLine 75 = .ok (.aload_n 0, 1) := dk_42 (dk_at dksX5_readLine_3 4 rfl rfl)
theorem dX5_readLine_76 : decode cX5_readLine 76 = .ok (.invokevirtual 137, 3) := dk_182 0 137 (dk_at dksX5_readLine_3 5 rfl rfl)
theorem dX5_readLine_79 : decode cX5_readLine 79 = .ok (.ifCond .eq 16, 3) := dk_153 0 16 (dk_at dksX5_readLine_3 8 rfl rfl)
theorem dX5_readLine_82 : decode cX5_readLine 82 = .ok (.aload_n 0, 1) := dk_42 (dk_at dksX5_readLine_3 11 rfl rfl)
theorem dX5_readLine_83 : decode cX5_readLine 83 = .ok (.getfield 113, 3) := dk_180 0 113 (dk_at dksX5_readLine_3 12 rfl rfl)
theorem dX5_readLine_86 : decode cX5_readLine 86 = .ok (.iconst 3, 1) := dk_6 (dk_at dksX5_readLine_3 15 rfl rfl)
theorem dX5_readLine_87 : decode cX5_readLine 87 = .ok (.if_icmp .eq 8, 3) := dk_159 0 8 (dk_at dksX5_readLine_3 16 rfl rfl)
theorem dX5_readLine_90 : decode cX5_readLine 90 = .ok (.aload_n 0, 1) := dk_42 (dk_at dksX5_readLine_3 19 rfl rfl)
theorem dX5_readLine_91 : decode cX5_readLine 91 = .ok (.iconst 1, 1) := dk_4 (dk_at dksX5_readLine_3 20 rfl rfl)
theorem dX5_readLine_92 : decode cX5_readLine 92 = .ok (.invokevirtual 160, 3) := dk_182 0 160 (dk_at dksX5_readLine_3 21 rfl rfl)
theorem dX5_readLine_95 : decode cX5_readLine 95 = .ok (.aload_n 0, 1) := dk_42 (dk_at dksX5_readLine_4 0 rfl rfl)
theorem dX5_readLine_96 : decode cX5_readLine 96 = .ok (.invokevirtual 137, 3) := dk_182 0 137 (dk_at dksX5_readLine_4 1 rfl rfl)
theorem dX5_readLine_99 : decode cX5_readLine 99 = .ok (.ifCond .eq 7, 3) := dk_153 0 7 (dk_at dksX5_readLine_4 4 rfl rfl)
theorem dX5_readLine_102 : decode cX5_readLine 102 = .ok (.aload_n 0, 1) := dk_42 (dk_at dksX5_readLine_4 7 rfl rfl)
theorem dX5_readLine_103 : decode cX5_readLine 103 = .ok (.invokevirtual 154, 3) := dk_182 0 154 (dk_at dksX5_readLine_4 8 rfl rfl)
theorem dX5_readLine_106 : decode cX5_readLine 106 = .ok (.aload_n 0, 1) := dk_42 (dk_at dksX5_readLine_4 11 rfl rfl)
theorem dX5_readLine_107 : decode cX5_readLine 107 = .ok (.getfield 31, 3) := dk_180 0 31 (dk_at dksX5_readLine_4 12 rfl rfl)
theorem dX5_readLine_110 : decode cX5_readLine 110 = .ok (.iconst 4, 1) := dk_7 (dk_at dksX5_readLine_4 15 rfl rfl)
theorem dX5_readLine_111 : decode cX5_readLine 111 = .ok (.dup2, 1) := dk_92 (dk_at dksX5_readLine_4 16 rfl rfl)
theorem dX5_readLine_112 : decode cX5_readLine 112 = .ok (.iaload, 1) := dk_46 (dk_at dksX5_readLine_4 17 rfl rfl)
theorem dX5_readLine_113 : decode cX5_readLine 113 = .ok (.iconst 1, 1) := dk_4 (dk_at dksX5_readLine_4 18 rfl rfl)
theorem dX5_readLine_114 : decode cX5_readLine 114 = .ok (.iadd, 1) := dk_96 (dk_at dksX5_readLine_4 19 rfl rfl)
theorem dX5_readLine_115 : decode cX5_readLine 115 = .ok (.iastore, 1) := dk_79 (dk_at dksX5_readLine_4 20 rfl rfl)
theorem dX5_readLine_116 : decode cX5_readLine 116 = .ok (.return_, 1) := dk_177 (dk_at dksX5_readLine_4 21 rfl rfl)
abbrev cX5_needs : ByteArray := prog_13_method_24_code
def yX5_needs : MethodName := ⟨RX5, "needs", "(Ljava/lang/String;)V"⟩
def dkwX5_needs_0 : List UInt8 := [42, 43, 182, 0, 157, 154, 0, 8, 42, 4, 182, 0, 160, 177]
abbrev dktX5_needs_0 : List UInt8 := dkwX5_needs_0 ++ []
theorem dksX5_needs_0 : cX5_needs.data.toList.drop 0 = dktX5_needs_0 := by decide +kernel
theorem dX5_needs_0 : decode cX5_needs 0 = .ok (.aload_n 0, 1) := dk_42 (dk_at dksX5_needs_0 0 rfl rfl)
theorem dX5_needs_1 : decode cX5_needs 1 = .ok (.aload_n 1, 1) := dk_43 (dk_at dksX5_needs_0 1 rfl rfl)
theorem dX5_needs_2 : decode cX5_needs 2 = .ok (.invokevirtual 157, 3) := dk_182 0 157 (dk_at dksX5_needs_0 2 rfl rfl)
theorem dX5_needs_5 : decode cX5_needs 5 = .ok (.ifCond .ne 8, 3) := dk_154 0 8 (dk_at dksX5_needs_0 5 rfl rfl)
theorem dX5_needs_8 : decode cX5_needs 8 = .ok (.aload_n 0, 1) := dk_42 (dk_at dksX5_needs_0 8 rfl rfl)
theorem dX5_needs_9 : decode cX5_needs 9 = .ok (.iconst 1, 1) := dk_4 (dk_at dksX5_needs_0 9 rfl rfl)
theorem dX5_needs_10 : decode cX5_needs 10 = .ok (.invokevirtual 160, 3) := dk_182 0 160 (dk_at dksX5_needs_0 10 rfl rfl)
theorem dX5_needs_13 : decode cX5_needs 13 = .ok (.return_, 1) := dk_177 (dk_at dksX5_needs_0 13 rfl rfl)
abbrev cX5_takes : ByteArray := prog_13_method_23_code
def yX5_takes : MethodName := ⟨RX5, "takes", "(Ljava/lang/String;)Z"⟩
def dkwX5_takes_0 : List UInt8 := [42, 43, 182, 0, 150, 61, 28, 153, 0, 7, 42, 182, 0, 154, 28, 172]
abbrev dktX5_takes_0 : List UInt8 := dkwX5_takes_0 ++ []
theorem dksX5_takes_0 : cX5_takes.data.toList.drop 0 = dktX5_takes_0 := by decide +kernel
theorem dX5_takes_0 : decode cX5_takes 0 = .ok (.aload_n 0, 1) := dk_42 (dk_at dksX5_takes_0 0 rfl rfl)
theorem dX5_takes_1 : decode cX5_takes 1 = .ok (.aload_n 1, 1) := dk_43 (dk_at dksX5_takes_0 1 rfl rfl)
theorem dX5_takes_2 : decode cX5_takes 2 = .ok (.invokevirtual 150, 3) := dk_182 0 150 (dk_at dksX5_takes_0 2 rfl rfl)
theorem dX5_takes_5 : decode cX5_takes 5 = .ok (.istore_n 2, 1) := dk_61 (dk_at dksX5_takes_0 5 rfl rfl)
theorem dX5_takes_6 : decode cX5_takes 6 = .ok (.iload_n 2, 1) := dk_28 (dk_at dksX5_takes_0 6 rfl rfl)
theorem dX5_takes_7 : decode cX5_takes 7 = .ok (.ifCond .eq 7, 3) := dk_153 0 7 (dk_at dksX5_takes_0 7 rfl rfl)
theorem dX5_takes_10 : decode cX5_takes 10 = .ok (.aload_n 0, 1) := dk_42 (dk_at dksX5_takes_0 10 rfl rfl)
theorem dX5_takes_11 : decode cX5_takes 11 = .ok (.invokevirtual 154, 3) := dk_182 0 154 (dk_at dksX5_takes_0 11 rfl rfl)
theorem dX5_takes_14 : decode cX5_takes 14 = .ok (.iload_n 2, 1) := dk_28 (dk_at dksX5_takes_0 14 rfl rfl)
theorem dX5_takes_15 : decode cX5_takes 15 = .ok (.ireturn, 1) := dk_172 (dk_at dksX5_takes_0 15 rfl rfl)
abbrev cX5_is : ByteArray := prog_13_method_22_code
def yX5_is : MethodName := ⟨RX5, "is", "(Ljava/lang/String;)Z"⟩
def dkwX5_is_3 : List UInt8 := [167, 0, 4, 3, 61, 132, 3, 1, 167, 255, 216, 28, 172]
abbrev dktX5_is_3 : List UInt8 := dkwX5_is_3 ++ []
def dkwX5_is_2 : List UInt8 := [153, 0, 34, 42, 180, 0, 20, 42, 180, 0, 110, 29, 96, 51, 43, 29, 182, 0, 146, 160, 0, 7, 4]
abbrev dktX5_is_2 : List UInt8 := dkwX5_is_2 ++ dktX5_is_3
def dkwX5_is_1 : List UInt8 := [43, 182, 0, 141, 160, 0, 7, 4, 167, 0, 4, 3, 61, 3, 62, 29, 43, 182, 0, 141, 162, 0, 38, 28]
abbrev dktX5_is_1 : List UInt8 := dkwX5_is_1 ++ dktX5_is_2
def dkwX5_is_0 : List UInt8 := [42, 182, 0, 137, 153, 0, 31, 42, 180, 0, 113, 4, 160, 0, 23, 42, 180, 0, 103, 42, 180, 0, 110, 100]
abbrev dktX5_is_0 : List UInt8 := dkwX5_is_0 ++ dktX5_is_1
theorem dksX5_is_0 : cX5_is.data.toList.drop 0 = dktX5_is_0 := by decide +kernel
theorem dksX5_is_1 : cX5_is.data.toList.drop 24 = dktX5_is_1 := dk_seg dksX5_is_0 24 rfl rfl
theorem dksX5_is_2 : cX5_is.data.toList.drop 48 = dktX5_is_2 := dk_seg dksX5_is_1 24 rfl rfl
theorem dksX5_is_3 : cX5_is.data.toList.drop 71 = dktX5_is_3 := dk_seg dksX5_is_2 23 rfl rfl
theorem dX5_is_0 : decode cX5_is 0 = .ok (.aload_n 0, 1) := dk_42 (dk_at dksX5_is_0 0 rfl rfl)
theorem dX5_is_1 : decode cX5_is 1 = .ok (.invokevirtual 137, 3) := dk_182 0 137 (dk_at dksX5_is_0 1 rfl rfl)
theorem dX5_is_4 : decode cX5_is 4 = .ok (.ifCond .eq 31, 3) := dk_153 0 31 (dk_at dksX5_is_0 4 rfl rfl)
theorem dX5_is_7 : decode cX5_is 7 = .ok (.aload_n 0, 1) := dk_42 (dk_at dksX5_is_0 7 rfl rfl)
theorem dX5_is_8 : decode cX5_is 8 = .ok (.getfield 113, 3) := dk_180 0 113 (dk_at dksX5_is_0 8 rfl rfl)
theorem dX5_is_11 : decode cX5_is 11 = .ok (.iconst 1, 1) := dk_4 (dk_at dksX5_is_0 11 rfl rfl)
theorem dX5_is_12 : decode cX5_is 12 = .ok (.if_icmp .ne 23, 3) := dk_160 0 23 (dk_at dksX5_is_0 12 rfl rfl)
theorem dX5_is_15 : decode cX5_is 15 = .ok (.aload_n 0, 1) := dk_42 (dk_at dksX5_is_0 15 rfl rfl)
theorem dX5_is_16 : decode cX5_is 16 = .ok (.getfield 103, 3) := dk_180 0 103 (dk_at dksX5_is_0 16 rfl rfl)
theorem dX5_is_19 : decode cX5_is 19 = .ok (.aload_n 0, 1) := dk_42 (dk_at dksX5_is_0 19 rfl rfl)
theorem dX5_is_20 : decode cX5_is 20 = .ok (.getfield 110, 3) := dk_180 0 110 (dk_at dksX5_is_0 20 rfl rfl)
theorem dX5_is_23 : decode cX5_is 23 = .ok (.isub, 1) := dk_100 (dk_at dksX5_is_0 23 rfl rfl)
theorem dX5_is_24 : decode cX5_is 24 = .ok (.aload_n 1, 1) := dk_43 (dk_at dksX5_is_1 0 rfl rfl)
theorem dX5_is_25 : decode cX5_is 25 = .ok (.invokevirtual 141, 3) := dk_182 0 141 (dk_at dksX5_is_1 1 rfl rfl)
theorem dX5_is_28 : decode cX5_is 28 = .ok (.if_icmp .ne 7, 3) := dk_160 0 7 (dk_at dksX5_is_1 4 rfl rfl)
theorem dX5_is_31 : decode cX5_is 31 = .ok (.iconst 1, 1) := dk_4 (dk_at dksX5_is_1 7 rfl rfl)
theorem dX5_is_32 : decode cX5_is 32 = .ok (.goto 4, 3) := dk_167 0 4 (dk_at dksX5_is_1 8 rfl rfl)
theorem dX5_is_35 : decode cX5_is 35 = .ok (.iconst 0, 1) := dk_3 (dk_at dksX5_is_1 11 rfl rfl)
theorem dX5_is_36 : decode cX5_is 36 = .ok (.istore_n 2, 1) := dk_61 (dk_at dksX5_is_1 12 rfl rfl)
theorem dX5_is_37 : decode cX5_is 37 = .ok (.iconst 0, 1) := dk_3 (dk_at dksX5_is_1 13 rfl rfl)
theorem dX5_is_38 : decode cX5_is 38 = .ok (.istore_n 3, 1) := dk_62 (dk_at dksX5_is_1 14 rfl rfl)
theorem dX5_is_39 : decode cX5_is 39 = .ok (.iload_n 3, 1) := dk_29 (dk_at dksX5_is_1 15 rfl rfl)
theorem dX5_is_40 : decode cX5_is 40 = .ok (.aload_n 1, 1) := dk_43 (dk_at dksX5_is_1 16 rfl rfl)
theorem dX5_is_41 : decode cX5_is 41 = .ok (.invokevirtual 141, 3) := dk_182 0 141 (dk_at dksX5_is_1 17 rfl rfl)
theorem dX5_is_44 : decode cX5_is 44 = .ok (.if_icmp .ge 38, 3) := dk_162 0 38 (dk_at dksX5_is_1 20 rfl rfl)
theorem dX5_is_47 : decode cX5_is 47 = .ok (.iload_n 2, 1) := dk_28 (dk_at dksX5_is_1 23 rfl rfl)
theorem dX5_is_48 : decode cX5_is 48 = .ok (.ifCond .eq 34, 3) := dk_153 0 34 (dk_at dksX5_is_2 0 rfl rfl)
theorem dX5_is_51 : decode cX5_is 51 = .ok (.aload_n 0, 1) := dk_42 (dk_at dksX5_is_2 3 rfl rfl)
theorem dX5_is_52 : decode cX5_is 52 = .ok (.getfield 20, 3) := dk_180 0 20 (dk_at dksX5_is_2 4 rfl rfl)
theorem dX5_is_55 : decode cX5_is 55 = .ok (.aload_n 0, 1) := dk_42 (dk_at dksX5_is_2 7 rfl rfl)
theorem dX5_is_56 : decode cX5_is 56 = .ok (.getfield 110, 3) := dk_180 0 110 (dk_at dksX5_is_2 8 rfl rfl)
theorem dX5_is_59 : decode cX5_is 59 = .ok (.iload_n 3, 1) := dk_29 (dk_at dksX5_is_2 11 rfl rfl)
theorem dX5_is_60 : decode cX5_is 60 = .ok (.iadd, 1) := dk_96 (dk_at dksX5_is_2 12 rfl rfl)
theorem dX5_is_61 : decode cX5_is 61 = .ok (.baload, 1) := dk_51 (dk_at dksX5_is_2 13 rfl rfl)
theorem dX5_is_62 : decode cX5_is 62 = .ok (.aload_n 1, 1) := dk_43 (dk_at dksX5_is_2 14 rfl rfl)
theorem dX5_is_63 : decode cX5_is 63 = .ok (.iload_n 3, 1) := dk_29 (dk_at dksX5_is_2 15 rfl rfl)
theorem dX5_is_64 : decode cX5_is 64 = .ok (.invokevirtual 146, 3) := dk_182 0 146 (dk_at dksX5_is_2 16 rfl rfl)
theorem dX5_is_67 : decode cX5_is 67 = .ok (.if_icmp .ne 7, 3) := dk_160 0 7 (dk_at dksX5_is_2 19 rfl rfl)
theorem dX5_is_70 : decode cX5_is 70 = .ok (.iconst 1, 1) := dk_4 (dk_at dksX5_is_2 22 rfl rfl)
theorem dX5_is_71 : decode cX5_is 71 = .ok (.goto 4, 3) := dk_167 0 4 (dk_at dksX5_is_3 0 rfl rfl)
theorem dX5_is_74 : decode cX5_is 74 = .ok (.iconst 0, 1) := dk_3 (dk_at dksX5_is_3 3 rfl rfl)
theorem dX5_is_75 : decode cX5_is 75 = .ok (.istore_n 2, 1) := dk_61 (dk_at dksX5_is_3 4 rfl rfl)
theorem dX5_is_76 : decode cX5_is 76 = .ok (.iinc 3 1, 3) := dk_132 3 1 (dk_at dksX5_is_3 5 rfl rfl)
theorem dX5_is_79 : decode cX5_is 79 = .ok (.goto (-40), 3) := dk_167 255 216 (dk_at dksX5_is_3 8 rfl rfl)
theorem dX5_is_82 : decode cX5_is 82 = .ok (.iload_n 2, 1) := dk_28 (dk_at dksX5_is_3 11 rfl rfl)
theorem dX5_is_83 : decode cX5_is 83 = .ok (.ireturn, 1) := dk_172 (dk_at dksX5_is_3 12 rfl rfl)
abbrev cX5_errs : ByteArray := prog_13_method_21_code
def yX5_errs : MethodName := ⟨RX5, "errs", "(I)V"⟩
def dkwX5_errs_0 : List UInt8 := [42, 182, 0, 137, 154, 0, 4, 177, 42, 27, 181, 0, 134, 42, 42, 180, 0, 110, 181, 0, 27, 177]
abbrev dktX5_errs_0 : List UInt8 := dkwX5_errs_0 ++ []
theorem dksX5_errs_0 : cX5_errs.data.toList.drop 0 = dktX5_errs_0 := by decide +kernel
theorem dX5_errs_0 : decode cX5_errs 0 = .ok (.aload_n 0, 1) := dk_42 (dk_at dksX5_errs_0 0 rfl rfl)
theorem dX5_errs_1 : decode cX5_errs 1 = .ok (.invokevirtual 137, 3) := dk_182 0 137 (dk_at dksX5_errs_0 1 rfl rfl)
theorem dX5_errs_4 : decode cX5_errs 4 = .ok (.ifCond .ne 4, 3) := dk_154 0 4 (dk_at dksX5_errs_0 4 rfl rfl)
theorem dX5_errs_7 : decode cX5_errs 7 = .ok (.return_, 1) := dk_177 (dk_at dksX5_errs_0 7 rfl rfl)
theorem dX5_errs_8 : decode cX5_errs 8 = .ok (.aload_n 0, 1) := dk_42 (dk_at dksX5_errs_0 8 rfl rfl)
theorem dX5_errs_9 : decode cX5_errs 9 = .ok (.iload_n 1, 1) := dk_27 (dk_at dksX5_errs_0 9 rfl rfl)
theorem dX5_errs_10 : decode cX5_errs 10 = .ok (.putfield 134, 3) := dk_181 0 134 (dk_at dksX5_errs_0 10 rfl rfl)
theorem dX5_errs_13 : decode cX5_errs 13 = .ok (.aload_n 0, 1) := dk_42 (dk_at dksX5_errs_0 13 rfl rfl)
theorem dX5_errs_14 : decode cX5_errs 14 = .ok (.aload_n 0, 1) := dk_42 (dk_at dksX5_errs_0 14 rfl rfl)
theorem dX5_errs_15 : decode cX5_errs 15 = .ok (.getfield 110, 3) := dk_180 0 110 (dk_at dksX5_errs_0 15 rfl rfl)
theorem dX5_errs_18 : decode cX5_errs 18 = .ok (.putfield 27, 3) := dk_181 0 27 (dk_at dksX5_errs_0 18 rfl rfl)
theorem dX5_errs_21 : decode cX5_errs 21 = .ok (.return_, 1) := dk_177 (dk_at dksX5_errs_0 21 rfl rfl)
abbrev cX5_told : ByteArray := prog_13_method_26_code
def yX5_told : MethodName := ⟨RX5, "told", "(Ljava/lang/String;II)I"⟩
def dkwX5_told_0 : List UInt8 := [42, 43, 182, 0, 164, 42, 28, 29, 182, 0, 168, 172]
abbrev dktX5_told_0 : List UInt8 := dkwX5_told_0 ++ []
theorem dksX5_told_0 : cX5_told.data.toList.drop 0 = dktX5_told_0 := by decide +kernel
theorem dX5_told_0 : decode cX5_told 0 = .ok (.aload_n 0, 1) := dk_42 (dk_at dksX5_told_0 0 rfl rfl)
theorem dX5_told_1 : decode cX5_told 1 = .ok (.aload_n 1, 1) := dk_43 (dk_at dksX5_told_0 1 rfl rfl)
theorem dX5_told_2 : decode cX5_told 2 = .ok (.invokevirtual 164, 3) := dk_182 0 164 (dk_at dksX5_told_0 2 rfl rfl)
theorem dX5_told_5 : decode cX5_told 5 = .ok (.aload_n 0, 1) := dk_42 (dk_at dksX5_told_0 5 rfl rfl)
theorem dX5_told_6 : decode cX5_told 6 = .ok (.iload_n 2, 1) := dk_28 (dk_at dksX5_told_0 6 rfl rfl)
theorem dX5_told_7 : decode cX5_told 7 = .ok (.iload_n 3, 1) := dk_29 (dk_at dksX5_told_0 7 rfl rfl)
theorem dX5_told_8 : decode cX5_told 8 = .ok (.invokevirtual 168, 3) := dk_182 0 168 (dk_at dksX5_told_0 8 rfl rfl)
theorem dX5_told_11 : decode cX5_told 11 = .ok (.ireturn, 1) := dk_172 (dk_at dksX5_told_0 11 rfl rfl)
abbrev cX5_number : ByteArray := prog_13_method_25_code
def yX5_number : MethodName := ⟨RX5, "number", "(II)I"⟩
def dkwX5_number_2 : List UInt8 := [182, 0, 137, 154, 0, 5, 3, 172, 42, 180, 0, 124, 62, 42, 182, 0, 154, 29, 172]
abbrev dktX5_number_2 : List UInt8 := dkwX5_number_2 ++ []
def dkwX5_number_1 : List UInt8 := [153, 0, 23, 42, 180, 0, 124, 133, 27, 133, 28, 133, 184, 0, 85, 154, 0, 8, 42, 5, 182, 0, 160, 42]
abbrev dktX5_number_1 : List UInt8 := dkwX5_number_1 ++ dktX5_number_2
def dkwX5_number_0 : List UInt8 := [42, 182, 0, 137, 153, 0, 16, 42, 180, 0, 113, 5, 159, 0, 8, 42, 4, 182, 0, 160, 42, 182, 0, 137]
abbrev dktX5_number_0 : List UInt8 := dkwX5_number_0 ++ dktX5_number_1
theorem dksX5_number_0 : cX5_number.data.toList.drop 0 = dktX5_number_0 := by decide +kernel
theorem dksX5_number_1 : cX5_number.data.toList.drop 24 = dktX5_number_1 := dk_seg dksX5_number_0 24 rfl rfl
theorem dksX5_number_2 : cX5_number.data.toList.drop 48 = dktX5_number_2 := dk_seg dksX5_number_1 24 rfl rfl
theorem dX5_number_0 : decode cX5_number 0 = .ok (.aload_n 0, 1) := dk_42 (dk_at dksX5_number_0 0 rfl rfl)
theorem dX5_number_1 : decode cX5_number 1 = .ok (.invokevirtual 137, 3) := dk_182 0 137 (dk_at dksX5_number_0 1 rfl rfl)
theorem dX5_number_4 : decode cX5_number 4 = .ok (.ifCond .eq 16, 3) := dk_153 0 16 (dk_at dksX5_number_0 4 rfl rfl)
theorem dX5_number_7 : decode cX5_number 7 = .ok (.aload_n 0, 1) := dk_42 (dk_at dksX5_number_0 7 rfl rfl)
theorem dX5_number_8 : decode cX5_number 8 = .ok (.getfield 113, 3) := dk_180 0 113 (dk_at dksX5_number_0 8 rfl rfl)
theorem dX5_number_11 : decode cX5_number 11 = .ok (.iconst 2, 1) := dk_5 (dk_at dksX5_number_0 11 rfl rfl)
theorem dX5_number_12 : decode cX5_number 12 = .ok (.if_icmp .eq 8, 3) := dk_159 0 8 (dk_at dksX5_number_0 12 rfl rfl)
theorem dX5_number_15 : decode cX5_number 15 = .ok (.aload_n 0, 1) := dk_42 (dk_at dksX5_number_0 15 rfl rfl)
theorem dX5_number_16 : decode cX5_number 16 = .ok (.iconst 1, 1) := dk_4 (dk_at dksX5_number_0 16 rfl rfl)
theorem dX5_number_17 : decode cX5_number 17 = .ok (.invokevirtual 160, 3) := dk_182 0 160 (dk_at dksX5_number_0 17 rfl rfl)
theorem dX5_number_20 : decode cX5_number 20 = .ok (.aload_n 0, 1) := dk_42 (dk_at dksX5_number_0 20 rfl rfl)
theorem dX5_number_21 : decode cX5_number 21 = .ok (.invokevirtual 137, 3) := dk_182 0 137 (dk_at dksX5_number_0 21 rfl rfl)
theorem dX5_number_24 : decode cX5_number 24 = .ok (.ifCond .eq 23, 3) := dk_153 0 23 (dk_at dksX5_number_1 0 rfl rfl)
theorem dX5_number_27 : decode cX5_number 27 = .ok (.aload_n 0, 1) := dk_42 (dk_at dksX5_number_1 3 rfl rfl)
theorem dX5_number_28 : decode cX5_number 28 = .ok (.getfield 124, 3) := dk_180 0 124 (dk_at dksX5_number_1 4 rfl rfl)
theorem dX5_number_31 : decode cX5_number 31 = .ok (.i2l, 1) := dk_133 (dk_at dksX5_number_1 7 rfl rfl)
theorem dX5_number_32 : decode cX5_number 32 = .ok (.iload_n 1, 1) := dk_27 (dk_at dksX5_number_1 8 rfl rfl)
theorem dX5_number_33 : decode cX5_number 33 = .ok (.i2l, 1) := dk_133 (dk_at dksX5_number_1 9 rfl rfl)
theorem dX5_number_34 : decode cX5_number 34 = .ok (.iload_n 2, 1) := dk_28 (dk_at dksX5_number_1 10 rfl rfl)
theorem dX5_number_35 : decode cX5_number 35 = .ok (.i2l, 1) := dk_133 (dk_at dksX5_number_1 11 rfl rfl)
theorem dX5_number_36 : decode cX5_number 36 = .ok (.invokestatic 85, 3) := dk_184 0 85 (dk_at dksX5_number_1 12 rfl rfl)
theorem dX5_number_39 : decode cX5_number 39 = .ok (.ifCond .ne 8, 3) := dk_154 0 8 (dk_at dksX5_number_1 15 rfl rfl)
theorem dX5_number_42 : decode cX5_number 42 = .ok (.aload_n 0, 1) := dk_42 (dk_at dksX5_number_1 18 rfl rfl)
theorem dX5_number_43 : decode cX5_number 43 = .ok (.iconst 2, 1) := dk_5 (dk_at dksX5_number_1 19 rfl rfl)
theorem dX5_number_44 : decode cX5_number 44 = .ok (.invokevirtual 160, 3) := dk_182 0 160 (dk_at dksX5_number_1 20 rfl rfl)
theorem dX5_number_47 : decode cX5_number 47 = .ok (.aload_n 0, 1) := dk_42 (dk_at dksX5_number_1 23 rfl rfl)
theorem dX5_number_48 : decode cX5_number 48 = .ok (.invokevirtual 137, 3) := dk_182 0 137 (dk_at dksX5_number_2 0 rfl rfl)
theorem dX5_number_51 : decode cX5_number 51 = .ok (.ifCond .ne 5, 3) := dk_154 0 5 (dk_at dksX5_number_2 3 rfl rfl)
theorem dX5_number_54 : decode cX5_number 54 = .ok (.iconst 0, 1) := dk_3 (dk_at dksX5_number_2 6 rfl rfl)
theorem dX5_number_55 : decode cX5_number 55 = .ok (.ireturn, 1) := dk_172 (dk_at dksX5_number_2 7 rfl rfl)
theorem dX5_number_56 : decode cX5_number 56 = .ok (.aload_n 0, 1) := dk_42 (dk_at dksX5_number_2 8 rfl rfl)
theorem dX5_number_57 : decode cX5_number 57 = .ok (.getfield 124, 3) := dk_180 0 124 (dk_at dksX5_number_2 9 rfl rfl)
theorem dX5_number_60 : decode cX5_number 60 = .ok (.istore_n 3, 1) := dk_62 (dk_at dksX5_number_2 12 rfl rfl)
theorem dX5_number_61 : decode cX5_number 61 = .ok (.aload_n 0, 1) := dk_42 (dk_at dksX5_number_2 13 rfl rfl)
theorem dX5_number_62 : decode cX5_number 62 = .ok (.invokevirtual 154, 3) := dk_182 0 154 (dk_at dksX5_number_2 14 rfl rfl)
theorem dX5_number_65 : decode cX5_number 65 = .ok (.iload_n 3, 1) := dk_29 (dk_at dksX5_number_2 17 rfl rfl)
theorem dX5_number_66 : decode cX5_number 66 = .ok (.ireturn, 1) := dk_172 (dk_at dksX5_number_2 18 rfl rfl)
abbrev cX5_readNext : ByteArray := prog_13_method_33_code
def yX5_readNext : MethodName := ⟨RX5, "readNext", "()V"⟩
def dkwX5_readNext_12 : List UInt8 := [180, 0, 31, 16, 8, 8, 28, 104, 96, 7, 96, 42, 18, 225, 3, 17, 39, 15, 182, 0, 173, 79, 177]
abbrev dktX5_readNext_12 : List UInt8 := dkwX5_readNext_12 ++ []
def dkwX5_readNext_11 : List UInt8 := [182, 0, 157, 153, 0, 10, 42, 182, 0, 222, 167, 0, 35, 42, 182, 0, 154, 42, 182, 0, 182, 61, 42]
abbrev dktX5_readNext_11 : List UInt8 := dkwX5_readNext_11 ++ dktX5_readNext_12
def dkwX5_readNext_10 : List UInt8 := [167, 0, 67, 42, 18, 206, 182, 0, 157, 153, 0, 10, 42, 182, 0, 219, 167, 0, 51, 42, 18, 208]
abbrev dktX5_readNext_10 : List UInt8 := dkwX5_readNext_10 ++ dktX5_readNext_11
def dkwX5_readNext_9 : List UInt8 := [182, 0, 168, 61, 42, 180, 0, 31, 16, 78, 28, 96, 42, 18, 218, 3, 16, 99, 182, 0, 173, 79]
abbrev dktX5_readNext_9 : List UInt8 := dkwX5_readNext_9 ++ dktX5_readNext_10
def dkwX5_readNext_8 : List UInt8 := [167, 0, 111, 42, 18, 204, 182, 0, 157, 153, 0, 38, 42, 3, 42, 180, 0, 31, 8, 46, 4, 100]
abbrev dktX5_readNext_8 : List UInt8 := dkwX5_readNext_8 ++ dktX5_readNext_9
def dkwX5_readNext_7 : List UInt8 := [153, 0, 10, 42, 182, 0, 212, 167, 0, 127, 42, 18, 202, 182, 0, 157, 153, 0, 10, 42, 182, 0, 215]
abbrev dktX5_readNext_7 : List UInt8 := dkwX5_readNext_7 ++ dktX5_readNext_8
def dkwX5_readNext_6 : List UInt8 := [16, 8, 160, 0, 8, 42, 6, 182, 0, 160, 42, 182, 0, 137, 154, 0, 4, 177, 42, 18, 200, 182, 0, 157]
abbrev dktX5_readNext_6 : List UInt8 := dkwX5_readNext_6 ++ dktX5_readNext_7
def dkwX5_readNext_5 : List UInt8 := [180, 0, 31, 5, 46, 6, 159, 0, 23, 42, 18, 208, 182, 0, 150, 153, 0, 19, 42, 180, 0, 31, 6, 46]
abbrev dktX5_readNext_5 : List UInt8 := dkwX5_readNext_5 ++ dktX5_readNext_6
def dkwX5_readNext_4 : List UInt8 := [153, 0, 14, 42, 180, 0, 31, 4, 46, 16, 8, 159, 0, 42, 42, 18, 206, 182, 0, 150, 153, 0, 13, 42]
abbrev dktX5_readNext_4 : List UInt8 := dkwX5_readNext_4 ++ dktX5_readNext_5
def dkwX5_readNext_3 : List UInt8 := [182, 0, 150, 153, 0, 14, 42, 180, 0, 31, 3, 46, 16, 6, 159, 0, 62, 42, 18, 202, 182, 0, 150]
abbrev dktX5_readNext_3 : List UInt8 := dkwX5_readNext_3 ++ dktX5_readNext_4
def dkwX5_readNext_2 : List UInt8 := [182, 0, 150, 153, 0, 7, 4, 167, 0, 4, 3, 60, 27, 154, 0, 8, 42, 4, 182, 0, 160, 42, 18, 200]
abbrev dktX5_readNext_2 : List UInt8 := dkwX5_readNext_2 ++ dktX5_readNext_3
def dkwX5_readNext_1 : List UInt8 := [154, 0, 30, 42, 18, 206, 182, 0, 150, 154, 0, 21, 42, 18, 208, 182, 0, 150, 154, 0, 12, 42, 18, 210]
abbrev dktX5_readNext_1 : List UInt8 := dkwX5_readNext_1 ++ dktX5_readNext_2
def dkwX5_readNext_0 : List UInt8 := [42, 18, 200, 182, 0, 150, 154, 0, 48, 42, 18, 202, 182, 0, 150, 154, 0, 39, 42, 18, 204, 182, 0, 150]
abbrev dktX5_readNext_0 : List UInt8 := dkwX5_readNext_0 ++ dktX5_readNext_1
theorem dksX5_readNext_0 : cX5_readNext.data.toList.drop 0 = dktX5_readNext_0 := by decide +kernel
theorem dksX5_readNext_1 : cX5_readNext.data.toList.drop 24 = dktX5_readNext_1 := dk_seg dksX5_readNext_0 24 rfl rfl
theorem dksX5_readNext_2 : cX5_readNext.data.toList.drop 48 = dktX5_readNext_2 := dk_seg dksX5_readNext_1 24 rfl rfl
theorem dksX5_readNext_3 : cX5_readNext.data.toList.drop 72 = dktX5_readNext_3 := dk_seg dksX5_readNext_2 24 rfl rfl
theorem dksX5_readNext_4 : cX5_readNext.data.toList.drop 95 = dktX5_readNext_4 := dk_seg dksX5_readNext_3 23 rfl rfl
theorem dksX5_readNext_5 : cX5_readNext.data.toList.drop 119 = dktX5_readNext_5 := dk_seg dksX5_readNext_4 24 rfl rfl
theorem dksX5_readNext_6 : cX5_readNext.data.toList.drop 143 = dktX5_readNext_6 := dk_seg dksX5_readNext_5 24 rfl rfl
theorem dksX5_readNext_7 : cX5_readNext.data.toList.drop 167 = dktX5_readNext_7 := dk_seg dksX5_readNext_6 24 rfl rfl
theorem dksX5_readNext_8 : cX5_readNext.data.toList.drop 190 = dktX5_readNext_8 := dk_seg dksX5_readNext_7 23 rfl rfl
theorem dksX5_readNext_9 : cX5_readNext.data.toList.drop 212 = dktX5_readNext_9 := dk_seg dksX5_readNext_8 22 rfl rfl
theorem dksX5_readNext_10 : cX5_readNext.data.toList.drop 234 = dktX5_readNext_10 := dk_seg dksX5_readNext_9 22 rfl rfl
theorem dksX5_readNext_11 : cX5_readNext.data.toList.drop 256 = dktX5_readNext_11 := dk_seg dksX5_readNext_10 22 rfl rfl
theorem dksX5_readNext_12 : cX5_readNext.data.toList.drop 279 = dktX5_readNext_12 := dk_seg dksX5_readNext_11 23 rfl rfl
theorem dX5_readNext_0 : decode cX5_readNext 0 = .ok (.aload_n 0, 1) := dk_42 (dk_at dksX5_readNext_0 0 rfl rfl)
theorem dX5_readNext_1 : decode cX5_readNext 1 = .ok (.ldc 200, 2) := dk_18 200 (dk_at dksX5_readNext_0 1 rfl rfl)
theorem dX5_readNext_3 : decode cX5_readNext 3 = .ok (.invokevirtual 150, 3) := dk_182 0 150 (dk_at dksX5_readNext_0 3 rfl rfl)
theorem dX5_readNext_6 : decode cX5_readNext 6 = .ok (.ifCond .ne 48, 3) := dk_154 0 48 (dk_at dksX5_readNext_0 6 rfl rfl)
theorem dX5_readNext_9 : decode cX5_readNext 9 = .ok (.aload_n 0, 1) := dk_42 (dk_at dksX5_readNext_0 9 rfl rfl)
theorem dX5_readNext_10 : decode cX5_readNext 10 = .ok (.ldc 202, 2) := dk_18 202 (dk_at dksX5_readNext_0 10 rfl rfl)
theorem dX5_readNext_12 : decode cX5_readNext 12 = .ok (.invokevirtual 150, 3) := dk_182 0 150 (dk_at dksX5_readNext_0 12 rfl rfl)
theorem dX5_readNext_15 : decode cX5_readNext 15 = .ok (.ifCond .ne 39, 3) := dk_154 0 39 (dk_at dksX5_readNext_0 15 rfl rfl)
theorem dX5_readNext_18 : decode cX5_readNext 18 = .ok (.aload_n 0, 1) := dk_42 (dk_at dksX5_readNext_0 18 rfl rfl)
theorem dX5_readNext_19 : decode cX5_readNext 19 = .ok (.ldc 204, 2) := dk_18 204 (dk_at dksX5_readNext_0 19 rfl rfl)
theorem dX5_readNext_21 : decode cX5_readNext 21 = .ok (.invokevirtual 150, 3) := dk_182 0 150 (dk_at dksX5_readNext_0 21 rfl rfl)
theorem dX5_readNext_24 : decode cX5_readNext 24 = .ok (.ifCond .ne 30, 3) := dk_154 0 30 (dk_at dksX5_readNext_1 0 rfl rfl)
theorem dX5_readNext_27 : decode cX5_readNext 27 = .ok (.aload_n 0, 1) := dk_42 (dk_at dksX5_readNext_1 3 rfl rfl)
theorem dX5_readNext_28 : decode cX5_readNext 28 = .ok (.ldc 206, 2) := dk_18 206 (dk_at dksX5_readNext_1 4 rfl rfl)
theorem dX5_readNext_30 : decode cX5_readNext 30 = .ok (.invokevirtual 150, 3) := dk_182 0 150 (dk_at dksX5_readNext_1 6 rfl rfl)
theorem dX5_readNext_33 : decode cX5_readNext 33 = .ok (.ifCond .ne 21, 3) := dk_154 0 21 (dk_at dksX5_readNext_1 9 rfl rfl)
theorem dX5_readNext_36 : decode cX5_readNext 36 = .ok (.aload_n 0, 1) := dk_42 (dk_at dksX5_readNext_1 12 rfl rfl)
theorem dX5_readNext_37 : decode cX5_readNext 37 = .ok (.ldc 208, 2) := dk_18 208 (dk_at dksX5_readNext_1 13 rfl rfl)
theorem dX5_readNext_39 : decode cX5_readNext 39 = .ok (.invokevirtual 150, 3) := dk_182 0 150 (dk_at dksX5_readNext_1 15 rfl rfl)
theorem dX5_readNext_42 : decode cX5_readNext 42 = .ok (.ifCond .ne 12, 3) := dk_154 0 12 (dk_at dksX5_readNext_1 18 rfl rfl)
theorem dX5_readNext_45 : decode cX5_readNext 45 = .ok (.aload_n 0, 1) := dk_42 (dk_at dksX5_readNext_1 21 rfl rfl)
theorem dX5_readNext_46 : decode cX5_readNext 46 = .ok (.ldc 210, 2) := dk_18 210 (dk_at dksX5_readNext_1 22 rfl rfl)
theorem dX5_readNext_48 : decode cX5_readNext 48 = .ok (.invokevirtual 150, 3) := dk_182 0 150 (dk_at dksX5_readNext_2 0 rfl rfl)
theorem dX5_readNext_51 : decode cX5_readNext 51 = .ok (.ifCond .eq 7, 3) := dk_153 0 7 (dk_at dksX5_readNext_2 3 rfl rfl)
theorem dX5_readNext_54 : decode cX5_readNext 54 = .ok (.iconst 1, 1) := dk_4 (dk_at dksX5_readNext_2 6 rfl rfl)
theorem dX5_readNext_55 : decode cX5_readNext 55 = .ok (.goto 4, 3) := dk_167 0 4 (dk_at dksX5_readNext_2 7 rfl rfl)
theorem dX5_readNext_58 : decode cX5_readNext 58 = .ok (.iconst 0, 1) := dk_3 (dk_at dksX5_readNext_2 10 rfl rfl)
theorem dX5_readNext_59 : decode cX5_readNext 59 = .ok (.istore_n 1, 1) := dk_60 (dk_at dksX5_readNext_2 11 rfl rfl)
theorem dX5_readNext_60 : decode cX5_readNext 60 = .ok (.iload_n 1, 1) := dk_27 (dk_at dksX5_readNext_2 12 rfl rfl)
theorem dX5_readNext_61 : decode cX5_readNext 61 = .ok (.ifCond .ne 8, 3) := dk_154 0 8 (dk_at dksX5_readNext_2 13 rfl rfl)
theorem dX5_readNext_64 : decode cX5_readNext 64 = .ok (.aload_n 0, 1) := dk_42 (dk_at dksX5_readNext_2 16 rfl rfl)
theorem dX5_readNext_65 : decode cX5_readNext 65 = .ok (.iconst 1, 1) := dk_4 (dk_at dksX5_readNext_2 17 rfl rfl)
theorem dX5_readNext_66 : decode cX5_readNext 66 = .ok (.invokevirtual 160, 3) := dk_182 0 160 (dk_at dksX5_readNext_2 18 rfl rfl)
theorem dX5_readNext_69 : decode cX5_readNext 69 = .ok (.aload_n 0, 1) := dk_42 (dk_at dksX5_readNext_2 21 rfl rfl)
theorem dX5_readNext_70 : decode cX5_readNext 70 = .ok (.ldc 200, 2) := dk_18 200 (dk_at dksX5_readNext_2 22 rfl rfl)
theorem dX5_readNext_72 : decode cX5_readNext 72 = .ok (.invokevirtual 150, 3) := dk_182 0 150 (dk_at dksX5_readNext_3 0 rfl rfl)
theorem dX5_readNext_75 : decode cX5_readNext 75 = .ok (.ifCond .eq 14, 3) := dk_153 0 14 (dk_at dksX5_readNext_3 3 rfl rfl)
theorem dX5_readNext_78 : decode cX5_readNext 78 = .ok (.aload_n 0, 1) := dk_42 (dk_at dksX5_readNext_3 6 rfl rfl)
theorem dX5_readNext_79 : decode cX5_readNext 79 = .ok (.getfield 31, 3) := dk_180 0 31 (dk_at dksX5_readNext_3 7 rfl rfl)
theorem dX5_readNext_82 : decode cX5_readNext 82 = .ok (.iconst 0, 1) := dk_3 (dk_at dksX5_readNext_3 10 rfl rfl)
theorem dX5_readNext_83 : decode cX5_readNext 83 = .ok (.iaload, 1) := dk_46 (dk_at dksX5_readNext_3 11 rfl rfl)
theorem dX5_readNext_84 : decode cX5_readNext 84 = .ok (.bipush 6, 2) := dk_16 6 (dk_at dksX5_readNext_3 12 rfl rfl)
theorem dX5_readNext_86 : decode cX5_readNext 86 = .ok (.if_icmp .eq 62, 3) := dk_159 0 62 (dk_at dksX5_readNext_3 14 rfl rfl)
theorem dX5_readNext_89 : decode cX5_readNext 89 = .ok (.aload_n 0, 1) := dk_42 (dk_at dksX5_readNext_3 17 rfl rfl)
theorem dX5_readNext_90 : decode cX5_readNext 90 = .ok (.ldc 202, 2) := dk_18 202 (dk_at dksX5_readNext_3 18 rfl rfl)
theorem dX5_readNext_92 : decode cX5_readNext 92 = .ok (.invokevirtual 150, 3) := dk_182 0 150 (dk_at dksX5_readNext_3 20 rfl rfl)
theorem dX5_readNext_95 : decode cX5_readNext 95 = .ok (.ifCond .eq 14, 3) := dk_153 0 14 (dk_at dksX5_readNext_4 0 rfl rfl)
theorem dX5_readNext_98 : decode cX5_readNext 98 = .ok (.aload_n 0, 1) := dk_42 (dk_at dksX5_readNext_4 3 rfl rfl)
theorem dX5_readNext_99 : decode cX5_readNext 99 = .ok (.getfield 31, 3) := dk_180 0 31 (dk_at dksX5_readNext_4 4 rfl rfl)
theorem dX5_readNext_102 : decode cX5_readNext 102 = .ok (.iconst 1, 1) := dk_4 (dk_at dksX5_readNext_4 7 rfl rfl)
theorem dX5_readNext_103 : decode cX5_readNext 103 = .ok (.iaload, 1) := dk_46 (dk_at dksX5_readNext_4 8 rfl rfl)
theorem dX5_readNext_104 : decode cX5_readNext 104 = .ok (.bipush 8, 2) := dk_16 8 (dk_at dksX5_readNext_4 9 rfl rfl)
theorem dX5_readNext_106 : decode cX5_readNext 106 = .ok (.if_icmp .eq 42, 3) := dk_159 0 42 (dk_at dksX5_readNext_4 11 rfl rfl)
theorem dX5_readNext_109 : decode cX5_readNext 109 = .ok (.aload_n 0, 1) := dk_42 (dk_at dksX5_readNext_4 14 rfl rfl)
theorem dX5_readNext_110 : decode cX5_readNext 110 = .ok (.ldc 206, 2) := dk_18 206 (dk_at dksX5_readNext_4 15 rfl rfl)
theorem dX5_readNext_112 : decode cX5_readNext 112 = .ok (.invokevirtual 150, 3) := dk_182 0 150 (dk_at dksX5_readNext_4 17 rfl rfl)
theorem dX5_readNext_115 : decode cX5_readNext 115 = .ok (.ifCond .eq 13, 3) := dk_153 0 13 (dk_at dksX5_readNext_4 20 rfl rfl)
theorem dX5_readNext_118 : decode cX5_readNext 118 = .ok (.aload_n 0, 1) := dk_42 (dk_at dksX5_readNext_4 23 rfl rfl)
theorem dX5_readNext_119 : decode cX5_readNext 119 = .ok (.getfield 31, 3) := dk_180 0 31 (dk_at dksX5_readNext_5 0 rfl rfl)
theorem dX5_readNext_122 : decode cX5_readNext 122 = .ok (.iconst 2, 1) := dk_5 (dk_at dksX5_readNext_5 3 rfl rfl)
theorem dX5_readNext_123 : decode cX5_readNext 123 = .ok (.iaload, 1) := dk_46 (dk_at dksX5_readNext_5 4 rfl rfl)
theorem dX5_readNext_124 : decode cX5_readNext 124 = .ok (.iconst 3, 1) := dk_6 (dk_at dksX5_readNext_5 5 rfl rfl)
theorem dX5_readNext_125 : decode cX5_readNext 125 = .ok (.if_icmp .eq 23, 3) := dk_159 0 23 (dk_at dksX5_readNext_5 6 rfl rfl)
theorem dX5_readNext_128 : decode cX5_readNext 128 = .ok (.aload_n 0, 1) := dk_42 (dk_at dksX5_readNext_5 9 rfl rfl)
theorem dX5_readNext_129 : decode cX5_readNext 129 = .ok (.ldc 208, 2) := dk_18 208 (dk_at dksX5_readNext_5 10 rfl rfl)
theorem dX5_readNext_131 : decode cX5_readNext 131 = .ok (.invokevirtual 150, 3) := dk_182 0 150 (dk_at dksX5_readNext_5 12 rfl rfl)
theorem dX5_readNext_134 : decode cX5_readNext 134 = .ok (.ifCond .eq 19, 3) := dk_153 0 19 (dk_at dksX5_readNext_5 15 rfl rfl)
theorem dX5_readNext_137 : decode cX5_readNext 137 = .ok (.aload_n 0, 1) := dk_42 (dk_at dksX5_readNext_5 18 rfl rfl)
theorem dX5_readNext_138 : decode cX5_readNext 138 = .ok (.getfield 31, 3) := dk_180 0 31 (dk_at dksX5_readNext_5 19 rfl rfl)
theorem dX5_readNext_141 : decode cX5_readNext 141 = .ok (.iconst 3, 1) := dk_6 (dk_at dksX5_readNext_5 22 rfl rfl)
theorem dX5_readNext_142 : decode cX5_readNext 142 = .ok (.iaload, 1) := dk_46 (dk_at dksX5_readNext_5 23 rfl rfl)
theorem dX5_readNext_143 : decode cX5_readNext 143 = .ok (.bipush 8, 2) := dk_16 8 (dk_at dksX5_readNext_6 0 rfl rfl)
theorem dX5_readNext_145 : decode cX5_readNext 145 = .ok (.if_icmp .ne 8, 3) := dk_160 0 8 (dk_at dksX5_readNext_6 2 rfl rfl)
theorem dX5_readNext_148 : decode cX5_readNext 148 = .ok (.aload_n 0, 1) := dk_42 (dk_at dksX5_readNext_6 5 rfl rfl)
theorem dX5_readNext_149 : decode cX5_readNext 149 = .ok (.iconst 3, 1) := dk_6 (dk_at dksX5_readNext_6 6 rfl rfl)
theorem dX5_readNext_150 : decode cX5_readNext 150 = .ok (.invokevirtual 160, 3) := dk_182 0 160 (dk_at dksX5_readNext_6 7 rfl rfl)
theorem dX5_readNext_153 : decode cX5_readNext 153 = .ok (.aload_n 0, 1) := dk_42 (dk_at dksX5_readNext_6 10 rfl rfl)
theorem dX5_readNext_154 : decode cX5_readNext 154 = .ok (.invokevirtual 137, 3) := dk_182 0 137 (dk_at dksX5_readNext_6 11 rfl rfl)
theorem dX5_readNext_157 : decode cX5_readNext 157 = .ok (.ifCond .ne 4, 3) := dk_154 0 4 (dk_at dksX5_readNext_6 14 rfl rfl)
theorem dX5_readNext_160 : decode cX5_readNext 160 = .ok (.return_, 1) := dk_177 (dk_at dksX5_readNext_6 17 rfl rfl)
theorem dX5_readNext_161 : decode cX5_readNext 161 = .ok (.aload_n 0, 1) := dk_42 (dk_at dksX5_readNext_6 18 rfl rfl)
theorem dX5_readNext_162 : decode cX5_readNext 162 = .ok (.ldc 200, 2) := dk_18 200 (dk_at dksX5_readNext_6 19 rfl rfl)
theorem dX5_readNext_164 : decode cX5_readNext 164 = .ok (.invokevirtual 157, 3) := dk_182 0 157 (dk_at dksX5_readNext_6 21 rfl rfl)
theorem dX5_readNext_167 : decode cX5_readNext 167 = .ok (.ifCond .eq 10, 3) := dk_153 0 10 (dk_at dksX5_readNext_7 0 rfl rfl)
theorem dX5_readNext_170 : decode cX5_readNext 170 = .ok (.aload_n 0, 1) := dk_42 (dk_at dksX5_readNext_7 3 rfl rfl)
theorem dX5_readNext_171 : decode cX5_readNext 171 = .ok (.invokevirtual 212, 3) := dk_182 0 212 (dk_at dksX5_readNext_7 4 rfl rfl)
theorem dX5_readNext_174 : decode cX5_readNext 174 = .ok (.goto 127, 3) := dk_167 0 127 (dk_at dksX5_readNext_7 7 rfl rfl)
theorem dX5_readNext_177 : decode cX5_readNext 177 = .ok (.aload_n 0, 1) := dk_42 (dk_at dksX5_readNext_7 10 rfl rfl)
theorem dX5_readNext_178 : decode cX5_readNext 178 = .ok (.ldc 202, 2) := dk_18 202 (dk_at dksX5_readNext_7 11 rfl rfl)
theorem dX5_readNext_180 : decode cX5_readNext 180 = .ok (.invokevirtual 157, 3) := dk_182 0 157 (dk_at dksX5_readNext_7 13 rfl rfl)
theorem dX5_readNext_183 : decode cX5_readNext 183 = .ok (.ifCond .eq 10, 3) := dk_153 0 10 (dk_at dksX5_readNext_7 16 rfl rfl)
theorem dX5_readNext_186 : decode cX5_readNext 186 = .ok (.aload_n 0, 1) := dk_42 (dk_at dksX5_readNext_7 19 rfl rfl)
theorem dX5_readNext_187 : decode cX5_readNext 187 = .ok (.invokevirtual 215, 3) := dk_182 0 215 (dk_at dksX5_readNext_7 20 rfl rfl)
theorem dX5_readNext_190 : decode cX5_readNext 190 = .ok (.goto 111, 3) := dk_167 0 111 (dk_at dksX5_readNext_8 0 rfl rfl)
theorem dX5_readNext_193 : decode cX5_readNext 193 = .ok (.aload_n 0, 1) := dk_42 (dk_at dksX5_readNext_8 3 rfl rfl)
theorem dX5_readNext_194 : decode cX5_readNext 194 = .ok (.ldc 204, 2) := dk_18 204 (dk_at dksX5_readNext_8 4 rfl rfl)
theorem dX5_readNext_196 : decode cX5_readNext 196 = .ok (.invokevirtual 157, 3) := dk_182 0 157 (dk_at dksX5_readNext_8 6 rfl rfl)
theorem dX5_readNext_199 : decode cX5_readNext 199 = .ok (.ifCond .eq 38, 3) := dk_153 0 38 (dk_at dksX5_readNext_8 9 rfl rfl)
theorem dX5_readNext_202 : decode cX5_readNext 202 = .ok (.aload_n 0, 1) := dk_42 (dk_at dksX5_readNext_8 12 rfl rfl)
theorem dX5_readNext_203 : decode cX5_readNext 203 = .ok (.iconst 0, 1) := dk_3 (dk_at dksX5_readNext_8 13 rfl rfl)
theorem dX5_readNext_204 : decode cX5_readNext 204 = .ok (.aload_n 0, 1) := dk_42 (dk_at dksX5_readNext_8 14 rfl rfl)
theorem dX5_readNext_205 : decode cX5_readNext 205 = .ok (.getfield 31, 3) := dk_180 0 31 (dk_at dksX5_readNext_8 15 rfl rfl)
theorem dX5_readNext_208 : decode cX5_readNext 208 = .ok (.iconst 5, 1) := dk_8 (dk_at dksX5_readNext_8 18 rfl rfl)
theorem dX5_readNext_209 : decode cX5_readNext 209 = .ok (.iaload, 1) := dk_46 (dk_at dksX5_readNext_8 19 rfl rfl)
theorem dX5_readNext_210 : decode cX5_readNext 210 = .ok (.iconst 1, 1) := dk_4 (dk_at dksX5_readNext_8 20 rfl rfl)
theorem dX5_readNext_211 : decode cX5_readNext 211 = .ok (.isub, 1) := dk_100 (dk_at dksX5_readNext_8 21 rfl rfl)
theorem dX5_readNext_212 : decode cX5_readNext 212 = .ok (.invokevirtual 168, 3) := dk_182 0 168 (dk_at dksX5_readNext_9 0 rfl rfl)
theorem dX5_readNext_215 : decode cX5_readNext 215 = .ok (.istore_n 2, 1) := dk_61 (dk_at dksX5_readNext_9 3 rfl rfl)
theorem dX5_readNext_216 : decode cX5_readNext 216 = .ok (.aload_n 0, 1) := dk_42 (dk_at dksX5_readNext_9 4 rfl rfl)
theorem dX5_readNext_217 : decode cX5_readNext 217 = .ok (.getfield 31, 3) := dk_180 0 31 (dk_at dksX5_readNext_9 5 rfl rfl)
theorem dX5_readNext_220 : decode cX5_readNext 220 = .ok (.bipush 78, 2) := dk_16 78 (dk_at dksX5_readNext_9 8 rfl rfl)
theorem dX5_readNext_222 : decode cX5_readNext 222 = .ok (.iload_n 2, 1) := dk_28 (dk_at dksX5_readNext_9 10 rfl rfl)
theorem dX5_readNext_223 : decode cX5_readNext 223 = .ok (.iadd, 1) := dk_96 (dk_at dksX5_readNext_9 11 rfl rfl)
theorem dX5_readNext_224 : decode cX5_readNext 224 = .ok (.aload_n 0, 1) := dk_42 (dk_at dksX5_readNext_9 12 rfl rfl)
theorem dX5_readNext_225 : decode cX5_readNext 225 = .ok (.ldc 218, 2) := dk_18 218 (dk_at dksX5_readNext_9 13 rfl rfl)
theorem dX5_readNext_227 : decode cX5_readNext 227 = .ok (.iconst 0, 1) := dk_3 (dk_at dksX5_readNext_9 15 rfl rfl)
theorem dX5_readNext_228 : decode cX5_readNext 228 = .ok (.bipush 99, 2) := dk_16 99 (dk_at dksX5_readNext_9 16 rfl rfl)
theorem dX5_readNext_230 : decode cX5_readNext 230 = .ok (.invokevirtual 173, 3) := dk_182 0 173 (dk_at dksX5_readNext_9 18 rfl rfl)
theorem dX5_readNext_233 : decode cX5_readNext 233 = .ok (.iastore, 1) := dk_79 (dk_at dksX5_readNext_9 21 rfl rfl)
theorem dX5_readNext_234 : decode cX5_readNext 234 = .ok (.goto 67, 3) := dk_167 0 67 (dk_at dksX5_readNext_10 0 rfl rfl)
theorem dX5_readNext_237 : decode cX5_readNext 237 = .ok (.aload_n 0, 1) := dk_42 (dk_at dksX5_readNext_10 3 rfl rfl)
theorem dX5_readNext_238 : decode cX5_readNext 238 = .ok (.ldc 206, 2) := dk_18 206 (dk_at dksX5_readNext_10 4 rfl rfl)
theorem dX5_readNext_240 : decode cX5_readNext 240 = .ok (.invokevirtual 157, 3) := dk_182 0 157 (dk_at dksX5_readNext_10 6 rfl rfl)
theorem dX5_readNext_243 : decode cX5_readNext 243 = .ok (.ifCond .eq 10, 3) := dk_153 0 10 (dk_at dksX5_readNext_10 9 rfl rfl)
theorem dX5_readNext_246 : decode cX5_readNext 246 = .ok (.aload_n 0, 1) := dk_42 (dk_at dksX5_readNext_10 12 rfl rfl)
theorem dX5_readNext_247 : decode cX5_readNext 247 = .ok (.invokevirtual 219, 3) := dk_182 0 219 (dk_at dksX5_readNext_10 13 rfl rfl)
theorem dX5_readNext_250 : decode cX5_readNext 250 = .ok (.goto 51, 3) := dk_167 0 51 (dk_at dksX5_readNext_10 16 rfl rfl)
theorem dX5_readNext_253 : decode cX5_readNext 253 = .ok (.aload_n 0, 1) := dk_42 (dk_at dksX5_readNext_10 19 rfl rfl)
theorem dX5_readNext_254 : decode cX5_readNext 254 = .ok (.ldc 208, 2) := dk_18 208 (dk_at dksX5_readNext_10 20 rfl rfl)
theorem dX5_readNext_256 : decode cX5_readNext 256 = .ok (.invokevirtual 157, 3) := dk_182 0 157 (dk_at dksX5_readNext_11 0 rfl rfl)
theorem dX5_readNext_259 : decode cX5_readNext 259 = .ok (.ifCond .eq 10, 3) := dk_153 0 10 (dk_at dksX5_readNext_11 3 rfl rfl)
theorem dX5_readNext_262 : decode cX5_readNext 262 = .ok (.aload_n 0, 1) := dk_42 (dk_at dksX5_readNext_11 6 rfl rfl)
theorem dX5_readNext_263 : decode cX5_readNext 263 = .ok (.invokevirtual 222, 3) := dk_182 0 222 (dk_at dksX5_readNext_11 7 rfl rfl)
theorem dX5_readNext_266 : decode cX5_readNext 266 = .ok (.goto 35, 3) := dk_167 0 35 (dk_at dksX5_readNext_11 10 rfl rfl)
theorem dX5_readNext_269 : decode cX5_readNext 269 = .ok (.aload_n 0, 1) := dk_42 (dk_at dksX5_readNext_11 13 rfl rfl)
theorem dX5_readNext_270 : decode cX5_readNext 270 = .ok (.invokevirtual 154, 3) := dk_182 0 154 (dk_at dksX5_readNext_11 14 rfl rfl)
theorem dX5_readNext_273 : decode cX5_readNext 273 = .ok (.aload_n 0, 1) := dk_42 (dk_at dksX5_readNext_11 17 rfl rfl)
theorem dX5_readNext_274 : decode cX5_readNext 274 = .ok (.invokevirtual 182, 3) := dk_182 0 182 (dk_at dksX5_readNext_11 18 rfl rfl)
theorem dX5_readNext_277 : decode cX5_readNext 277 = .ok (.istore_n 2, 1) := dk_61 (dk_at dksX5_readNext_11 21 rfl rfl)
theorem dX5_readNext_278 : decode cX5_readNext 278 = .ok (.aload_n 0, 1) := dk_42 (dk_at dksX5_readNext_11 22 rfl rfl)
theorem dX5_readNext_279 : decode cX5_readNext 279 = .ok (.getfield 31, 3) := dk_180 0 31 (dk_at dksX5_readNext_12 0 rfl rfl)
theorem dX5_readNext_282 : decode cX5_readNext 282 = .ok (.bipush 8, 2) := dk_16 8 (dk_at dksX5_readNext_12 3 rfl rfl)
theorem dX5_readNext_284 : decode cX5_readNext 284 = .ok (.iconst 5, 1) := dk_8 (dk_at dksX5_readNext_12 5 rfl rfl)
theorem dX5_readNext_285 : decode cX5_readNext 285 = .ok (.iload_n 2, 1) := dk_28 (dk_at dksX5_readNext_12 6 rfl rfl)
theorem dX5_readNext_286 : decode cX5_readNext 286 = .ok (.imul, 1) := dk_104 (dk_at dksX5_readNext_12 7 rfl rfl)
theorem dX5_readNext_287 : decode cX5_readNext 287 = .ok (.iadd, 1) := dk_96 (dk_at dksX5_readNext_12 8 rfl rfl)
theorem dX5_readNext_288 : decode cX5_readNext 288 = .ok (.iconst 4, 1) := dk_7 (dk_at dksX5_readNext_12 9 rfl rfl)
theorem dX5_readNext_289 : decode cX5_readNext 289 = .ok (.iadd, 1) := dk_96 (dk_at dksX5_readNext_12 10 rfl rfl)
theorem dX5_readNext_290 : decode cX5_readNext 290 = .ok (.aload_n 0, 1) := dk_42 (dk_at dksX5_readNext_12 11 rfl rfl)
theorem dX5_readNext_291 : decode cX5_readNext 291 = .ok (.ldc 225, 2) := dk_18 225 (dk_at dksX5_readNext_12 12 rfl rfl)
theorem dX5_readNext_293 : decode cX5_readNext 293 = .ok (.iconst 0, 1) := dk_3 (dk_at dksX5_readNext_12 14 rfl rfl)
theorem dX5_readNext_294 : decode cX5_readNext 294 = .ok (.sipush 9999, 3) := dk_17 39 15 (dk_at dksX5_readNext_12 15 rfl rfl)
theorem dX5_readNext_297 : decode cX5_readNext 297 = .ok (.invokevirtual 173, 3) := dk_182 0 173 (dk_at dksX5_readNext_12 18 rfl rfl)
theorem dX5_readNext_300 : decode cX5_readNext 300 = .ok (.iastore, 1) := dk_79 (dk_at dksX5_readNext_12 21 rfl rfl)
theorem dX5_readNext_301 : decode cX5_readNext 301 = .ok (.return_, 1) := dk_177 (dk_at dksX5_readNext_12 22 rfl rfl)
abbrev cX5_readVillage : ByteArray := prog_13_method_29_code
def yX5_readVillage : MethodName := ⟨RX5, "readVillage", "()V"⟩
def dkwX5_readVillage_4 : List UInt8 := [96, 79, 177]
abbrev dktX5_readVillage_4 : List UInt8 := dkwX5_readVillage_4 ++ []
def dkwX5_readVillage_3 : List UInt8 := [180, 0, 31, 27, 6, 96, 42, 18, 180, 3, 16, 99, 182, 0, 173, 79, 42, 180, 0, 31, 3, 92, 46, 4]
abbrev dktX5_readVillage_3 : List UInt8 := dkwX5_readVillage_3 ++ dktX5_readVillage_4
def dkwX5_readVillage_2 : List UInt8 := [96, 46, 182, 0, 173, 79, 42, 180, 0, 31, 27, 5, 96, 42, 18, 178, 3, 16, 99, 182, 0, 173, 79, 42]
abbrev dktX5_readVillage_2 : List UInt8 := dkwX5_readVillage_2 ++ dktX5_readVillage_3
def dkwX5_readVillage_1 : List UInt8 := [17, 39, 15, 182, 0, 173, 79, 42, 180, 0, 31, 27, 4, 96, 42, 18, 177, 3, 42, 180, 0, 31, 27, 3]
abbrev dktX5_readVillage_1 : List UInt8 := dkwX5_readVillage_1 ++ dktX5_readVillage_2
def dkwX5_readVillage_0 : List UInt8 := [16, 8, 8, 42, 180, 0, 31, 3, 46, 104, 96, 60, 42, 180, 0, 31, 27, 3, 96, 42, 18, 171, 3]
abbrev dktX5_readVillage_0 : List UInt8 := dkwX5_readVillage_0 ++ dktX5_readVillage_1
theorem dksX5_readVillage_0 : cX5_readVillage.data.toList.drop 0 = dktX5_readVillage_0 := by decide +kernel
theorem dksX5_readVillage_1 : cX5_readVillage.data.toList.drop 23 = dktX5_readVillage_1 := dk_seg dksX5_readVillage_0 23 rfl rfl
theorem dksX5_readVillage_2 : cX5_readVillage.data.toList.drop 47 = dktX5_readVillage_2 := dk_seg dksX5_readVillage_1 24 rfl rfl
theorem dksX5_readVillage_3 : cX5_readVillage.data.toList.drop 71 = dktX5_readVillage_3 := dk_seg dksX5_readVillage_2 24 rfl rfl
theorem dksX5_readVillage_4 : cX5_readVillage.data.toList.drop 95 = dktX5_readVillage_4 := dk_seg dksX5_readVillage_3 24 rfl rfl
theorem dX5_readVillage_0 : decode cX5_readVillage 0 = .ok (.bipush 8, 2) := dk_16 8 (dk_at dksX5_readVillage_0 0 rfl rfl)
theorem dX5_readVillage_2 : decode cX5_readVillage 2 = .ok (.iconst 5, 1) := dk_8 (dk_at dksX5_readVillage_0 2 rfl rfl)
theorem dX5_readVillage_3 : decode cX5_readVillage 3 = .ok (.aload_n 0, 1) := dk_42 (dk_at dksX5_readVillage_0 3 rfl rfl)
theorem dX5_readVillage_4 : decode cX5_readVillage 4 = .ok (.getfield 31, 3) := dk_180 0 31 (dk_at dksX5_readVillage_0 4 rfl rfl)
theorem dX5_readVillage_7 : decode cX5_readVillage 7 = .ok (.iconst 0, 1) := dk_3 (dk_at dksX5_readVillage_0 7 rfl rfl)
theorem dX5_readVillage_8 : decode cX5_readVillage 8 = .ok (.iaload, 1) := dk_46 (dk_at dksX5_readVillage_0 8 rfl rfl)
theorem dX5_readVillage_9 : decode cX5_readVillage 9 = .ok (.imul, 1) := dk_104 (dk_at dksX5_readVillage_0 9 rfl rfl)
theorem dX5_readVillage_10 : decode cX5_readVillage 10 = .ok (.iadd, 1) := dk_96 (dk_at dksX5_readVillage_0 10 rfl rfl)
theorem dX5_readVillage_11 : decode cX5_readVillage 11 = .ok (.istore_n 1, 1) := dk_60 (dk_at dksX5_readVillage_0 11 rfl rfl)
theorem dX5_readVillage_12 : decode cX5_readVillage 12 = .ok (.aload_n 0, 1) := dk_42 (dk_at dksX5_readVillage_0 12 rfl rfl)
theorem dX5_readVillage_13 : decode cX5_readVillage 13 = .ok (.getfield 31, 3) := dk_180 0 31 (dk_at dksX5_readVillage_0 13 rfl rfl)
theorem dX5_readVillage_16 : decode cX5_readVillage 16 = .ok (.iload_n 1, 1) := dk_27 (dk_at dksX5_readVillage_0 16 rfl rfl)
theorem dX5_readVillage_17 : decode cX5_readVillage 17 = .ok (.iconst 0, 1) := dk_3 (dk_at dksX5_readVillage_0 17 rfl rfl)
theorem dX5_readVillage_18 : decode cX5_readVillage 18 = .ok (.iadd, 1) := dk_96 (dk_at dksX5_readVillage_0 18 rfl rfl)
theorem dX5_readVillage_19 : decode cX5_readVillage 19 = .ok (.aload_n 0, 1) := dk_42 (dk_at dksX5_readVillage_0 19 rfl rfl)
theorem dX5_readVillage_20 : decode cX5_readVillage 20 = .ok (.ldc 171, 2) := dk_18 171 (dk_at dksX5_readVillage_0 20 rfl rfl)
theorem dX5_readVillage_22 : decode cX5_readVillage 22 = .ok (.iconst 0, 1) := dk_3 (dk_at dksX5_readVillage_0 22 rfl rfl)
theorem dX5_readVillage_23 : decode cX5_readVillage 23 = .ok (.sipush 9999, 3) := dk_17 39 15 (dk_at dksX5_readVillage_1 0 rfl rfl)
theorem dX5_readVillage_26 : decode cX5_readVillage 26 = .ok (.invokevirtual 173, 3) := dk_182 0 173 (dk_at dksX5_readVillage_1 3 rfl rfl)
theorem dX5_readVillage_29 : decode cX5_readVillage 29 = .ok (.iastore, 1) := dk_79 (dk_at dksX5_readVillage_1 6 rfl rfl)
theorem dX5_readVillage_30 : decode cX5_readVillage 30 = .ok (.aload_n 0, 1) := dk_42 (dk_at dksX5_readVillage_1 7 rfl rfl)
theorem dX5_readVillage_31 : decode cX5_readVillage 31 = .ok (.getfield 31, 3) := dk_180 0 31 (dk_at dksX5_readVillage_1 8 rfl rfl)
theorem dX5_readVillage_34 : decode cX5_readVillage 34 = .ok (.iload_n 1, 1) := dk_27 (dk_at dksX5_readVillage_1 11 rfl rfl)
theorem dX5_readVillage_35 : decode cX5_readVillage 35 = .ok (.iconst 1, 1) := dk_4 (dk_at dksX5_readVillage_1 12 rfl rfl)
theorem dX5_readVillage_36 : decode cX5_readVillage 36 = .ok (.iadd, 1) := dk_96 (dk_at dksX5_readVillage_1 13 rfl rfl)
theorem dX5_readVillage_37 : decode cX5_readVillage 37 = .ok (.aload_n 0, 1) := dk_42 (dk_at dksX5_readVillage_1 14 rfl rfl)
theorem dX5_readVillage_38 : decode cX5_readVillage 38 = .ok (.ldc 177, 2) := dk_18 177 (dk_at dksX5_readVillage_1 15 rfl rfl)
theorem dX5_readVillage_40 : decode cX5_readVillage 40 = .ok (.iconst 0, 1) := dk_3 (dk_at dksX5_readVillage_1 17 rfl rfl)
theorem dX5_readVillage_41 : decode cX5_readVillage 41 = .ok (.aload_n 0, 1) := dk_42 (dk_at dksX5_readVillage_1 18 rfl rfl)
theorem dX5_readVillage_42 : decode cX5_readVillage 42 = .ok (.getfield 31, 3) := dk_180 0 31 (dk_at dksX5_readVillage_1 19 rfl rfl)
theorem dX5_readVillage_45 : decode cX5_readVillage 45 = .ok (.iload_n 1, 1) := dk_27 (dk_at dksX5_readVillage_1 22 rfl rfl)
theorem dX5_readVillage_46 : decode cX5_readVillage 46 = .ok (.iconst 0, 1) := dk_3 (dk_at dksX5_readVillage_1 23 rfl rfl)
theorem dX5_readVillage_47 : decode cX5_readVillage 47 = .ok (.iadd, 1) := dk_96 (dk_at dksX5_readVillage_2 0 rfl rfl)
theorem dX5_readVillage_48 : decode cX5_readVillage 48 = .ok (.iaload, 1) := dk_46 (dk_at dksX5_readVillage_2 1 rfl rfl)
theorem dX5_readVillage_49 : decode cX5_readVillage 49 = .ok (.invokevirtual 173, 3) := dk_182 0 173 (dk_at dksX5_readVillage_2 2 rfl rfl)
theorem dX5_readVillage_52 : decode cX5_readVillage 52 = .ok (.iastore, 1) := dk_79 (dk_at dksX5_readVillage_2 5 rfl rfl)
theorem dX5_readVillage_53 : decode cX5_readVillage 53 = .ok (.aload_n 0, 1) := dk_42 (dk_at dksX5_readVillage_2 6 rfl rfl)
theorem dX5_readVillage_54 : decode cX5_readVillage 54 = .ok (.getfield 31, 3) := dk_180 0 31 (dk_at dksX5_readVillage_2 7 rfl rfl)
theorem dX5_readVillage_57 : decode cX5_readVillage 57 = .ok (.iload_n 1, 1) := dk_27 (dk_at dksX5_readVillage_2 10 rfl rfl)
theorem dX5_readVillage_58 : decode cX5_readVillage 58 = .ok (.iconst 2, 1) := dk_5 (dk_at dksX5_readVillage_2 11 rfl rfl)
theorem dX5_readVillage_59 : decode cX5_readVillage 59 = .ok (.iadd, 1) := dk_96 (dk_at dksX5_readVillage_2 12 rfl rfl)
theorem dX5_readVillage_60 : decode cX5_readVillage 60 = .ok (.aload_n 0, 1) := dk_42 (dk_at dksX5_readVillage_2 13 rfl rfl)
theorem dX5_readVillage_61 : decode cX5_readVillage 61 = .ok (.ldc 178, 2) := dk_18 178 (dk_at dksX5_readVillage_2 14 rfl rfl)
theorem dX5_readVillage_63 : decode cX5_readVillage 63 = .ok (.iconst 0, 1) := dk_3 (dk_at dksX5_readVillage_2 16 rfl rfl)
theorem dX5_readVillage_64 : decode cX5_readVillage 64 = .ok (.bipush 99, 2) := dk_16 99 (dk_at dksX5_readVillage_2 17 rfl rfl)
theorem dX5_readVillage_66 : decode cX5_readVillage 66 = .ok (.invokevirtual 173, 3) := dk_182 0 173 (dk_at dksX5_readVillage_2 19 rfl rfl)
theorem dX5_readVillage_69 : decode cX5_readVillage 69 = .ok (.iastore, 1) := dk_79 (dk_at dksX5_readVillage_2 22 rfl rfl)
theorem dX5_readVillage_70 : decode cX5_readVillage 70 = .ok (.aload_n 0, 1) := dk_42 (dk_at dksX5_readVillage_2 23 rfl rfl)
theorem dX5_readVillage_71 : decode cX5_readVillage 71 = .ok (.getfield 31, 3) := dk_180 0 31 (dk_at dksX5_readVillage_3 0 rfl rfl)
theorem dX5_readVillage_74 : decode cX5_readVillage 74 = .ok (.iload_n 1, 1) := dk_27 (dk_at dksX5_readVillage_3 3 rfl rfl)
theorem dX5_readVillage_75 : decode cX5_readVillage 75 = .ok (.iconst 3, 1) := dk_6 (dk_at dksX5_readVillage_3 4 rfl rfl)
theorem dX5_readVillage_76 : decode cX5_readVillage 76 = .ok (.iadd, 1) := dk_96 (dk_at dksX5_readVillage_3 5 rfl rfl)
theorem dX5_readVillage_77 : decode cX5_readVillage 77 = .ok (.aload_n 0, 1) := dk_42 (dk_at dksX5_readVillage_3 6 rfl rfl)
theorem dX5_readVillage_78 : decode cX5_readVillage 78 = .ok (.ldc 180, 2) := dk_18 180 (dk_at dksX5_readVillage_3 7 rfl rfl)
theorem dX5_readVillage_80 : decode cX5_readVillage 80 = .ok (.iconst 0, 1) := dk_3 (dk_at dksX5_readVillage_3 9 rfl rfl)
theorem dX5_readVillage_81 : decode cX5_readVillage 81 = .ok (.bipush 99, 2) := dk_16 99 (dk_at dksX5_readVillage_3 10 rfl rfl)
theorem dX5_readVillage_83 : decode cX5_readVillage 83 = .ok (.invokevirtual 173, 3) := dk_182 0 173 (dk_at dksX5_readVillage_3 12 rfl rfl)
theorem dX5_readVillage_86 : decode cX5_readVillage 86 = .ok (.iastore, 1) := dk_79 (dk_at dksX5_readVillage_3 15 rfl rfl)
theorem dX5_readVillage_87 : decode cX5_readVillage 87 = .ok (.aload_n 0, 1) := dk_42 (dk_at dksX5_readVillage_3 16 rfl rfl)
theorem dX5_readVillage_88 : decode cX5_readVillage 88 = .ok (.getfield 31, 3) := dk_180 0 31 (dk_at dksX5_readVillage_3 17 rfl rfl)
theorem dX5_readVillage_91 : decode cX5_readVillage 91 = .ok (.iconst 0, 1) := dk_3 (dk_at dksX5_readVillage_3 20 rfl rfl)
theorem dX5_readVillage_92 : decode cX5_readVillage 92 = .ok (.dup2, 1) := dk_92 (dk_at dksX5_readVillage_3 21 rfl rfl)
theorem dX5_readVillage_93 : decode cX5_readVillage 93 = .ok (.iaload, 1) := dk_46 (dk_at dksX5_readVillage_3 22 rfl rfl)
theorem dX5_readVillage_94 : decode cX5_readVillage 94 = .ok (.iconst 1, 1) := dk_4 (dk_at dksX5_readVillage_3 23 rfl rfl)
theorem dX5_readVillage_95 : decode cX5_readVillage 95 = .ok (.iadd, 1) := dk_96 (dk_at dksX5_readVillage_4 0 rfl rfl)
theorem dX5_readVillage_96 : decode cX5_readVillage 96 = .ok (.iastore, 1) := dk_79 (dk_at dksX5_readVillage_4 1 rfl rfl)
theorem dX5_readVillage_97 : decode cX5_readVillage 97 = .ok (.return_, 1) := dk_177 (dk_at dksX5_readVillage_4 2 rfl rfl)
abbrev cX5_readCrop : ByteArray := prog_13_method_30_code
def yX5_readCrop : MethodName := ⟨RX5, "readCrop", "()V"⟩
def dkwX5_readCrop_5 : List UInt8 := [92, 46, 4, 96, 79, 177]
abbrev dktX5_readCrop_5 : List UInt8 := dkwX5_readCrop_5 ++ []
def dkwX5_readCrop_4 : List UInt8 := [180, 0, 31, 27, 6, 96, 46, 42, 180, 0, 31, 8, 46, 4, 100, 182, 0, 173, 79, 42, 180, 0, 31, 4]
abbrev dktX5_readCrop_4 : List UInt8 := dkwX5_readCrop_4 ++ dktX5_readCrop_5
def dkwX5_readCrop_3 : List UInt8 := [180, 0, 31, 8, 46, 4, 100, 182, 0, 173, 79, 42, 180, 0, 31, 27, 7, 96, 42, 18, 190, 42]
abbrev dktX5_readCrop_3 : List UInt8 := dkwX5_readCrop_3 ++ dktX5_readCrop_4
def dkwX5_readCrop_2 : List UInt8 := [42, 18, 187, 3, 16, 99, 182, 0, 173, 79, 42, 180, 0, 31, 27, 6, 96, 42, 18, 189, 3, 42]
abbrev dktX5_readCrop_2 : List UInt8 := dkwX5_readCrop_2 ++ dktX5_readCrop_3
def dkwX5_readCrop_1 : List UInt8 := [42, 180, 0, 31, 27, 4, 96, 42, 18, 185, 4, 16, 99, 182, 0, 173, 79, 42, 180, 0, 31, 27, 5, 96]
abbrev dktX5_readCrop_1 : List UInt8 := dkwX5_readCrop_1 ++ dktX5_readCrop_2
def dkwX5_readCrop_0 : List UInt8 := [16, 38, 8, 42, 180, 0, 31, 4, 46, 104, 96, 60, 42, 180, 0, 31, 27, 3, 96, 42, 182, 0, 182, 79]
abbrev dktX5_readCrop_0 : List UInt8 := dkwX5_readCrop_0 ++ dktX5_readCrop_1
theorem dksX5_readCrop_0 : cX5_readCrop.data.toList.drop 0 = dktX5_readCrop_0 := by decide +kernel
theorem dksX5_readCrop_1 : cX5_readCrop.data.toList.drop 24 = dktX5_readCrop_1 := dk_seg dksX5_readCrop_0 24 rfl rfl
theorem dksX5_readCrop_2 : cX5_readCrop.data.toList.drop 48 = dktX5_readCrop_2 := dk_seg dksX5_readCrop_1 24 rfl rfl
theorem dksX5_readCrop_3 : cX5_readCrop.data.toList.drop 70 = dktX5_readCrop_3 := dk_seg dksX5_readCrop_2 22 rfl rfl
theorem dksX5_readCrop_4 : cX5_readCrop.data.toList.drop 92 = dktX5_readCrop_4 := dk_seg dksX5_readCrop_3 22 rfl rfl
theorem dksX5_readCrop_5 : cX5_readCrop.data.toList.drop 116 = dktX5_readCrop_5 := dk_seg dksX5_readCrop_4 24 rfl rfl
theorem dX5_readCrop_0 : decode cX5_readCrop 0 = .ok (.bipush 38, 2) := dk_16 38 (dk_at dksX5_readCrop_0 0 rfl rfl)
theorem dX5_readCrop_2 : decode cX5_readCrop 2 = .ok (.iconst 5, 1) := dk_8 (dk_at dksX5_readCrop_0 2 rfl rfl)
theorem dX5_readCrop_3 : decode cX5_readCrop 3 = .ok (.aload_n 0, 1) := dk_42 (dk_at dksX5_readCrop_0 3 rfl rfl)
theorem dX5_readCrop_4 : decode cX5_readCrop 4 = .ok (.getfield 31, 3) := dk_180 0 31 (dk_at dksX5_readCrop_0 4 rfl rfl)
theorem dX5_readCrop_7 : decode cX5_readCrop 7 = .ok (.iconst 1, 1) := dk_4 (dk_at dksX5_readCrop_0 7 rfl rfl)
theorem dX5_readCrop_8 : decode cX5_readCrop 8 = .ok (.iaload, 1) := dk_46 (dk_at dksX5_readCrop_0 8 rfl rfl)
theorem dX5_readCrop_9 : decode cX5_readCrop 9 = .ok (.imul, 1) := dk_104 (dk_at dksX5_readCrop_0 9 rfl rfl)
theorem dX5_readCrop_10 : decode cX5_readCrop 10 = .ok (.iadd, 1) := dk_96 (dk_at dksX5_readCrop_0 10 rfl rfl)
theorem dX5_readCrop_11 : decode cX5_readCrop 11 = .ok (.istore_n 1, 1) := dk_60 (dk_at dksX5_readCrop_0 11 rfl rfl)
theorem dX5_readCrop_12 : decode cX5_readCrop 12 = .ok (.aload_n 0, 1) := dk_42 (dk_at dksX5_readCrop_0 12 rfl rfl)
theorem dX5_readCrop_13 : decode cX5_readCrop 13 = .ok (.getfield 31, 3) := dk_180 0 31 (dk_at dksX5_readCrop_0 13 rfl rfl)
theorem dX5_readCrop_16 : decode cX5_readCrop 16 = .ok (.iload_n 1, 1) := dk_27 (dk_at dksX5_readCrop_0 16 rfl rfl)
theorem dX5_readCrop_17 : decode cX5_readCrop 17 = .ok (.iconst 0, 1) := dk_3 (dk_at dksX5_readCrop_0 17 rfl rfl)
theorem dX5_readCrop_18 : decode cX5_readCrop 18 = .ok (.iadd, 1) := dk_96 (dk_at dksX5_readCrop_0 18 rfl rfl)
theorem dX5_readCrop_19 : decode cX5_readCrop 19 = .ok (.aload_n 0, 1) := dk_42 (dk_at dksX5_readCrop_0 19 rfl rfl)
theorem dX5_readCrop_20 : decode cX5_readCrop 20 = .ok (.invokevirtual 182, 3) := dk_182 0 182 (dk_at dksX5_readCrop_0 20 rfl rfl)
theorem dX5_readCrop_23 : decode cX5_readCrop 23 = .ok (.iastore, 1) := dk_79 (dk_at dksX5_readCrop_0 23 rfl rfl)
theorem dX5_readCrop_24 : decode cX5_readCrop 24 = .ok (.aload_n 0, 1) := dk_42 (dk_at dksX5_readCrop_1 0 rfl rfl)
theorem dX5_readCrop_25 : decode cX5_readCrop 25 = .ok (.getfield 31, 3) := dk_180 0 31 (dk_at dksX5_readCrop_1 1 rfl rfl)
theorem dX5_readCrop_28 : decode cX5_readCrop 28 = .ok (.iload_n 1, 1) := dk_27 (dk_at dksX5_readCrop_1 4 rfl rfl)
theorem dX5_readCrop_29 : decode cX5_readCrop 29 = .ok (.iconst 1, 1) := dk_4 (dk_at dksX5_readCrop_1 5 rfl rfl)
theorem dX5_readCrop_30 : decode cX5_readCrop 30 = .ok (.iadd, 1) := dk_96 (dk_at dksX5_readCrop_1 6 rfl rfl)
theorem dX5_readCrop_31 : decode cX5_readCrop 31 = .ok (.aload_n 0, 1) := dk_42 (dk_at dksX5_readCrop_1 7 rfl rfl)
theorem dX5_readCrop_32 : decode cX5_readCrop 32 = .ok (.ldc 185, 2) := dk_18 185 (dk_at dksX5_readCrop_1 8 rfl rfl)
theorem dX5_readCrop_34 : decode cX5_readCrop 34 = .ok (.iconst 1, 1) := dk_4 (dk_at dksX5_readCrop_1 10 rfl rfl)
theorem dX5_readCrop_35 : decode cX5_readCrop 35 = .ok (.bipush 99, 2) := dk_16 99 (dk_at dksX5_readCrop_1 11 rfl rfl)
theorem dX5_readCrop_37 : decode cX5_readCrop 37 = .ok (.invokevirtual 173, 3) := dk_182 0 173 (dk_at dksX5_readCrop_1 13 rfl rfl)
theorem dX5_readCrop_40 : decode cX5_readCrop 40 = .ok (.iastore, 1) := dk_79 (dk_at dksX5_readCrop_1 16 rfl rfl)
theorem dX5_readCrop_41 : decode cX5_readCrop 41 = .ok (.aload_n 0, 1) := dk_42 (dk_at dksX5_readCrop_1 17 rfl rfl)
theorem dX5_readCrop_42 : decode cX5_readCrop 42 = .ok (.getfield 31, 3) := dk_180 0 31 (dk_at dksX5_readCrop_1 18 rfl rfl)
theorem dX5_readCrop_45 : decode cX5_readCrop 45 = .ok (.iload_n 1, 1) := dk_27 (dk_at dksX5_readCrop_1 21 rfl rfl)
theorem dX5_readCrop_46 : decode cX5_readCrop 46 = .ok (.iconst 2, 1) := dk_5 (dk_at dksX5_readCrop_1 22 rfl rfl)
theorem dX5_readCrop_47 : decode cX5_readCrop 47 = .ok (.iadd, 1) := dk_96 (dk_at dksX5_readCrop_1 23 rfl rfl)
theorem dX5_readCrop_48 : decode cX5_readCrop 48 = .ok (.aload_n 0, 1) := dk_42 (dk_at dksX5_readCrop_2 0 rfl rfl)
theorem dX5_readCrop_49 : decode cX5_readCrop 49 = .ok (.ldc 187, 2) := dk_18 187 (dk_at dksX5_readCrop_2 1 rfl rfl)
theorem dX5_readCrop_51 : decode cX5_readCrop 51 = .ok (.iconst 0, 1) := dk_3 (dk_at dksX5_readCrop_2 3 rfl rfl)
theorem dX5_readCrop_52 : decode cX5_readCrop 52 = .ok (.bipush 99, 2) := dk_16 99 (dk_at dksX5_readCrop_2 4 rfl rfl)
theorem dX5_readCrop_54 : decode cX5_readCrop 54 = .ok (.invokevirtual 173, 3) := dk_182 0 173 (dk_at dksX5_readCrop_2 6 rfl rfl)
theorem dX5_readCrop_57 : decode cX5_readCrop 57 = .ok (.iastore, 1) := dk_79 (dk_at dksX5_readCrop_2 9 rfl rfl)
theorem dX5_readCrop_58 : decode cX5_readCrop 58 = .ok (.aload_n 0, 1) := dk_42 (dk_at dksX5_readCrop_2 10 rfl rfl)
theorem dX5_readCrop_59 : decode cX5_readCrop 59 = .ok (.getfield 31, 3) := dk_180 0 31 (dk_at dksX5_readCrop_2 11 rfl rfl)
theorem dX5_readCrop_62 : decode cX5_readCrop 62 = .ok (.iload_n 1, 1) := dk_27 (dk_at dksX5_readCrop_2 14 rfl rfl)
theorem dX5_readCrop_63 : decode cX5_readCrop 63 = .ok (.iconst 3, 1) := dk_6 (dk_at dksX5_readCrop_2 15 rfl rfl)
theorem dX5_readCrop_64 : decode cX5_readCrop 64 = .ok (.iadd, 1) := dk_96 (dk_at dksX5_readCrop_2 16 rfl rfl)
theorem dX5_readCrop_65 : decode cX5_readCrop 65 = .ok (.aload_n 0, 1) := dk_42 (dk_at dksX5_readCrop_2 17 rfl rfl)
theorem dX5_readCrop_66 : decode cX5_readCrop 66 = .ok (.ldc 189, 2) := dk_18 189 (dk_at dksX5_readCrop_2 18 rfl rfl)
theorem dX5_readCrop_68 : decode cX5_readCrop 68 = .ok (.iconst 0, 1) := dk_3 (dk_at dksX5_readCrop_2 20 rfl rfl)
theorem dX5_readCrop_69 : decode cX5_readCrop 69 = .ok (.aload_n 0, 1) := dk_42 (dk_at dksX5_readCrop_2 21 rfl rfl)
theorem dX5_readCrop_70 : decode cX5_readCrop 70 = .ok (.getfield 31, 3) := dk_180 0 31 (dk_at dksX5_readCrop_3 0 rfl rfl)
theorem dX5_readCrop_73 : decode cX5_readCrop 73 = .ok (.iconst 5, 1) := dk_8 (dk_at dksX5_readCrop_3 3 rfl rfl)
theorem dX5_readCrop_74 : decode cX5_readCrop 74 = .ok (.iaload, 1) := dk_46 (dk_at dksX5_readCrop_3 4 rfl rfl)
theorem dX5_readCrop_75 : decode cX5_readCrop 75 = .ok (.iconst 1, 1) := dk_4 (dk_at dksX5_readCrop_3 5 rfl rfl)
theorem dX5_readCrop_76 : decode cX5_readCrop 76 = .ok (.isub, 1) := dk_100 (dk_at dksX5_readCrop_3 6 rfl rfl)
theorem dX5_readCrop_77 : decode cX5_readCrop 77 = .ok (.invokevirtual 173, 3) := dk_182 0 173 (dk_at dksX5_readCrop_3 7 rfl rfl)
theorem dX5_readCrop_80 : decode cX5_readCrop 80 = .ok (.iastore, 1) := dk_79 (dk_at dksX5_readCrop_3 10 rfl rfl)
theorem dX5_readCrop_81 : decode cX5_readCrop 81 = .ok (.aload_n 0, 1) := dk_42 (dk_at dksX5_readCrop_3 11 rfl rfl)
theorem dX5_readCrop_82 : decode cX5_readCrop 82 = .ok (.getfield 31, 3) := dk_180 0 31 (dk_at dksX5_readCrop_3 12 rfl rfl)
theorem dX5_readCrop_85 : decode cX5_readCrop 85 = .ok (.iload_n 1, 1) := dk_27 (dk_at dksX5_readCrop_3 15 rfl rfl)
theorem dX5_readCrop_86 : decode cX5_readCrop 86 = .ok (.iconst 4, 1) := dk_7 (dk_at dksX5_readCrop_3 16 rfl rfl)
theorem dX5_readCrop_87 : decode cX5_readCrop 87 = .ok (.iadd, 1) := dk_96 (dk_at dksX5_readCrop_3 17 rfl rfl)
theorem dX5_readCrop_88 : decode cX5_readCrop 88 = .ok (.aload_n 0, 1) := dk_42 (dk_at dksX5_readCrop_3 18 rfl rfl)
theorem dX5_readCrop_89 : decode cX5_readCrop 89 = .ok (.ldc 190, 2) := dk_18 190 (dk_at dksX5_readCrop_3 19 rfl rfl)
theorem dX5_readCrop_91 : decode cX5_readCrop 91 = .ok (.aload_n 0, 1) := dk_42 (dk_at dksX5_readCrop_3 21 rfl rfl)
theorem dX5_readCrop_92 : decode cX5_readCrop 92 = .ok (.getfield 31, 3) := dk_180 0 31 (dk_at dksX5_readCrop_4 0 rfl rfl)
theorem dX5_readCrop_95 : decode cX5_readCrop 95 = .ok (.iload_n 1, 1) := dk_27 (dk_at dksX5_readCrop_4 3 rfl rfl)
theorem dX5_readCrop_96 : decode cX5_readCrop 96 = .ok (.iconst 3, 1) := dk_6 (dk_at dksX5_readCrop_4 4 rfl rfl)
theorem dX5_readCrop_97 : decode cX5_readCrop 97 = .ok (.iadd, 1) := dk_96 (dk_at dksX5_readCrop_4 5 rfl rfl)
theorem dX5_readCrop_98 : decode cX5_readCrop 98 = .ok (.iaload, 1) := dk_46 (dk_at dksX5_readCrop_4 6 rfl rfl)
theorem dX5_readCrop_99 : decode cX5_readCrop 99 = .ok (.aload_n 0, 1) := dk_42 (dk_at dksX5_readCrop_4 7 rfl rfl)
theorem dX5_readCrop_100 : decode cX5_readCrop 100 = .ok (.getfield 31, 3) := dk_180 0 31 (dk_at dksX5_readCrop_4 8 rfl rfl)
theorem dX5_readCrop_103 : decode cX5_readCrop 103 = .ok (.iconst 5, 1) := dk_8 (dk_at dksX5_readCrop_4 11 rfl rfl)
theorem dX5_readCrop_104 : decode cX5_readCrop 104 = .ok (.iaload, 1) := dk_46 (dk_at dksX5_readCrop_4 12 rfl rfl)
theorem dX5_readCrop_105 : decode cX5_readCrop 105 = .ok (.iconst 1, 1) := dk_4 (dk_at dksX5_readCrop_4 13 rfl rfl)
theorem dX5_readCrop_106 : decode cX5_readCrop 106 = .ok (.isub, 1) := dk_100 (dk_at dksX5_readCrop_4 14 rfl rfl)
theorem dX5_readCrop_107 : decode cX5_readCrop 107 = .ok (.invokevirtual 173, 3) := dk_182 0 173 (dk_at dksX5_readCrop_4 15 rfl rfl)
theorem dX5_readCrop_110 : decode cX5_readCrop 110 = .ok (.iastore, 1) := dk_79 (dk_at dksX5_readCrop_4 18 rfl rfl)
theorem dX5_readCrop_111 : decode cX5_readCrop 111 = .ok (.aload_n 0, 1) := dk_42 (dk_at dksX5_readCrop_4 19 rfl rfl)
theorem dX5_readCrop_112 : decode cX5_readCrop 112 = .ok (.getfield 31, 3) := dk_180 0 31 (dk_at dksX5_readCrop_4 20 rfl rfl)
theorem dX5_readCrop_115 : decode cX5_readCrop 115 = .ok (.iconst 1, 1) := dk_4 (dk_at dksX5_readCrop_4 23 rfl rfl)
theorem dX5_readCrop_116 : decode cX5_readCrop 116 = .ok (.dup2, 1) := dk_92 (dk_at dksX5_readCrop_5 0 rfl rfl)
theorem dX5_readCrop_117 : decode cX5_readCrop 117 = .ok (.iaload, 1) := dk_46 (dk_at dksX5_readCrop_5 1 rfl rfl)
theorem dX5_readCrop_118 : decode cX5_readCrop 118 = .ok (.iconst 1, 1) := dk_4 (dk_at dksX5_readCrop_5 2 rfl rfl)
theorem dX5_readCrop_119 : decode cX5_readCrop 119 = .ok (.iadd, 1) := dk_96 (dk_at dksX5_readCrop_5 3 rfl rfl)
theorem dX5_readCrop_120 : decode cX5_readCrop 120 = .ok (.iastore, 1) := dk_79 (dk_at dksX5_readCrop_5 4 rfl rfl)
theorem dX5_readCrop_121 : decode cX5_readCrop 121 = .ok (.return_, 1) := dk_177 (dk_at dksX5_readCrop_5 5 rfl rfl)
abbrev cX5_freshVillage : ByteArray := prog_13_method_28_code
def yX5_freshVillage : MethodName := ⟨RX5, "freshVillage", "()I"⟩
def dkwX5_freshVillage_0 : List UInt8 := [42, 3, 42, 180, 0, 31, 3, 46, 4, 100, 182, 0, 168, 172]
abbrev dktX5_freshVillage_0 : List UInt8 := dkwX5_freshVillage_0 ++ []
theorem dksX5_freshVillage_0 : cX5_freshVillage.data.toList.drop 0 = dktX5_freshVillage_0 := by decide +kernel
theorem dX5_freshVillage_0 : decode cX5_freshVillage 0 = .ok (.aload_n 0, 1) := dk_42 (dk_at dksX5_freshVillage_0 0 rfl rfl)
theorem dX5_freshVillage_1 : decode cX5_freshVillage 1 = .ok (.iconst 0, 1) := dk_3 (dk_at dksX5_freshVillage_0 1 rfl rfl)
theorem dX5_freshVillage_2 : decode cX5_freshVillage 2 = .ok (.aload_n 0, 1) := dk_42 (dk_at dksX5_freshVillage_0 2 rfl rfl)
theorem dX5_freshVillage_3 : decode cX5_freshVillage 3 = .ok (.getfield 31, 3) := dk_180 0 31 (dk_at dksX5_freshVillage_0 3 rfl rfl)
theorem dX5_freshVillage_6 : decode cX5_freshVillage 6 = .ok (.iconst 0, 1) := dk_3 (dk_at dksX5_freshVillage_0 6 rfl rfl)
theorem dX5_freshVillage_7 : decode cX5_freshVillage 7 = .ok (.iaload, 1) := dk_46 (dk_at dksX5_freshVillage_0 7 rfl rfl)
theorem dX5_freshVillage_8 : decode cX5_freshVillage 8 = .ok (.iconst 1, 1) := dk_4 (dk_at dksX5_freshVillage_0 8 rfl rfl)
theorem dX5_freshVillage_9 : decode cX5_freshVillage 9 = .ok (.isub, 1) := dk_100 (dk_at dksX5_freshVillage_0 9 rfl rfl)
theorem dX5_freshVillage_10 : decode cX5_freshVillage 10 = .ok (.invokevirtual 168, 3) := dk_182 0 168 (dk_at dksX5_freshVillage_0 10 rfl rfl)
theorem dX5_freshVillage_13 : decode cX5_freshVillage 13 = .ok (.ireturn, 1) := dk_172 (dk_at dksX5_freshVillage_0 13 rfl rfl)
abbrev cX5_readFlood : ByteArray := prog_13_method_31_code
def yX5_readFlood : MethodName := ⟨RX5, "readFlood", "()V"⟩
def dkwX5_readFlood_4 : List UInt8 := [96, 79, 177]
abbrev dktX5_readFlood_4 : List UInt8 := dkwX5_readFlood_4 ++ []
def dkwX5_readFlood_3 : List UInt8 := [42, 180, 0, 31, 17, 0, 157, 42, 180, 0, 31, 5, 46, 96, 2, 79, 42, 180, 0, 31, 5, 92, 46, 4]
abbrev dktX5_readFlood_3 : List UInt8 := dkwX5_readFlood_3 ++ dktX5_readFlood_4
def dkwX5_readFlood_2 : List UInt8 := [17, 39, 15, 182, 0, 173, 79, 42, 180, 0, 31, 27, 5, 96, 42, 18, 192, 3, 16, 100, 182, 0, 173, 79]
abbrev dktX5_readFlood_2 : List UInt8 := dkwX5_readFlood_2 ++ dktX5_readFlood_3
def dkwX5_readFlood_1 : List UInt8 := [180, 0, 31, 8, 46, 4, 100, 182, 0, 168, 79, 42, 180, 0, 31, 27, 4, 96, 42, 18, 187, 3]
abbrev dktX5_readFlood_1 : List UInt8 := dkwX5_readFlood_1 ++ dktX5_readFlood_2
def dkwX5_readFlood_0 : List UInt8 := [16, 108, 6, 42, 180, 0, 31, 5, 46, 104, 96, 60, 42, 180, 0, 31, 27, 3, 96, 42, 3, 42]
abbrev dktX5_readFlood_0 : List UInt8 := dkwX5_readFlood_0 ++ dktX5_readFlood_1
theorem dksX5_readFlood_0 : cX5_readFlood.data.toList.drop 0 = dktX5_readFlood_0 := by decide +kernel
theorem dksX5_readFlood_1 : cX5_readFlood.data.toList.drop 22 = dktX5_readFlood_1 := dk_seg dksX5_readFlood_0 22 rfl rfl
theorem dksX5_readFlood_2 : cX5_readFlood.data.toList.drop 44 = dktX5_readFlood_2 := dk_seg dksX5_readFlood_1 22 rfl rfl
theorem dksX5_readFlood_3 : cX5_readFlood.data.toList.drop 68 = dktX5_readFlood_3 := dk_seg dksX5_readFlood_2 24 rfl rfl
theorem dksX5_readFlood_4 : cX5_readFlood.data.toList.drop 92 = dktX5_readFlood_4 := dk_seg dksX5_readFlood_3 24 rfl rfl
theorem dX5_readFlood_0 : decode cX5_readFlood 0 = .ok (.bipush 108, 2) := dk_16 108 (dk_at dksX5_readFlood_0 0 rfl rfl)
theorem dX5_readFlood_2 : decode cX5_readFlood 2 = .ok (.iconst 3, 1) := dk_6 (dk_at dksX5_readFlood_0 2 rfl rfl)
theorem dX5_readFlood_3 : decode cX5_readFlood 3 = .ok (.aload_n 0, 1) := dk_42 (dk_at dksX5_readFlood_0 3 rfl rfl)
theorem dX5_readFlood_4 : decode cX5_readFlood 4 = .ok (.getfield 31, 3) := dk_180 0 31 (dk_at dksX5_readFlood_0 4 rfl rfl)
theorem dX5_readFlood_7 : decode cX5_readFlood 7 = .ok (.iconst 2, 1) := dk_5 (dk_at dksX5_readFlood_0 7 rfl rfl)
theorem dX5_readFlood_8 : decode cX5_readFlood 8 = .ok (.iaload, 1) := dk_46 (dk_at dksX5_readFlood_0 8 rfl rfl)
theorem dX5_readFlood_9 : decode cX5_readFlood 9 = .ok (.imul, 1) := dk_104 (dk_at dksX5_readFlood_0 9 rfl rfl)
theorem dX5_readFlood_10 : decode cX5_readFlood 10 = .ok (.iadd, 1) := dk_96 (dk_at dksX5_readFlood_0 10 rfl rfl)
theorem dX5_readFlood_11 : decode cX5_readFlood 11 = .ok (.istore_n 1, 1) := dk_60 (dk_at dksX5_readFlood_0 11 rfl rfl)
theorem dX5_readFlood_12 : decode cX5_readFlood 12 = .ok (.aload_n 0, 1) := dk_42 (dk_at dksX5_readFlood_0 12 rfl rfl)
theorem dX5_readFlood_13 : decode cX5_readFlood 13 = .ok (.getfield 31, 3) := dk_180 0 31 (dk_at dksX5_readFlood_0 13 rfl rfl)
theorem dX5_readFlood_16 : decode cX5_readFlood 16 = .ok (.iload_n 1, 1) := dk_27 (dk_at dksX5_readFlood_0 16 rfl rfl)
theorem dX5_readFlood_17 : decode cX5_readFlood 17 = .ok (.iconst 0, 1) := dk_3 (dk_at dksX5_readFlood_0 17 rfl rfl)
theorem dX5_readFlood_18 : decode cX5_readFlood 18 = .ok (.iadd, 1) := dk_96 (dk_at dksX5_readFlood_0 18 rfl rfl)
theorem dX5_readFlood_19 : decode cX5_readFlood 19 = .ok (.aload_n 0, 1) := dk_42 (dk_at dksX5_readFlood_0 19 rfl rfl)
theorem dX5_readFlood_20 : decode cX5_readFlood 20 = .ok (.iconst 0, 1) := dk_3 (dk_at dksX5_readFlood_0 20 rfl rfl)
theorem dX5_readFlood_21 : decode cX5_readFlood 21 = .ok (.aload_n 0, 1) := dk_42 (dk_at dksX5_readFlood_0 21 rfl rfl)
theorem dX5_readFlood_22 : decode cX5_readFlood 22 = .ok (.getfield 31, 3) := dk_180 0 31 (dk_at dksX5_readFlood_1 0 rfl rfl)
theorem dX5_readFlood_25 : decode cX5_readFlood 25 = .ok (.iconst 5, 1) := dk_8 (dk_at dksX5_readFlood_1 3 rfl rfl)
theorem dX5_readFlood_26 : decode cX5_readFlood 26 = .ok (.iaload, 1) := dk_46 (dk_at dksX5_readFlood_1 4 rfl rfl)
theorem dX5_readFlood_27 : decode cX5_readFlood 27 = .ok (.iconst 1, 1) := dk_4 (dk_at dksX5_readFlood_1 5 rfl rfl)
theorem dX5_readFlood_28 : decode cX5_readFlood 28 = .ok (.isub, 1) := dk_100 (dk_at dksX5_readFlood_1 6 rfl rfl)
theorem dX5_readFlood_29 : decode cX5_readFlood 29 = .ok (.invokevirtual 168, 3) := dk_182 0 168 (dk_at dksX5_readFlood_1 7 rfl rfl)
theorem dX5_readFlood_32 : decode cX5_readFlood 32 = .ok (.iastore, 1) := dk_79 (dk_at dksX5_readFlood_1 10 rfl rfl)
theorem dX5_readFlood_33 : decode cX5_readFlood 33 = .ok (.aload_n 0, 1) := dk_42 (dk_at dksX5_readFlood_1 11 rfl rfl)
theorem dX5_readFlood_34 : decode cX5_readFlood 34 = .ok (.getfield 31, 3) := dk_180 0 31 (dk_at dksX5_readFlood_1 12 rfl rfl)
theorem dX5_readFlood_37 : decode cX5_readFlood 37 = .ok (.iload_n 1, 1) := dk_27 (dk_at dksX5_readFlood_1 15 rfl rfl)
theorem dX5_readFlood_38 : decode cX5_readFlood 38 = .ok (.iconst 1, 1) := dk_4 (dk_at dksX5_readFlood_1 16 rfl rfl)
theorem dX5_readFlood_39 : decode cX5_readFlood 39 = .ok (.iadd, 1) := dk_96 (dk_at dksX5_readFlood_1 17 rfl rfl)
theorem dX5_readFlood_40 : decode cX5_readFlood 40 = .ok (.aload_n 0, 1) := dk_42 (dk_at dksX5_readFlood_1 18 rfl rfl)
theorem dX5_readFlood_41 : decode cX5_readFlood 41 = .ok (.ldc 187, 2) := dk_18 187 (dk_at dksX5_readFlood_1 19 rfl rfl)
theorem dX5_readFlood_43 : decode cX5_readFlood 43 = .ok (.iconst 0, 1) := dk_3 (dk_at dksX5_readFlood_1 21 rfl rfl)
theorem dX5_readFlood_44 : decode cX5_readFlood 44 = .ok (.sipush 9999, 3) := dk_17 39 15 (dk_at dksX5_readFlood_2 0 rfl rfl)
theorem dX5_readFlood_47 : decode cX5_readFlood 47 = .ok (.invokevirtual 173, 3) := dk_182 0 173 (dk_at dksX5_readFlood_2 3 rfl rfl)
theorem dX5_readFlood_50 : decode cX5_readFlood 50 = .ok (.iastore, 1) := dk_79 (dk_at dksX5_readFlood_2 6 rfl rfl)
theorem dX5_readFlood_51 : decode cX5_readFlood 51 = .ok (.aload_n 0, 1) := dk_42 (dk_at dksX5_readFlood_2 7 rfl rfl)
theorem dX5_readFlood_52 : decode cX5_readFlood 52 = .ok (.getfield 31, 3) := dk_180 0 31 (dk_at dksX5_readFlood_2 8 rfl rfl)
theorem dX5_readFlood_55 : decode cX5_readFlood 55 = .ok (.iload_n 1, 1) := dk_27 (dk_at dksX5_readFlood_2 11 rfl rfl)
theorem dX5_readFlood_56 : decode cX5_readFlood 56 = .ok (.iconst 2, 1) := dk_5 (dk_at dksX5_readFlood_2 12 rfl rfl)
theorem dX5_readFlood_57 : decode cX5_readFlood 57 = .ok (.iadd, 1) := dk_96 (dk_at dksX5_readFlood_2 13 rfl rfl)
theorem dX5_readFlood_58 : decode cX5_readFlood 58 = .ok (.aload_n 0, 1) := dk_42 (dk_at dksX5_readFlood_2 14 rfl rfl)
theorem dX5_readFlood_59 : decode cX5_readFlood 59 = .ok (.ldc 192, 2) := dk_18 192 (dk_at dksX5_readFlood_2 15 rfl rfl)
theorem dX5_readFlood_61 : decode cX5_readFlood 61 = .ok (.iconst 0, 1) := dk_3 (dk_at dksX5_readFlood_2 17 rfl rfl)
theorem dX5_readFlood_62 : decode cX5_readFlood 62 = .ok (.bipush 100, 2) := dk_16 100 (dk_at dksX5_readFlood_2 18 rfl rfl)
theorem dX5_readFlood_64 : decode cX5_readFlood 64 = .ok (.invokevirtual 173, 3) := dk_182 0 173 (dk_at dksX5_readFlood_2 20 rfl rfl)
theorem dX5_readFlood_67 : decode cX5_readFlood 67 = .ok (.iastore, 1) := dk_79 (dk_at dksX5_readFlood_2 23 rfl rfl)
theorem dX5_readFlood_68 : decode cX5_readFlood 68 = .ok (.aload_n 0, 1) := dk_42 (dk_at dksX5_readFlood_3 0 rfl rfl)
theorem dX5_readFlood_69 : decode cX5_readFlood 69 = .ok (.getfield 31, 3) := dk_180 0 31 (dk_at dksX5_readFlood_3 1 rfl rfl)
theorem dX5_readFlood_72 : decode cX5_readFlood 72 = .ok (.sipush 157, 3) := dk_17 0 157 (dk_at dksX5_readFlood_3 4 rfl rfl)
theorem dX5_readFlood_75 : decode cX5_readFlood 75 = .ok (.aload_n 0, 1) := dk_42 (dk_at dksX5_readFlood_3 7 rfl rfl)
theorem dX5_readFlood_76 : decode cX5_readFlood 76 = .ok (.getfield 31, 3) := dk_180 0 31 (dk_at dksX5_readFlood_3 8 rfl rfl)
theorem dX5_readFlood_79 : decode cX5_readFlood 79 = .ok (.iconst 2, 1) := dk_5 (dk_at dksX5_readFlood_3 11 rfl rfl)
theorem dX5_readFlood_80 : decode cX5_readFlood 80 = .ok (.iaload, 1) := dk_46 (dk_at dksX5_readFlood_3 12 rfl rfl)
theorem dX5_readFlood_81 : decode cX5_readFlood 81 = .ok (.iadd, 1) := dk_96 (dk_at dksX5_readFlood_3 13 rfl rfl)
theorem dX5_readFlood_82 : decode cX5_readFlood 82 = .ok (.iconst (-1), 1) := dk_2 (dk_at dksX5_readFlood_3 14 rfl rfl)
theorem dX5_readFlood_83 : decode cX5_readFlood 83 = .ok (.iastore, 1) := dk_79 (dk_at dksX5_readFlood_3 15 rfl rfl)
theorem dX5_readFlood_84 : decode cX5_readFlood 84 = .ok (.aload_n 0, 1) := dk_42 (dk_at dksX5_readFlood_3 16 rfl rfl)
theorem dX5_readFlood_85 : decode cX5_readFlood 85 = .ok (.getfield 31, 3) := dk_180 0 31 (dk_at dksX5_readFlood_3 17 rfl rfl)
theorem dX5_readFlood_88 : decode cX5_readFlood 88 = .ok (.iconst 2, 1) := dk_5 (dk_at dksX5_readFlood_3 20 rfl rfl)
theorem dX5_readFlood_89 : decode cX5_readFlood 89 = .ok (.dup2, 1) := dk_92 (dk_at dksX5_readFlood_3 21 rfl rfl)
theorem dX5_readFlood_90 : decode cX5_readFlood 90 = .ok (.iaload, 1) := dk_46 (dk_at dksX5_readFlood_3 22 rfl rfl)
theorem dX5_readFlood_91 : decode cX5_readFlood 91 = .ok (.iconst 1, 1) := dk_4 (dk_at dksX5_readFlood_3 23 rfl rfl)
theorem dX5_readFlood_92 : decode cX5_readFlood 92 = .ok (.iadd, 1) := dk_96 (dk_at dksX5_readFlood_4 0 rfl rfl)
theorem dX5_readFlood_93 : decode cX5_readFlood 93 = .ok (.iastore, 1) := dk_79 (dk_at dksX5_readFlood_4 1 rfl rfl)
theorem dX5_readFlood_94 : decode cX5_readFlood 94 = .ok (.return_, 1) := dk_177 (dk_at dksX5_readFlood_4 2 rfl rfl)
abbrev cX5_readLoan : ByteArray := prog_13_method_32_code
def yX5_readLoan : MethodName := ⟨RX5, "readLoan", "()V"⟩
def dkwX5_readLoan_6 : List UInt8 := [79, 42, 180, 0, 31, 6, 92, 46, 4, 96, 79, 177]
abbrev dktX5_readLoan_6 : List UInt8 := dkwX5_readLoan_6 ++ []
def dkwX5_readLoan_5 : List UInt8 := [42, 18, 198, 42, 180, 0, 31, 27, 6, 96, 46, 4, 96, 42, 180, 0, 31, 8, 46, 4, 100, 182, 0, 173]
abbrev dktX5_readLoan_5 : List UInt8 := dkwX5_readLoan_5 ++ dktX5_readLoan_6
def dkwX5_readLoan_4 : List UInt8 := [96, 42, 18, 196, 3, 42, 180, 0, 31, 8, 46, 4, 100, 182, 0, 173, 79, 42, 180, 0, 31, 27, 7, 96]
abbrev dktX5_readLoan_4 : List UInt8 := dkwX5_readLoan_4 ++ dktX5_readLoan_5
def dkwX5_readLoan_3 : List UInt8 := [42, 180, 0, 31, 27, 5, 96, 42, 18, 194, 4, 17, 39, 15, 182, 0, 173, 79, 42, 180, 0, 31, 27, 6]
abbrev dktX5_readLoan_3 : List UInt8 := dkwX5_readLoan_3 ++ dktX5_readLoan_4
def dkwX5_readLoan_2 : List UInt8 := [182, 0, 160, 42, 180, 0, 31, 27, 3, 96, 28, 79, 42, 180, 0, 31, 27, 4, 96, 42, 182, 0, 182, 79]
abbrev dktX5_readLoan_2 : List UInt8 := dkwX5_readLoan_2 ++ dktX5_readLoan_3
def dkwX5_readLoan_1 : List UInt8 := [182, 0, 137, 153, 0, 24, 42, 180, 0, 113, 5, 160, 0, 16, 42, 180, 0, 124, 28, 160, 0, 8, 42, 5]
abbrev dktX5_readLoan_1 : List UInt8 := dkwX5_readLoan_1 ++ dktX5_readLoan_2
def dkwX5_readLoan_0 : List UInt8 := [16, 117, 8, 42, 180, 0, 31, 6, 46, 104, 96, 60, 42, 182, 0, 182, 61, 42, 18, 190, 182, 0, 164, 42]
abbrev dktX5_readLoan_0 : List UInt8 := dkwX5_readLoan_0 ++ dktX5_readLoan_1
theorem dksX5_readLoan_0 : cX5_readLoan.data.toList.drop 0 = dktX5_readLoan_0 := by decide +kernel
theorem dksX5_readLoan_1 : cX5_readLoan.data.toList.drop 24 = dktX5_readLoan_1 := dk_seg dksX5_readLoan_0 24 rfl rfl
theorem dksX5_readLoan_2 : cX5_readLoan.data.toList.drop 48 = dktX5_readLoan_2 := dk_seg dksX5_readLoan_1 24 rfl rfl
theorem dksX5_readLoan_3 : cX5_readLoan.data.toList.drop 72 = dktX5_readLoan_3 := dk_seg dksX5_readLoan_2 24 rfl rfl
theorem dksX5_readLoan_4 : cX5_readLoan.data.toList.drop 96 = dktX5_readLoan_4 := dk_seg dksX5_readLoan_3 24 rfl rfl
theorem dksX5_readLoan_5 : cX5_readLoan.data.toList.drop 120 = dktX5_readLoan_5 := dk_seg dksX5_readLoan_4 24 rfl rfl
theorem dksX5_readLoan_6 : cX5_readLoan.data.toList.drop 144 = dktX5_readLoan_6 := dk_seg dksX5_readLoan_5 24 rfl rfl
theorem dX5_readLoan_0 : decode cX5_readLoan 0 = .ok (.bipush 117, 2) := dk_16 117 (dk_at dksX5_readLoan_0 0 rfl rfl)
theorem dX5_readLoan_2 : decode cX5_readLoan 2 = .ok (.iconst 5, 1) := dk_8 (dk_at dksX5_readLoan_0 2 rfl rfl)
theorem dX5_readLoan_3 : decode cX5_readLoan 3 = .ok (.aload_n 0, 1) := dk_42 (dk_at dksX5_readLoan_0 3 rfl rfl)
theorem dX5_readLoan_4 : decode cX5_readLoan 4 = .ok (.getfield 31, 3) := dk_180 0 31 (dk_at dksX5_readLoan_0 4 rfl rfl)
theorem dX5_readLoan_7 : decode cX5_readLoan 7 = .ok (.iconst 3, 1) := dk_6 (dk_at dksX5_readLoan_0 7 rfl rfl)
theorem dX5_readLoan_8 : decode cX5_readLoan 8 = .ok (.iaload, 1) := dk_46 (dk_at dksX5_readLoan_0 8 rfl rfl)
theorem dX5_readLoan_9 : decode cX5_readLoan 9 = .ok (.imul, 1) := dk_104 (dk_at dksX5_readLoan_0 9 rfl rfl)
theorem dX5_readLoan_10 : decode cX5_readLoan 10 = .ok (.iadd, 1) := dk_96 (dk_at dksX5_readLoan_0 10 rfl rfl)
theorem dX5_readLoan_11 : decode cX5_readLoan 11 = .ok (.istore_n 1, 1) := dk_60 (dk_at dksX5_readLoan_0 11 rfl rfl)
theorem dX5_readLoan_12 : decode cX5_readLoan 12 = .ok (.aload_n 0, 1) := dk_42 (dk_at dksX5_readLoan_0 12 rfl rfl)
theorem dX5_readLoan_13 : decode cX5_readLoan 13 = .ok (.invokevirtual 182, 3) := dk_182 0 182 (dk_at dksX5_readLoan_0 13 rfl rfl)
theorem dX5_readLoan_16 : decode cX5_readLoan 16 = .ok (.istore_n 2, 1) := dk_61 (dk_at dksX5_readLoan_0 16 rfl rfl)
theorem dX5_readLoan_17 : decode cX5_readLoan 17 = .ok (.aload_n 0, 1) := dk_42 (dk_at dksX5_readLoan_0 17 rfl rfl)
theorem dX5_readLoan_18 : decode cX5_readLoan 18 = .ok (.ldc 190, 2) := dk_18 190 (dk_at dksX5_readLoan_0 18 rfl rfl)
theorem dX5_readLoan_20 : decode cX5_readLoan 20 = .ok (.invokevirtual 164, 3) := dk_182 0 164 (dk_at dksX5_readLoan_0 20 rfl rfl)
theorem dX5_readLoan_23 : decode cX5_readLoan 23 = .ok (.aload_n 0, 1) := dk_42 (dk_at dksX5_readLoan_0 23 rfl rfl)
theorem dX5_readLoan_24 : decode cX5_readLoan 24 = .ok (.invokevirtual 137, 3) := dk_182 0 137 (dk_at dksX5_readLoan_1 0 rfl rfl)
theorem dX5_readLoan_27 : decode cX5_readLoan 27 = .ok (.ifCond .eq 24, 3) := dk_153 0 24 (dk_at dksX5_readLoan_1 3 rfl rfl)
theorem dX5_readLoan_30 : decode cX5_readLoan 30 = .ok (.aload_n 0, 1) := dk_42 (dk_at dksX5_readLoan_1 6 rfl rfl)
theorem dX5_readLoan_31 : decode cX5_readLoan 31 = .ok (.getfield 113, 3) := dk_180 0 113 (dk_at dksX5_readLoan_1 7 rfl rfl)
theorem dX5_readLoan_34 : decode cX5_readLoan 34 = .ok (.iconst 2, 1) := dk_5 (dk_at dksX5_readLoan_1 10 rfl rfl)
theorem dX5_readLoan_35 : decode cX5_readLoan 35 = .ok (.if_icmp .ne 16, 3) := dk_160 0 16 (dk_at dksX5_readLoan_1 11 rfl rfl)
theorem dX5_readLoan_38 : decode cX5_readLoan 38 = .ok (.aload_n 0, 1) := dk_42 (dk_at dksX5_readLoan_1 14 rfl rfl)
theorem dX5_readLoan_39 : decode cX5_readLoan 39 = .ok (.getfield 124, 3) := dk_180 0 124 (dk_at dksX5_readLoan_1 15 rfl rfl)
theorem dX5_readLoan_42 : decode cX5_readLoan 42 = .ok (.iload_n 2, 1) := dk_28 (dk_at dksX5_readLoan_1 18 rfl rfl)
theorem dX5_readLoan_43 : decode cX5_readLoan 43 = .ok (.if_icmp .ne 8, 3) := dk_160 0 8 (dk_at dksX5_readLoan_1 19 rfl rfl)
theorem dX5_readLoan_46 : decode cX5_readLoan 46 = .ok (.aload_n 0, 1) := dk_42 (dk_at dksX5_readLoan_1 22 rfl rfl)
theorem dX5_readLoan_47 : decode cX5_readLoan 47 = .ok (.iconst 2, 1) := dk_5 (dk_at dksX5_readLoan_1 23 rfl rfl)
theorem dX5_readLoan_48 : decode cX5_readLoan 48 = .ok (.invokevirtual 160, 3) := dk_182 0 160 (dk_at dksX5_readLoan_2 0 rfl rfl)
theorem dX5_readLoan_51 : decode cX5_readLoan 51 = .ok (.aload_n 0, 1) := dk_42 (dk_at dksX5_readLoan_2 3 rfl rfl)
theorem dX5_readLoan_52 : decode cX5_readLoan 52 = .ok (.getfield 31, 3) := dk_180 0 31 (dk_at dksX5_readLoan_2 4 rfl rfl)
theorem dX5_readLoan_55 : decode cX5_readLoan 55 = .ok (.iload_n 1, 1) := dk_27 (dk_at dksX5_readLoan_2 7 rfl rfl)
theorem dX5_readLoan_56 : decode cX5_readLoan 56 = .ok (.iconst 0, 1) := dk_3 (dk_at dksX5_readLoan_2 8 rfl rfl)
theorem dX5_readLoan_57 : decode cX5_readLoan 57 = .ok (.iadd, 1) := dk_96 (dk_at dksX5_readLoan_2 9 rfl rfl)
theorem dX5_readLoan_58 : decode cX5_readLoan 58 = .ok (.iload_n 2, 1) := dk_28 (dk_at dksX5_readLoan_2 10 rfl rfl)
theorem dX5_readLoan_59 : decode cX5_readLoan 59 = .ok (.iastore, 1) := dk_79 (dk_at dksX5_readLoan_2 11 rfl rfl)
theorem dX5_readLoan_60 : decode cX5_readLoan 60 = .ok (.aload_n 0, 1) := dk_42 (dk_at dksX5_readLoan_2 12 rfl rfl)
theorem dX5_readLoan_61 : decode cX5_readLoan 61 = .ok (.getfield 31, 3) := dk_180 0 31 (dk_at dksX5_readLoan_2 13 rfl rfl)
theorem dX5_readLoan_64 : decode cX5_readLoan 64 = .ok (.iload_n 1, 1) := dk_27 (dk_at dksX5_readLoan_2 16 rfl rfl)
theorem dX5_readLoan_65 : decode cX5_readLoan 65 = .ok (.iconst 1, 1) := dk_4 (dk_at dksX5_readLoan_2 17 rfl rfl)
theorem dX5_readLoan_66 : decode cX5_readLoan 66 = .ok (.iadd, 1) := dk_96 (dk_at dksX5_readLoan_2 18 rfl rfl)
theorem dX5_readLoan_67 : decode cX5_readLoan 67 = .ok (.aload_n 0, 1) := dk_42 (dk_at dksX5_readLoan_2 19 rfl rfl)
theorem dX5_readLoan_68 : decode cX5_readLoan 68 = .ok (.invokevirtual 182, 3) := dk_182 0 182 (dk_at dksX5_readLoan_2 20 rfl rfl)
theorem dX5_readLoan_71 : decode cX5_readLoan 71 = .ok (.iastore, 1) := dk_79 (dk_at dksX5_readLoan_2 23 rfl rfl)
theorem dX5_readLoan_72 : decode cX5_readLoan 72 = .ok (.aload_n 0, 1) := dk_42 (dk_at dksX5_readLoan_3 0 rfl rfl)
theorem dX5_readLoan_73 : decode cX5_readLoan 73 = .ok (.getfield 31, 3) := dk_180 0 31 (dk_at dksX5_readLoan_3 1 rfl rfl)
theorem dX5_readLoan_76 : decode cX5_readLoan 76 = .ok (.iload_n 1, 1) := dk_27 (dk_at dksX5_readLoan_3 4 rfl rfl)
theorem dX5_readLoan_77 : decode cX5_readLoan 77 = .ok (.iconst 2, 1) := dk_5 (dk_at dksX5_readLoan_3 5 rfl rfl)
theorem dX5_readLoan_78 : decode cX5_readLoan 78 = .ok (.iadd, 1) := dk_96 (dk_at dksX5_readLoan_3 6 rfl rfl)
theorem dX5_readLoan_79 : decode cX5_readLoan 79 = .ok (.aload_n 0, 1) := dk_42 (dk_at dksX5_readLoan_3 7 rfl rfl)
theorem dX5_readLoan_80 : decode cX5_readLoan 80 = .ok (.ldc 194, 2) := dk_18 194 (dk_at dksX5_readLoan_3 8 rfl rfl)
theorem dX5_readLoan_82 : decode cX5_readLoan 82 = .ok (.iconst 1, 1) := dk_4 (dk_at dksX5_readLoan_3 10 rfl rfl)
theorem dX5_readLoan_83 : decode cX5_readLoan 83 = .ok (.sipush 9999, 3) := dk_17 39 15 (dk_at dksX5_readLoan_3 11 rfl rfl)
theorem dX5_readLoan_86 : decode cX5_readLoan 86 = .ok (.invokevirtual 173, 3) := dk_182 0 173 (dk_at dksX5_readLoan_3 14 rfl rfl)
theorem dX5_readLoan_89 : decode cX5_readLoan 89 = .ok (.iastore, 1) := dk_79 (dk_at dksX5_readLoan_3 17 rfl rfl)
theorem dX5_readLoan_90 : decode cX5_readLoan 90 = .ok (.aload_n 0, 1) := dk_42 (dk_at dksX5_readLoan_3 18 rfl rfl)
theorem dX5_readLoan_91 : decode cX5_readLoan 91 = .ok (.getfield 31, 3) := dk_180 0 31 (dk_at dksX5_readLoan_3 19 rfl rfl)
theorem dX5_readLoan_94 : decode cX5_readLoan 94 = .ok (.iload_n 1, 1) := dk_27 (dk_at dksX5_readLoan_3 22 rfl rfl)
theorem dX5_readLoan_95 : decode cX5_readLoan 95 = .ok (.iconst 3, 1) := dk_6 (dk_at dksX5_readLoan_3 23 rfl rfl)
theorem dX5_readLoan_96 : decode cX5_readLoan 96 = .ok (.iadd, 1) := dk_96 (dk_at dksX5_readLoan_4 0 rfl rfl)
theorem dX5_readLoan_97 : decode cX5_readLoan 97 = .ok (.aload_n 0, 1) := dk_42 (dk_at dksX5_readLoan_4 1 rfl rfl)
theorem dX5_readLoan_98 : decode cX5_readLoan 98 = .ok (.ldc 196, 2) := dk_18 196 (dk_at dksX5_readLoan_4 2 rfl rfl)
theorem dX5_readLoan_100 : decode cX5_readLoan 100 = .ok (.iconst 0, 1) := dk_3 (dk_at dksX5_readLoan_4 4 rfl rfl)
theorem dX5_readLoan_101 : decode cX5_readLoan 101 = .ok (.aload_n 0, 1) := dk_42 (dk_at dksX5_readLoan_4 5 rfl rfl)
theorem dX5_readLoan_102 : decode cX5_readLoan 102 = .ok (.getfield 31, 3) := dk_180 0 31 (dk_at dksX5_readLoan_4 6 rfl rfl)
theorem dX5_readLoan_105 : decode cX5_readLoan 105 = .ok (.iconst 5, 1) := dk_8 (dk_at dksX5_readLoan_4 9 rfl rfl)
theorem dX5_readLoan_106 : decode cX5_readLoan 106 = .ok (.iaload, 1) := dk_46 (dk_at dksX5_readLoan_4 10 rfl rfl)
theorem dX5_readLoan_107 : decode cX5_readLoan 107 = .ok (.iconst 1, 1) := dk_4 (dk_at dksX5_readLoan_4 11 rfl rfl)
theorem dX5_readLoan_108 : decode cX5_readLoan 108 = .ok (.isub, 1) := dk_100 (dk_at dksX5_readLoan_4 12 rfl rfl)
theorem dX5_readLoan_109 : decode cX5_readLoan 109 = .ok (.invokevirtual 173, 3) := dk_182 0 173 (dk_at dksX5_readLoan_4 13 rfl rfl)
theorem dX5_readLoan_112 : decode cX5_readLoan 112 = .ok (.iastore, 1) := dk_79 (dk_at dksX5_readLoan_4 16 rfl rfl)
theorem dX5_readLoan_113 : decode cX5_readLoan 113 = .ok (.aload_n 0, 1) := dk_42 (dk_at dksX5_readLoan_4 17 rfl rfl)
theorem dX5_readLoan_114 : decode cX5_readLoan 114 = .ok (.getfield 31, 3) := dk_180 0 31 (dk_at dksX5_readLoan_4 18 rfl rfl)
theorem dX5_readLoan_117 : decode cX5_readLoan 117 = .ok (.iload_n 1, 1) := dk_27 (dk_at dksX5_readLoan_4 21 rfl rfl)
theorem dX5_readLoan_118 : decode cX5_readLoan 118 = .ok (.iconst 4, 1) := dk_7 (dk_at dksX5_readLoan_4 22 rfl rfl)
theorem dX5_readLoan_119 : decode cX5_readLoan 119 = .ok (.iadd, 1) := dk_96 (dk_at dksX5_readLoan_4 23 rfl rfl)
theorem dX5_readLoan_120 : decode cX5_readLoan 120 = .ok (.aload_n 0, 1) := dk_42 (dk_at dksX5_readLoan_5 0 rfl rfl)
theorem dX5_readLoan_121 : decode cX5_readLoan 121 = .ok (.ldc 198, 2) := dk_18 198 (dk_at dksX5_readLoan_5 1 rfl rfl)
theorem dX5_readLoan_123 : decode cX5_readLoan 123 = .ok (.aload_n 0, 1) := dk_42 (dk_at dksX5_readLoan_5 3 rfl rfl)
theorem dX5_readLoan_124 : decode cX5_readLoan 124 = .ok (.getfield 31, 3) := dk_180 0 31 (dk_at dksX5_readLoan_5 4 rfl rfl)
theorem dX5_readLoan_127 : decode cX5_readLoan 127 = .ok (.iload_n 1, 1) := dk_27 (dk_at dksX5_readLoan_5 7 rfl rfl)
theorem dX5_readLoan_128 : decode cX5_readLoan 128 = .ok (.iconst 3, 1) := dk_6 (dk_at dksX5_readLoan_5 8 rfl rfl)
theorem dX5_readLoan_129 : decode cX5_readLoan 129 = .ok (.iadd, 1) := dk_96 (dk_at dksX5_readLoan_5 9 rfl rfl)
theorem dX5_readLoan_130 : decode cX5_readLoan 130 = .ok (.iaload, 1) := dk_46 (dk_at dksX5_readLoan_5 10 rfl rfl)
theorem dX5_readLoan_131 : decode cX5_readLoan 131 = .ok (.iconst 1, 1) := dk_4 (dk_at dksX5_readLoan_5 11 rfl rfl)
theorem dX5_readLoan_132 : decode cX5_readLoan 132 = .ok (.iadd, 1) := dk_96 (dk_at dksX5_readLoan_5 12 rfl rfl)
theorem dX5_readLoan_133 : decode cX5_readLoan 133 = .ok (.aload_n 0, 1) := dk_42 (dk_at dksX5_readLoan_5 13 rfl rfl)
theorem dX5_readLoan_134 : decode cX5_readLoan 134 = .ok (.getfield 31, 3) := dk_180 0 31 (dk_at dksX5_readLoan_5 14 rfl rfl)
theorem dX5_readLoan_137 : decode cX5_readLoan 137 = .ok (.iconst 5, 1) := dk_8 (dk_at dksX5_readLoan_5 17 rfl rfl)
theorem dX5_readLoan_138 : decode cX5_readLoan 138 = .ok (.iaload, 1) := dk_46 (dk_at dksX5_readLoan_5 18 rfl rfl)
theorem dX5_readLoan_139 : decode cX5_readLoan 139 = .ok (.iconst 1, 1) := dk_4 (dk_at dksX5_readLoan_5 19 rfl rfl)
theorem dX5_readLoan_140 : decode cX5_readLoan 140 = .ok (.isub, 1) := dk_100 (dk_at dksX5_readLoan_5 20 rfl rfl)
theorem dX5_readLoan_141 : decode cX5_readLoan 141 = .ok (.invokevirtual 173, 3) := dk_182 0 173 (dk_at dksX5_readLoan_5 21 rfl rfl)
theorem dX5_readLoan_144 : decode cX5_readLoan 144 = .ok (.iastore, 1) := dk_79 (dk_at dksX5_readLoan_6 0 rfl rfl)
theorem dX5_readLoan_145 : decode cX5_readLoan 145 = .ok (.aload_n 0, 1) := dk_42 (dk_at dksX5_readLoan_6 1 rfl rfl)
theorem dX5_readLoan_146 : decode cX5_readLoan 146 = .ok (.getfield 31, 3) := dk_180 0 31 (dk_at dksX5_readLoan_6 2 rfl rfl)
theorem dX5_readLoan_149 : decode cX5_readLoan 149 = .ok (.iconst 3, 1) := dk_6 (dk_at dksX5_readLoan_6 5 rfl rfl)
theorem dX5_readLoan_150 : decode cX5_readLoan 150 = .ok (.dup2, 1) := dk_92 (dk_at dksX5_readLoan_6 6 rfl rfl)
theorem dX5_readLoan_151 : decode cX5_readLoan 151 = .ok (.iaload, 1) := dk_46 (dk_at dksX5_readLoan_6 7 rfl rfl)
theorem dX5_readLoan_152 : decode cX5_readLoan 152 = .ok (.iconst 1, 1) := dk_4 (dk_at dksX5_readLoan_6 8 rfl rfl)
theorem dX5_readLoan_153 : decode cX5_readLoan 153 = .ok (.iadd, 1) := dk_96 (dk_at dksX5_readLoan_6 9 rfl rfl)
theorem dX5_readLoan_154 : decode cX5_readLoan 154 = .ok (.iastore, 1) := dk_79 (dk_at dksX5_readLoan_6 10 rfl rfl)
theorem dX5_readLoan_155 : decode cX5_readLoan 155 = .ok (.return_, 1) := dk_177 (dk_at dksX5_readLoan_6 11 rfl rfl)
abbrev cX5_village : ByteArray := prog_13_method_53_code
def yX5_village : MethodName := ⟨RX5, "village", "(II)I"⟩
def dkwX5_village_1 : List UInt8 := [182, 0, 241, 167, 0, 5, 16, 254, 172]
abbrev dktX5_village_1 : List UInt8 := dkwX5_village_1 ++ []
def dkwX5_village_0 : List UInt8 := [42, 27, 182, 0, 93, 153, 0, 24, 28, 133, 9, 20, 1, 53, 184, 0, 85, 153, 0, 12, 42, 27, 28]
abbrev dktX5_village_0 : List UInt8 := dkwX5_village_0 ++ dktX5_village_1
theorem dksX5_village_0 : cX5_village.data.toList.drop 0 = dktX5_village_0 := by decide +kernel
theorem dksX5_village_1 : cX5_village.data.toList.drop 23 = dktX5_village_1 := dk_seg dksX5_village_0 23 rfl rfl
theorem dX5_village_0 : decode cX5_village 0 = .ok (.aload_n 0, 1) := dk_42 (dk_at dksX5_village_0 0 rfl rfl)
theorem dX5_village_1 : decode cX5_village 1 = .ok (.iload_n 1, 1) := dk_27 (dk_at dksX5_village_0 1 rfl rfl)
theorem dX5_village_2 : decode cX5_village 2 = .ok (.invokevirtual 93, 3) := dk_182 0 93 (dk_at dksX5_village_0 2 rfl rfl)
theorem dX5_village_5 : decode cX5_village 5 = .ok (.ifCond .eq 24, 3) := dk_153 0 24 (dk_at dksX5_village_0 5 rfl rfl)
theorem dX5_village_8 : decode cX5_village 8 = .ok (.iload_n 2, 1) := dk_28 (dk_at dksX5_village_0 8 rfl rfl)
theorem dX5_village_9 : decode cX5_village 9 = .ok (.i2l, 1) := dk_133 (dk_at dksX5_village_0 9 rfl rfl)
theorem dX5_village_10 : decode cX5_village 10 = .ok (.lconst 0, 1) := dk_9 (dk_at dksX5_village_0 10 rfl rfl)
theorem dX5_village_11 : decode cX5_village 11 = .ok (.ldc2_w 309, 3) := dk_20 1 53 (dk_at dksX5_village_0 11 rfl rfl)
theorem dX5_village_14 : decode cX5_village 14 = .ok (.invokestatic 85, 3) := dk_184 0 85 (dk_at dksX5_village_0 14 rfl rfl)
theorem dX5_village_17 : decode cX5_village 17 = .ok (.ifCond .eq 12, 3) := dk_153 0 12 (dk_at dksX5_village_0 17 rfl rfl)
theorem dX5_village_20 : decode cX5_village 20 = .ok (.aload_n 0, 1) := dk_42 (dk_at dksX5_village_0 20 rfl rfl)
theorem dX5_village_21 : decode cX5_village 21 = .ok (.iload_n 1, 1) := dk_27 (dk_at dksX5_village_0 21 rfl rfl)
theorem dX5_village_22 : decode cX5_village 22 = .ok (.iload_n 2, 1) := dk_28 (dk_at dksX5_village_0 22 rfl rfl)
theorem dX5_village_23 : decode cX5_village 23 = .ok (.invokevirtual 241, 3) := dk_182 0 241 (dk_at dksX5_village_1 0 rfl rfl)
theorem dX5_village_26 : decode cX5_village 26 = .ok (.goto 5, 3) := dk_167 0 5 (dk_at dksX5_village_1 3 rfl rfl)
theorem dX5_village_29 : decode cX5_village 29 = .ok (.bipush (-2), 2) := dk_16 254 (dk_at dksX5_village_1 6 rfl rfl)
theorem dX5_village_31 : decode cX5_village 31 = .ok (.ireturn, 1) := dk_172 (dk_at dksX5_village_1 8 rfl rfl)
abbrev cX5_isVillage : ByteArray := prog_13_method_8_code
def yX5_isVillage : MethodName := ⟨RX5, "isVillage", "(I)Z"⟩
def dkwX5_isVillage_0 : List UInt8 := [27, 133, 9, 42, 182, 0, 89, 4, 100, 133, 184, 0, 85, 172]
abbrev dktX5_isVillage_0 : List UInt8 := dkwX5_isVillage_0 ++ []
theorem dksX5_isVillage_0 : cX5_isVillage.data.toList.drop 0 = dktX5_isVillage_0 := by decide +kernel
theorem dX5_isVillage_0 : decode cX5_isVillage 0 = .ok (.iload_n 1, 1) := dk_27 (dk_at dksX5_isVillage_0 0 rfl rfl)
theorem dX5_isVillage_1 : decode cX5_isVillage 1 = .ok (.i2l, 1) := dk_133 (dk_at dksX5_isVillage_0 1 rfl rfl)
theorem dX5_isVillage_2 : decode cX5_isVillage 2 = .ok (.lconst 0, 1) := dk_9 (dk_at dksX5_isVillage_0 2 rfl rfl)
theorem dX5_isVillage_3 : decode cX5_isVillage 3 = .ok (.aload_n 0, 1) := dk_42 (dk_at dksX5_isVillage_0 3 rfl rfl)
theorem dX5_isVillage_4 : decode cX5_isVillage 4 = .ok (.invokevirtual 89, 3) := dk_182 0 89 (dk_at dksX5_isVillage_0 4 rfl rfl)
theorem dX5_isVillage_7 : decode cX5_isVillage 7 = .ok (.iconst 1, 1) := dk_4 (dk_at dksX5_isVillage_0 7 rfl rfl)
theorem dX5_isVillage_8 : decode cX5_isVillage 8 = .ok (.isub, 1) := dk_100 (dk_at dksX5_isVillage_0 8 rfl rfl)
theorem dX5_isVillage_9 : decode cX5_isVillage 9 = .ok (.i2l, 1) := dk_133 (dk_at dksX5_isVillage_0 9 rfl rfl)
theorem dX5_isVillage_10 : decode cX5_isVillage 10 = .ok (.invokestatic 85, 3) := dk_184 0 85 (dk_at dksX5_isVillage_0 10 rfl rfl)
theorem dX5_isVillage_13 : decode cX5_isVillage 13 = .ok (.ireturn, 1) := dk_172 (dk_at dksX5_isVillage_0 13 rfl rfl)
abbrev cX5_villages : ByteArray := prog_13_method_7_code
def yX5_villages : MethodName := ⟨RX5, "villages", "()I"⟩
def dkwX5_villages_0 : List UInt8 := [42, 180, 0, 9, 3, 46, 172]
abbrev dktX5_villages_0 : List UInt8 := dkwX5_villages_0 ++ []
theorem dksX5_villages_0 : cX5_villages.data.toList.drop 0 = dktX5_villages_0 := by decide +kernel
theorem dX5_villages_0 : decode cX5_villages 0 = .ok (.aload_n 0, 1) := dk_42 (dk_at dksX5_villages_0 0 rfl rfl)
theorem dX5_villages_1 : decode cX5_villages 1 = .ok (.getfield 9, 3) := dk_180 0 9 (dk_at dksX5_villages_0 1 rfl rfl)
theorem dX5_villages_4 : decode cX5_villages 4 = .ok (.iconst 0, 1) := dk_3 (dk_at dksX5_villages_0 4 rfl rfl)
theorem dX5_villages_5 : decode cX5_villages 5 = .ok (.iaload, 1) := dk_46 (dk_at dksX5_villages_0 5 rfl rfl)
theorem dX5_villages_6 : decode cX5_villages 6 = .ok (.ireturn, 1) := dk_172 (dk_at dksX5_villages_0 6 rfl rfl)
abbrev cX5_of : ByteArray := prog_13_method_12_code
def yX5_of : MethodName := ⟨RX5, "of", "(II)I"⟩
def dkwX5_of_0 : List UInt8 := [42, 180, 0, 9, 16, 8, 8, 27, 104, 96, 28, 96, 46, 172]
abbrev dktX5_of_0 : List UInt8 := dkwX5_of_0 ++ []
theorem dksX5_of_0 : cX5_of.data.toList.drop 0 = dktX5_of_0 := by decide +kernel
theorem dX5_of_0 : decode cX5_of 0 = .ok (.aload_n 0, 1) := dk_42 (dk_at dksX5_of_0 0 rfl rfl)
theorem dX5_of_1 : decode cX5_of 1 = .ok (.getfield 9, 3) := dk_180 0 9 (dk_at dksX5_of_0 1 rfl rfl)
theorem dX5_of_4 : decode cX5_of 4 = .ok (.bipush 8, 2) := dk_16 8 (dk_at dksX5_of_0 4 rfl rfl)
theorem dX5_of_6 : decode cX5_of 6 = .ok (.iconst 5, 1) := dk_8 (dk_at dksX5_of_0 6 rfl rfl)
theorem dX5_of_7 : decode cX5_of 7 = .ok (.iload_n 1, 1) := dk_27 (dk_at dksX5_of_0 7 rfl rfl)
theorem dX5_of_8 : decode cX5_of 8 = .ok (.imul, 1) := dk_104 (dk_at dksX5_of_0 8 rfl rfl)
theorem dX5_of_9 : decode cX5_of 9 = .ok (.iadd, 1) := dk_96 (dk_at dksX5_of_0 9 rfl rfl)
theorem dX5_of_10 : decode cX5_of 10 = .ok (.iload_n 2, 1) := dk_28 (dk_at dksX5_of_0 10 rfl rfl)
theorem dX5_of_11 : decode cX5_of 11 = .ok (.iadd, 1) := dk_96 (dk_at dksX5_of_0 11 rfl rfl)
theorem dX5_of_12 : decode cX5_of 12 = .ok (.iaload, 1) := dk_46 (dk_at dksX5_of_0 12 rfl rfl)
theorem dX5_of_13 : decode cX5_of 13 = .ok (.ireturn, 1) := dk_172 (dk_at dksX5_of_0 13 rfl rfl)
abbrev cX5_takes_2 : ByteArray := prog_13_method_54_code
def yX5_takes_2 : MethodName := ⟨RX5, "takes", "(II)I"⟩
def dkwX5_takes_2_1 : List UInt8 := [42, 180, 0, 9, 17, 0, 157, 27, 96, 46, 62, 42, 180, 0, 9, 17, 0, 157, 27, 96, 28, 79, 29, 172]
abbrev dktX5_takes_2_1 : List UInt8 := dkwX5_takes_2_1 ++ []
def dkwX5_takes_2_0 : List UInt8 := [42, 27, 182, 1, 55, 153, 0, 16, 28, 2, 159, 0, 14, 42, 28, 182, 0, 93, 154, 0, 6, 16, 254, 172]
abbrev dktX5_takes_2_0 : List UInt8 := dkwX5_takes_2_0 ++ dktX5_takes_2_1
theorem dksX5_takes_2_0 : cX5_takes_2.data.toList.drop 0 = dktX5_takes_2_0 := by decide +kernel
theorem dksX5_takes_2_1 : cX5_takes_2.data.toList.drop 24 = dktX5_takes_2_1 := dk_seg dksX5_takes_2_0 24 rfl rfl
theorem dX5_takes_2_0 : decode cX5_takes_2 0 = .ok (.aload_n 0, 1) := dk_42 (dk_at dksX5_takes_2_0 0 rfl rfl)
theorem dX5_takes_2_1 : decode cX5_takes_2 1 = .ok (.iload_n 1, 1) := dk_27 (dk_at dksX5_takes_2_0 1 rfl rfl)
theorem dX5_takes_2_2 : decode cX5_takes_2 2 = .ok (.invokevirtual 311, 3) := dk_182 1 55 (dk_at dksX5_takes_2_0 2 rfl rfl)
theorem dX5_takes_2_5 : decode cX5_takes_2 5 = .ok (.ifCond .eq 16, 3) := dk_153 0 16 (dk_at dksX5_takes_2_0 5 rfl rfl)
theorem dX5_takes_2_8 : decode cX5_takes_2 8 = .ok (.iload_n 2, 1) := dk_28 (dk_at dksX5_takes_2_0 8 rfl rfl)
theorem dX5_takes_2_9 : decode cX5_takes_2 9 = .ok (.iconst (-1), 1) := dk_2 (dk_at dksX5_takes_2_0 9 rfl rfl)
theorem dX5_takes_2_10 : decode cX5_takes_2 10 = .ok (.if_icmp .eq 14, 3) := dk_159 0 14 (dk_at dksX5_takes_2_0 10 rfl rfl)
theorem dX5_takes_2_13 : decode cX5_takes_2 13 = .ok (.aload_n 0, 1) := dk_42 (dk_at dksX5_takes_2_0 13 rfl rfl)
theorem dX5_takes_2_14 : decode cX5_takes_2 14 = .ok (.iload_n 2, 1) := dk_28 (dk_at dksX5_takes_2_0 14 rfl rfl)
theorem dX5_takes_2_15 : decode cX5_takes_2 15 = .ok (.invokevirtual 93, 3) := dk_182 0 93 (dk_at dksX5_takes_2_0 15 rfl rfl)
theorem dX5_takes_2_18 : decode cX5_takes_2 18 = .ok (.ifCond .ne 6, 3) := dk_154 0 6 (dk_at dksX5_takes_2_0 18 rfl rfl)
theorem dX5_takes_2_21 : decode cX5_takes_2 21 = .ok (.bipush (-2), 2) := dk_16 254 (dk_at dksX5_takes_2_0 21 rfl rfl)
theorem dX5_takes_2_23 : decode cX5_takes_2 23 = .ok (.ireturn, 1) := dk_172 (dk_at dksX5_takes_2_0 23 rfl rfl)
theorem dX5_takes_2_24 : decode cX5_takes_2 24 = .ok (.aload_n 0, 1) := dk_42 (dk_at dksX5_takes_2_1 0 rfl rfl)
theorem dX5_takes_2_25 : decode cX5_takes_2 25 = .ok (.getfield 9, 3) := dk_180 0 9 (dk_at dksX5_takes_2_1 1 rfl rfl)
theorem dX5_takes_2_28 : decode cX5_takes_2 28 = .ok (.sipush 157, 3) := dk_17 0 157 (dk_at dksX5_takes_2_1 4 rfl rfl)
theorem dX5_takes_2_31 : decode cX5_takes_2 31 = .ok (.iload_n 1, 1) := dk_27 (dk_at dksX5_takes_2_1 7 rfl rfl)
theorem dX5_takes_2_32 : decode cX5_takes_2 32 = .ok (.iadd, 1) := dk_96 (dk_at dksX5_takes_2_1 8 rfl rfl)
theorem dX5_takes_2_33 : decode cX5_takes_2 33 = .ok (.iaload, 1) := dk_46 (dk_at dksX5_takes_2_1 9 rfl rfl)
theorem dX5_takes_2_34 : decode cX5_takes_2 34 = .ok (.istore_n 3, 1) := dk_62 (dk_at dksX5_takes_2_1 10 rfl rfl)
theorem dX5_takes_2_35 : decode cX5_takes_2 35 = .ok (.aload_n 0, 1) := dk_42 (dk_at dksX5_takes_2_1 11 rfl rfl)
theorem dX5_takes_2_36 : decode cX5_takes_2 36 = .ok (.getfield 9, 3) := dk_180 0 9 (dk_at dksX5_takes_2_1 12 rfl rfl)
theorem dX5_takes_2_39 : decode cX5_takes_2 39 = .ok (.sipush 157, 3) := dk_17 0 157 (dk_at dksX5_takes_2_1 15 rfl rfl)
theorem dX5_takes_2_42 : decode cX5_takes_2 42 = .ok (.iload_n 1, 1) := dk_27 (dk_at dksX5_takes_2_1 18 rfl rfl)
theorem dX5_takes_2_43 : decode cX5_takes_2 43 = .ok (.iadd, 1) := dk_96 (dk_at dksX5_takes_2_1 19 rfl rfl)
theorem dX5_takes_2_44 : decode cX5_takes_2 44 = .ok (.iload_n 2, 1) := dk_28 (dk_at dksX5_takes_2_1 20 rfl rfl)
theorem dX5_takes_2_45 : decode cX5_takes_2 45 = .ok (.iastore, 1) := dk_79 (dk_at dksX5_takes_2_1 21 rfl rfl)
theorem dX5_takes_2_46 : decode cX5_takes_2 46 = .ok (.iload_n 3, 1) := dk_29 (dk_at dksX5_takes_2_1 22 rfl rfl)
theorem dX5_takes_2_47 : decode cX5_takes_2 47 = .ok (.ireturn, 1) := dk_172 (dk_at dksX5_takes_2_1 23 rfl rfl)
abbrev cX5_isFlood : ByteArray := prog_13_method_10_code
def yX5_isFlood : MethodName := ⟨RX5, "isFlood", "(I)Z"⟩
def dkwX5_isFlood_0 : List UInt8 := [27, 133, 9, 42, 180, 0, 9, 5, 46, 4, 100, 133, 184, 0, 85, 172]
abbrev dktX5_isFlood_0 : List UInt8 := dkwX5_isFlood_0 ++ []
theorem dksX5_isFlood_0 : cX5_isFlood.data.toList.drop 0 = dktX5_isFlood_0 := by decide +kernel
theorem dX5_isFlood_0 : decode cX5_isFlood 0 = .ok (.iload_n 1, 1) := dk_27 (dk_at dksX5_isFlood_0 0 rfl rfl)
theorem dX5_isFlood_1 : decode cX5_isFlood 1 = .ok (.i2l, 1) := dk_133 (dk_at dksX5_isFlood_0 1 rfl rfl)
theorem dX5_isFlood_2 : decode cX5_isFlood 2 = .ok (.lconst 0, 1) := dk_9 (dk_at dksX5_isFlood_0 2 rfl rfl)
theorem dX5_isFlood_3 : decode cX5_isFlood 3 = .ok (.aload_n 0, 1) := dk_42 (dk_at dksX5_isFlood_0 3 rfl rfl)
theorem dX5_isFlood_4 : decode cX5_isFlood 4 = .ok (.getfield 9, 3) := dk_180 0 9 (dk_at dksX5_isFlood_0 4 rfl rfl)
theorem dX5_isFlood_7 : decode cX5_isFlood 7 = .ok (.iconst 2, 1) := dk_5 (dk_at dksX5_isFlood_0 7 rfl rfl)
theorem dX5_isFlood_8 : decode cX5_isFlood 8 = .ok (.iaload, 1) := dk_46 (dk_at dksX5_isFlood_0 8 rfl rfl)
theorem dX5_isFlood_9 : decode cX5_isFlood 9 = .ok (.iconst 1, 1) := dk_4 (dk_at dksX5_isFlood_0 9 rfl rfl)
theorem dX5_isFlood_10 : decode cX5_isFlood 10 = .ok (.isub, 1) := dk_100 (dk_at dksX5_isFlood_0 10 rfl rfl)
theorem dX5_isFlood_11 : decode cX5_isFlood 11 = .ok (.i2l, 1) := dk_133 (dk_at dksX5_isFlood_0 11 rfl rfl)
theorem dX5_isFlood_12 : decode cX5_isFlood 12 = .ok (.invokestatic 85, 3) := dk_184 0 85 (dk_at dksX5_isFlood_0 12 rfl rfl)
theorem dX5_isFlood_15 : decode cX5_isFlood 15 = .ok (.ireturn, 1) := dk_172 (dk_at dksX5_isFlood_0 15 rfl rfl)
abbrev cX5_water : ByteArray := prog_13_method_55_code
def yX5_water : MethodName := ⟨RX5, "water", "(II)I"⟩
def dkwX5_water_1 : List UInt8 := [180, 0, 37, 16, 30, 27, 104, 28, 96, 46, 172]
abbrev dktX5_water_1 : List UInt8 := dkwX5_water_1 ++ []
def dkwX5_water_0 : List UInt8 := [42, 27, 182, 0, 93, 153, 0, 11, 42, 28, 182, 1, 58, 154, 0, 6, 16, 254, 172, 42, 182, 1, 61, 42]
abbrev dktX5_water_0 : List UInt8 := dkwX5_water_0 ++ dktX5_water_1
theorem dksX5_water_0 : cX5_water.data.toList.drop 0 = dktX5_water_0 := by decide +kernel
theorem dksX5_water_1 : cX5_water.data.toList.drop 24 = dktX5_water_1 := dk_seg dksX5_water_0 24 rfl rfl
theorem dX5_water_0 : decode cX5_water 0 = .ok (.aload_n 0, 1) := dk_42 (dk_at dksX5_water_0 0 rfl rfl)
theorem dX5_water_1 : decode cX5_water 1 = .ok (.iload_n 1, 1) := dk_27 (dk_at dksX5_water_0 1 rfl rfl)
theorem dX5_water_2 : decode cX5_water 2 = .ok (.invokevirtual 93, 3) := dk_182 0 93 (dk_at dksX5_water_0 2 rfl rfl)
theorem dX5_water_5 : decode cX5_water 5 = .ok (.ifCond .eq 11, 3) := dk_153 0 11 (dk_at dksX5_water_0 5 rfl rfl)
theorem dX5_water_8 : decode cX5_water 8 = .ok (.aload_n 0, 1) := dk_42 (dk_at dksX5_water_0 8 rfl rfl)
theorem dX5_water_9 : decode cX5_water 9 = .ok (.iload_n 2, 1) := dk_28 (dk_at dksX5_water_0 9 rfl rfl)
theorem dX5_water_10 : decode cX5_water 10 = .ok (.invokevirtual 314, 3) := dk_182 1 58 (dk_at dksX5_water_0 10 rfl rfl)
theorem dX5_water_13 : decode cX5_water 13 = .ok (.ifCond .ne 6, 3) := dk_154 0 6 (dk_at dksX5_water_0 13 rfl rfl)
theorem dX5_water_16 : decode cX5_water 16 = .ok (.bipush (-2), 2) := dk_16 254 (dk_at dksX5_water_0 16 rfl rfl)
theorem dX5_water_18 : decode cX5_water 18 = .ok (.ireturn, 1) := dk_172 (dk_at dksX5_water_0 18 rfl rfl)
theorem dX5_water_19 : decode cX5_water 19 = .ok (.aload_n 0, 1) := dk_42 (dk_at dksX5_water_0 19 rfl rfl)
theorem dX5_water_20 : decode cX5_water 20 = .ok (.invokevirtual 317, 3) := dk_182 1 61 (dk_at dksX5_water_0 20 rfl rfl)
theorem dX5_water_23 : decode cX5_water 23 = .ok (.aload_n 0, 1) := dk_42 (dk_at dksX5_water_0 23 rfl rfl)
theorem dX5_water_24 : decode cX5_water 24 = .ok (.getfield 37, 3) := dk_180 0 37 (dk_at dksX5_water_1 0 rfl rfl)
theorem dX5_water_27 : decode cX5_water 27 = .ok (.bipush 30, 2) := dk_16 30 (dk_at dksX5_water_1 3 rfl rfl)
theorem dX5_water_29 : decode cX5_water 29 = .ok (.iload_n 1, 1) := dk_27 (dk_at dksX5_water_1 5 rfl rfl)
theorem dX5_water_30 : decode cX5_water 30 = .ok (.imul, 1) := dk_104 (dk_at dksX5_water_1 6 rfl rfl)
theorem dX5_water_31 : decode cX5_water 31 = .ok (.iload_n 2, 1) := dk_28 (dk_at dksX5_water_1 7 rfl rfl)
theorem dX5_water_32 : decode cX5_water 32 = .ok (.iadd, 1) := dk_96 (dk_at dksX5_water_1 8 rfl rfl)
theorem dX5_water_33 : decode cX5_water 33 = .ok (.iaload, 1) := dk_46 (dk_at dksX5_water_1 9 rfl rfl)
theorem dX5_water_34 : decode cX5_water 34 = .ok (.ireturn, 1) := dk_172 (dk_at dksX5_water_1 10 rfl rfl)
abbrev cX5_isWeek : ByteArray := prog_13_method_9_code
def yX5_isWeek : MethodName := ⟨RX5, "isWeek", "(I)Z"⟩
def dkwX5_isWeek_0 : List UInt8 := [27, 133, 9, 42, 180, 0, 9, 8, 46, 4, 100, 133, 184, 0, 85, 172]
abbrev dktX5_isWeek_0 : List UInt8 := dkwX5_isWeek_0 ++ []
theorem dksX5_isWeek_0 : cX5_isWeek.data.toList.drop 0 = dktX5_isWeek_0 := by decide +kernel
theorem dX5_isWeek_0 : decode cX5_isWeek 0 = .ok (.iload_n 1, 1) := dk_27 (dk_at dksX5_isWeek_0 0 rfl rfl)
theorem dX5_isWeek_1 : decode cX5_isWeek 1 = .ok (.i2l, 1) := dk_133 (dk_at dksX5_isWeek_0 1 rfl rfl)
theorem dX5_isWeek_2 : decode cX5_isWeek 2 = .ok (.lconst 0, 1) := dk_9 (dk_at dksX5_isWeek_0 2 rfl rfl)
theorem dX5_isWeek_3 : decode cX5_isWeek 3 = .ok (.aload_n 0, 1) := dk_42 (dk_at dksX5_isWeek_0 3 rfl rfl)
theorem dX5_isWeek_4 : decode cX5_isWeek 4 = .ok (.getfield 9, 3) := dk_180 0 9 (dk_at dksX5_isWeek_0 4 rfl rfl)
theorem dX5_isWeek_7 : decode cX5_isWeek 7 = .ok (.iconst 5, 1) := dk_8 (dk_at dksX5_isWeek_0 7 rfl rfl)
theorem dX5_isWeek_8 : decode cX5_isWeek 8 = .ok (.iaload, 1) := dk_46 (dk_at dksX5_isWeek_0 8 rfl rfl)
theorem dX5_isWeek_9 : decode cX5_isWeek 9 = .ok (.iconst 1, 1) := dk_4 (dk_at dksX5_isWeek_0 9 rfl rfl)
theorem dX5_isWeek_10 : decode cX5_isWeek 10 = .ok (.isub, 1) := dk_100 (dk_at dksX5_isWeek_0 10 rfl rfl)
theorem dX5_isWeek_11 : decode cX5_isWeek 11 = .ok (.i2l, 1) := dk_133 (dk_at dksX5_isWeek_0 11 rfl rfl)
theorem dX5_isWeek_12 : decode cX5_isWeek 12 = .ok (.invokestatic 85, 3) := dk_184 0 85 (dk_at dksX5_isWeek_0 12 rfl rfl)
theorem dX5_isWeek_15 : decode cX5_isWeek 15 = .ok (.ireturn, 1) := dk_172 (dk_at dksX5_isWeek_0 15 rfl rfl)
abbrev cX5_year : ByteArray := prog_13_method_46_code
def yX5_year : MethodName := ⟨RX5, "year", "()V"⟩
def dkwX5_year_0 : List UInt8 := [42, 16, 7, 182, 1, 38, 177]
abbrev dktX5_year_0 : List UInt8 := dkwX5_year_0 ++ []
theorem dksX5_year_0 : cX5_year.data.toList.drop 0 = dktX5_year_0 := by decide +kernel
theorem dX5_year_0 : decode cX5_year 0 = .ok (.aload_n 0, 1) := dk_42 (dk_at dksX5_year_0 0 rfl rfl)
theorem dX5_year_1 : decode cX5_year 1 = .ok (.bipush 7, 2) := dk_16 7 (dk_at dksX5_year_0 1 rfl rfl)
theorem dX5_year_3 : decode cX5_year 3 = .ok (.invokevirtual 294, 3) := dk_182 1 38 (dk_at dksX5_year_0 3 rfl rfl)
theorem dX5_year_6 : decode cX5_year 6 = .ok (.return_, 1) := dk_177 (dk_at dksX5_year_0 6 rfl rfl)
abbrev cX5_runs : ByteArray := prog_13_method_45_code
def yX5_runs : MethodName := ⟨RX5, "runs", "(I)V"⟩
def dkwX5_runs_8 : List UInt8 := [42, 180, 0, 34, 29, 46, 79, 132, 3, 1, 167, 255, 228, 132, 2, 1, 167, 255, 185, 177]
abbrev dktX5_runs_8 : List UInt8 := dkwX5_runs_8 ++ []
def dkwX5_runs_7 : List UInt8 := [28, 182, 1, 35, 3, 62, 29, 42, 182, 0, 89, 162, 0, 26, 42, 180, 0, 37, 16, 30, 29, 104, 28, 96]
abbrev dktX5_runs_7 : List UInt8 := dkwX5_runs_7 ++ dktX5_runs_8
def dkwX5_runs_6 : List UInt8 := [162, 0, 67, 42, 28, 182, 1, 23, 42, 28, 182, 1, 26, 42, 28, 182, 1, 29, 42, 28, 182, 1, 32, 42]
abbrev dktX5_runs_6 : List UInt8 := dkwX5_runs_6 ++ dktX5_runs_7
def dkwX5_runs_5 : List UInt8 := [181, 1, 20, 42, 3, 181, 1, 14, 42, 2, 181, 0, 246, 3, 61, 28, 42, 180, 0, 9, 8, 46]
abbrev dktX5_runs_5 : List UInt8 := dkwX5_runs_5 ++ dktX5_runs_6
def dkwX5_runs_4 : List UInt8 := [160, 0, 7, 2, 167, 0, 4, 3, 79, 132, 2, 1, 167, 255, 229, 42, 3, 181, 1, 17, 42, 3]
abbrev dktX5_runs_4 : List UInt8 := dkwX5_runs_4 ++ dktX5_runs_5
def dkwX5_runs_3 : List UInt8 := [132, 2, 1, 167, 255, 240, 3, 61, 28, 16, 24, 162, 0, 27, 42, 180, 0, 46, 28, 28, 6, 112, 5]
abbrev dktX5_runs_3 : List UInt8 := dkwX5_runs_3 ++ dktX5_runs_4
def dkwX5_runs_2 : List UInt8 := [79, 132, 2, 1, 167, 255, 240, 3, 61, 28, 16, 24, 162, 0, 16, 42, 180, 0, 43, 28, 3, 79]
abbrev dktX5_runs_2 : List UInt8 := dkwX5_runs_2 ++ dktX5_runs_3
def dkwX5_runs_1 : List UInt8 := [182, 0, 241, 79, 132, 2, 1, 167, 255, 233, 3, 61, 28, 16, 9, 162, 0, 16, 42, 180, 0, 40, 28, 3]
abbrev dktX5_runs_1 : List UInt8 := dkwX5_runs_1 ++ dktX5_runs_2
def dkwX5_runs_0 : List UInt8 := [42, 27, 181, 0, 243, 3, 61, 28, 42, 182, 0, 89, 162, 0, 21, 42, 180, 0, 34, 28, 42, 28, 4]
abbrev dktX5_runs_0 : List UInt8 := dkwX5_runs_0 ++ dktX5_runs_1
theorem dksX5_runs_0 : cX5_runs.data.toList.drop 0 = dktX5_runs_0 := by decide +kernel
theorem dksX5_runs_1 : cX5_runs.data.toList.drop 23 = dktX5_runs_1 := dk_seg dksX5_runs_0 23 rfl rfl
theorem dksX5_runs_2 : cX5_runs.data.toList.drop 47 = dktX5_runs_2 := dk_seg dksX5_runs_1 24 rfl rfl
theorem dksX5_runs_3 : cX5_runs.data.toList.drop 69 = dktX5_runs_3 := dk_seg dksX5_runs_2 22 rfl rfl
theorem dksX5_runs_4 : cX5_runs.data.toList.drop 92 = dktX5_runs_4 := dk_seg dksX5_runs_3 23 rfl rfl
theorem dksX5_runs_5 : cX5_runs.data.toList.drop 114 = dktX5_runs_5 := dk_seg dksX5_runs_4 22 rfl rfl
theorem dksX5_runs_6 : cX5_runs.data.toList.drop 136 = dktX5_runs_6 := dk_seg dksX5_runs_5 22 rfl rfl
theorem dksX5_runs_7 : cX5_runs.data.toList.drop 160 = dktX5_runs_7 := dk_seg dksX5_runs_6 24 rfl rfl
theorem dksX5_runs_8 : cX5_runs.data.toList.drop 184 = dktX5_runs_8 := dk_seg dksX5_runs_7 24 rfl rfl
theorem dX5_runs_0 : decode cX5_runs 0 = .ok (.aload_n 0, 1) := dk_42 (dk_at dksX5_runs_0 0 rfl rfl)
theorem dX5_runs_1 : decode cX5_runs 1 = .ok (.iload_n 1, 1) := dk_27 (dk_at dksX5_runs_0 1 rfl rfl)
theorem dX5_runs_2 : decode cX5_runs 2 = .ok (.putfield 243, 3) := dk_181 0 243 (dk_at dksX5_runs_0 2 rfl rfl)
theorem dX5_runs_5 : decode cX5_runs 5 = .ok (.iconst 0, 1) := dk_3 (dk_at dksX5_runs_0 5 rfl rfl)
theorem dX5_runs_6 : decode cX5_runs 6 = .ok (.istore_n 2, 1) := dk_61 (dk_at dksX5_runs_0 6 rfl rfl)
theorem dX5_runs_7 : decode cX5_runs 7 = .ok (.iload_n 2, 1) := dk_28 (dk_at dksX5_runs_0 7 rfl rfl)
theorem dX5_runs_8 : decode cX5_runs 8 = .ok (.aload_n 0, 1) := dk_42 (dk_at dksX5_runs_0 8 rfl rfl)
theorem dX5_runs_9 : decode cX5_runs 9 = .ok (.invokevirtual 89, 3) := dk_182 0 89 (dk_at dksX5_runs_0 9 rfl rfl)
theorem dX5_runs_12 : decode cX5_runs 12 = .ok (.if_icmp .ge 21, 3) := dk_162 0 21 (dk_at dksX5_runs_0 12 rfl rfl)
theorem dX5_runs_15 : decode cX5_runs 15 = .ok (.aload_n 0, 1) := dk_42 (dk_at dksX5_runs_0 15 rfl rfl)
theorem dX5_runs_16 : decode cX5_runs 16 = .ok (.getfield 34, 3) := dk_180 0 34 (dk_at dksX5_runs_0 16 rfl rfl)
theorem dX5_runs_19 : decode cX5_runs 19 = .ok (.iload_n 2, 1) := dk_28 (dk_at dksX5_runs_0 19 rfl rfl)
theorem dX5_runs_20 : decode cX5_runs 20 = .ok (.aload_n 0, 1) := dk_42 (dk_at dksX5_runs_0 20 rfl rfl)
theorem dX5_runs_21 : decode cX5_runs 21 = .ok (.iload_n 2, 1) := dk_28 (dk_at dksX5_runs_0 21 rfl rfl)
theorem dX5_runs_22 : decode cX5_runs 22 = .ok (.iconst 1, 1) := dk_4 (dk_at dksX5_runs_0 22 rfl rfl)
theorem dX5_runs_23 : decode cX5_runs 23 = .ok (.invokevirtual 241, 3) := dk_182 0 241 (dk_at dksX5_runs_1 0 rfl rfl)
theorem dX5_runs_26 : decode cX5_runs 26 = .ok (.iastore, 1) := dk_79 (dk_at dksX5_runs_1 3 rfl rfl)
theorem dX5_runs_27 : decode cX5_runs 27 = .ok (.iinc 2 1, 3) := dk_132 2 1 (dk_at dksX5_runs_1 4 rfl rfl)
theorem dX5_runs_30 : decode cX5_runs 30 = .ok (.goto (-23), 3) := dk_167 255 233 (dk_at dksX5_runs_1 7 rfl rfl)
theorem dX5_runs_33 : decode cX5_runs 33 = .ok (.iconst 0, 1) := dk_3 (dk_at dksX5_runs_1 10 rfl rfl)
theorem dX5_runs_34 : decode cX5_runs 34 = .ok (.istore_n 2, 1) := dk_61 (dk_at dksX5_runs_1 11 rfl rfl)
theorem dX5_runs_35 : decode cX5_runs 35 = .ok (.iload_n 2, 1) := dk_28 (dk_at dksX5_runs_1 12 rfl rfl)
theorem dX5_runs_36 : decode cX5_runs 36 = .ok (.bipush 9, 2) := dk_16 9 (dk_at dksX5_runs_1 13 rfl rfl)
theorem dX5_runs_38 : decode cX5_runs 38 = .ok (.if_icmp .ge 16, 3) := dk_162 0 16 (dk_at dksX5_runs_1 15 rfl rfl)
theorem dX5_runs_41 : decode cX5_runs 41 = .ok (.aload_n 0, 1) := dk_42 (dk_at dksX5_runs_1 18 rfl rfl)
theorem dX5_runs_42 : decode cX5_runs 42 = .ok (.getfield 40, 3) := dk_180 0 40 (dk_at dksX5_runs_1 19 rfl rfl)
theorem dX5_runs_45 : decode cX5_runs 45 = .ok (.iload_n 2, 1) := dk_28 (dk_at dksX5_runs_1 22 rfl rfl)
theorem dX5_runs_46 : decode cX5_runs 46 = .ok (.iconst 0, 1) := dk_3 (dk_at dksX5_runs_1 23 rfl rfl)
theorem dX5_runs_47 : decode cX5_runs 47 = .ok (.iastore, 1) := dk_79 (dk_at dksX5_runs_2 0 rfl rfl)
theorem dX5_runs_48 : decode cX5_runs 48 = .ok (.iinc 2 1, 3) := dk_132 2 1 (dk_at dksX5_runs_2 1 rfl rfl)
theorem dX5_runs_51 : decode cX5_runs 51 = .ok (.goto (-16), 3) := dk_167 255 240 (dk_at dksX5_runs_2 4 rfl rfl)
theorem dX5_runs_54 : decode cX5_runs 54 = .ok (.iconst 0, 1) := dk_3 (dk_at dksX5_runs_2 7 rfl rfl)
theorem dX5_runs_55 : decode cX5_runs 55 = .ok (.istore_n 2, 1) := dk_61 (dk_at dksX5_runs_2 8 rfl rfl)
theorem dX5_runs_56 : decode cX5_runs 56 = .ok (.iload_n 2, 1) := dk_28 (dk_at dksX5_runs_2 9 rfl rfl)
theorem dX5_runs_57 : decode cX5_runs 57 = .ok (.bipush 24, 2) := dk_16 24 (dk_at dksX5_runs_2 10 rfl rfl)
theorem dX5_runs_59 : decode cX5_runs 59 = .ok (.if_icmp .ge 16, 3) := dk_162 0 16 (dk_at dksX5_runs_2 12 rfl rfl)
theorem dX5_runs_62 : decode cX5_runs 62 = .ok (.aload_n 0, 1) := dk_42 (dk_at dksX5_runs_2 15 rfl rfl)
theorem dX5_runs_63 : decode cX5_runs 63 = .ok (.getfield 43, 3) := dk_180 0 43 (dk_at dksX5_runs_2 16 rfl rfl)
theorem dX5_runs_66 : decode cX5_runs 66 = .ok (.iload_n 2, 1) := dk_28 (dk_at dksX5_runs_2 19 rfl rfl)
theorem dX5_runs_67 : decode cX5_runs 67 = .ok (.iconst 0, 1) := dk_3 (dk_at dksX5_runs_2 20 rfl rfl)
theorem dX5_runs_68 : decode cX5_runs 68 = .ok (.iastore, 1) := dk_79 (dk_at dksX5_runs_2 21 rfl rfl)
theorem dX5_runs_69 : decode cX5_runs 69 = .ok (.iinc 2 1, 3) := dk_132 2 1 (dk_at dksX5_runs_3 0 rfl rfl)
theorem dX5_runs_72 : decode cX5_runs 72 = .ok (.goto (-16), 3) := dk_167 255 240 (dk_at dksX5_runs_3 3 rfl rfl)
theorem dX5_runs_75 : decode cX5_runs 75 = .ok (.iconst 0, 1) := dk_3 (dk_at dksX5_runs_3 6 rfl rfl)
theorem dX5_runs_76 : decode cX5_runs 76 = .ok (.istore_n 2, 1) := dk_61 (dk_at dksX5_runs_3 7 rfl rfl)
theorem dX5_runs_77 : decode cX5_runs 77 = .ok (.iload_n 2, 1) := dk_28 (dk_at dksX5_runs_3 8 rfl rfl)
theorem dX5_runs_78 : decode cX5_runs 78 = .ok (.bipush 24, 2) := dk_16 24 (dk_at dksX5_runs_3 9 rfl rfl)
theorem dX5_runs_80 : decode cX5_runs 80 = .ok (.if_icmp .ge 27, 3) := dk_162 0 27 (dk_at dksX5_runs_3 11 rfl rfl)
theorem dX5_runs_83 : decode cX5_runs 83 = .ok (.aload_n 0, 1) := dk_42 (dk_at dksX5_runs_3 14 rfl rfl)
theorem dX5_runs_84 : decode cX5_runs 84 = .ok (.getfield 46, 3) := dk_180 0 46 (dk_at dksX5_runs_3 15 rfl rfl)
theorem dX5_runs_87 : decode cX5_runs 87 = .ok (.iload_n 2, 1) := dk_28 (dk_at dksX5_runs_3 18 rfl rfl)
theorem dX5_runs_88 : decode cX5_runs 88 = .ok (.iload_n 2, 1) := dk_28 (dk_at dksX5_runs_3 19 rfl rfl)
theorem dX5_runs_89 : decode cX5_runs 89 = .ok (.iconst 3, 1) := dk_6 (dk_at dksX5_runs_3 20 rfl rfl)
theorem dX5_runs_90 : decode cX5_runs 90 = .ok (.irem, 1) := dk_112 (dk_at dksX5_runs_3 21 rfl rfl)
theorem dX5_runs_91 : decode cX5_runs 91 = .ok (.iconst 2, 1) := dk_5 (dk_at dksX5_runs_3 22 rfl rfl)
theorem dX5_runs_92 : decode cX5_runs 92 = .ok (.if_icmp .ne 7, 3) := dk_160 0 7 (dk_at dksX5_runs_4 0 rfl rfl)
theorem dX5_runs_95 : decode cX5_runs 95 = .ok (.iconst (-1), 1) := dk_2 (dk_at dksX5_runs_4 3 rfl rfl)
theorem dX5_runs_96 : decode cX5_runs 96 = .ok (.goto 4, 3) := dk_167 0 4 (dk_at dksX5_runs_4 4 rfl rfl)
theorem dX5_runs_99 : decode cX5_runs 99 = .ok (.iconst 0, 1) := dk_3 (dk_at dksX5_runs_4 7 rfl rfl)
theorem dX5_runs_100 : decode cX5_runs 100 = .ok (.iastore, 1) := dk_79 (dk_at dksX5_runs_4 8 rfl rfl)
theorem dX5_runs_101 : decode cX5_runs 101 = .ok (.iinc 2 1, 3) := dk_132 2 1 (dk_at dksX5_runs_4 9 rfl rfl)
theorem dX5_runs_104 : decode cX5_runs 104 = .ok (.goto (-27), 3) := dk_167 255 229 (dk_at dksX5_runs_4 12 rfl rfl)
theorem dX5_runs_107 : decode cX5_runs 107 = .ok (.aload_n 0, 1) := dk_42 (dk_at dksX5_runs_4 15 rfl rfl)
theorem dX5_runs_108 : decode cX5_runs 108 = .ok (.iconst 0, 1) := dk_3 (dk_at dksX5_runs_4 16 rfl rfl)
theorem dX5_runs_109 : decode cX5_runs 109 = .ok (.putfield 273, 3) := dk_181 1 17 (dk_at dksX5_runs_4 17 rfl rfl)
theorem dX5_runs_112 : decode cX5_runs 112 = .ok (.aload_n 0, 1) := dk_42 (dk_at dksX5_runs_4 20 rfl rfl)
theorem dX5_runs_113 : decode cX5_runs 113 = .ok (.iconst 0, 1) := dk_3 (dk_at dksX5_runs_4 21 rfl rfl)
theorem dX5_runs_114 : decode cX5_runs 114 = .ok (.putfield 276, 3) := dk_181 1 20 (dk_at dksX5_runs_5 0 rfl rfl)
theorem dX5_runs_117 : decode cX5_runs 117 = .ok (.aload_n 0, 1) := dk_42 (dk_at dksX5_runs_5 3 rfl rfl)
theorem dX5_runs_118 : decode cX5_runs 118 = .ok (.iconst 0, 1) := dk_3 (dk_at dksX5_runs_5 4 rfl rfl)
theorem dX5_runs_119 : decode cX5_runs 119 = .ok (.putfield 270, 3) := dk_181 1 14 (dk_at dksX5_runs_5 5 rfl rfl)
theorem dX5_runs_122 : decode cX5_runs 122 = .ok (.aload_n 0, 1) := dk_42 (dk_at dksX5_runs_5 8 rfl rfl)
theorem dX5_runs_123 : decode cX5_runs 123 = .ok (.iconst (-1), 1) := dk_2 (dk_at dksX5_runs_5 9 rfl rfl)
theorem dX5_runs_124 : decode cX5_runs 124 = .ok (.putfield 246, 3) := dk_181 0 246 (dk_at dksX5_runs_5 10 rfl rfl)
theorem dX5_runs_127 : decode cX5_runs 127 = .ok (.iconst 0, 1) := dk_3 (dk_at dksX5_runs_5 13 rfl rfl)
theorem dX5_runs_128 : decode cX5_runs 128 = .ok (.istore_n 2, 1) := dk_61 (dk_at dksX5_runs_5 14 rfl rfl)
theorem dX5_runs_129 : decode cX5_runs 129 = .ok (.iload_n 2, 1) := dk_28 (dk_at dksX5_runs_5 15 rfl rfl)
theorem dX5_runs_130 : decode cX5_runs 130 = .ok (.aload_n 0, 1) := dk_42 (dk_at dksX5_runs_5 16 rfl rfl)
theorem dX5_runs_131 : decode cX5_runs 131 = .ok (.getfield 9, 3) := dk_180 0 9 (dk_at dksX5_runs_5 17 rfl rfl)
theorem dX5_runs_134 : decode cX5_runs 134 = .ok (.iconst 5, 1) := dk_8 (dk_at dksX5_runs_5 20 rfl rfl)
theorem dX5_runs_135 : decode cX5_runs 135 = .ok (.iaload, 1) := dk_46 (dk_at dksX5_runs_5 21 rfl rfl)
theorem dX5_runs_136 : decode cX5_runs 136 = .ok (.if_icmp .ge 67, 3) := dk_162 0 67 (dk_at dksX5_runs_6 0 rfl rfl)
theorem dX5_runs_139 : decode cX5_runs 139 = .ok (.aload_n 0, 1) := dk_42 (dk_at dksX5_runs_6 3 rfl rfl)
theorem dX5_runs_140 : decode cX5_runs 140 = .ok (.iload_n 2, 1) := dk_28 (dk_at dksX5_runs_6 4 rfl rfl)
theorem dX5_runs_141 : decode cX5_runs 141 = .ok (.invokevirtual 279, 3) := dk_182 1 23 (dk_at dksX5_runs_6 5 rfl rfl)
theorem dX5_runs_144 : decode cX5_runs 144 = .ok (.aload_n 0, 1) := dk_42 (dk_at dksX5_runs_6 8 rfl rfl)
theorem dX5_runs_145 : decode cX5_runs 145 = .ok (.iload_n 2, 1) := dk_28 (dk_at dksX5_runs_6 9 rfl rfl)
theorem dX5_runs_146 : decode cX5_runs 146 = .ok (.invokevirtual 282, 3) := dk_182 1 26 (dk_at dksX5_runs_6 10 rfl rfl)
theorem dX5_runs_149 : decode cX5_runs 149 = .ok (.aload_n 0, 1) := dk_42 (dk_at dksX5_runs_6 13 rfl rfl)
theorem dX5_runs_150 : decode cX5_runs 150 = .ok (.iload_n 2, 1) := dk_28 (dk_at dksX5_runs_6 14 rfl rfl)
theorem dX5_runs_151 : decode cX5_runs 151 = .ok (.invokevirtual 285, 3) := dk_182 1 29 (dk_at dksX5_runs_6 15 rfl rfl)
theorem dX5_runs_154 : decode cX5_runs 154 = .ok (.aload_n 0, 1) := dk_42 (dk_at dksX5_runs_6 18 rfl rfl)
theorem dX5_runs_155 : decode cX5_runs 155 = .ok (.iload_n 2, 1) := dk_28 (dk_at dksX5_runs_6 19 rfl rfl)
theorem dX5_runs_156 : decode cX5_runs 156 = .ok (.invokevirtual 288, 3) := dk_182 1 32 (dk_at dksX5_runs_6 20 rfl rfl)
theorem dX5_runs_159 : decode cX5_runs 159 = .ok (.aload_n 0, 1) := dk_42 (dk_at dksX5_runs_6 23 rfl rfl)
theorem dX5_runs_160 : decode cX5_runs 160 = .ok (.iload_n 2, 1) := dk_28 (dk_at dksX5_runs_7 0 rfl rfl)
theorem dX5_runs_161 : decode cX5_runs 161 = .ok (.invokevirtual 291, 3) := dk_182 1 35 (dk_at dksX5_runs_7 1 rfl rfl)
theorem dX5_runs_164 : decode cX5_runs 164 = .ok (.iconst 0, 1) := dk_3 (dk_at dksX5_runs_7 4 rfl rfl)
theorem dX5_runs_165 : decode cX5_runs 165 = .ok (.istore_n 3, 1) := dk_62 (dk_at dksX5_runs_7 5 rfl rfl)
theorem dX5_runs_166 : decode cX5_runs 166 = .ok (.iload_n 3, 1) := dk_29 (dk_at dksX5_runs_7 6 rfl rfl)
theorem dX5_runs_167 : decode cX5_runs 167 = .ok (.aload_n 0, 1) := dk_42 (dk_at dksX5_runs_7 7 rfl rfl)
theorem dX5_runs_168 : decode cX5_runs 168 = .ok (.invokevirtual 89, 3) := dk_182 0 89 (dk_at dksX5_runs_7 8 rfl rfl)
theorem dX5_runs_171 : decode cX5_runs 171 = .ok (.if_icmp .ge 26, 3) := dk_162 0 26 (dk_at dksX5_runs_7 11 rfl rfl)
theorem dX5_runs_174 : decode cX5_runs 174 = .ok (.aload_n 0, 1) := dk_42 (dk_at dksX5_runs_7 14 rfl rfl)
theorem dX5_runs_175 : decode cX5_runs 175 = .ok (.getfield 37, 3) := dk_180 0 37 (dk_at dksX5_runs_7 15 rfl rfl)
theorem dX5_runs_178 : decode cX5_runs 178 = .ok (.bipush 30, 2) := dk_16 30 (dk_at dksX5_runs_7 18 rfl rfl)
theorem dX5_runs_180 : decode cX5_runs 180 = .ok (.iload_n 3, 1) := dk_29 (dk_at dksX5_runs_7 20 rfl rfl)
theorem dX5_runs_181 : decode cX5_runs 181 = .ok (.imul, 1) := dk_104 (dk_at dksX5_runs_7 21 rfl rfl)
theorem dX5_runs_182 : decode cX5_runs 182 = .ok (.iload_n 2, 1) := dk_28 (dk_at dksX5_runs_7 22 rfl rfl)
theorem dX5_runs_183 : decode cX5_runs 183 = .ok (.iadd, 1) := dk_96 (dk_at dksX5_runs_7 23 rfl rfl)
theorem dX5_runs_184 : decode cX5_runs 184 = .ok (.aload_n 0, 1) := dk_42 (dk_at dksX5_runs_8 0 rfl rfl)
theorem dX5_runs_185 : decode cX5_runs 185 = .ok (.getfield 34, 3) := dk_180 0 34 (dk_at dksX5_runs_8 1 rfl rfl)
theorem dX5_runs_188 : decode cX5_runs 188 = .ok (.iload_n 3, 1) := dk_29 (dk_at dksX5_runs_8 4 rfl rfl)
theorem dX5_runs_189 : decode cX5_runs 189 = .ok (.iaload, 1) := dk_46 (dk_at dksX5_runs_8 5 rfl rfl)
theorem dX5_runs_190 : decode cX5_runs 190 = .ok (.iastore, 1) := dk_79 (dk_at dksX5_runs_8 6 rfl rfl)
theorem dX5_runs_191 : decode cX5_runs 191 = .ok (.iinc 3 1, 3) := dk_132 3 1 (dk_at dksX5_runs_8 7 rfl rfl)
theorem dX5_runs_194 : decode cX5_runs 194 = .ok (.goto (-28), 3) := dk_167 255 228 (dk_at dksX5_runs_8 10 rfl rfl)
theorem dX5_runs_197 : decode cX5_runs 197 = .ok (.iinc 2 1, 3) := dk_132 2 1 (dk_at dksX5_runs_8 13 rfl rfl)
theorem dX5_runs_200 : decode cX5_runs 200 = .ok (.goto (-71), 3) := dk_167 255 185 (dk_at dksX5_runs_8 16 rfl rfl)
theorem dX5_runs_203 : decode cX5_runs 203 = .ok (.return_, 1) := dk_177 (dk_at dksX5_runs_8 19 rfl rfl)
abbrev cX5_floodsIn : ByteArray := prog_13_method_40_code
def yX5_floodsIn : MethodName := ⟨RX5, "floodsIn", "(I)V"⟩
def dkwX5_floodsIn_4 : List UInt8 := [6, 28, 104, 3, 96, 46, 96, 79, 132, 2, 1, 167, 255, 152, 177]
abbrev dktX5_floodsIn_4 : List UInt8 := dkwX5_floodsIn_4 ++ []
def dkwX5_floodsIn_3 : List UInt8 := [180, 0, 40, 6, 28, 104, 3, 96, 46, 182, 1, 2, 79, 42, 180, 0, 34, 29, 92, 46, 42, 180, 0, 40]
abbrev dktX5_floodsIn_3 : List UInt8 := dkwX5_floodsIn_3 ++ dktX5_floodsIn_4
def dkwX5_floodsIn_2 : List UInt8 := [182, 0, 252, 42, 29, 182, 0, 255, 184, 0, 128, 79, 42, 180, 0, 40, 6, 28, 104, 4, 96, 42, 42]
abbrev dktX5_floodsIn_2 : List UInt8 := dkwX5_floodsIn_2 ++ dktX5_floodsIn_3
def dkwX5_floodsIn_1 : List UInt8 := [27, 160, 0, 78, 29, 2, 160, 0, 6, 167, 0, 70, 42, 180, 0, 40, 6, 28, 104, 3, 96, 42, 28, 4]
abbrev dktX5_floodsIn_1 : List UInt8 := dkwX5_floodsIn_1 ++ dktX5_floodsIn_2
def dkwX5_floodsIn_0 : List UInt8 := [3, 61, 28, 42, 180, 0, 9, 5, 46, 162, 0, 100, 42, 28, 182, 0, 249, 62, 42, 28, 3, 182, 0, 252]
abbrev dktX5_floodsIn_0 : List UInt8 := dkwX5_floodsIn_0 ++ dktX5_floodsIn_1
theorem dksX5_floodsIn_0 : cX5_floodsIn.data.toList.drop 0 = dktX5_floodsIn_0 := by decide +kernel
theorem dksX5_floodsIn_1 : cX5_floodsIn.data.toList.drop 24 = dktX5_floodsIn_1 := dk_seg dksX5_floodsIn_0 24 rfl rfl
theorem dksX5_floodsIn_2 : cX5_floodsIn.data.toList.drop 48 = dktX5_floodsIn_2 := dk_seg dksX5_floodsIn_1 24 rfl rfl
theorem dksX5_floodsIn_3 : cX5_floodsIn.data.toList.drop 71 = dktX5_floodsIn_3 := dk_seg dksX5_floodsIn_2 23 rfl rfl
theorem dksX5_floodsIn_4 : cX5_floodsIn.data.toList.drop 95 = dktX5_floodsIn_4 := dk_seg dksX5_floodsIn_3 24 rfl rfl
theorem dX5_floodsIn_0 : decode cX5_floodsIn 0 = .ok (.iconst 0, 1) := dk_3 (dk_at dksX5_floodsIn_0 0 rfl rfl)
theorem dX5_floodsIn_1 : decode cX5_floodsIn 1 = .ok (.istore_n 2, 1) := dk_61 (dk_at dksX5_floodsIn_0 1 rfl rfl)
theorem dX5_floodsIn_2 : decode cX5_floodsIn 2 = .ok (.iload_n 2, 1) := dk_28 (dk_at dksX5_floodsIn_0 2 rfl rfl)
theorem dX5_floodsIn_3 : decode cX5_floodsIn 3 = .ok (.aload_n 0, 1) := dk_42 (dk_at dksX5_floodsIn_0 3 rfl rfl)
theorem dX5_floodsIn_4 : decode cX5_floodsIn 4 = .ok (.getfield 9, 3) := dk_180 0 9 (dk_at dksX5_floodsIn_0 4 rfl rfl)
theorem dX5_floodsIn_7 : decode cX5_floodsIn 7 = .ok (.iconst 2, 1) := dk_5 (dk_at dksX5_floodsIn_0 7 rfl rfl)
theorem dX5_floodsIn_8 : decode cX5_floodsIn 8 = .ok (.iaload, 1) := dk_46 (dk_at dksX5_floodsIn_0 8 rfl rfl)
theorem dX5_floodsIn_9 : decode cX5_floodsIn 9 = .ok (.if_icmp .ge 100, 3) := dk_162 0 100 (dk_at dksX5_floodsIn_0 9 rfl rfl)
theorem dX5_floodsIn_12 : decode cX5_floodsIn 12 = .ok (.aload_n 0, 1) := dk_42 (dk_at dksX5_floodsIn_0 12 rfl rfl)
theorem dX5_floodsIn_13 : decode cX5_floodsIn 13 = .ok (.iload_n 2, 1) := dk_28 (dk_at dksX5_floodsIn_0 13 rfl rfl)
theorem dX5_floodsIn_14 : decode cX5_floodsIn 14 = .ok (.invokevirtual 249, 3) := dk_182 0 249 (dk_at dksX5_floodsIn_0 14 rfl rfl)
theorem dX5_floodsIn_17 : decode cX5_floodsIn 17 = .ok (.istore_n 3, 1) := dk_62 (dk_at dksX5_floodsIn_0 17 rfl rfl)
theorem dX5_floodsIn_18 : decode cX5_floodsIn 18 = .ok (.aload_n 0, 1) := dk_42 (dk_at dksX5_floodsIn_0 18 rfl rfl)
theorem dX5_floodsIn_19 : decode cX5_floodsIn 19 = .ok (.iload_n 2, 1) := dk_28 (dk_at dksX5_floodsIn_0 19 rfl rfl)
theorem dX5_floodsIn_20 : decode cX5_floodsIn 20 = .ok (.iconst 0, 1) := dk_3 (dk_at dksX5_floodsIn_0 20 rfl rfl)
theorem dX5_floodsIn_21 : decode cX5_floodsIn 21 = .ok (.invokevirtual 252, 3) := dk_182 0 252 (dk_at dksX5_floodsIn_0 21 rfl rfl)
theorem dX5_floodsIn_24 : decode cX5_floodsIn 24 = .ok (.iload_n 1, 1) := dk_27 (dk_at dksX5_floodsIn_1 0 rfl rfl)
theorem dX5_floodsIn_25 : decode cX5_floodsIn 25 = .ok (.if_icmp .ne 78, 3) := dk_160 0 78 (dk_at dksX5_floodsIn_1 1 rfl rfl)
theorem dX5_floodsIn_28 : decode cX5_floodsIn 28 = .ok (.iload_n 3, 1) := dk_29 (dk_at dksX5_floodsIn_1 4 rfl rfl)
theorem dX5_floodsIn_29 : decode cX5_floodsIn 29 = .ok (.iconst (-1), 1) := dk_2 (dk_at dksX5_floodsIn_1 5 rfl rfl)
theorem dX5_floodsIn_30 : decode cX5_floodsIn 30 = .ok (.if_icmp .ne 6, 3) := dk_160 0 6 (dk_at dksX5_floodsIn_1 6 rfl rfl)
theorem dX5_floodsIn_33 : decode cX5_floodsIn 33 = .ok (.goto 70, 3) := dk_167 0 70 (dk_at dksX5_floodsIn_1 9 rfl rfl)
theorem dX5_floodsIn_36 : decode cX5_floodsIn 36 = .ok (.aload_n 0, 1) := dk_42 (dk_at dksX5_floodsIn_1 12 rfl rfl)
theorem dX5_floodsIn_37 : decode cX5_floodsIn 37 = .ok (.getfield 40, 3) := dk_180 0 40 (dk_at dksX5_floodsIn_1 13 rfl rfl)
theorem dX5_floodsIn_40 : decode cX5_floodsIn 40 = .ok (.iconst 3, 1) := dk_6 (dk_at dksX5_floodsIn_1 16 rfl rfl)
theorem dX5_floodsIn_41 : decode cX5_floodsIn 41 = .ok (.iload_n 2, 1) := dk_28 (dk_at dksX5_floodsIn_1 17 rfl rfl)
theorem dX5_floodsIn_42 : decode cX5_floodsIn 42 = .ok (.imul, 1) := dk_104 (dk_at dksX5_floodsIn_1 18 rfl rfl)
theorem dX5_floodsIn_43 : decode cX5_floodsIn 43 = .ok (.iconst 0, 1) := dk_3 (dk_at dksX5_floodsIn_1 19 rfl rfl)
theorem dX5_floodsIn_44 : decode cX5_floodsIn 44 = .ok (.iadd, 1) := dk_96 (dk_at dksX5_floodsIn_1 20 rfl rfl)
theorem dX5_floodsIn_45 : decode cX5_floodsIn 45 = .ok (.aload_n 0, 1) := dk_42 (dk_at dksX5_floodsIn_1 21 rfl rfl)
theorem dX5_floodsIn_46 : decode cX5_floodsIn 46 = .ok (.iload_n 2, 1) := dk_28 (dk_at dksX5_floodsIn_1 22 rfl rfl)
theorem dX5_floodsIn_47 : decode cX5_floodsIn 47 = .ok (.iconst 1, 1) := dk_4 (dk_at dksX5_floodsIn_1 23 rfl rfl)
theorem dX5_floodsIn_48 : decode cX5_floodsIn 48 = .ok (.invokevirtual 252, 3) := dk_182 0 252 (dk_at dksX5_floodsIn_2 0 rfl rfl)
theorem dX5_floodsIn_51 : decode cX5_floodsIn 51 = .ok (.aload_n 0, 1) := dk_42 (dk_at dksX5_floodsIn_2 3 rfl rfl)
theorem dX5_floodsIn_52 : decode cX5_floodsIn 52 = .ok (.iload_n 3, 1) := dk_29 (dk_at dksX5_floodsIn_2 4 rfl rfl)
theorem dX5_floodsIn_53 : decode cX5_floodsIn 53 = .ok (.invokevirtual 255, 3) := dk_182 0 255 (dk_at dksX5_floodsIn_2 5 rfl rfl)
theorem dX5_floodsIn_56 : decode cX5_floodsIn 56 = .ok (.invokestatic 128, 3) := dk_184 0 128 (dk_at dksX5_floodsIn_2 8 rfl rfl)
theorem dX5_floodsIn_59 : decode cX5_floodsIn 59 = .ok (.iastore, 1) := dk_79 (dk_at dksX5_floodsIn_2 11 rfl rfl)
theorem dX5_floodsIn_60 : decode cX5_floodsIn 60 = .ok (.aload_n 0, 1) := dk_42 (dk_at dksX5_floodsIn_2 12 rfl rfl)
theorem dX5_floodsIn_61 : decode cX5_floodsIn 61 = .ok (.getfield 40, 3) := dk_180 0 40 (dk_at dksX5_floodsIn_2 13 rfl rfl)
theorem dX5_floodsIn_64 : decode cX5_floodsIn 64 = .ok (.iconst 3, 1) := dk_6 (dk_at dksX5_floodsIn_2 16 rfl rfl)
theorem dX5_floodsIn_65 : decode cX5_floodsIn 65 = .ok (.iload_n 2, 1) := dk_28 (dk_at dksX5_floodsIn_2 17 rfl rfl)
theorem dX5_floodsIn_66 : decode cX5_floodsIn 66 = .ok (.imul, 1) := dk_104 (dk_at dksX5_floodsIn_2 18 rfl rfl)
theorem dX5_floodsIn_67 : decode cX5_floodsIn 67 = .ok (.iconst 1, 1) := dk_4 (dk_at dksX5_floodsIn_2 19 rfl rfl)
theorem dX5_floodsIn_68 : decode cX5_floodsIn 68 = .ok (.iadd, 1) := dk_96 (dk_at dksX5_floodsIn_2 20 rfl rfl)
theorem dX5_floodsIn_69 : decode cX5_floodsIn 69 = .ok (.aload_n 0, 1) := dk_42 (dk_at dksX5_floodsIn_2 21 rfl rfl)
theorem dX5_floodsIn_70 : decode cX5_floodsIn 70 = .ok (.aload_n 0, 1) := dk_42 (dk_at dksX5_floodsIn_2 22 rfl rfl)
theorem dX5_floodsIn_71 : decode cX5_floodsIn 71 = .ok (.getfield 40, 3) := dk_180 0 40 (dk_at dksX5_floodsIn_3 0 rfl rfl)
theorem dX5_floodsIn_74 : decode cX5_floodsIn 74 = .ok (.iconst 3, 1) := dk_6 (dk_at dksX5_floodsIn_3 3 rfl rfl)
theorem dX5_floodsIn_75 : decode cX5_floodsIn 75 = .ok (.iload_n 2, 1) := dk_28 (dk_at dksX5_floodsIn_3 4 rfl rfl)
theorem dX5_floodsIn_76 : decode cX5_floodsIn 76 = .ok (.imul, 1) := dk_104 (dk_at dksX5_floodsIn_3 5 rfl rfl)
theorem dX5_floodsIn_77 : decode cX5_floodsIn 77 = .ok (.iconst 0, 1) := dk_3 (dk_at dksX5_floodsIn_3 6 rfl rfl)
theorem dX5_floodsIn_78 : decode cX5_floodsIn 78 = .ok (.iadd, 1) := dk_96 (dk_at dksX5_floodsIn_3 7 rfl rfl)
theorem dX5_floodsIn_79 : decode cX5_floodsIn 79 = .ok (.iaload, 1) := dk_46 (dk_at dksX5_floodsIn_3 8 rfl rfl)
theorem dX5_floodsIn_80 : decode cX5_floodsIn 80 = .ok (.invokevirtual 258, 3) := dk_182 1 2 (dk_at dksX5_floodsIn_3 9 rfl rfl)
theorem dX5_floodsIn_83 : decode cX5_floodsIn 83 = .ok (.iastore, 1) := dk_79 (dk_at dksX5_floodsIn_3 12 rfl rfl)
theorem dX5_floodsIn_84 : decode cX5_floodsIn 84 = .ok (.aload_n 0, 1) := dk_42 (dk_at dksX5_floodsIn_3 13 rfl rfl)
theorem dX5_floodsIn_85 : decode cX5_floodsIn 85 = .ok (.getfield 34, 3) := dk_180 0 34 (dk_at dksX5_floodsIn_3 14 rfl rfl)
theorem dX5_floodsIn_88 : decode cX5_floodsIn 88 = .ok (.iload_n 3, 1) := dk_29 (dk_at dksX5_floodsIn_3 17 rfl rfl)
theorem dX5_floodsIn_89 : decode cX5_floodsIn 89 = .ok (.dup2, 1) := dk_92 (dk_at dksX5_floodsIn_3 18 rfl rfl)
theorem dX5_floodsIn_90 : decode cX5_floodsIn 90 = .ok (.iaload, 1) := dk_46 (dk_at dksX5_floodsIn_3 19 rfl rfl)
theorem dX5_floodsIn_91 : decode cX5_floodsIn 91 = .ok (.aload_n 0, 1) := dk_42 (dk_at dksX5_floodsIn_3 20 rfl rfl)
theorem dX5_floodsIn_92 : decode cX5_floodsIn 92 = .ok (.getfield 40, 3) := dk_180 0 40 (dk_at dksX5_floodsIn_3 21 rfl rfl)
theorem dX5_floodsIn_95 : decode cX5_floodsIn 95 = .ok (.iconst 3, 1) := dk_6 (dk_at dksX5_floodsIn_4 0 rfl rfl)
theorem dX5_floodsIn_96 : decode cX5_floodsIn 96 = .ok (.iload_n 2, 1) := dk_28 (dk_at dksX5_floodsIn_4 1 rfl rfl)
theorem dX5_floodsIn_97 : decode cX5_floodsIn 97 = .ok (.imul, 1) := dk_104 (dk_at dksX5_floodsIn_4 2 rfl rfl)
theorem dX5_floodsIn_98 : decode cX5_floodsIn 98 = .ok (.iconst 0, 1) := dk_3 (dk_at dksX5_floodsIn_4 3 rfl rfl)
theorem dX5_floodsIn_99 : decode cX5_floodsIn 99 = .ok (.iadd, 1) := dk_96 (dk_at dksX5_floodsIn_4 4 rfl rfl)
theorem dX5_floodsIn_100 : decode cX5_floodsIn 100 = .ok (.iaload, 1) := dk_46 (dk_at dksX5_floodsIn_4 5 rfl rfl)
theorem dX5_floodsIn_101 : decode cX5_floodsIn 101 = .ok (.iadd, 1) := dk_96 (dk_at dksX5_floodsIn_4 6 rfl rfl)
theorem dX5_floodsIn_102 : decode cX5_floodsIn 102 = .ok (.iastore, 1) := dk_79 (dk_at dksX5_floodsIn_4 7 rfl rfl)
theorem dX5_floodsIn_103 : decode cX5_floodsIn 103 = .ok (.iinc 2 1, 3) := dk_132 2 1 (dk_at dksX5_floodsIn_4 8 rfl rfl)
theorem dX5_floodsIn_106 : decode cX5_floodsIn 106 = .ok (.goto (-104), 3) := dk_167 255 152 (dk_at dksX5_floodsIn_4 11 rfl rfl)
theorem dX5_floodsIn_109 : decode cX5_floodsIn 109 = .ok (.return_, 1) := dk_177 (dk_at dksX5_floodsIn_4 14 rfl rfl)
abbrev cX5_takerNow : ByteArray := prog_13_method_38_code
def yX5_takerNow : MethodName := ⟨RX5, "takerNow", "(I)I"⟩
def dkwX5_takerNow_1 : List UInt8 := [46, 172]
abbrev dktX5_takerNow_1 : List UInt8 := dkwX5_takerNow_1 ++ []
def dkwX5_takerNow_0 : List UInt8 := [42, 180, 0, 243, 27, 122, 4, 126, 154, 0, 7, 2, 167, 0, 13, 42, 180, 0, 9, 17, 0, 157, 27, 96]
abbrev dktX5_takerNow_0 : List UInt8 := dkwX5_takerNow_0 ++ dktX5_takerNow_1
theorem dksX5_takerNow_0 : cX5_takerNow.data.toList.drop 0 = dktX5_takerNow_0 := by decide +kernel
theorem dksX5_takerNow_1 : cX5_takerNow.data.toList.drop 24 = dktX5_takerNow_1 := dk_seg dksX5_takerNow_0 24 rfl rfl
theorem dX5_takerNow_0 : decode cX5_takerNow 0 = .ok (.aload_n 0, 1) := dk_42 (dk_at dksX5_takerNow_0 0 rfl rfl)
theorem dX5_takerNow_1 : decode cX5_takerNow 1 = .ok (.getfield 243, 3) := dk_180 0 243 (dk_at dksX5_takerNow_0 1 rfl rfl)
theorem dX5_takerNow_4 : decode cX5_takerNow 4 = .ok (.iload_n 1, 1) := dk_27 (dk_at dksX5_takerNow_0 4 rfl rfl)
theorem dX5_takerNow_5 : decode cX5_takerNow 5 = .ok (.ishr, 1) := dk_122 (dk_at dksX5_takerNow_0 5 rfl rfl)
theorem dX5_takerNow_6 : decode cX5_takerNow 6 = .ok (.iconst 1, 1) := dk_4 (dk_at dksX5_takerNow_0 6 rfl rfl)
theorem dX5_takerNow_7 : decode cX5_takerNow 7 = .ok (.iand, 1) := dk_126 (dk_at dksX5_takerNow_0 7 rfl rfl)
theorem dX5_takerNow_8 : decode cX5_takerNow 8 = .ok (.ifCond .ne 7, 3) := dk_154 0 7 (dk_at dksX5_takerNow_0 8 rfl rfl)
theorem dX5_takerNow_11 : decode cX5_takerNow 11 = .ok (.iconst (-1), 1) := dk_2 (dk_at dksX5_takerNow_0 11 rfl rfl)
theorem dX5_takerNow_12 : decode cX5_takerNow 12 = .ok (.goto 13, 3) := dk_167 0 13 (dk_at dksX5_takerNow_0 12 rfl rfl)
theorem dX5_takerNow_15 : decode cX5_takerNow 15 = .ok (.aload_n 0, 1) := dk_42 (dk_at dksX5_takerNow_0 15 rfl rfl)
theorem dX5_takerNow_16 : decode cX5_takerNow 16 = .ok (.getfield 9, 3) := dk_180 0 9 (dk_at dksX5_takerNow_0 16 rfl rfl)
theorem dX5_takerNow_19 : decode cX5_takerNow 19 = .ok (.sipush 157, 3) := dk_17 0 157 (dk_at dksX5_takerNow_0 19 rfl rfl)
theorem dX5_takerNow_22 : decode cX5_takerNow 22 = .ok (.iload_n 1, 1) := dk_27 (dk_at dksX5_takerNow_0 22 rfl rfl)
theorem dX5_takerNow_23 : decode cX5_takerNow 23 = .ok (.iadd, 1) := dk_96 (dk_at dksX5_takerNow_0 23 rfl rfl)
theorem dX5_takerNow_24 : decode cX5_takerNow 24 = .ok (.iaload, 1) := dk_46 (dk_at dksX5_takerNow_1 0 rfl rfl)
theorem dX5_takerNow_25 : decode cX5_takerNow 25 = .ok (.ireturn, 1) := dk_172 (dk_at dksX5_takerNow_1 1 rfl rfl)
abbrev cX5_ofFlood : ByteArray := prog_13_method_14_code
def yX5_ofFlood : MethodName := ⟨RX5, "ofFlood", "(II)I"⟩
def dkwX5_ofFlood_0 : List UInt8 := [42, 180, 0, 9, 16, 108, 6, 27, 104, 96, 28, 96, 46, 172]
abbrev dktX5_ofFlood_0 : List UInt8 := dkwX5_ofFlood_0 ++ []
theorem dksX5_ofFlood_0 : cX5_ofFlood.data.toList.drop 0 = dktX5_ofFlood_0 := by decide +kernel
theorem dX5_ofFlood_0 : decode cX5_ofFlood 0 = .ok (.aload_n 0, 1) := dk_42 (dk_at dksX5_ofFlood_0 0 rfl rfl)
theorem dX5_ofFlood_1 : decode cX5_ofFlood 1 = .ok (.getfield 9, 3) := dk_180 0 9 (dk_at dksX5_ofFlood_0 1 rfl rfl)
theorem dX5_ofFlood_4 : decode cX5_ofFlood 4 = .ok (.bipush 108, 2) := dk_16 108 (dk_at dksX5_ofFlood_0 4 rfl rfl)
theorem dX5_ofFlood_6 : decode cX5_ofFlood 6 = .ok (.iconst 3, 1) := dk_6 (dk_at dksX5_ofFlood_0 6 rfl rfl)
theorem dX5_ofFlood_7 : decode cX5_ofFlood 7 = .ok (.iload_n 1, 1) := dk_27 (dk_at dksX5_ofFlood_0 7 rfl rfl)
theorem dX5_ofFlood_8 : decode cX5_ofFlood 8 = .ok (.imul, 1) := dk_104 (dk_at dksX5_ofFlood_0 8 rfl rfl)
theorem dX5_ofFlood_9 : decode cX5_ofFlood 9 = .ok (.iadd, 1) := dk_96 (dk_at dksX5_ofFlood_0 9 rfl rfl)
theorem dX5_ofFlood_10 : decode cX5_ofFlood 10 = .ok (.iload_n 2, 1) := dk_28 (dk_at dksX5_ofFlood_0 10 rfl rfl)
theorem dX5_ofFlood_11 : decode cX5_ofFlood 11 = .ok (.iadd, 1) := dk_96 (dk_at dksX5_ofFlood_0 11 rfl rfl)
theorem dX5_ofFlood_12 : decode cX5_ofFlood 12 = .ok (.iaload, 1) := dk_46 (dk_at dksX5_ofFlood_0 12 rfl rfl)
theorem dX5_ofFlood_13 : decode cX5_ofFlood 13 = .ok (.ireturn, 1) := dk_172 (dk_at dksX5_ofFlood_0 13 rfl rfl)
abbrev cX5_room : ByteArray := prog_13_method_36_code
def yX5_room : MethodName := ⟨RX5, "room", "(I)I"⟩
def dkwX5_room_0 : List UInt8 := [42, 27, 3, 182, 0, 241, 42, 180, 0, 34, 27, 46, 100, 172]
abbrev dktX5_room_0 : List UInt8 := dkwX5_room_0 ++ []
theorem dksX5_room_0 : cX5_room.data.toList.drop 0 = dktX5_room_0 := by decide +kernel
theorem dX5_room_0 : decode cX5_room 0 = .ok (.aload_n 0, 1) := dk_42 (dk_at dksX5_room_0 0 rfl rfl)
theorem dX5_room_1 : decode cX5_room 1 = .ok (.iload_n 1, 1) := dk_27 (dk_at dksX5_room_0 1 rfl rfl)
theorem dX5_room_2 : decode cX5_room 2 = .ok (.iconst 0, 1) := dk_3 (dk_at dksX5_room_0 2 rfl rfl)
theorem dX5_room_3 : decode cX5_room 3 = .ok (.invokevirtual 241, 3) := dk_182 0 241 (dk_at dksX5_room_0 3 rfl rfl)
theorem dX5_room_6 : decode cX5_room 6 = .ok (.aload_n 0, 1) := dk_42 (dk_at dksX5_room_0 6 rfl rfl)
theorem dX5_room_7 : decode cX5_room 7 = .ok (.getfield 34, 3) := dk_180 0 34 (dk_at dksX5_room_0 7 rfl rfl)
theorem dX5_room_10 : decode cX5_room 10 = .ok (.iload_n 1, 1) := dk_27 (dk_at dksX5_room_0 10 rfl rfl)
theorem dX5_room_11 : decode cX5_room 11 = .ok (.iaload, 1) := dk_46 (dk_at dksX5_room_0 11 rfl rfl)
theorem dX5_room_12 : decode cX5_room 12 = .ok (.isub, 1) := dk_100 (dk_at dksX5_room_0 12 rfl rfl)
theorem dX5_room_13 : decode cX5_room 13 = .ok (.ireturn, 1) := dk_172 (dk_at dksX5_room_0 13 rfl rfl)
abbrev cX5_owed : ByteArray := prog_13_method_37_code
def yX5_owed : MethodName := ⟨RX5, "owed", "(I)I"⟩
def dkwX5_owed_0 : List UInt8 := [27, 27, 42, 180, 0, 9, 16, 6, 46, 104, 16, 99, 96, 16, 100, 108, 96, 172]
abbrev dktX5_owed_0 : List UInt8 := dkwX5_owed_0 ++ []
theorem dksX5_owed_0 : cX5_owed.data.toList.drop 0 = dktX5_owed_0 := by decide +kernel
theorem dX5_owed_0 : decode cX5_owed 0 = .ok (.iload_n 1, 1) := dk_27 (dk_at dksX5_owed_0 0 rfl rfl)
theorem dX5_owed_1 : decode cX5_owed 1 = .ok (.iload_n 1, 1) := dk_27 (dk_at dksX5_owed_0 1 rfl rfl)
theorem dX5_owed_2 : decode cX5_owed 2 = .ok (.aload_n 0, 1) := dk_42 (dk_at dksX5_owed_0 2 rfl rfl)
theorem dX5_owed_3 : decode cX5_owed 3 = .ok (.getfield 9, 3) := dk_180 0 9 (dk_at dksX5_owed_0 3 rfl rfl)
theorem dX5_owed_6 : decode cX5_owed 6 = .ok (.bipush 6, 2) := dk_16 6 (dk_at dksX5_owed_0 6 rfl rfl)
theorem dX5_owed_8 : decode cX5_owed 8 = .ok (.iaload, 1) := dk_46 (dk_at dksX5_owed_0 8 rfl rfl)
theorem dX5_owed_9 : decode cX5_owed 9 = .ok (.imul, 1) := dk_104 (dk_at dksX5_owed_0 9 rfl rfl)
theorem dX5_owed_10 : decode cX5_owed 10 = .ok (.bipush 99, 2) := dk_16 99 (dk_at dksX5_owed_0 10 rfl rfl)
theorem dX5_owed_12 : decode cX5_owed 12 = .ok (.iadd, 1) := dk_96 (dk_at dksX5_owed_0 12 rfl rfl)
theorem dX5_owed_13 : decode cX5_owed 13 = .ok (.bipush 100, 2) := dk_16 100 (dk_at dksX5_owed_0 13 rfl rfl)
theorem dX5_owed_15 : decode cX5_owed 15 = .ok (.idiv, 1) := dk_108 (dk_at dksX5_owed_0 15 rfl rfl)
theorem dX5_owed_16 : decode cX5_owed 16 = .ok (.iadd, 1) := dk_96 (dk_at dksX5_owed_0 16 rfl rfl)
theorem dX5_owed_17 : decode cX5_owed 17 = .ok (.ireturn, 1) := dk_172 (dk_at dksX5_owed_0 17 rfl rfl)
abbrev cX5_loansIn : ByteArray := prog_13_method_41_code
def yX5_loansIn : MethodName := ⟨RX5, "loansIn", "(I)V"⟩
def dkwX5_loansIn_5 : List UInt8 := [21, 4, 92, 46, 21, 5, 96, 79, 132, 2, 1, 167, 255, 130, 177]
abbrev dktX5_loansIn_5 : List UInt8 := dkwX5_loansIn_5 ++ []
def dkwX5_loansIn_4 : List UInt8 := [4, 96, 42, 21, 5, 182, 1, 2, 79, 42, 180, 0, 34, 29, 92, 46, 21, 5, 100, 79, 42, 180, 0, 34]
abbrev dktX5_loansIn_4 : List UInt8 := dkwX5_loansIn_4 ++ dktX5_loansIn_5
def dkwX5_loansIn_3 : List UInt8 := [184, 0, 128, 54, 5, 42, 180, 0, 43, 6, 28, 104, 3, 96, 21, 5, 79, 42, 180, 0, 43, 6, 28, 104]
abbrev dktX5_loansIn_3 : List UInt8 := dkwX5_loansIn_3 ++ dktX5_loansIn_4
def dkwX5_loansIn_2 : List UInt8 := [167, 0, 80, 42, 28, 5, 182, 1, 5, 42, 180, 0, 34, 29, 46, 42, 21, 4, 182, 0, 255, 184, 0, 128]
abbrev dktX5_loansIn_2 : List UInt8 := dkwX5_loansIn_2 ++ dktX5_loansIn_3
def dkwX5_loansIn_1 : List UInt8 := [182, 1, 5, 54, 4, 42, 28, 6, 182, 1, 5, 27, 160, 0, 91, 29, 42, 180, 0, 49, 160, 0, 6]
abbrev dktX5_loansIn_1 : List UInt8 := dkwX5_loansIn_1 ++ dktX5_loansIn_2
def dkwX5_loansIn_0 : List UInt8 := [3, 61, 28, 42, 180, 0, 9, 6, 46, 162, 0, 122, 42, 28, 3, 182, 1, 5, 62, 42, 28, 4]
abbrev dktX5_loansIn_0 : List UInt8 := dkwX5_loansIn_0 ++ dktX5_loansIn_1
theorem dksX5_loansIn_0 : cX5_loansIn.data.toList.drop 0 = dktX5_loansIn_0 := by decide +kernel
theorem dksX5_loansIn_1 : cX5_loansIn.data.toList.drop 22 = dktX5_loansIn_1 := dk_seg dksX5_loansIn_0 22 rfl rfl
theorem dksX5_loansIn_2 : cX5_loansIn.data.toList.drop 45 = dktX5_loansIn_2 := dk_seg dksX5_loansIn_1 23 rfl rfl
theorem dksX5_loansIn_3 : cX5_loansIn.data.toList.drop 69 = dktX5_loansIn_3 := dk_seg dksX5_loansIn_2 24 rfl rfl
theorem dksX5_loansIn_4 : cX5_loansIn.data.toList.drop 93 = dktX5_loansIn_4 := dk_seg dksX5_loansIn_3 24 rfl rfl
theorem dksX5_loansIn_5 : cX5_loansIn.data.toList.drop 117 = dktX5_loansIn_5 := dk_seg dksX5_loansIn_4 24 rfl rfl
theorem dX5_loansIn_0 : decode cX5_loansIn 0 = .ok (.iconst 0, 1) := dk_3 (dk_at dksX5_loansIn_0 0 rfl rfl)
theorem dX5_loansIn_1 : decode cX5_loansIn 1 = .ok (.istore_n 2, 1) := dk_61 (dk_at dksX5_loansIn_0 1 rfl rfl)
theorem dX5_loansIn_2 : decode cX5_loansIn 2 = .ok (.iload_n 2, 1) := dk_28 (dk_at dksX5_loansIn_0 2 rfl rfl)
theorem dX5_loansIn_3 : decode cX5_loansIn 3 = .ok (.aload_n 0, 1) := dk_42 (dk_at dksX5_loansIn_0 3 rfl rfl)
theorem dX5_loansIn_4 : decode cX5_loansIn 4 = .ok (.getfield 9, 3) := dk_180 0 9 (dk_at dksX5_loansIn_0 4 rfl rfl)
theorem dX5_loansIn_7 : decode cX5_loansIn 7 = .ok (.iconst 3, 1) := dk_6 (dk_at dksX5_loansIn_0 7 rfl rfl)
theorem dX5_loansIn_8 : decode cX5_loansIn 8 = .ok (.iaload, 1) := dk_46 (dk_at dksX5_loansIn_0 8 rfl rfl)
theorem dX5_loansIn_9 : decode cX5_loansIn 9 = .ok (.if_icmp .ge 122, 3) := dk_162 0 122 (dk_at dksX5_loansIn_0 9 rfl rfl)
theorem dX5_loansIn_12 : decode cX5_loansIn 12 = .ok (.aload_n 0, 1) := dk_42 (dk_at dksX5_loansIn_0 12 rfl rfl)
theorem dX5_loansIn_13 : decode cX5_loansIn 13 = .ok (.iload_n 2, 1) := dk_28 (dk_at dksX5_loansIn_0 13 rfl rfl)
theorem dX5_loansIn_14 : decode cX5_loansIn 14 = .ok (.iconst 0, 1) := dk_3 (dk_at dksX5_loansIn_0 14 rfl rfl)
theorem dX5_loansIn_15 : decode cX5_loansIn 15 = .ok (.invokevirtual 261, 3) := dk_182 1 5 (dk_at dksX5_loansIn_0 15 rfl rfl)
theorem dX5_loansIn_18 : decode cX5_loansIn 18 = .ok (.istore_n 3, 1) := dk_62 (dk_at dksX5_loansIn_0 18 rfl rfl)
theorem dX5_loansIn_19 : decode cX5_loansIn 19 = .ok (.aload_n 0, 1) := dk_42 (dk_at dksX5_loansIn_0 19 rfl rfl)
theorem dX5_loansIn_20 : decode cX5_loansIn 20 = .ok (.iload_n 2, 1) := dk_28 (dk_at dksX5_loansIn_0 20 rfl rfl)
theorem dX5_loansIn_21 : decode cX5_loansIn 21 = .ok (.iconst 1, 1) := dk_4 (dk_at dksX5_loansIn_0 21 rfl rfl)
theorem dX5_loansIn_22 : decode cX5_loansIn 22 = .ok (.invokevirtual 261, 3) := dk_182 1 5 (dk_at dksX5_loansIn_1 0 rfl rfl)
theorem dX5_loansIn_25 : decode cX5_loansIn 25 = .ok (.istore 4, 2) := dk_54 4 (dk_at dksX5_loansIn_1 3 rfl rfl)
theorem dX5_loansIn_27 : decode cX5_loansIn 27 = .ok (.aload_n 0, 1) := dk_42 (dk_at dksX5_loansIn_1 5 rfl rfl)
theorem dX5_loansIn_28 : decode cX5_loansIn 28 = .ok (.iload_n 2, 1) := dk_28 (dk_at dksX5_loansIn_1 6 rfl rfl)
theorem dX5_loansIn_29 : decode cX5_loansIn 29 = .ok (.iconst 3, 1) := dk_6 (dk_at dksX5_loansIn_1 7 rfl rfl)
theorem dX5_loansIn_30 : decode cX5_loansIn 30 = .ok (.invokevirtual 261, 3) := dk_182 1 5 (dk_at dksX5_loansIn_1 8 rfl rfl)
theorem dX5_loansIn_33 : decode cX5_loansIn 33 = .ok (.iload_n 1, 1) := dk_27 (dk_at dksX5_loansIn_1 11 rfl rfl)
theorem dX5_loansIn_34 : decode cX5_loansIn 34 = .ok (.if_icmp .ne 91, 3) := dk_160 0 91 (dk_at dksX5_loansIn_1 12 rfl rfl)
theorem dX5_loansIn_37 : decode cX5_loansIn 37 = .ok (.iload_n 3, 1) := dk_29 (dk_at dksX5_loansIn_1 15 rfl rfl)
theorem dX5_loansIn_38 : decode cX5_loansIn 38 = .ok (.aload_n 0, 1) := dk_42 (dk_at dksX5_loansIn_1 16 rfl rfl)
theorem dX5_loansIn_39 : decode cX5_loansIn 39 = .ok (.getfield 49, 3) := dk_180 0 49 (dk_at dksX5_loansIn_1 17 rfl rfl)
theorem dX5_loansIn_42 : decode cX5_loansIn 42 = .ok (.if_icmp .ne 6, 3) := dk_160 0 6 (dk_at dksX5_loansIn_1 20 rfl rfl)
theorem dX5_loansIn_45 : decode cX5_loansIn 45 = .ok (.goto 80, 3) := dk_167 0 80 (dk_at dksX5_loansIn_2 0 rfl rfl)
theorem dX5_loansIn_48 : decode cX5_loansIn 48 = .ok (.aload_n 0, 1) := dk_42 (dk_at dksX5_loansIn_2 3 rfl rfl)
theorem dX5_loansIn_49 : decode cX5_loansIn 49 = .ok (.iload_n 2, 1) := dk_28 (dk_at dksX5_loansIn_2 4 rfl rfl)
theorem dX5_loansIn_50 : decode cX5_loansIn 50 = .ok (.iconst 2, 1) := dk_5 (dk_at dksX5_loansIn_2 5 rfl rfl)
theorem dX5_loansIn_51 : decode cX5_loansIn 51 = .ok (.invokevirtual 261, 3) := dk_182 1 5 (dk_at dksX5_loansIn_2 6 rfl rfl)
theorem dX5_loansIn_54 : decode cX5_loansIn 54 = .ok (.aload_n 0, 1) := dk_42 (dk_at dksX5_loansIn_2 9 rfl rfl)
theorem dX5_loansIn_55 : decode cX5_loansIn 55 = .ok (.getfield 34, 3) := dk_180 0 34 (dk_at dksX5_loansIn_2 10 rfl rfl)
theorem dX5_loansIn_58 : decode cX5_loansIn 58 = .ok (.iload_n 3, 1) := dk_29 (dk_at dksX5_loansIn_2 13 rfl rfl)
theorem dX5_loansIn_59 : decode cX5_loansIn 59 = .ok (.iaload, 1) := dk_46 (dk_at dksX5_loansIn_2 14 rfl rfl)
theorem dX5_loansIn_60 : decode cX5_loansIn 60 = .ok (.aload_n 0, 1) := dk_42 (dk_at dksX5_loansIn_2 15 rfl rfl)
theorem dX5_loansIn_61 : decode cX5_loansIn 61 = .ok (.iload 4, 2) := dk_21 4 (dk_at dksX5_loansIn_2 16 rfl rfl)
theorem dX5_loansIn_63 : decode cX5_loansIn 63 = .ok (.invokevirtual 255, 3) := dk_182 0 255 (dk_at dksX5_loansIn_2 18 rfl rfl)
theorem dX5_loansIn_66 : decode cX5_loansIn 66 = .ok (.invokestatic 128, 3) := dk_184 0 128 (dk_at dksX5_loansIn_2 21 rfl rfl)
theorem dX5_loansIn_69 : decode cX5_loansIn 69 = .ok (.invokestatic 128, 3) := dk_184 0 128 (dk_at dksX5_loansIn_3 0 rfl rfl)
theorem dX5_loansIn_72 : decode cX5_loansIn 72 = .ok (.istore 5, 2) := dk_54 5 (dk_at dksX5_loansIn_3 3 rfl rfl)
theorem dX5_loansIn_74 : decode cX5_loansIn 74 = .ok (.aload_n 0, 1) := dk_42 (dk_at dksX5_loansIn_3 5 rfl rfl)
theorem dX5_loansIn_75 : decode cX5_loansIn 75 = .ok (.getfield 43, 3) := dk_180 0 43 (dk_at dksX5_loansIn_3 6 rfl rfl)
theorem dX5_loansIn_78 : decode cX5_loansIn 78 = .ok (.iconst 3, 1) := dk_6 (dk_at dksX5_loansIn_3 9 rfl rfl)
theorem dX5_loansIn_79 : decode cX5_loansIn 79 = .ok (.iload_n 2, 1) := dk_28 (dk_at dksX5_loansIn_3 10 rfl rfl)
theorem dX5_loansIn_80 : decode cX5_loansIn 80 = .ok (.imul, 1) := dk_104 (dk_at dksX5_loansIn_3 11 rfl rfl)
theorem dX5_loansIn_81 : decode cX5_loansIn 81 = .ok (.iconst 0, 1) := dk_3 (dk_at dksX5_loansIn_3 12 rfl rfl)
theorem dX5_loansIn_82 : decode cX5_loansIn 82 = .ok (.iadd, 1) := dk_96 (dk_at dksX5_loansIn_3 13 rfl rfl)
theorem dX5_loansIn_83 : decode cX5_loansIn 83 = .ok (.iload 5, 2) := dk_21 5 (dk_at dksX5_loansIn_3 14 rfl rfl)
theorem dX5_loansIn_85 : decode cX5_loansIn 85 = .ok (.iastore, 1) := dk_79 (dk_at dksX5_loansIn_3 16 rfl rfl)
theorem dX5_loansIn_86 : decode cX5_loansIn 86 = .ok (.aload_n 0, 1) := dk_42 (dk_at dksX5_loansIn_3 17 rfl rfl)
theorem dX5_loansIn_87 : decode cX5_loansIn 87 = .ok (.getfield 43, 3) := dk_180 0 43 (dk_at dksX5_loansIn_3 18 rfl rfl)
theorem dX5_loansIn_90 : decode cX5_loansIn 90 = .ok (.iconst 3, 1) := dk_6 (dk_at dksX5_loansIn_3 21 rfl rfl)
theorem dX5_loansIn_91 : decode cX5_loansIn 91 = .ok (.iload_n 2, 1) := dk_28 (dk_at dksX5_loansIn_3 22 rfl rfl)
theorem dX5_loansIn_92 : decode cX5_loansIn 92 = .ok (.imul, 1) := dk_104 (dk_at dksX5_loansIn_3 23 rfl rfl)
theorem dX5_loansIn_93 : decode cX5_loansIn 93 = .ok (.iconst 1, 1) := dk_4 (dk_at dksX5_loansIn_4 0 rfl rfl)
theorem dX5_loansIn_94 : decode cX5_loansIn 94 = .ok (.iadd, 1) := dk_96 (dk_at dksX5_loansIn_4 1 rfl rfl)
theorem dX5_loansIn_95 : decode cX5_loansIn 95 = .ok (.aload_n 0, 1) := dk_42 (dk_at dksX5_loansIn_4 2 rfl rfl)
theorem dX5_loansIn_96 : decode cX5_loansIn 96 = .ok (.iload 5, 2) := dk_21 5 (dk_at dksX5_loansIn_4 3 rfl rfl)
theorem dX5_loansIn_98 : decode cX5_loansIn 98 = .ok (.invokevirtual 258, 3) := dk_182 1 2 (dk_at dksX5_loansIn_4 5 rfl rfl)
theorem dX5_loansIn_101 : decode cX5_loansIn 101 = .ok (.iastore, 1) := dk_79 (dk_at dksX5_loansIn_4 8 rfl rfl)
theorem dX5_loansIn_102 : decode cX5_loansIn 102 = .ok (.aload_n 0, 1) := dk_42 (dk_at dksX5_loansIn_4 9 rfl rfl)
theorem dX5_loansIn_103 : decode cX5_loansIn 103 = .ok (.getfield 34, 3) := dk_180 0 34 (dk_at dksX5_loansIn_4 10 rfl rfl)
theorem dX5_loansIn_106 : decode cX5_loansIn 106 = .ok (.iload_n 3, 1) := dk_29 (dk_at dksX5_loansIn_4 13 rfl rfl)
theorem dX5_loansIn_107 : decode cX5_loansIn 107 = .ok (.dup2, 1) := dk_92 (dk_at dksX5_loansIn_4 14 rfl rfl)
theorem dX5_loansIn_108 : decode cX5_loansIn 108 = .ok (.iaload, 1) := dk_46 (dk_at dksX5_loansIn_4 15 rfl rfl)
theorem dX5_loansIn_109 : decode cX5_loansIn 109 = .ok (.iload 5, 2) := dk_21 5 (dk_at dksX5_loansIn_4 16 rfl rfl)
theorem dX5_loansIn_111 : decode cX5_loansIn 111 = .ok (.isub, 1) := dk_100 (dk_at dksX5_loansIn_4 18 rfl rfl)
theorem dX5_loansIn_112 : decode cX5_loansIn 112 = .ok (.iastore, 1) := dk_79 (dk_at dksX5_loansIn_4 19 rfl rfl)
theorem dX5_loansIn_113 : decode cX5_loansIn 113 = .ok (.aload_n 0, 1) := dk_42 (dk_at dksX5_loansIn_4 20 rfl rfl)
theorem dX5_loansIn_114 : decode cX5_loansIn 114 = .ok (.getfield 34, 3) := dk_180 0 34 (dk_at dksX5_loansIn_4 21 rfl rfl)
theorem dX5_loansIn_117 : decode cX5_loansIn 117 = .ok (.iload 4, 2) := dk_21 4 (dk_at dksX5_loansIn_5 0 rfl rfl)
theorem dX5_loansIn_119 : decode cX5_loansIn 119 = .ok (.dup2, 1) := dk_92 (dk_at dksX5_loansIn_5 2 rfl rfl)
theorem dX5_loansIn_120 : decode cX5_loansIn 120 = .ok (.iaload, 1) := dk_46 (dk_at dksX5_loansIn_5 3 rfl rfl)
theorem dX5_loansIn_121 : decode cX5_loansIn 121 = .ok (.iload 5, 2) := dk_21 5 (dk_at dksX5_loansIn_5 4 rfl rfl)
theorem dX5_loansIn_123 : decode cX5_loansIn 123 = .ok (.iadd, 1) := dk_96 (dk_at dksX5_loansIn_5 6 rfl rfl)
theorem dX5_loansIn_124 : decode cX5_loansIn 124 = .ok (.iastore, 1) := dk_79 (dk_at dksX5_loansIn_5 7 rfl rfl)
theorem dX5_loansIn_125 : decode cX5_loansIn 125 = .ok (.iinc 2 1, 3) := dk_132 2 1 (dk_at dksX5_loansIn_5 8 rfl rfl)
theorem dX5_loansIn_128 : decode cX5_loansIn 128 = .ok (.goto (-126), 3) := dk_167 255 130 (dk_at dksX5_loansIn_5 11 rfl rfl)
theorem dX5_loansIn_131 : decode cX5_loansIn 131 = .ok (.return_, 1) := dk_177 (dk_at dksX5_loansIn_5 14 rfl rfl)
abbrev cX5_ofLoan : ByteArray := prog_13_method_15_code
def yX5_ofLoan : MethodName := ⟨RX5, "ofLoan", "(II)I"⟩
def dkwX5_ofLoan_0 : List UInt8 := [42, 180, 0, 9, 16, 117, 8, 27, 104, 96, 28, 96, 46, 172]
abbrev dktX5_ofLoan_0 : List UInt8 := dkwX5_ofLoan_0 ++ []
theorem dksX5_ofLoan_0 : cX5_ofLoan.data.toList.drop 0 = dktX5_ofLoan_0 := by decide +kernel
theorem dX5_ofLoan_0 : decode cX5_ofLoan 0 = .ok (.aload_n 0, 1) := dk_42 (dk_at dksX5_ofLoan_0 0 rfl rfl)
theorem dX5_ofLoan_1 : decode cX5_ofLoan 1 = .ok (.getfield 9, 3) := dk_180 0 9 (dk_at dksX5_ofLoan_0 1 rfl rfl)
theorem dX5_ofLoan_4 : decode cX5_ofLoan 4 = .ok (.bipush 117, 2) := dk_16 117 (dk_at dksX5_ofLoan_0 4 rfl rfl)
theorem dX5_ofLoan_6 : decode cX5_ofLoan 6 = .ok (.iconst 5, 1) := dk_8 (dk_at dksX5_ofLoan_0 6 rfl rfl)
theorem dX5_ofLoan_7 : decode cX5_ofLoan 7 = .ok (.iload_n 1, 1) := dk_27 (dk_at dksX5_ofLoan_0 7 rfl rfl)
theorem dX5_ofLoan_8 : decode cX5_ofLoan 8 = .ok (.imul, 1) := dk_104 (dk_at dksX5_ofLoan_0 8 rfl rfl)
theorem dX5_ofLoan_9 : decode cX5_ofLoan 9 = .ok (.iadd, 1) := dk_96 (dk_at dksX5_ofLoan_0 9 rfl rfl)
theorem dX5_ofLoan_10 : decode cX5_ofLoan 10 = .ok (.iload_n 2, 1) := dk_28 (dk_at dksX5_ofLoan_0 10 rfl rfl)
theorem dX5_ofLoan_11 : decode cX5_ofLoan 11 = .ok (.iadd, 1) := dk_96 (dk_at dksX5_ofLoan_0 11 rfl rfl)
theorem dX5_ofLoan_12 : decode cX5_ofLoan 12 = .ok (.iaload, 1) := dk_46 (dk_at dksX5_ofLoan_0 12 rfl rfl)
theorem dX5_ofLoan_13 : decode cX5_ofLoan 13 = .ok (.ireturn, 1) := dk_172 (dk_at dksX5_ofLoan_0 13 rfl rfl)
abbrev cX5_dueIn : ByteArray := prog_13_method_42_code
def yX5_dueIn : MethodName := ⟨RX5, "dueIn", "(I)V"⟩
def dkwX5_dueIn_10 : List UInt8 := [162, 0, 8, 42, 27, 182, 1, 8, 132, 2, 1, 167, 255, 144, 177]
abbrev dktX5_dueIn_10 : List UInt8 := dkwX5_dueIn_10 ++ []
def dkwX5_dueIn_9 : List UInt8 := [79, 42, 180, 0, 34, 29, 92, 46, 21, 4, 100, 79, 21, 4, 42, 180, 0, 40, 6, 28, 104, 4, 96, 46]
abbrev dktX5_dueIn_9 : List UInt8 := dkwX5_dueIn_9 ++ dktX5_dueIn_10
def dkwX5_dueIn_8 : List UInt8 := [96, 46, 42, 180, 0, 34, 29, 46, 184, 0, 128, 54, 4, 42, 180, 0, 40, 6, 28, 104, 5, 96, 21, 4]
abbrev dktX5_dueIn_8 : List UInt8 := dkwX5_dueIn_8 ++ dktX5_dueIn_9
def dkwX5_dueIn_7 : List UInt8 := [159, 0, 80, 42, 28, 3, 182, 0, 252, 27, 164, 0, 6, 167, 0, 67, 42, 180, 0, 40, 6, 28, 104, 4]
abbrev dktX5_dueIn_7 : List UInt8 := dkwX5_dueIn_7 ++ dktX5_dueIn_8
def dkwX5_dueIn_6 : List UInt8 := [162, 0, 108, 27, 42, 180, 0, 9, 16, 7, 46, 160, 0, 97, 42, 28, 182, 0, 249, 62, 29, 2]
abbrev dktX5_dueIn_6 : List UInt8 := dkwX5_dueIn_6 ++ dktX5_dueIn_7
def dkwX5_dueIn_5 : List UInt8 := [162, 0, 8, 42, 27, 182, 1, 8, 132, 2, 1, 167, 255, 130, 3, 61, 28, 42, 180, 0, 9, 5, 46]
abbrev dktX5_dueIn_5 : List UInt8 := dkwX5_dueIn_5 ++ dktX5_dueIn_6
def dkwX5_dueIn_4 : List UInt8 := [42, 180, 0, 34, 29, 92, 46, 21, 5, 96, 79, 21, 5, 42, 180, 0, 43, 6, 28, 104, 4, 96, 46]
abbrev dktX5_dueIn_4 : List UInt8 := dkwX5_dueIn_4 ++ dktX5_dueIn_5
def dkwX5_dueIn_3 : List UInt8 := [42, 180, 0, 43, 6, 28, 104, 5, 96, 21, 5, 79, 42, 180, 0, 34, 21, 4, 92, 46, 21, 5, 100, 79]
abbrev dktX5_dueIn_3 : List UInt8 := dkwX5_dueIn_3 ++ dktX5_dueIn_4
def dkwX5_dueIn_2 : List UInt8 := [104, 4, 96, 46, 42, 180, 0, 34, 21, 4, 46, 42, 29, 182, 0, 255, 184, 0, 128, 184, 0, 128, 54, 5]
abbrev dktX5_dueIn_2 : List UInt8 := dkwX5_dueIn_2 ++ dktX5_dueIn_3
def dkwX5_dueIn_1 : List UInt8 := [167, 0, 103, 42, 28, 3, 182, 1, 5, 62, 42, 28, 4, 182, 1, 5, 54, 4, 42, 180, 0, 43, 6, 28]
abbrev dktX5_dueIn_1 : List UInt8 := dkwX5_dueIn_1 ++ dktX5_dueIn_2
def dkwX5_dueIn_0 : List UInt8 := [3, 61, 28, 42, 180, 0, 9, 6, 46, 162, 0, 122, 42, 28, 7, 182, 1, 5, 27, 159, 0, 6]
abbrev dktX5_dueIn_0 : List UInt8 := dkwX5_dueIn_0 ++ dktX5_dueIn_1
theorem dksX5_dueIn_0 : cX5_dueIn.data.toList.drop 0 = dktX5_dueIn_0 := by decide +kernel
theorem dksX5_dueIn_1 : cX5_dueIn.data.toList.drop 22 = dktX5_dueIn_1 := dk_seg dksX5_dueIn_0 22 rfl rfl
theorem dksX5_dueIn_2 : cX5_dueIn.data.toList.drop 46 = dktX5_dueIn_2 := dk_seg dksX5_dueIn_1 24 rfl rfl
theorem dksX5_dueIn_3 : cX5_dueIn.data.toList.drop 70 = dktX5_dueIn_3 := dk_seg dksX5_dueIn_2 24 rfl rfl
theorem dksX5_dueIn_4 : cX5_dueIn.data.toList.drop 94 = dktX5_dueIn_4 := dk_seg dksX5_dueIn_3 24 rfl rfl
theorem dksX5_dueIn_5 : cX5_dueIn.data.toList.drop 117 = dktX5_dueIn_5 := dk_seg dksX5_dueIn_4 23 rfl rfl
theorem dksX5_dueIn_6 : cX5_dueIn.data.toList.drop 140 = dktX5_dueIn_6 := dk_seg dksX5_dueIn_5 23 rfl rfl
theorem dksX5_dueIn_7 : cX5_dueIn.data.toList.drop 162 = dktX5_dueIn_7 := dk_seg dksX5_dueIn_6 22 rfl rfl
theorem dksX5_dueIn_8 : cX5_dueIn.data.toList.drop 186 = dktX5_dueIn_8 := dk_seg dksX5_dueIn_7 24 rfl rfl
theorem dksX5_dueIn_9 : cX5_dueIn.data.toList.drop 210 = dktX5_dueIn_9 := dk_seg dksX5_dueIn_8 24 rfl rfl
theorem dksX5_dueIn_10 : cX5_dueIn.data.toList.drop 234 = dktX5_dueIn_10 := dk_seg dksX5_dueIn_9 24 rfl rfl
theorem dX5_dueIn_0 : decode cX5_dueIn 0 = .ok (.iconst 0, 1) := dk_3 (dk_at dksX5_dueIn_0 0 rfl rfl)
theorem dX5_dueIn_1 : decode cX5_dueIn 1 = .ok (.istore_n 2, 1) := dk_61 (dk_at dksX5_dueIn_0 1 rfl rfl)
theorem dX5_dueIn_2 : decode cX5_dueIn 2 = .ok (.iload_n 2, 1) := dk_28 (dk_at dksX5_dueIn_0 2 rfl rfl)
theorem dX5_dueIn_3 : decode cX5_dueIn 3 = .ok (.aload_n 0, 1) := dk_42 (dk_at dksX5_dueIn_0 3 rfl rfl)
theorem dX5_dueIn_4 : decode cX5_dueIn 4 = .ok (.getfield 9, 3) := dk_180 0 9 (dk_at dksX5_dueIn_0 4 rfl rfl)
theorem dX5_dueIn_7 : decode cX5_dueIn 7 = .ok (.iconst 3, 1) := dk_6 (dk_at dksX5_dueIn_0 7 rfl rfl)
theorem dX5_dueIn_8 : decode cX5_dueIn 8 = .ok (.iaload, 1) := dk_46 (dk_at dksX5_dueIn_0 8 rfl rfl)
theorem dX5_dueIn_9 : decode cX5_dueIn 9 = .ok (.if_icmp .ge 122, 3) := dk_162 0 122 (dk_at dksX5_dueIn_0 9 rfl rfl)
theorem dX5_dueIn_12 : decode cX5_dueIn 12 = .ok (.aload_n 0, 1) := dk_42 (dk_at dksX5_dueIn_0 12 rfl rfl)
theorem dX5_dueIn_13 : decode cX5_dueIn 13 = .ok (.iload_n 2, 1) := dk_28 (dk_at dksX5_dueIn_0 13 rfl rfl)
theorem dX5_dueIn_14 : decode cX5_dueIn 14 = .ok (.iconst 4, 1) := dk_7 (dk_at dksX5_dueIn_0 14 rfl rfl)
theorem dX5_dueIn_15 : decode cX5_dueIn 15 = .ok (.invokevirtual 261, 3) := dk_182 1 5 (dk_at dksX5_dueIn_0 15 rfl rfl)
theorem dX5_dueIn_18 : decode cX5_dueIn 18 = .ok (.iload_n 1, 1) := dk_27 (dk_at dksX5_dueIn_0 18 rfl rfl)
theorem dX5_dueIn_19 : decode cX5_dueIn 19 = .ok (.if_icmp .eq 6, 3) := dk_159 0 6 (dk_at dksX5_dueIn_0 19 rfl rfl)
theorem dX5_dueIn_22 : decode cX5_dueIn 22 = .ok (.goto 103, 3) := dk_167 0 103 (dk_at dksX5_dueIn_1 0 rfl rfl)
theorem dX5_dueIn_25 : decode cX5_dueIn 25 = .ok (.aload_n 0, 1) := dk_42 (dk_at dksX5_dueIn_1 3 rfl rfl)
theorem dX5_dueIn_26 : decode cX5_dueIn 26 = .ok (.iload_n 2, 1) := dk_28 (dk_at dksX5_dueIn_1 4 rfl rfl)
theorem dX5_dueIn_27 : decode cX5_dueIn 27 = .ok (.iconst 0, 1) := dk_3 (dk_at dksX5_dueIn_1 5 rfl rfl)
theorem dX5_dueIn_28 : decode cX5_dueIn 28 = .ok (.invokevirtual 261, 3) := dk_182 1 5 (dk_at dksX5_dueIn_1 6 rfl rfl)
theorem dX5_dueIn_31 : decode cX5_dueIn 31 = .ok (.istore_n 3, 1) := dk_62 (dk_at dksX5_dueIn_1 9 rfl rfl)
theorem dX5_dueIn_32 : decode cX5_dueIn 32 = .ok (.aload_n 0, 1) := dk_42 (dk_at dksX5_dueIn_1 10 rfl rfl)
theorem dX5_dueIn_33 : decode cX5_dueIn 33 = .ok (.iload_n 2, 1) := dk_28 (dk_at dksX5_dueIn_1 11 rfl rfl)
theorem dX5_dueIn_34 : decode cX5_dueIn 34 = .ok (.iconst 1, 1) := dk_4 (dk_at dksX5_dueIn_1 12 rfl rfl)
theorem dX5_dueIn_35 : decode cX5_dueIn 35 = .ok (.invokevirtual 261, 3) := dk_182 1 5 (dk_at dksX5_dueIn_1 13 rfl rfl)
theorem dX5_dueIn_38 : decode cX5_dueIn 38 = .ok (.istore 4, 2) := dk_54 4 (dk_at dksX5_dueIn_1 16 rfl rfl)
theorem dX5_dueIn_40 : decode cX5_dueIn 40 = .ok (.aload_n 0, 1) := dk_42 (dk_at dksX5_dueIn_1 18 rfl rfl)
theorem dX5_dueIn_41 : decode cX5_dueIn 41 = .ok (.getfield 43, 3) := dk_180 0 43 (dk_at dksX5_dueIn_1 19 rfl rfl)
theorem dX5_dueIn_44 : decode cX5_dueIn 44 = .ok (.iconst 3, 1) := dk_6 (dk_at dksX5_dueIn_1 22 rfl rfl)
theorem dX5_dueIn_45 : decode cX5_dueIn 45 = .ok (.iload_n 2, 1) := dk_28 (dk_at dksX5_dueIn_1 23 rfl rfl)
theorem dX5_dueIn_46 : decode cX5_dueIn 46 = .ok (.imul, 1) := dk_104 (dk_at dksX5_dueIn_2 0 rfl rfl)
theorem dX5_dueIn_47 : decode cX5_dueIn 47 = .ok (.iconst 1, 1) := dk_4 (dk_at dksX5_dueIn_2 1 rfl rfl)
theorem dX5_dueIn_48 : decode cX5_dueIn 48 = .ok (.iadd, 1) := dk_96 (dk_at dksX5_dueIn_2 2 rfl rfl)
theorem dX5_dueIn_49 : decode cX5_dueIn 49 = .ok (.iaload, 1) := dk_46 (dk_at dksX5_dueIn_2 3 rfl rfl)
theorem dX5_dueIn_50 : decode cX5_dueIn 50 = .ok (.aload_n 0, 1) := dk_42 (dk_at dksX5_dueIn_2 4 rfl rfl)
theorem dX5_dueIn_51 : decode cX5_dueIn 51 = .ok (.getfield 34, 3) := dk_180 0 34 (dk_at dksX5_dueIn_2 5 rfl rfl)
theorem dX5_dueIn_54 : decode cX5_dueIn 54 = .ok (.iload 4, 2) := dk_21 4 (dk_at dksX5_dueIn_2 8 rfl rfl)
theorem dX5_dueIn_56 : decode cX5_dueIn 56 = .ok (.iaload, 1) := dk_46 (dk_at dksX5_dueIn_2 10 rfl rfl)
theorem dX5_dueIn_57 : decode cX5_dueIn 57 = .ok (.aload_n 0, 1) := dk_42 (dk_at dksX5_dueIn_2 11 rfl rfl)
theorem dX5_dueIn_58 : decode cX5_dueIn 58 = .ok (.iload_n 3, 1) := dk_29 (dk_at dksX5_dueIn_2 12 rfl rfl)
theorem dX5_dueIn_59 : decode cX5_dueIn 59 = .ok (.invokevirtual 255, 3) := dk_182 0 255 (dk_at dksX5_dueIn_2 13 rfl rfl)
theorem dX5_dueIn_62 : decode cX5_dueIn 62 = .ok (.invokestatic 128, 3) := dk_184 0 128 (dk_at dksX5_dueIn_2 16 rfl rfl)
theorem dX5_dueIn_65 : decode cX5_dueIn 65 = .ok (.invokestatic 128, 3) := dk_184 0 128 (dk_at dksX5_dueIn_2 19 rfl rfl)
theorem dX5_dueIn_68 : decode cX5_dueIn 68 = .ok (.istore 5, 2) := dk_54 5 (dk_at dksX5_dueIn_2 22 rfl rfl)
theorem dX5_dueIn_70 : decode cX5_dueIn 70 = .ok (.aload_n 0, 1) := dk_42 (dk_at dksX5_dueIn_3 0 rfl rfl)
theorem dX5_dueIn_71 : decode cX5_dueIn 71 = .ok (.getfield 43, 3) := dk_180 0 43 (dk_at dksX5_dueIn_3 1 rfl rfl)
theorem dX5_dueIn_74 : decode cX5_dueIn 74 = .ok (.iconst 3, 1) := dk_6 (dk_at dksX5_dueIn_3 4 rfl rfl)
theorem dX5_dueIn_75 : decode cX5_dueIn 75 = .ok (.iload_n 2, 1) := dk_28 (dk_at dksX5_dueIn_3 5 rfl rfl)
theorem dX5_dueIn_76 : decode cX5_dueIn 76 = .ok (.imul, 1) := dk_104 (dk_at dksX5_dueIn_3 6 rfl rfl)
theorem dX5_dueIn_77 : decode cX5_dueIn 77 = .ok (.iconst 2, 1) := dk_5 (dk_at dksX5_dueIn_3 7 rfl rfl)
theorem dX5_dueIn_78 : decode cX5_dueIn 78 = .ok (.iadd, 1) := dk_96 (dk_at dksX5_dueIn_3 8 rfl rfl)
theorem dX5_dueIn_79 : decode cX5_dueIn 79 = .ok (.iload 5, 2) := dk_21 5 (dk_at dksX5_dueIn_3 9 rfl rfl)
theorem dX5_dueIn_81 : decode cX5_dueIn 81 = .ok (.iastore, 1) := dk_79 (dk_at dksX5_dueIn_3 11 rfl rfl)
theorem dX5_dueIn_82 : decode cX5_dueIn 82 = .ok (.aload_n 0, 1) := dk_42 (dk_at dksX5_dueIn_3 12 rfl rfl)
theorem dX5_dueIn_83 : decode cX5_dueIn 83 = .ok (.getfield 34, 3) := dk_180 0 34 (dk_at dksX5_dueIn_3 13 rfl rfl)
theorem dX5_dueIn_86 : decode cX5_dueIn 86 = .ok (.iload 4, 2) := dk_21 4 (dk_at dksX5_dueIn_3 16 rfl rfl)
theorem dX5_dueIn_88 : decode cX5_dueIn 88 = .ok (.dup2, 1) := dk_92 (dk_at dksX5_dueIn_3 18 rfl rfl)
theorem dX5_dueIn_89 : decode cX5_dueIn 89 = .ok (.iaload, 1) := dk_46 (dk_at dksX5_dueIn_3 19 rfl rfl)
theorem dX5_dueIn_90 : decode cX5_dueIn 90 = .ok (.iload 5, 2) := dk_21 5 (dk_at dksX5_dueIn_3 20 rfl rfl)
theorem dX5_dueIn_92 : decode cX5_dueIn 92 = .ok (.isub, 1) := dk_100 (dk_at dksX5_dueIn_3 22 rfl rfl)
theorem dX5_dueIn_93 : decode cX5_dueIn 93 = .ok (.iastore, 1) := dk_79 (dk_at dksX5_dueIn_3 23 rfl rfl)
theorem dX5_dueIn_94 : decode cX5_dueIn 94 = .ok (.aload_n 0, 1) := dk_42 (dk_at dksX5_dueIn_4 0 rfl rfl)
theorem dX5_dueIn_95 : decode cX5_dueIn 95 = .ok (.getfield 34, 3) := dk_180 0 34 (dk_at dksX5_dueIn_4 1 rfl rfl)
theorem dX5_dueIn_98 : decode cX5_dueIn 98 = .ok (.iload_n 3, 1) := dk_29 (dk_at dksX5_dueIn_4 4 rfl rfl)
theorem dX5_dueIn_99 : decode cX5_dueIn 99 = .ok (.dup2, 1) := dk_92 (dk_at dksX5_dueIn_4 5 rfl rfl)
theorem dX5_dueIn_100 : decode cX5_dueIn 100 = .ok (.iaload, 1) := dk_46 (dk_at dksX5_dueIn_4 6 rfl rfl)
theorem dX5_dueIn_101 : decode cX5_dueIn 101 = .ok (.iload 5, 2) := dk_21 5 (dk_at dksX5_dueIn_4 7 rfl rfl)
theorem dX5_dueIn_103 : decode cX5_dueIn 103 = .ok (.iadd, 1) := dk_96 (dk_at dksX5_dueIn_4 9 rfl rfl)
theorem dX5_dueIn_104 : decode cX5_dueIn 104 = .ok (.iastore, 1) := dk_79 (dk_at dksX5_dueIn_4 10 rfl rfl)
theorem dX5_dueIn_105 : decode cX5_dueIn 105 = .ok (.iload 5, 2) := dk_21 5 (dk_at dksX5_dueIn_4 11 rfl rfl)
theorem dX5_dueIn_107 : decode cX5_dueIn 107 = .ok (.aload_n 0, 1) := dk_42 (dk_at dksX5_dueIn_4 13 rfl rfl)
theorem dX5_dueIn_108 : decode cX5_dueIn 108 = .ok (.getfield 43, 3) := dk_180 0 43 (dk_at dksX5_dueIn_4 14 rfl rfl)
theorem dX5_dueIn_111 : decode cX5_dueIn 111 = .ok (.iconst 3, 1) := dk_6 (dk_at dksX5_dueIn_4 17 rfl rfl)
theorem dX5_dueIn_112 : decode cX5_dueIn 112 = .ok (.iload_n 2, 1) := dk_28 (dk_at dksX5_dueIn_4 18 rfl rfl)
theorem dX5_dueIn_113 : decode cX5_dueIn 113 = .ok (.imul, 1) := dk_104 (dk_at dksX5_dueIn_4 19 rfl rfl)
theorem dX5_dueIn_114 : decode cX5_dueIn 114 = .ok (.iconst 1, 1) := dk_4 (dk_at dksX5_dueIn_4 20 rfl rfl)
theorem dX5_dueIn_115 : decode cX5_dueIn 115 = .ok (.iadd, 1) := dk_96 (dk_at dksX5_dueIn_4 21 rfl rfl)
theorem dX5_dueIn_116 : decode cX5_dueIn 116 = .ok (.iaload, 1) := dk_46 (dk_at dksX5_dueIn_4 22 rfl rfl)
theorem dX5_dueIn_117 : decode cX5_dueIn 117 = .ok (.if_icmp .ge 8, 3) := dk_162 0 8 (dk_at dksX5_dueIn_5 0 rfl rfl)
theorem dX5_dueIn_120 : decode cX5_dueIn 120 = .ok (.aload_n 0, 1) := dk_42 (dk_at dksX5_dueIn_5 3 rfl rfl)
theorem dX5_dueIn_121 : decode cX5_dueIn 121 = .ok (.iload_n 1, 1) := dk_27 (dk_at dksX5_dueIn_5 4 rfl rfl)
theorem dX5_dueIn_122 : decode cX5_dueIn 122 = .ok (.invokevirtual 264, 3) := dk_182 1 8 (dk_at dksX5_dueIn_5 5 rfl rfl)
theorem dX5_dueIn_125 : decode cX5_dueIn 125 = .ok (.iinc 2 1, 3) := dk_132 2 1 (dk_at dksX5_dueIn_5 8 rfl rfl)
theorem dX5_dueIn_128 : decode cX5_dueIn 128 = .ok (.goto (-126), 3) := dk_167 255 130 (dk_at dksX5_dueIn_5 11 rfl rfl)
theorem dX5_dueIn_131 : decode cX5_dueIn 131 = .ok (.iconst 0, 1) := dk_3 (dk_at dksX5_dueIn_5 14 rfl rfl)
theorem dX5_dueIn_132 : decode cX5_dueIn 132 = .ok (.istore_n 2, 1) := dk_61 (dk_at dksX5_dueIn_5 15 rfl rfl)
theorem dX5_dueIn_133 : decode cX5_dueIn 133 = .ok (.iload_n 2, 1) := dk_28 (dk_at dksX5_dueIn_5 16 rfl rfl)
theorem dX5_dueIn_134 : decode cX5_dueIn 134 = .ok (.aload_n 0, 1) := dk_42 (dk_at dksX5_dueIn_5 17 rfl rfl)
theorem dX5_dueIn_135 : decode cX5_dueIn 135 = .ok (.getfield 9, 3) := dk_180 0 9 (dk_at dksX5_dueIn_5 18 rfl rfl)
theorem dX5_dueIn_138 : decode cX5_dueIn 138 = .ok (.iconst 2, 1) := dk_5 (dk_at dksX5_dueIn_5 21 rfl rfl)
theorem dX5_dueIn_139 : decode cX5_dueIn 139 = .ok (.iaload, 1) := dk_46 (dk_at dksX5_dueIn_5 22 rfl rfl)
theorem dX5_dueIn_140 : decode cX5_dueIn 140 = .ok (.if_icmp .ge 108, 3) := dk_162 0 108 (dk_at dksX5_dueIn_6 0 rfl rfl)
theorem dX5_dueIn_143 : decode cX5_dueIn 143 = .ok (.iload_n 1, 1) := dk_27 (dk_at dksX5_dueIn_6 3 rfl rfl)
theorem dX5_dueIn_144 : decode cX5_dueIn 144 = .ok (.aload_n 0, 1) := dk_42 (dk_at dksX5_dueIn_6 4 rfl rfl)
theorem dX5_dueIn_145 : decode cX5_dueIn 145 = .ok (.getfield 9, 3) := dk_180 0 9 (dk_at dksX5_dueIn_6 5 rfl rfl)
theorem dX5_dueIn_148 : decode cX5_dueIn 148 = .ok (.bipush 7, 2) := dk_16 7 (dk_at dksX5_dueIn_6 8 rfl rfl)
theorem dX5_dueIn_150 : decode cX5_dueIn 150 = .ok (.iaload, 1) := dk_46 (dk_at dksX5_dueIn_6 10 rfl rfl)
theorem dX5_dueIn_151 : decode cX5_dueIn 151 = .ok (.if_icmp .ne 97, 3) := dk_160 0 97 (dk_at dksX5_dueIn_6 11 rfl rfl)
theorem dX5_dueIn_154 : decode cX5_dueIn 154 = .ok (.aload_n 0, 1) := dk_42 (dk_at dksX5_dueIn_6 14 rfl rfl)
theorem dX5_dueIn_155 : decode cX5_dueIn 155 = .ok (.iload_n 2, 1) := dk_28 (dk_at dksX5_dueIn_6 15 rfl rfl)
theorem dX5_dueIn_156 : decode cX5_dueIn 156 = .ok (.invokevirtual 249, 3) := dk_182 0 249 (dk_at dksX5_dueIn_6 16 rfl rfl)
theorem dX5_dueIn_159 : decode cX5_dueIn 159 = .ok (.istore_n 3, 1) := dk_62 (dk_at dksX5_dueIn_6 19 rfl rfl)
theorem dX5_dueIn_160 : decode cX5_dueIn 160 = .ok (.iload_n 3, 1) := dk_29 (dk_at dksX5_dueIn_6 20 rfl rfl)
theorem dX5_dueIn_161 : decode cX5_dueIn 161 = .ok (.iconst (-1), 1) := dk_2 (dk_at dksX5_dueIn_6 21 rfl rfl)
theorem dX5_dueIn_162 : decode cX5_dueIn 162 = .ok (.if_icmp .eq 80, 3) := dk_159 0 80 (dk_at dksX5_dueIn_7 0 rfl rfl)
theorem dX5_dueIn_165 : decode cX5_dueIn 165 = .ok (.aload_n 0, 1) := dk_42 (dk_at dksX5_dueIn_7 3 rfl rfl)
theorem dX5_dueIn_166 : decode cX5_dueIn 166 = .ok (.iload_n 2, 1) := dk_28 (dk_at dksX5_dueIn_7 4 rfl rfl)
theorem dX5_dueIn_167 : decode cX5_dueIn 167 = .ok (.iconst 0, 1) := dk_3 (dk_at dksX5_dueIn_7 5 rfl rfl)
theorem dX5_dueIn_168 : decode cX5_dueIn 168 = .ok (.invokevirtual 252, 3) := dk_182 0 252 (dk_at dksX5_dueIn_7 6 rfl rfl)
theorem dX5_dueIn_171 : decode cX5_dueIn 171 = .ok (.iload_n 1, 1) := dk_27 (dk_at dksX5_dueIn_7 9 rfl rfl)
theorem dX5_dueIn_172 : decode cX5_dueIn 172 = .ok (.if_icmp .le 6, 3) := dk_164 0 6 (dk_at dksX5_dueIn_7 10 rfl rfl)
theorem dX5_dueIn_175 : decode cX5_dueIn 175 = .ok (.goto 67, 3) := dk_167 0 67 (dk_at dksX5_dueIn_7 13 rfl rfl)
theorem dX5_dueIn_178 : decode cX5_dueIn 178 = .ok (.aload_n 0, 1) := dk_42 (dk_at dksX5_dueIn_7 16 rfl rfl)
theorem dX5_dueIn_179 : decode cX5_dueIn 179 = .ok (.getfield 40, 3) := dk_180 0 40 (dk_at dksX5_dueIn_7 17 rfl rfl)
theorem dX5_dueIn_182 : decode cX5_dueIn 182 = .ok (.iconst 3, 1) := dk_6 (dk_at dksX5_dueIn_7 20 rfl rfl)
theorem dX5_dueIn_183 : decode cX5_dueIn 183 = .ok (.iload_n 2, 1) := dk_28 (dk_at dksX5_dueIn_7 21 rfl rfl)
theorem dX5_dueIn_184 : decode cX5_dueIn 184 = .ok (.imul, 1) := dk_104 (dk_at dksX5_dueIn_7 22 rfl rfl)
theorem dX5_dueIn_185 : decode cX5_dueIn 185 = .ok (.iconst 1, 1) := dk_4 (dk_at dksX5_dueIn_7 23 rfl rfl)
theorem dX5_dueIn_186 : decode cX5_dueIn 186 = .ok (.iadd, 1) := dk_96 (dk_at dksX5_dueIn_8 0 rfl rfl)
theorem dX5_dueIn_187 : decode cX5_dueIn 187 = .ok (.iaload, 1) := dk_46 (dk_at dksX5_dueIn_8 1 rfl rfl)
theorem dX5_dueIn_188 : decode cX5_dueIn 188 = .ok (.aload_n 0, 1) := dk_42 (dk_at dksX5_dueIn_8 2 rfl rfl)
theorem dX5_dueIn_189 : decode cX5_dueIn 189 = .ok (.getfield 34, 3) := dk_180 0 34 (dk_at dksX5_dueIn_8 3 rfl rfl)
theorem dX5_dueIn_192 : decode cX5_dueIn 192 = .ok (.iload_n 3, 1) := dk_29 (dk_at dksX5_dueIn_8 6 rfl rfl)
theorem dX5_dueIn_193 : decode cX5_dueIn 193 = .ok (.iaload, 1) := dk_46 (dk_at dksX5_dueIn_8 7 rfl rfl)
theorem dX5_dueIn_194 : decode cX5_dueIn 194 = .ok (.invokestatic 128, 3) := dk_184 0 128 (dk_at dksX5_dueIn_8 8 rfl rfl)
theorem dX5_dueIn_197 : decode cX5_dueIn 197 = .ok (.istore 4, 2) := dk_54 4 (dk_at dksX5_dueIn_8 11 rfl rfl)
theorem dX5_dueIn_199 : decode cX5_dueIn 199 = .ok (.aload_n 0, 1) := dk_42 (dk_at dksX5_dueIn_8 13 rfl rfl)
theorem dX5_dueIn_200 : decode cX5_dueIn 200 = .ok (.getfield 40, 3) := dk_180 0 40 (dk_at dksX5_dueIn_8 14 rfl rfl)
theorem dX5_dueIn_203 : decode cX5_dueIn 203 = .ok (.iconst 3, 1) := dk_6 (dk_at dksX5_dueIn_8 17 rfl rfl)
theorem dX5_dueIn_204 : decode cX5_dueIn 204 = .ok (.iload_n 2, 1) := dk_28 (dk_at dksX5_dueIn_8 18 rfl rfl)
theorem dX5_dueIn_205 : decode cX5_dueIn 205 = .ok (.imul, 1) := dk_104 (dk_at dksX5_dueIn_8 19 rfl rfl)
theorem dX5_dueIn_206 : decode cX5_dueIn 206 = .ok (.iconst 2, 1) := dk_5 (dk_at dksX5_dueIn_8 20 rfl rfl)
theorem dX5_dueIn_207 : decode cX5_dueIn 207 = .ok (.iadd, 1) := dk_96 (dk_at dksX5_dueIn_8 21 rfl rfl)
theorem dX5_dueIn_208 : decode cX5_dueIn 208 = .ok (.iload 4, 2) := dk_21 4 (dk_at dksX5_dueIn_8 22 rfl rfl)
theorem dX5_dueIn_210 : decode cX5_dueIn 210 = .ok (.iastore, 1) := dk_79 (dk_at dksX5_dueIn_9 0 rfl rfl)
theorem dX5_dueIn_211 : decode cX5_dueIn 211 = .ok (.aload_n 0, 1) := dk_42 (dk_at dksX5_dueIn_9 1 rfl rfl)
theorem dX5_dueIn_212 : decode cX5_dueIn 212 = .ok (.getfield 34, 3) := dk_180 0 34 (dk_at dksX5_dueIn_9 2 rfl rfl)
theorem dX5_dueIn_215 : decode cX5_dueIn 215 = .ok (.iload_n 3, 1) := dk_29 (dk_at dksX5_dueIn_9 5 rfl rfl)
theorem dX5_dueIn_216 : decode cX5_dueIn 216 = .ok (.dup2, 1) := dk_92 (dk_at dksX5_dueIn_9 6 rfl rfl)
theorem dX5_dueIn_217 : decode cX5_dueIn 217 = .ok (.iaload, 1) := dk_46 (dk_at dksX5_dueIn_9 7 rfl rfl)
theorem dX5_dueIn_218 : decode cX5_dueIn 218 = .ok (.iload 4, 2) := dk_21 4 (dk_at dksX5_dueIn_9 8 rfl rfl)
theorem dX5_dueIn_220 : decode cX5_dueIn 220 = .ok (.isub, 1) := dk_100 (dk_at dksX5_dueIn_9 10 rfl rfl)
theorem dX5_dueIn_221 : decode cX5_dueIn 221 = .ok (.iastore, 1) := dk_79 (dk_at dksX5_dueIn_9 11 rfl rfl)
theorem dX5_dueIn_222 : decode cX5_dueIn 222 = .ok (.iload 4, 2) := dk_21 4 (dk_at dksX5_dueIn_9 12 rfl rfl)
theorem dX5_dueIn_224 : decode cX5_dueIn 224 = .ok (.aload_n 0, 1) := dk_42 (dk_at dksX5_dueIn_9 14 rfl rfl)
theorem dX5_dueIn_225 : decode cX5_dueIn 225 = .ok (.getfield 40, 3) := dk_180 0 40 (dk_at dksX5_dueIn_9 15 rfl rfl)
theorem dX5_dueIn_228 : decode cX5_dueIn 228 = .ok (.iconst 3, 1) := dk_6 (dk_at dksX5_dueIn_9 18 rfl rfl)
theorem dX5_dueIn_229 : decode cX5_dueIn 229 = .ok (.iload_n 2, 1) := dk_28 (dk_at dksX5_dueIn_9 19 rfl rfl)
theorem dX5_dueIn_230 : decode cX5_dueIn 230 = .ok (.imul, 1) := dk_104 (dk_at dksX5_dueIn_9 20 rfl rfl)
theorem dX5_dueIn_231 : decode cX5_dueIn 231 = .ok (.iconst 1, 1) := dk_4 (dk_at dksX5_dueIn_9 21 rfl rfl)
theorem dX5_dueIn_232 : decode cX5_dueIn 232 = .ok (.iadd, 1) := dk_96 (dk_at dksX5_dueIn_9 22 rfl rfl)
theorem dX5_dueIn_233 : decode cX5_dueIn 233 = .ok (.iaload, 1) := dk_46 (dk_at dksX5_dueIn_9 23 rfl rfl)
theorem dX5_dueIn_234 : decode cX5_dueIn 234 = .ok (.if_icmp .ge 8, 3) := dk_162 0 8 (dk_at dksX5_dueIn_10 0 rfl rfl)
theorem dX5_dueIn_237 : decode cX5_dueIn 237 = .ok (.aload_n 0, 1) := dk_42 (dk_at dksX5_dueIn_10 3 rfl rfl)
theorem dX5_dueIn_238 : decode cX5_dueIn 238 = .ok (.iload_n 1, 1) := dk_27 (dk_at dksX5_dueIn_10 4 rfl rfl)
theorem dX5_dueIn_239 : decode cX5_dueIn 239 = .ok (.invokevirtual 264, 3) := dk_182 1 8 (dk_at dksX5_dueIn_10 5 rfl rfl)
theorem dX5_dueIn_242 : decode cX5_dueIn 242 = .ok (.iinc 2 1, 3) := dk_132 2 1 (dk_at dksX5_dueIn_10 8 rfl rfl)
theorem dX5_dueIn_245 : decode cX5_dueIn 245 = .ok (.goto (-112), 3) := dk_167 255 144 (dk_at dksX5_dueIn_10 11 rfl rfl)
theorem dX5_dueIn_248 : decode cX5_dueIn 248 = .ok (.return_, 1) := dk_177 (dk_at dksX5_dueIn_10 14 rfl rfl)
abbrev cX5_wrongIn : ByteArray := prog_13_method_39_code
def yX5_wrongIn : MethodName := ⟨RX5, "wrongIn", "(I)V"⟩
def dkwX5_wrongIn_0 : List UInt8 := [42, 42, 180, 0, 246, 2, 160, 0, 7, 27, 167, 0, 7, 42, 180, 0, 246, 181, 0, 246, 177]
abbrev dktX5_wrongIn_0 : List UInt8 := dkwX5_wrongIn_0 ++ []
theorem dksX5_wrongIn_0 : cX5_wrongIn.data.toList.drop 0 = dktX5_wrongIn_0 := by decide +kernel
theorem dX5_wrongIn_0 : decode cX5_wrongIn 0 = .ok (.aload_n 0, 1) := dk_42 (dk_at dksX5_wrongIn_0 0 rfl rfl)
theorem dX5_wrongIn_1 : decode cX5_wrongIn 1 = .ok (.aload_n 0, 1) := dk_42 (dk_at dksX5_wrongIn_0 1 rfl rfl)
theorem dX5_wrongIn_2 : decode cX5_wrongIn 2 = .ok (.getfield 246, 3) := dk_180 0 246 (dk_at dksX5_wrongIn_0 2 rfl rfl)
theorem dX5_wrongIn_5 : decode cX5_wrongIn 5 = .ok (.iconst (-1), 1) := dk_2 (dk_at dksX5_wrongIn_0 5 rfl rfl)
theorem dX5_wrongIn_6 : decode cX5_wrongIn 6 = .ok (.if_icmp .ne 7, 3) := dk_160 0 7 (dk_at dksX5_wrongIn_0 6 rfl rfl)
theorem dX5_wrongIn_9 : decode cX5_wrongIn 9 = .ok (.iload_n 1, 1) := dk_27 (dk_at dksX5_wrongIn_0 9 rfl rfl)
theorem dX5_wrongIn_10 : decode cX5_wrongIn 10 = .ok (.goto 7, 3) := dk_167 0 7 (dk_at dksX5_wrongIn_0 10 rfl rfl)
theorem dX5_wrongIn_13 : decode cX5_wrongIn 13 = .ok (.aload_n 0, 1) := dk_42 (dk_at dksX5_wrongIn_0 13 rfl rfl)
theorem dX5_wrongIn_14 : decode cX5_wrongIn 14 = .ok (.getfield 246, 3) := dk_180 0 246 (dk_at dksX5_wrongIn_0 14 rfl rfl)
theorem dX5_wrongIn_17 : decode cX5_wrongIn 17 = .ok (.putfield 246, 3) := dk_181 0 246 (dk_at dksX5_wrongIn_0 17 rfl rfl)
theorem dX5_wrongIn_20 : decode cX5_wrongIn 20 = .ok (.return_, 1) := dk_177 (dk_at dksX5_wrongIn_0 20 rfl rfl)
abbrev cX5_cropsIn : ByteArray := prog_13_method_43_code
def yX5_cropsIn : MethodName := ⟨RX5, "cropsIn", "(I)V"⟩
def dkwX5_cropsIn_7 : List UInt8 := [132, 2, 1, 167, 255, 87, 177]
abbrev dktX5_cropsIn_7 : List UInt8 := dkwX5_cropsIn_7 ++ []
def dkwX5_cropsIn_6 : List UInt8 := [2, 160, 0, 7, 27, 167, 0, 13, 42, 180, 0, 46, 6, 28, 104, 5, 96, 46, 79, 42, 27, 182, 1, 8]
abbrev dktX5_cropsIn_6 : List UInt8 := dkwX5_cropsIn_6 ++ dktX5_cropsIn_7
def dkwX5_cropsIn_5 : List UInt8 := [92, 46, 4, 96, 79, 42, 180, 0, 46, 6, 28, 104, 5, 96, 42, 180, 0, 46, 6, 28, 104, 5, 96, 46]
abbrev dktX5_cropsIn_5 : List UInt8 := dkwX5_cropsIn_5 ++ dktX5_cropsIn_6
def dkwX5_cropsIn_4 : List UInt8 := [3, 96, 92, 46, 42, 28, 5, 182, 1, 11, 96, 79, 167, 0, 60, 42, 180, 0, 46, 6, 28, 104, 4, 96]
abbrev dktX5_cropsIn_4 : List UInt8 := dkwX5_cropsIn_4 ++ dktX5_cropsIn_5
def dkwX5_cropsIn_3 : List UInt8 := [100, 79, 42, 89, 180, 1, 14, 42, 28, 4, 182, 1, 11, 96, 181, 1, 14, 42, 180, 0, 46, 6, 28, 104]
abbrev dktX5_cropsIn_3 : List UInt8 := dkwX5_cropsIn_3 ++ dktX5_cropsIn_4
def dkwX5_cropsIn_2 : List UInt8 := [29, 46, 42, 28, 4, 182, 1, 11, 161, 0, 55, 42, 180, 0, 34, 29, 92, 46, 42, 28, 4, 182, 1, 11]
abbrev dktX5_cropsIn_2 : List UInt8 := dkwX5_cropsIn_2 ++ dktX5_cropsIn_3
def dkwX5_cropsIn_1 : List UInt8 := [182, 1, 11, 133, 184, 0, 85, 154, 0, 6, 167, 0, 134, 42, 28, 3, 182, 1, 11, 62, 42, 180, 0, 34]
abbrev dktX5_cropsIn_1 : List UInt8 := dkwX5_cropsIn_1 ++ dktX5_cropsIn_2
def dkwX5_cropsIn_0 : List UInt8 := [3, 61, 28, 42, 180, 0, 9, 4, 46, 162, 0, 165, 27, 133, 42, 28, 6, 182, 1, 11, 133, 42, 28, 7]
abbrev dktX5_cropsIn_0 : List UInt8 := dkwX5_cropsIn_0 ++ dktX5_cropsIn_1
theorem dksX5_cropsIn_0 : cX5_cropsIn.data.toList.drop 0 = dktX5_cropsIn_0 := by decide +kernel
theorem dksX5_cropsIn_1 : cX5_cropsIn.data.toList.drop 24 = dktX5_cropsIn_1 := dk_seg dksX5_cropsIn_0 24 rfl rfl
theorem dksX5_cropsIn_2 : cX5_cropsIn.data.toList.drop 48 = dktX5_cropsIn_2 := dk_seg dksX5_cropsIn_1 24 rfl rfl
theorem dksX5_cropsIn_3 : cX5_cropsIn.data.toList.drop 72 = dktX5_cropsIn_3 := dk_seg dksX5_cropsIn_2 24 rfl rfl
theorem dksX5_cropsIn_4 : cX5_cropsIn.data.toList.drop 96 = dktX5_cropsIn_4 := dk_seg dksX5_cropsIn_3 24 rfl rfl
theorem dksX5_cropsIn_5 : cX5_cropsIn.data.toList.drop 120 = dktX5_cropsIn_5 := dk_seg dksX5_cropsIn_4 24 rfl rfl
theorem dksX5_cropsIn_6 : cX5_cropsIn.data.toList.drop 144 = dktX5_cropsIn_6 := dk_seg dksX5_cropsIn_5 24 rfl rfl
theorem dksX5_cropsIn_7 : cX5_cropsIn.data.toList.drop 168 = dktX5_cropsIn_7 := dk_seg dksX5_cropsIn_6 24 rfl rfl
theorem dX5_cropsIn_0 : decode cX5_cropsIn 0 = .ok (.iconst 0, 1) := dk_3 (dk_at dksX5_cropsIn_0 0 rfl rfl)
theorem dX5_cropsIn_1 : decode cX5_cropsIn 1 = .ok (.istore_n 2, 1) := dk_61 (dk_at dksX5_cropsIn_0 1 rfl rfl)
theorem dX5_cropsIn_2 : decode cX5_cropsIn 2 = .ok (.iload_n 2, 1) := dk_28 (dk_at dksX5_cropsIn_0 2 rfl rfl)
theorem dX5_cropsIn_3 : decode cX5_cropsIn 3 = .ok (.aload_n 0, 1) := dk_42 (dk_at dksX5_cropsIn_0 3 rfl rfl)
theorem dX5_cropsIn_4 : decode cX5_cropsIn 4 = .ok (.getfield 9, 3) := dk_180 0 9 (dk_at dksX5_cropsIn_0 4 rfl rfl)
theorem dX5_cropsIn_7 : decode cX5_cropsIn 7 = .ok (.iconst 1, 1) := dk_4 (dk_at dksX5_cropsIn_0 7 rfl rfl)
theorem dX5_cropsIn_8 : decode cX5_cropsIn 8 = .ok (.iaload, 1) := dk_46 (dk_at dksX5_cropsIn_0 8 rfl rfl)
theorem dX5_cropsIn_9 : decode cX5_cropsIn 9 = .ok (.if_icmp .ge 165, 3) := dk_162 0 165 (dk_at dksX5_cropsIn_0 9 rfl rfl)
theorem dX5_cropsIn_12 : decode cX5_cropsIn 12 = .ok (.iload_n 1, 1) := dk_27 (dk_at dksX5_cropsIn_0 12 rfl rfl)
theorem dX5_cropsIn_13 : decode cX5_cropsIn 13 = .ok (.i2l, 1) := dk_133 (dk_at dksX5_cropsIn_0 13 rfl rfl)
theorem dX5_cropsIn_14 : decode cX5_cropsIn 14 = .ok (.aload_n 0, 1) := dk_42 (dk_at dksX5_cropsIn_0 14 rfl rfl)
theorem dX5_cropsIn_15 : decode cX5_cropsIn 15 = .ok (.iload_n 2, 1) := dk_28 (dk_at dksX5_cropsIn_0 15 rfl rfl)
theorem dX5_cropsIn_16 : decode cX5_cropsIn 16 = .ok (.iconst 3, 1) := dk_6 (dk_at dksX5_cropsIn_0 16 rfl rfl)
theorem dX5_cropsIn_17 : decode cX5_cropsIn 17 = .ok (.invokevirtual 267, 3) := dk_182 1 11 (dk_at dksX5_cropsIn_0 17 rfl rfl)
theorem dX5_cropsIn_20 : decode cX5_cropsIn 20 = .ok (.i2l, 1) := dk_133 (dk_at dksX5_cropsIn_0 20 rfl rfl)
theorem dX5_cropsIn_21 : decode cX5_cropsIn 21 = .ok (.aload_n 0, 1) := dk_42 (dk_at dksX5_cropsIn_0 21 rfl rfl)
theorem dX5_cropsIn_22 : decode cX5_cropsIn 22 = .ok (.iload_n 2, 1) := dk_28 (dk_at dksX5_cropsIn_0 22 rfl rfl)
theorem dX5_cropsIn_23 : decode cX5_cropsIn 23 = .ok (.iconst 4, 1) := dk_7 (dk_at dksX5_cropsIn_0 23 rfl rfl)
theorem dX5_cropsIn_24 : decode cX5_cropsIn 24 = .ok (.invokevirtual 267, 3) := dk_182 1 11 (dk_at dksX5_cropsIn_1 0 rfl rfl)
theorem dX5_cropsIn_27 : decode cX5_cropsIn 27 = .ok (.i2l, 1) := dk_133 (dk_at dksX5_cropsIn_1 3 rfl rfl)
theorem dX5_cropsIn_28 : decode cX5_cropsIn 28 = .ok (.invokestatic 85, 3) := dk_184 0 85 (dk_at dksX5_cropsIn_1 4 rfl rfl)
theorem dX5_cropsIn_31 : decode cX5_cropsIn 31 = .ok (.ifCond .ne 6, 3) := dk_154 0 6 (dk_at dksX5_cropsIn_1 7 rfl rfl)
theorem dX5_cropsIn_34 : decode cX5_cropsIn 34 = .ok (.goto 134, 3) := dk_167 0 134 (dk_at dksX5_cropsIn_1 10 rfl rfl)
theorem dX5_cropsIn_37 : decode cX5_cropsIn 37 = .ok (.aload_n 0, 1) := dk_42 (dk_at dksX5_cropsIn_1 13 rfl rfl)
theorem dX5_cropsIn_38 : decode cX5_cropsIn 38 = .ok (.iload_n 2, 1) := dk_28 (dk_at dksX5_cropsIn_1 14 rfl rfl)
theorem dX5_cropsIn_39 : decode cX5_cropsIn 39 = .ok (.iconst 0, 1) := dk_3 (dk_at dksX5_cropsIn_1 15 rfl rfl)
theorem dX5_cropsIn_40 : decode cX5_cropsIn 40 = .ok (.invokevirtual 267, 3) := dk_182 1 11 (dk_at dksX5_cropsIn_1 16 rfl rfl)
theorem dX5_cropsIn_43 : decode cX5_cropsIn 43 = .ok (.istore_n 3, 1) := dk_62 (dk_at dksX5_cropsIn_1 19 rfl rfl)
theorem dX5_cropsIn_44 : decode cX5_cropsIn 44 = .ok (.aload_n 0, 1) := dk_42 (dk_at dksX5_cropsIn_1 20 rfl rfl)
theorem dX5_cropsIn_45 : decode cX5_cropsIn 45 = .ok (.getfield 34, 3) := dk_180 0 34 (dk_at dksX5_cropsIn_1 21 rfl rfl)
theorem dX5_cropsIn_48 : decode cX5_cropsIn 48 = .ok (.iload_n 3, 1) := dk_29 (dk_at dksX5_cropsIn_2 0 rfl rfl)
theorem dX5_cropsIn_49 : decode cX5_cropsIn 49 = .ok (.iaload, 1) := dk_46 (dk_at dksX5_cropsIn_2 1 rfl rfl)
theorem dX5_cropsIn_50 : decode cX5_cropsIn 50 = .ok (.aload_n 0, 1) := dk_42 (dk_at dksX5_cropsIn_2 2 rfl rfl)
theorem dX5_cropsIn_51 : decode cX5_cropsIn 51 = .ok (.iload_n 2, 1) := dk_28 (dk_at dksX5_cropsIn_2 3 rfl rfl)
theorem dX5_cropsIn_52 : decode cX5_cropsIn 52 = .ok (.iconst 1, 1) := dk_4 (dk_at dksX5_cropsIn_2 4 rfl rfl)
theorem dX5_cropsIn_53 : decode cX5_cropsIn 53 = .ok (.invokevirtual 267, 3) := dk_182 1 11 (dk_at dksX5_cropsIn_2 5 rfl rfl)
theorem dX5_cropsIn_56 : decode cX5_cropsIn 56 = .ok (.if_icmp .lt 55, 3) := dk_161 0 55 (dk_at dksX5_cropsIn_2 8 rfl rfl)
theorem dX5_cropsIn_59 : decode cX5_cropsIn 59 = .ok (.aload_n 0, 1) := dk_42 (dk_at dksX5_cropsIn_2 11 rfl rfl)
theorem dX5_cropsIn_60 : decode cX5_cropsIn 60 = .ok (.getfield 34, 3) := dk_180 0 34 (dk_at dksX5_cropsIn_2 12 rfl rfl)
theorem dX5_cropsIn_63 : decode cX5_cropsIn 63 = .ok (.iload_n 3, 1) := dk_29 (dk_at dksX5_cropsIn_2 15 rfl rfl)
theorem dX5_cropsIn_64 : decode cX5_cropsIn 64 = .ok (.dup2, 1) := dk_92 (dk_at dksX5_cropsIn_2 16 rfl rfl)
theorem dX5_cropsIn_65 : decode cX5_cropsIn 65 = .ok (.iaload, 1) := dk_46 (dk_at dksX5_cropsIn_2 17 rfl rfl)
theorem dX5_cropsIn_66 : decode cX5_cropsIn 66 = .ok (.aload_n 0, 1) := dk_42 (dk_at dksX5_cropsIn_2 18 rfl rfl)
theorem dX5_cropsIn_67 : decode cX5_cropsIn 67 = .ok (.iload_n 2, 1) := dk_28 (dk_at dksX5_cropsIn_2 19 rfl rfl)
theorem dX5_cropsIn_68 : decode cX5_cropsIn 68 = .ok (.iconst 1, 1) := dk_4 (dk_at dksX5_cropsIn_2 20 rfl rfl)
theorem dX5_cropsIn_69 : decode cX5_cropsIn 69 = .ok (.invokevirtual 267, 3) := dk_182 1 11 (dk_at dksX5_cropsIn_2 21 rfl rfl)
theorem dX5_cropsIn_72 : decode cX5_cropsIn 72 = .ok (.isub, 1) := dk_100 (dk_at dksX5_cropsIn_3 0 rfl rfl)
theorem dX5_cropsIn_73 : decode cX5_cropsIn 73 = .ok (.iastore, 1) := dk_79 (dk_at dksX5_cropsIn_3 1 rfl rfl)
theorem dX5_cropsIn_74 : decode cX5_cropsIn 74 = .ok (.aload_n 0, 1) := dk_42 (dk_at dksX5_cropsIn_3 2 rfl rfl)
theorem dX5_cropsIn_75 : decode cX5_cropsIn 75 = .ok (.dup, 1) := dk_89 (dk_at dksX5_cropsIn_3 3 rfl rfl)
theorem dX5_cropsIn_76 : decode cX5_cropsIn 76 = .ok (.getfield 270, 3) := dk_180 1 14 (dk_at dksX5_cropsIn_3 4 rfl rfl)
theorem dX5_cropsIn_79 : decode cX5_cropsIn 79 = .ok (.aload_n 0, 1) := dk_42 (dk_at dksX5_cropsIn_3 7 rfl rfl)
theorem dX5_cropsIn_80 : decode cX5_cropsIn 80 = .ok (.iload_n 2, 1) := dk_28 (dk_at dksX5_cropsIn_3 8 rfl rfl)
theorem dX5_cropsIn_81 : decode cX5_cropsIn 81 = .ok (.iconst 1, 1) := dk_4 (dk_at dksX5_cropsIn_3 9 rfl rfl)
theorem dX5_cropsIn_82 : decode cX5_cropsIn 82 = .ok (.invokevirtual 267, 3) := dk_182 1 11 (dk_at dksX5_cropsIn_3 10 rfl rfl)
theorem dX5_cropsIn_85 : decode cX5_cropsIn 85 = .ok (.iadd, 1) := dk_96 (dk_at dksX5_cropsIn_3 13 rfl rfl)
theorem dX5_cropsIn_86 : decode cX5_cropsIn 86 = .ok (.putfield 270, 3) := dk_181 1 14 (dk_at dksX5_cropsIn_3 14 rfl rfl)
theorem dX5_cropsIn_89 : decode cX5_cropsIn 89 = .ok (.aload_n 0, 1) := dk_42 (dk_at dksX5_cropsIn_3 17 rfl rfl)
theorem dX5_cropsIn_90 : decode cX5_cropsIn 90 = .ok (.getfield 46, 3) := dk_180 0 46 (dk_at dksX5_cropsIn_3 18 rfl rfl)
theorem dX5_cropsIn_93 : decode cX5_cropsIn 93 = .ok (.iconst 3, 1) := dk_6 (dk_at dksX5_cropsIn_3 21 rfl rfl)
theorem dX5_cropsIn_94 : decode cX5_cropsIn 94 = .ok (.iload_n 2, 1) := dk_28 (dk_at dksX5_cropsIn_3 22 rfl rfl)
theorem dX5_cropsIn_95 : decode cX5_cropsIn 95 = .ok (.imul, 1) := dk_104 (dk_at dksX5_cropsIn_3 23 rfl rfl)
theorem dX5_cropsIn_96 : decode cX5_cropsIn 96 = .ok (.iconst 0, 1) := dk_3 (dk_at dksX5_cropsIn_4 0 rfl rfl)
theorem dX5_cropsIn_97 : decode cX5_cropsIn 97 = .ok (.iadd, 1) := dk_96 (dk_at dksX5_cropsIn_4 1 rfl rfl)
theorem dX5_cropsIn_98 : decode cX5_cropsIn 98 = .ok (.dup2, 1) := dk_92 (dk_at dksX5_cropsIn_4 2 rfl rfl)
theorem dX5_cropsIn_99 : decode cX5_cropsIn 99 = .ok (.iaload, 1) := dk_46 (dk_at dksX5_cropsIn_4 3 rfl rfl)
theorem dX5_cropsIn_100 : decode cX5_cropsIn 100 = .ok (.aload_n 0, 1) := dk_42 (dk_at dksX5_cropsIn_4 4 rfl rfl)
theorem dX5_cropsIn_101 : decode cX5_cropsIn 101 = .ok (.iload_n 2, 1) := dk_28 (dk_at dksX5_cropsIn_4 5 rfl rfl)
theorem dX5_cropsIn_102 : decode cX5_cropsIn 102 = .ok (.iconst 2, 1) := dk_5 (dk_at dksX5_cropsIn_4 6 rfl rfl)
theorem dX5_cropsIn_103 : decode cX5_cropsIn 103 = .ok (.invokevirtual 267, 3) := dk_182 1 11 (dk_at dksX5_cropsIn_4 7 rfl rfl)
theorem dX5_cropsIn_106 : decode cX5_cropsIn 106 = .ok (.iadd, 1) := dk_96 (dk_at dksX5_cropsIn_4 10 rfl rfl)
theorem dX5_cropsIn_107 : decode cX5_cropsIn 107 = .ok (.iastore, 1) := dk_79 (dk_at dksX5_cropsIn_4 11 rfl rfl)
theorem dX5_cropsIn_108 : decode cX5_cropsIn 108 = .ok (.goto 60, 3) := dk_167 0 60 (dk_at dksX5_cropsIn_4 12 rfl rfl)
theorem dX5_cropsIn_111 : decode cX5_cropsIn 111 = .ok (.aload_n 0, 1) := dk_42 (dk_at dksX5_cropsIn_4 15 rfl rfl)
theorem dX5_cropsIn_112 : decode cX5_cropsIn 112 = .ok (.getfield 46, 3) := dk_180 0 46 (dk_at dksX5_cropsIn_4 16 rfl rfl)
theorem dX5_cropsIn_115 : decode cX5_cropsIn 115 = .ok (.iconst 3, 1) := dk_6 (dk_at dksX5_cropsIn_4 19 rfl rfl)
theorem dX5_cropsIn_116 : decode cX5_cropsIn 116 = .ok (.iload_n 2, 1) := dk_28 (dk_at dksX5_cropsIn_4 20 rfl rfl)
theorem dX5_cropsIn_117 : decode cX5_cropsIn 117 = .ok (.imul, 1) := dk_104 (dk_at dksX5_cropsIn_4 21 rfl rfl)
theorem dX5_cropsIn_118 : decode cX5_cropsIn 118 = .ok (.iconst 1, 1) := dk_4 (dk_at dksX5_cropsIn_4 22 rfl rfl)
theorem dX5_cropsIn_119 : decode cX5_cropsIn 119 = .ok (.iadd, 1) := dk_96 (dk_at dksX5_cropsIn_4 23 rfl rfl)
theorem dX5_cropsIn_120 : decode cX5_cropsIn 120 = .ok (.dup2, 1) := dk_92 (dk_at dksX5_cropsIn_5 0 rfl rfl)
theorem dX5_cropsIn_121 : decode cX5_cropsIn 121 = .ok (.iaload, 1) := dk_46 (dk_at dksX5_cropsIn_5 1 rfl rfl)
theorem dX5_cropsIn_122 : decode cX5_cropsIn 122 = .ok (.iconst 1, 1) := dk_4 (dk_at dksX5_cropsIn_5 2 rfl rfl)
theorem dX5_cropsIn_123 : decode cX5_cropsIn 123 = .ok (.iadd, 1) := dk_96 (dk_at dksX5_cropsIn_5 3 rfl rfl)
theorem dX5_cropsIn_124 : decode cX5_cropsIn 124 = .ok (.iastore, 1) := dk_79 (dk_at dksX5_cropsIn_5 4 rfl rfl)
theorem dX5_cropsIn_125 : decode cX5_cropsIn 125 = .ok (.aload_n 0, 1) := dk_42 (dk_at dksX5_cropsIn_5 5 rfl rfl)
theorem dX5_cropsIn_126 : decode cX5_cropsIn 126 = .ok (.getfield 46, 3) := dk_180 0 46 (dk_at dksX5_cropsIn_5 6 rfl rfl)
theorem dX5_cropsIn_129 : decode cX5_cropsIn 129 = .ok (.iconst 3, 1) := dk_6 (dk_at dksX5_cropsIn_5 9 rfl rfl)
theorem dX5_cropsIn_130 : decode cX5_cropsIn 130 = .ok (.iload_n 2, 1) := dk_28 (dk_at dksX5_cropsIn_5 10 rfl rfl)
theorem dX5_cropsIn_131 : decode cX5_cropsIn 131 = .ok (.imul, 1) := dk_104 (dk_at dksX5_cropsIn_5 11 rfl rfl)
theorem dX5_cropsIn_132 : decode cX5_cropsIn 132 = .ok (.iconst 2, 1) := dk_5 (dk_at dksX5_cropsIn_5 12 rfl rfl)
theorem dX5_cropsIn_133 : decode cX5_cropsIn 133 = .ok (.iadd, 1) := dk_96 (dk_at dksX5_cropsIn_5 13 rfl rfl)
theorem dX5_cropsIn_134 : decode cX5_cropsIn 134 = .ok (.aload_n 0, 1) := dk_42 (dk_at dksX5_cropsIn_5 14 rfl rfl)
theorem dX5_cropsIn_135 : decode cX5_cropsIn 135 = .ok (.getfield 46, 3) := dk_180 0 46 (dk_at dksX5_cropsIn_5 15 rfl rfl)
theorem dX5_cropsIn_138 : decode cX5_cropsIn 138 = .ok (.iconst 3, 1) := dk_6 (dk_at dksX5_cropsIn_5 18 rfl rfl)
theorem dX5_cropsIn_139 : decode cX5_cropsIn 139 = .ok (.iload_n 2, 1) := dk_28 (dk_at dksX5_cropsIn_5 19 rfl rfl)
theorem dX5_cropsIn_140 : decode cX5_cropsIn 140 = .ok (.imul, 1) := dk_104 (dk_at dksX5_cropsIn_5 20 rfl rfl)
theorem dX5_cropsIn_141 : decode cX5_cropsIn 141 = .ok (.iconst 2, 1) := dk_5 (dk_at dksX5_cropsIn_5 21 rfl rfl)
theorem dX5_cropsIn_142 : decode cX5_cropsIn 142 = .ok (.iadd, 1) := dk_96 (dk_at dksX5_cropsIn_5 22 rfl rfl)
theorem dX5_cropsIn_143 : decode cX5_cropsIn 143 = .ok (.iaload, 1) := dk_46 (dk_at dksX5_cropsIn_5 23 rfl rfl)
theorem dX5_cropsIn_144 : decode cX5_cropsIn 144 = .ok (.iconst (-1), 1) := dk_2 (dk_at dksX5_cropsIn_6 0 rfl rfl)
theorem dX5_cropsIn_145 : decode cX5_cropsIn 145 = .ok (.if_icmp .ne 7, 3) := dk_160 0 7 (dk_at dksX5_cropsIn_6 1 rfl rfl)
theorem dX5_cropsIn_148 : decode cX5_cropsIn 148 = .ok (.iload_n 1, 1) := dk_27 (dk_at dksX5_cropsIn_6 4 rfl rfl)
theorem dX5_cropsIn_149 : decode cX5_cropsIn 149 = .ok (.goto 13, 3) := dk_167 0 13 (dk_at dksX5_cropsIn_6 5 rfl rfl)
theorem dX5_cropsIn_152 : decode cX5_cropsIn 152 = .ok (.aload_n 0, 1) := dk_42 (dk_at dksX5_cropsIn_6 8 rfl rfl)
theorem dX5_cropsIn_153 : decode cX5_cropsIn 153 = .ok (.getfield 46, 3) := dk_180 0 46 (dk_at dksX5_cropsIn_6 9 rfl rfl)
theorem dX5_cropsIn_156 : decode cX5_cropsIn 156 = .ok (.iconst 3, 1) := dk_6 (dk_at dksX5_cropsIn_6 12 rfl rfl)
theorem dX5_cropsIn_157 : decode cX5_cropsIn 157 = .ok (.iload_n 2, 1) := dk_28 (dk_at dksX5_cropsIn_6 13 rfl rfl)
theorem dX5_cropsIn_158 : decode cX5_cropsIn 158 = .ok (.imul, 1) := dk_104 (dk_at dksX5_cropsIn_6 14 rfl rfl)
theorem dX5_cropsIn_159 : decode cX5_cropsIn 159 = .ok (.iconst 2, 1) := dk_5 (dk_at dksX5_cropsIn_6 15 rfl rfl)
theorem dX5_cropsIn_160 : decode cX5_cropsIn 160 = .ok (.iadd, 1) := dk_96 (dk_at dksX5_cropsIn_6 16 rfl rfl)
theorem dX5_cropsIn_161 : decode cX5_cropsIn 161 = .ok (.iaload, 1) := dk_46 (dk_at dksX5_cropsIn_6 17 rfl rfl)
theorem dX5_cropsIn_162 : decode cX5_cropsIn 162 = .ok (.iastore, 1) := dk_79 (dk_at dksX5_cropsIn_6 18 rfl rfl)
theorem dX5_cropsIn_163 : decode cX5_cropsIn 163 = .ok (.aload_n 0, 1) := dk_42 (dk_at dksX5_cropsIn_6 19 rfl rfl)
theorem dX5_cropsIn_164 : decode cX5_cropsIn 164 = .ok (.iload_n 1, 1) := dk_27 (dk_at dksX5_cropsIn_6 20 rfl rfl)
theorem dX5_cropsIn_165 : decode cX5_cropsIn 165 = .ok (.invokevirtual 264, 3) := dk_182 1 8 (dk_at dksX5_cropsIn_6 21 rfl rfl)
theorem dX5_cropsIn_168 : decode cX5_cropsIn 168 = .ok (.iinc 2 1, 3) := dk_132 2 1 (dk_at dksX5_cropsIn_7 0 rfl rfl)
theorem dX5_cropsIn_171 : decode cX5_cropsIn 171 = .ok (.goto (-169), 3) := dk_167 255 87 (dk_at dksX5_cropsIn_7 3 rfl rfl)
theorem dX5_cropsIn_174 : decode cX5_cropsIn 174 = .ok (.return_, 1) := dk_177 (dk_at dksX5_cropsIn_7 6 rfl rfl)
abbrev cX5_ofCrop : ByteArray := prog_13_method_13_code
def yX5_ofCrop : MethodName := ⟨RX5, "ofCrop", "(II)I"⟩
def dkwX5_ofCrop_0 : List UInt8 := [42, 180, 0, 9, 16, 38, 8, 27, 104, 96, 28, 96, 46, 172]
abbrev dktX5_ofCrop_0 : List UInt8 := dkwX5_ofCrop_0 ++ []
theorem dksX5_ofCrop_0 : cX5_ofCrop.data.toList.drop 0 = dktX5_ofCrop_0 := by decide +kernel
theorem dX5_ofCrop_0 : decode cX5_ofCrop 0 = .ok (.aload_n 0, 1) := dk_42 (dk_at dksX5_ofCrop_0 0 rfl rfl)
theorem dX5_ofCrop_1 : decode cX5_ofCrop 1 = .ok (.getfield 9, 3) := dk_180 0 9 (dk_at dksX5_ofCrop_0 1 rfl rfl)
theorem dX5_ofCrop_4 : decode cX5_ofCrop 4 = .ok (.bipush 38, 2) := dk_16 38 (dk_at dksX5_ofCrop_0 4 rfl rfl)
theorem dX5_ofCrop_6 : decode cX5_ofCrop 6 = .ok (.iconst 5, 1) := dk_8 (dk_at dksX5_ofCrop_0 6 rfl rfl)
theorem dX5_ofCrop_7 : decode cX5_ofCrop 7 = .ok (.iload_n 1, 1) := dk_27 (dk_at dksX5_ofCrop_0 7 rfl rfl)
theorem dX5_ofCrop_8 : decode cX5_ofCrop 8 = .ok (.imul, 1) := dk_104 (dk_at dksX5_ofCrop_0 8 rfl rfl)
theorem dX5_ofCrop_9 : decode cX5_ofCrop 9 = .ok (.iadd, 1) := dk_96 (dk_at dksX5_ofCrop_0 9 rfl rfl)
theorem dX5_ofCrop_10 : decode cX5_ofCrop 10 = .ok (.iload_n 2, 1) := dk_28 (dk_at dksX5_ofCrop_0 10 rfl rfl)
theorem dX5_ofCrop_11 : decode cX5_ofCrop 11 = .ok (.iadd, 1) := dk_96 (dk_at dksX5_ofCrop_0 11 rfl rfl)
theorem dX5_ofCrop_12 : decode cX5_ofCrop 12 = .ok (.iaload, 1) := dk_46 (dk_at dksX5_ofCrop_0 12 rfl rfl)
theorem dX5_ofCrop_13 : decode cX5_ofCrop 13 = .ok (.ireturn, 1) := dk_172 (dk_at dksX5_ofCrop_0 13 rfl rfl)
abbrev cX5_losesIn : ByteArray := prog_13_method_44_code
def yX5_losesIn : MethodName := ⟨RX5, "losesIn", "(I)V"⟩
def dkwX5_losesIn_7 : List UInt8 := [167, 255, 165, 177]
abbrev dktX5_losesIn_7 : List UInt8 := dkwX5_losesIn_7 ++ []
def dkwX5_losesIn_6 : List UInt8 := [92, 46, 21, 4, 96, 79, 42, 89, 180, 1, 20, 29, 21, 4, 100, 96, 181, 1, 20, 132, 2, 255]
abbrev dktX5_losesIn_6 : List UInt8 := dkwX5_losesIn_6 ++ dktX5_losesIn_7
def dkwX5_losesIn_5 : List UInt8 := [42, 28, 4, 96, 182, 0, 255, 184, 0, 128, 54, 4, 21, 4, 158, 0, 16, 42, 180, 0, 34, 28, 4, 96]
abbrev dktX5_losesIn_5 : List UInt8 := dkwX5_losesIn_5 ++ dktX5_losesIn_6
def dkwX5_losesIn_4 : List UInt8 := [180, 0, 34, 28, 92, 46, 29, 100, 79, 28, 42, 182, 0, 89, 4, 100, 160, 0, 7, 3, 167, 0, 14, 29]
abbrev dktX5_losesIn_4 : List UInt8 := dkwX5_losesIn_4 ++ dktX5_losesIn_5
def dkwX5_losesIn_3 : List UInt8 := [61, 28, 155, 0, 93, 42, 180, 0, 34, 28, 46, 42, 28, 6, 182, 0, 241, 184, 0, 128, 62, 42]
abbrev dktX5_losesIn_3 : List UInt8 := dkwX5_losesIn_3 ++ dktX5_losesIn_4
def dkwX5_losesIn_2 : List UInt8 := [100, 79, 42, 89, 180, 1, 17, 29, 96, 181, 1, 17, 132, 2, 1, 167, 255, 196, 42, 182, 0, 89, 4, 100]
abbrev dktX5_losesIn_2 : List UInt8 := dkwX5_losesIn_2 ++ dktX5_losesIn_3
def dkwX5_losesIn_1 : List UInt8 := [180, 0, 9, 16, 78, 27, 96, 46, 104, 16, 100, 108, 184, 0, 128, 62, 42, 180, 0, 34, 28, 92, 46, 29]
abbrev dktX5_losesIn_1 : List UInt8 := dkwX5_losesIn_1 ++ dktX5_losesIn_2
def dkwX5_losesIn_0 : List UInt8 := [3, 61, 28, 42, 182, 0, 89, 162, 0, 58, 42, 180, 0, 34, 28, 46, 42, 28, 5, 182, 0, 241, 42]
abbrev dktX5_losesIn_0 : List UInt8 := dkwX5_losesIn_0 ++ dktX5_losesIn_1
theorem dksX5_losesIn_0 : cX5_losesIn.data.toList.drop 0 = dktX5_losesIn_0 := by decide +kernel
theorem dksX5_losesIn_1 : cX5_losesIn.data.toList.drop 23 = dktX5_losesIn_1 := dk_seg dksX5_losesIn_0 23 rfl rfl
theorem dksX5_losesIn_2 : cX5_losesIn.data.toList.drop 47 = dktX5_losesIn_2 := dk_seg dksX5_losesIn_1 24 rfl rfl
theorem dksX5_losesIn_3 : cX5_losesIn.data.toList.drop 71 = dktX5_losesIn_3 := dk_seg dksX5_losesIn_2 24 rfl rfl
theorem dksX5_losesIn_4 : cX5_losesIn.data.toList.drop 93 = dktX5_losesIn_4 := dk_seg dksX5_losesIn_3 22 rfl rfl
theorem dksX5_losesIn_5 : cX5_losesIn.data.toList.drop 117 = dktX5_losesIn_5 := dk_seg dksX5_losesIn_4 24 rfl rfl
theorem dksX5_losesIn_6 : cX5_losesIn.data.toList.drop 141 = dktX5_losesIn_6 := dk_seg dksX5_losesIn_5 24 rfl rfl
theorem dksX5_losesIn_7 : cX5_losesIn.data.toList.drop 163 = dktX5_losesIn_7 := dk_seg dksX5_losesIn_6 22 rfl rfl
theorem dX5_losesIn_0 : decode cX5_losesIn 0 = .ok (.iconst 0, 1) := dk_3 (dk_at dksX5_losesIn_0 0 rfl rfl)
theorem dX5_losesIn_1 : decode cX5_losesIn 1 = .ok (.istore_n 2, 1) := dk_61 (dk_at dksX5_losesIn_0 1 rfl rfl)
theorem dX5_losesIn_2 : decode cX5_losesIn 2 = .ok (.iload_n 2, 1) := dk_28 (dk_at dksX5_losesIn_0 2 rfl rfl)
theorem dX5_losesIn_3 : decode cX5_losesIn 3 = .ok (.aload_n 0, 1) := dk_42 (dk_at dksX5_losesIn_0 3 rfl rfl)
theorem dX5_losesIn_4 : decode cX5_losesIn 4 = .ok (.invokevirtual 89, 3) := dk_182 0 89 (dk_at dksX5_losesIn_0 4 rfl rfl)
theorem dX5_losesIn_7 : decode cX5_losesIn 7 = .ok (.if_icmp .ge 58, 3) := dk_162 0 58 (dk_at dksX5_losesIn_0 7 rfl rfl)
theorem dX5_losesIn_10 : decode cX5_losesIn 10 = .ok (.aload_n 0, 1) := dk_42 (dk_at dksX5_losesIn_0 10 rfl rfl)
theorem dX5_losesIn_11 : decode cX5_losesIn 11 = .ok (.getfield 34, 3) := dk_180 0 34 (dk_at dksX5_losesIn_0 11 rfl rfl)
theorem dX5_losesIn_14 : decode cX5_losesIn 14 = .ok (.iload_n 2, 1) := dk_28 (dk_at dksX5_losesIn_0 14 rfl rfl)
theorem dX5_losesIn_15 : decode cX5_losesIn 15 = .ok (.iaload, 1) := dk_46 (dk_at dksX5_losesIn_0 15 rfl rfl)
theorem dX5_losesIn_16 : decode cX5_losesIn 16 = .ok (.aload_n 0, 1) := dk_42 (dk_at dksX5_losesIn_0 16 rfl rfl)
theorem dX5_losesIn_17 : decode cX5_losesIn 17 = .ok (.iload_n 2, 1) := dk_28 (dk_at dksX5_losesIn_0 17 rfl rfl)
theorem dX5_losesIn_18 : decode cX5_losesIn 18 = .ok (.iconst 2, 1) := dk_5 (dk_at dksX5_losesIn_0 18 rfl rfl)
theorem dX5_losesIn_19 : decode cX5_losesIn 19 = .ok (.invokevirtual 241, 3) := dk_182 0 241 (dk_at dksX5_losesIn_0 19 rfl rfl)
theorem dX5_losesIn_22 : decode cX5_losesIn 22 = .ok (.aload_n 0, 1) := dk_42 (dk_at dksX5_losesIn_0 22 rfl rfl)
theorem dX5_losesIn_23 : decode cX5_losesIn 23 = .ok (.getfield 9, 3) := dk_180 0 9 (dk_at dksX5_losesIn_1 0 rfl rfl)
theorem dX5_losesIn_26 : decode cX5_losesIn 26 = .ok (.bipush 78, 2) := dk_16 78 (dk_at dksX5_losesIn_1 3 rfl rfl)
theorem dX5_losesIn_28 : decode cX5_losesIn 28 = .ok (.iload_n 1, 1) := dk_27 (dk_at dksX5_losesIn_1 5 rfl rfl)
theorem dX5_losesIn_29 : decode cX5_losesIn 29 = .ok (.iadd, 1) := dk_96 (dk_at dksX5_losesIn_1 6 rfl rfl)
theorem dX5_losesIn_30 : decode cX5_losesIn 30 = .ok (.iaload, 1) := dk_46 (dk_at dksX5_losesIn_1 7 rfl rfl)
theorem dX5_losesIn_31 : decode cX5_losesIn 31 = .ok (.imul, 1) := dk_104 (dk_at dksX5_losesIn_1 8 rfl rfl)
theorem dX5_losesIn_32 : decode cX5_losesIn 32 = .ok (.bipush 100, 2) := dk_16 100 (dk_at dksX5_losesIn_1 9 rfl rfl)
theorem dX5_losesIn_34 : decode cX5_losesIn 34 = .ok (.idiv, 1) := dk_108 (dk_at dksX5_losesIn_1 11 rfl rfl)
theorem dX5_losesIn_35 : decode cX5_losesIn 35 = .ok (.invokestatic 128, 3) := dk_184 0 128 (dk_at dksX5_losesIn_1 12 rfl rfl)
theorem dX5_losesIn_38 : decode cX5_losesIn 38 = .ok (.istore_n 3, 1) := dk_62 (dk_at dksX5_losesIn_1 15 rfl rfl)
theorem dX5_losesIn_39 : decode cX5_losesIn 39 = .ok (.aload_n 0, 1) := dk_42 (dk_at dksX5_losesIn_1 16 rfl rfl)
theorem dX5_losesIn_40 : decode cX5_losesIn 40 = .ok (.getfield 34, 3) := dk_180 0 34 (dk_at dksX5_losesIn_1 17 rfl rfl)
theorem dX5_losesIn_43 : decode cX5_losesIn 43 = .ok (.iload_n 2, 1) := dk_28 (dk_at dksX5_losesIn_1 20 rfl rfl)
theorem dX5_losesIn_44 : decode cX5_losesIn 44 = .ok (.dup2, 1) := dk_92 (dk_at dksX5_losesIn_1 21 rfl rfl)
theorem dX5_losesIn_45 : decode cX5_losesIn 45 = .ok (.iaload, 1) := dk_46 (dk_at dksX5_losesIn_1 22 rfl rfl)
theorem dX5_losesIn_46 : decode cX5_losesIn 46 = .ok (.iload_n 3, 1) := dk_29 (dk_at dksX5_losesIn_1 23 rfl rfl)
theorem dX5_losesIn_47 : decode cX5_losesIn 47 = .ok (.isub, 1) := dk_100 (dk_at dksX5_losesIn_2 0 rfl rfl)
theorem dX5_losesIn_48 : decode cX5_losesIn 48 = .ok (.iastore, 1) := dk_79 (dk_at dksX5_losesIn_2 1 rfl rfl)
theorem dX5_losesIn_49 : decode cX5_losesIn 49 = .ok (.aload_n 0, 1) := dk_42 (dk_at dksX5_losesIn_2 2 rfl rfl)
theorem dX5_losesIn_50 : decode cX5_losesIn 50 = .ok (.dup, 1) := dk_89 (dk_at dksX5_losesIn_2 3 rfl rfl)
theorem dX5_losesIn_51 : decode cX5_losesIn 51 = .ok (.getfield 273, 3) := dk_180 1 17 (dk_at dksX5_losesIn_2 4 rfl rfl)
theorem dX5_losesIn_54 : decode cX5_losesIn 54 = .ok (.iload_n 3, 1) := dk_29 (dk_at dksX5_losesIn_2 7 rfl rfl)
theorem dX5_losesIn_55 : decode cX5_losesIn 55 = .ok (.iadd, 1) := dk_96 (dk_at dksX5_losesIn_2 8 rfl rfl)
theorem dX5_losesIn_56 : decode cX5_losesIn 56 = .ok (.putfield 273, 3) := dk_181 1 17 (dk_at dksX5_losesIn_2 9 rfl rfl)
theorem dX5_losesIn_59 : decode cX5_losesIn 59 = .ok (.iinc 2 1, 3) := dk_132 2 1 (dk_at dksX5_losesIn_2 12 rfl rfl)
theorem dX5_losesIn_62 : decode cX5_losesIn 62 = .ok (.goto (-60), 3) := dk_167 255 196 (dk_at dksX5_losesIn_2 15 rfl rfl)
theorem dX5_losesIn_65 : decode cX5_losesIn 65 = .ok (.aload_n 0, 1) := dk_42 (dk_at dksX5_losesIn_2 18 rfl rfl)
theorem dX5_losesIn_66 : decode cX5_losesIn 66 = .ok (.invokevirtual 89, 3) := dk_182 0 89 (dk_at dksX5_losesIn_2 19 rfl rfl)
theorem dX5_losesIn_69 : decode cX5_losesIn 69 = .ok (.iconst 1, 1) := dk_4 (dk_at dksX5_losesIn_2 22 rfl rfl)
theorem dX5_losesIn_70 : decode cX5_losesIn 70 = .ok (.isub, 1) := dk_100 (dk_at dksX5_losesIn_2 23 rfl rfl)
theorem dX5_losesIn_71 : decode cX5_losesIn 71 = .ok (.istore_n 2, 1) := dk_61 (dk_at dksX5_losesIn_3 0 rfl rfl)
theorem dX5_losesIn_72 : decode cX5_losesIn 72 = .ok (.iload_n 2, 1) := dk_28 (dk_at dksX5_losesIn_3 1 rfl rfl)
theorem dX5_losesIn_73 : decode cX5_losesIn 73 = .ok (.ifCond .lt 93, 3) := dk_155 0 93 (dk_at dksX5_losesIn_3 2 rfl rfl)
theorem dX5_losesIn_76 : decode cX5_losesIn 76 = .ok (.aload_n 0, 1) := dk_42 (dk_at dksX5_losesIn_3 5 rfl rfl)
theorem dX5_losesIn_77 : decode cX5_losesIn 77 = .ok (.getfield 34, 3) := dk_180 0 34 (dk_at dksX5_losesIn_3 6 rfl rfl)
theorem dX5_losesIn_80 : decode cX5_losesIn 80 = .ok (.iload_n 2, 1) := dk_28 (dk_at dksX5_losesIn_3 9 rfl rfl)
theorem dX5_losesIn_81 : decode cX5_losesIn 81 = .ok (.iaload, 1) := dk_46 (dk_at dksX5_losesIn_3 10 rfl rfl)
theorem dX5_losesIn_82 : decode cX5_losesIn 82 = .ok (.aload_n 0, 1) := dk_42 (dk_at dksX5_losesIn_3 11 rfl rfl)
theorem dX5_losesIn_83 : decode cX5_losesIn 83 = .ok (.iload_n 2, 1) := dk_28 (dk_at dksX5_losesIn_3 12 rfl rfl)
theorem dX5_losesIn_84 : decode cX5_losesIn 84 = .ok (.iconst 3, 1) := dk_6 (dk_at dksX5_losesIn_3 13 rfl rfl)
theorem dX5_losesIn_85 : decode cX5_losesIn 85 = .ok (.invokevirtual 241, 3) := dk_182 0 241 (dk_at dksX5_losesIn_3 14 rfl rfl)
theorem dX5_losesIn_88 : decode cX5_losesIn 88 = .ok (.invokestatic 128, 3) := dk_184 0 128 (dk_at dksX5_losesIn_3 17 rfl rfl)
theorem dX5_losesIn_91 : decode cX5_losesIn 91 = .ok (.istore_n 3, 1) := dk_62 (dk_at dksX5_losesIn_3 20 rfl rfl)
theorem dX5_losesIn_92 : decode cX5_losesIn 92 = .ok (.aload_n 0, 1) := dk_42 (dk_at dksX5_losesIn_3 21 rfl rfl)
theorem dX5_losesIn_93 : decode cX5_losesIn 93 = .ok (.getfield 34, 3) := dk_180 0 34 (dk_at dksX5_losesIn_4 0 rfl rfl)
theorem dX5_losesIn_96 : decode cX5_losesIn 96 = .ok (.iload_n 2, 1) := dk_28 (dk_at dksX5_losesIn_4 3 rfl rfl)
theorem dX5_losesIn_97 : decode cX5_losesIn 97 = .ok (.dup2, 1) := dk_92 (dk_at dksX5_losesIn_4 4 rfl rfl)
theorem dX5_losesIn_98 : decode cX5_losesIn 98 = .ok (.iaload, 1) := dk_46 (dk_at dksX5_losesIn_4 5 rfl rfl)
theorem dX5_losesIn_99 : decode cX5_losesIn 99 = .ok (.iload_n 3, 1) := dk_29 (dk_at dksX5_losesIn_4 6 rfl rfl)
theorem dX5_losesIn_100 : decode cX5_losesIn 100 = .ok (.isub, 1) := dk_100 (dk_at dksX5_losesIn_4 7 rfl rfl)
theorem dX5_losesIn_101 : decode cX5_losesIn 101 = .ok (.iastore, 1) := dk_79 (dk_at dksX5_losesIn_4 8 rfl rfl)
theorem dX5_losesIn_102 : decode cX5_losesIn 102 = .ok (.iload_n 2, 1) := dk_28 (dk_at dksX5_losesIn_4 9 rfl rfl)
theorem dX5_losesIn_103 : decode cX5_losesIn 103 = .ok (.aload_n 0, 1) := dk_42 (dk_at dksX5_losesIn_4 10 rfl rfl)
theorem dX5_losesIn_104 : decode cX5_losesIn 104 = .ok (.invokevirtual 89, 3) := dk_182 0 89 (dk_at dksX5_losesIn_4 11 rfl rfl)
theorem dX5_losesIn_107 : decode cX5_losesIn 107 = .ok (.iconst 1, 1) := dk_4 (dk_at dksX5_losesIn_4 14 rfl rfl)
theorem dX5_losesIn_108 : decode cX5_losesIn 108 = .ok (.isub, 1) := dk_100 (dk_at dksX5_losesIn_4 15 rfl rfl)
theorem dX5_losesIn_109 : decode cX5_losesIn 109 = .ok (.if_icmp .ne 7, 3) := dk_160 0 7 (dk_at dksX5_losesIn_4 16 rfl rfl)
theorem dX5_losesIn_112 : decode cX5_losesIn 112 = .ok (.iconst 0, 1) := dk_3 (dk_at dksX5_losesIn_4 19 rfl rfl)
theorem dX5_losesIn_113 : decode cX5_losesIn 113 = .ok (.goto 14, 3) := dk_167 0 14 (dk_at dksX5_losesIn_4 20 rfl rfl)
theorem dX5_losesIn_116 : decode cX5_losesIn 116 = .ok (.iload_n 3, 1) := dk_29 (dk_at dksX5_losesIn_4 23 rfl rfl)
theorem dX5_losesIn_117 : decode cX5_losesIn 117 = .ok (.aload_n 0, 1) := dk_42 (dk_at dksX5_losesIn_5 0 rfl rfl)
theorem dX5_losesIn_118 : decode cX5_losesIn 118 = .ok (.iload_n 2, 1) := dk_28 (dk_at dksX5_losesIn_5 1 rfl rfl)
theorem dX5_losesIn_119 : decode cX5_losesIn 119 = .ok (.iconst 1, 1) := dk_4 (dk_at dksX5_losesIn_5 2 rfl rfl)
theorem dX5_losesIn_120 : decode cX5_losesIn 120 = .ok (.iadd, 1) := dk_96 (dk_at dksX5_losesIn_5 3 rfl rfl)
theorem dX5_losesIn_121 : decode cX5_losesIn 121 = .ok (.invokevirtual 255, 3) := dk_182 0 255 (dk_at dksX5_losesIn_5 4 rfl rfl)
theorem dX5_losesIn_124 : decode cX5_losesIn 124 = .ok (.invokestatic 128, 3) := dk_184 0 128 (dk_at dksX5_losesIn_5 7 rfl rfl)
theorem dX5_losesIn_127 : decode cX5_losesIn 127 = .ok (.istore 4, 2) := dk_54 4 (dk_at dksX5_losesIn_5 10 rfl rfl)
theorem dX5_losesIn_129 : decode cX5_losesIn 129 = .ok (.iload 4, 2) := dk_21 4 (dk_at dksX5_losesIn_5 12 rfl rfl)
theorem dX5_losesIn_131 : decode cX5_losesIn 131 = .ok (.ifCond .le 16, 3) := dk_158 0 16 (dk_at dksX5_losesIn_5 14 rfl rfl)
theorem dX5_losesIn_134 : decode cX5_losesIn 134 = .ok (.aload_n 0, 1) := dk_42 (dk_at dksX5_losesIn_5 17 rfl rfl)
theorem dX5_losesIn_135 : decode cX5_losesIn 135 = .ok (.getfield 34, 3) := dk_180 0 34 (dk_at dksX5_losesIn_5 18 rfl rfl)
theorem dX5_losesIn_138 : decode cX5_losesIn 138 = .ok (.iload_n 2, 1) := dk_28 (dk_at dksX5_losesIn_5 21 rfl rfl)
theorem dX5_losesIn_139 : decode cX5_losesIn 139 = .ok (.iconst 1, 1) := dk_4 (dk_at dksX5_losesIn_5 22 rfl rfl)
theorem dX5_losesIn_140 : decode cX5_losesIn 140 = .ok (.iadd, 1) := dk_96 (dk_at dksX5_losesIn_5 23 rfl rfl)
theorem dX5_losesIn_141 : decode cX5_losesIn 141 = .ok (.dup2, 1) := dk_92 (dk_at dksX5_losesIn_6 0 rfl rfl)
theorem dX5_losesIn_142 : decode cX5_losesIn 142 = .ok (.iaload, 1) := dk_46 (dk_at dksX5_losesIn_6 1 rfl rfl)
theorem dX5_losesIn_143 : decode cX5_losesIn 143 = .ok (.iload 4, 2) := dk_21 4 (dk_at dksX5_losesIn_6 2 rfl rfl)
theorem dX5_losesIn_145 : decode cX5_losesIn 145 = .ok (.iadd, 1) := dk_96 (dk_at dksX5_losesIn_6 4 rfl rfl)
theorem dX5_losesIn_146 : decode cX5_losesIn 146 = .ok (.iastore, 1) := dk_79 (dk_at dksX5_losesIn_6 5 rfl rfl)
theorem dX5_losesIn_147 : decode cX5_losesIn 147 = .ok (.aload_n 0, 1) := dk_42 (dk_at dksX5_losesIn_6 6 rfl rfl)
theorem dX5_losesIn_148 : decode cX5_losesIn 148 = .ok (.dup, 1) := dk_89 (dk_at dksX5_losesIn_6 7 rfl rfl)
theorem dX5_losesIn_149 : decode cX5_losesIn 149 = .ok (.getfield 276, 3) := dk_180 1 20 (dk_at dksX5_losesIn_6 8 rfl rfl)
theorem dX5_losesIn_152 : decode cX5_losesIn 152 = .ok (.iload_n 3, 1) := dk_29 (dk_at dksX5_losesIn_6 11 rfl rfl)
theorem dX5_losesIn_153 : decode cX5_losesIn 153 = .ok (.iload 4, 2) := dk_21 4 (dk_at dksX5_losesIn_6 12 rfl rfl)
theorem dX5_losesIn_155 : decode cX5_losesIn 155 = .ok (.isub, 1) := dk_100 (dk_at dksX5_losesIn_6 14 rfl rfl)
theorem dX5_losesIn_156 : decode cX5_losesIn 156 = .ok (.iadd, 1) := dk_96 (dk_at dksX5_losesIn_6 15 rfl rfl)
theorem dX5_losesIn_157 : decode cX5_losesIn 157 = .ok (.putfield 276, 3) := dk_181 1 20 (dk_at dksX5_losesIn_6 16 rfl rfl)
theorem dX5_losesIn_160 : decode cX5_losesIn 160 = .ok (.iinc 2 (-1), 3) := dk_132 2 255 (dk_at dksX5_losesIn_6 19 rfl rfl)
theorem dX5_losesIn_163 : decode cX5_losesIn 163 = .ok (.goto (-91), 3) := dk_167 255 165 (dk_at dksX5_losesIn_7 0 rfl rfl)
theorem dX5_losesIn_166 : decode cX5_losesIn 166 = .ok (.return_, 1) := dk_177 (dk_at dksX5_losesIn_7 3 rfl rfl)
abbrev cX5_flood : ByteArray := prog_13_method_56_code
def yX5_flood : MethodName := ⟨RX5, "flood", "(II)I"⟩
def dkwX5_flood_2 : List UInt8 := [96, 46, 172]
abbrev dktX5_flood_2 : List UInt8 := dkwX5_flood_2 ++ []
def dkwX5_flood_1 : List UInt8 := [182, 1, 61, 28, 6, 160, 0, 11, 42, 27, 182, 1, 41, 167, 0, 13, 42, 180, 0, 40, 6, 27, 104, 28]
abbrev dktX5_flood_1 : List UInt8 := dkwX5_flood_1 ++ dktX5_flood_2
def dkwX5_flood_0 : List UInt8 := [42, 27, 182, 1, 55, 153, 0, 15, 28, 133, 9, 20, 1, 64, 184, 0, 85, 154, 0, 6, 16, 254, 172, 42]
abbrev dktX5_flood_0 : List UInt8 := dkwX5_flood_0 ++ dktX5_flood_1
theorem dksX5_flood_0 : cX5_flood.data.toList.drop 0 = dktX5_flood_0 := by decide +kernel
theorem dksX5_flood_1 : cX5_flood.data.toList.drop 24 = dktX5_flood_1 := dk_seg dksX5_flood_0 24 rfl rfl
theorem dksX5_flood_2 : cX5_flood.data.toList.drop 48 = dktX5_flood_2 := dk_seg dksX5_flood_1 24 rfl rfl
theorem dX5_flood_0 : decode cX5_flood 0 = .ok (.aload_n 0, 1) := dk_42 (dk_at dksX5_flood_0 0 rfl rfl)
theorem dX5_flood_1 : decode cX5_flood 1 = .ok (.iload_n 1, 1) := dk_27 (dk_at dksX5_flood_0 1 rfl rfl)
theorem dX5_flood_2 : decode cX5_flood 2 = .ok (.invokevirtual 311, 3) := dk_182 1 55 (dk_at dksX5_flood_0 2 rfl rfl)
theorem dX5_flood_5 : decode cX5_flood 5 = .ok (.ifCond .eq 15, 3) := dk_153 0 15 (dk_at dksX5_flood_0 5 rfl rfl)
theorem dX5_flood_8 : decode cX5_flood 8 = .ok (.iload_n 2, 1) := dk_28 (dk_at dksX5_flood_0 8 rfl rfl)
theorem dX5_flood_9 : decode cX5_flood 9 = .ok (.i2l, 1) := dk_133 (dk_at dksX5_flood_0 9 rfl rfl)
theorem dX5_flood_10 : decode cX5_flood 10 = .ok (.lconst 0, 1) := dk_9 (dk_at dksX5_flood_0 10 rfl rfl)
theorem dX5_flood_11 : decode cX5_flood 11 = .ok (.ldc2_w 320, 3) := dk_20 1 64 (dk_at dksX5_flood_0 11 rfl rfl)
theorem dX5_flood_14 : decode cX5_flood 14 = .ok (.invokestatic 85, 3) := dk_184 0 85 (dk_at dksX5_flood_0 14 rfl rfl)
theorem dX5_flood_17 : decode cX5_flood 17 = .ok (.ifCond .ne 6, 3) := dk_154 0 6 (dk_at dksX5_flood_0 17 rfl rfl)
theorem dX5_flood_20 : decode cX5_flood 20 = .ok (.bipush (-2), 2) := dk_16 254 (dk_at dksX5_flood_0 20 rfl rfl)
theorem dX5_flood_22 : decode cX5_flood 22 = .ok (.ireturn, 1) := dk_172 (dk_at dksX5_flood_0 22 rfl rfl)
theorem dX5_flood_23 : decode cX5_flood 23 = .ok (.aload_n 0, 1) := dk_42 (dk_at dksX5_flood_0 23 rfl rfl)
theorem dX5_flood_24 : decode cX5_flood 24 = .ok (.invokevirtual 317, 3) := dk_182 1 61 (dk_at dksX5_flood_1 0 rfl rfl)
theorem dX5_flood_27 : decode cX5_flood 27 = .ok (.iload_n 2, 1) := dk_28 (dk_at dksX5_flood_1 3 rfl rfl)
theorem dX5_flood_28 : decode cX5_flood 28 = .ok (.iconst 3, 1) := dk_6 (dk_at dksX5_flood_1 4 rfl rfl)
theorem dX5_flood_29 : decode cX5_flood 29 = .ok (.if_icmp .ne 11, 3) := dk_160 0 11 (dk_at dksX5_flood_1 5 rfl rfl)
theorem dX5_flood_32 : decode cX5_flood 32 = .ok (.aload_n 0, 1) := dk_42 (dk_at dksX5_flood_1 8 rfl rfl)
theorem dX5_flood_33 : decode cX5_flood 33 = .ok (.iload_n 1, 1) := dk_27 (dk_at dksX5_flood_1 9 rfl rfl)
theorem dX5_flood_34 : decode cX5_flood 34 = .ok (.invokevirtual 297, 3) := dk_182 1 41 (dk_at dksX5_flood_1 10 rfl rfl)
theorem dX5_flood_37 : decode cX5_flood 37 = .ok (.goto 13, 3) := dk_167 0 13 (dk_at dksX5_flood_1 13 rfl rfl)
theorem dX5_flood_40 : decode cX5_flood 40 = .ok (.aload_n 0, 1) := dk_42 (dk_at dksX5_flood_1 16 rfl rfl)
theorem dX5_flood_41 : decode cX5_flood 41 = .ok (.getfield 40, 3) := dk_180 0 40 (dk_at dksX5_flood_1 17 rfl rfl)
theorem dX5_flood_44 : decode cX5_flood 44 = .ok (.iconst 3, 1) := dk_6 (dk_at dksX5_flood_1 20 rfl rfl)
theorem dX5_flood_45 : decode cX5_flood 45 = .ok (.iload_n 1, 1) := dk_27 (dk_at dksX5_flood_1 21 rfl rfl)
theorem dX5_flood_46 : decode cX5_flood 46 = .ok (.imul, 1) := dk_104 (dk_at dksX5_flood_1 22 rfl rfl)
theorem dX5_flood_47 : decode cX5_flood 47 = .ok (.iload_n 2, 1) := dk_28 (dk_at dksX5_flood_1 23 rfl rfl)
theorem dX5_flood_48 : decode cX5_flood 48 = .ok (.iadd, 1) := dk_96 (dk_at dksX5_flood_2 0 rfl rfl)
theorem dX5_flood_49 : decode cX5_flood 49 = .ok (.iaload, 1) := dk_46 (dk_at dksX5_flood_2 1 rfl rfl)
theorem dX5_flood_50 : decode cX5_flood 50 = .ok (.ireturn, 1) := dk_172 (dk_at dksX5_flood_2 2 rfl rfl)
abbrev cX5_shortOfFlood : ByteArray := prog_13_method_48_code
def yX5_shortOfFlood : MethodName := ⟨RX5, "shortOfFlood", "(I)I"⟩
def dkwX5_shortOfFlood_0 : List UInt8 := [42, 180, 0, 40, 6, 27, 104, 4, 96, 46, 42, 180, 0, 40, 6, 27, 104, 5, 96, 46, 100, 172]
abbrev dktX5_shortOfFlood_0 : List UInt8 := dkwX5_shortOfFlood_0 ++ []
theorem dksX5_shortOfFlood_0 : cX5_shortOfFlood.data.toList.drop 0 = dktX5_shortOfFlood_0 := by decide +kernel
theorem dX5_shortOfFlood_0 : decode cX5_shortOfFlood 0 = .ok (.aload_n 0, 1) := dk_42 (dk_at dksX5_shortOfFlood_0 0 rfl rfl)
theorem dX5_shortOfFlood_1 : decode cX5_shortOfFlood 1 = .ok (.getfield 40, 3) := dk_180 0 40 (dk_at dksX5_shortOfFlood_0 1 rfl rfl)
theorem dX5_shortOfFlood_4 : decode cX5_shortOfFlood 4 = .ok (.iconst 3, 1) := dk_6 (dk_at dksX5_shortOfFlood_0 4 rfl rfl)
theorem dX5_shortOfFlood_5 : decode cX5_shortOfFlood 5 = .ok (.iload_n 1, 1) := dk_27 (dk_at dksX5_shortOfFlood_0 5 rfl rfl)
theorem dX5_shortOfFlood_6 : decode cX5_shortOfFlood 6 = .ok (.imul, 1) := dk_104 (dk_at dksX5_shortOfFlood_0 6 rfl rfl)
theorem dX5_shortOfFlood_7 : decode cX5_shortOfFlood 7 = .ok (.iconst 1, 1) := dk_4 (dk_at dksX5_shortOfFlood_0 7 rfl rfl)
theorem dX5_shortOfFlood_8 : decode cX5_shortOfFlood 8 = .ok (.iadd, 1) := dk_96 (dk_at dksX5_shortOfFlood_0 8 rfl rfl)
theorem dX5_shortOfFlood_9 : decode cX5_shortOfFlood 9 = .ok (.iaload, 1) := dk_46 (dk_at dksX5_shortOfFlood_0 9 rfl rfl)
theorem dX5_shortOfFlood_10 : decode cX5_shortOfFlood 10 = .ok (.aload_n 0, 1) := dk_42 (dk_at dksX5_shortOfFlood_0 10 rfl rfl)
theorem dX5_shortOfFlood_11 : decode cX5_shortOfFlood 11 = .ok (.getfield 40, 3) := dk_180 0 40 (dk_at dksX5_shortOfFlood_0 11 rfl rfl)
theorem dX5_shortOfFlood_14 : decode cX5_shortOfFlood 14 = .ok (.iconst 3, 1) := dk_6 (dk_at dksX5_shortOfFlood_0 14 rfl rfl)
theorem dX5_shortOfFlood_15 : decode cX5_shortOfFlood 15 = .ok (.iload_n 1, 1) := dk_27 (dk_at dksX5_shortOfFlood_0 15 rfl rfl)
theorem dX5_shortOfFlood_16 : decode cX5_shortOfFlood 16 = .ok (.imul, 1) := dk_104 (dk_at dksX5_shortOfFlood_0 16 rfl rfl)
theorem dX5_shortOfFlood_17 : decode cX5_shortOfFlood 17 = .ok (.iconst 2, 1) := dk_5 (dk_at dksX5_shortOfFlood_0 17 rfl rfl)
theorem dX5_shortOfFlood_18 : decode cX5_shortOfFlood 18 = .ok (.iadd, 1) := dk_96 (dk_at dksX5_shortOfFlood_0 18 rfl rfl)
theorem dX5_shortOfFlood_19 : decode cX5_shortOfFlood 19 = .ok (.iaload, 1) := dk_46 (dk_at dksX5_shortOfFlood_0 19 rfl rfl)
theorem dX5_shortOfFlood_20 : decode cX5_shortOfFlood 20 = .ok (.isub, 1) := dk_100 (dk_at dksX5_shortOfFlood_0 20 rfl rfl)
theorem dX5_shortOfFlood_21 : decode cX5_shortOfFlood 21 = .ok (.ireturn, 1) := dk_172 (dk_at dksX5_shortOfFlood_0 21 rfl rfl)
abbrev cX5_loan : ByteArray := prog_13_method_57_code
def yX5_loan : MethodName := ⟨RX5, "loan", "(II)I"⟩
def dkwX5_loan_2 : List UInt8 := [167, 0, 13, 42, 180, 0, 43, 6, 27, 104, 28, 96, 46, 172]
abbrev dktX5_loan_2 : List UInt8 := dkwX5_loan_2 ++ []
def dkwX5_loan_1 : List UInt8 := [184, 0, 85, 154, 0, 6, 16, 254, 172, 42, 182, 1, 61, 28, 6, 160, 0, 11, 42, 27, 182, 1, 44]
abbrev dktX5_loan_1 : List UInt8 := dkwX5_loan_1 ++ dktX5_loan_2
def dkwX5_loan_0 : List UInt8 := [27, 133, 9, 42, 180, 0, 9, 6, 46, 4, 100, 133, 184, 0, 85, 153, 0, 15, 28, 133, 9, 20, 1, 64]
abbrev dktX5_loan_0 : List UInt8 := dkwX5_loan_0 ++ dktX5_loan_1
theorem dksX5_loan_0 : cX5_loan.data.toList.drop 0 = dktX5_loan_0 := by decide +kernel
theorem dksX5_loan_1 : cX5_loan.data.toList.drop 24 = dktX5_loan_1 := dk_seg dksX5_loan_0 24 rfl rfl
theorem dksX5_loan_2 : cX5_loan.data.toList.drop 47 = dktX5_loan_2 := dk_seg dksX5_loan_1 23 rfl rfl
theorem dX5_loan_0 : decode cX5_loan 0 = .ok (.iload_n 1, 1) := dk_27 (dk_at dksX5_loan_0 0 rfl rfl)
theorem dX5_loan_1 : decode cX5_loan 1 = .ok (.i2l, 1) := dk_133 (dk_at dksX5_loan_0 1 rfl rfl)
theorem dX5_loan_2 : decode cX5_loan 2 = .ok (.lconst 0, 1) := dk_9 (dk_at dksX5_loan_0 2 rfl rfl)
theorem dX5_loan_3 : decode cX5_loan 3 = .ok (.aload_n 0, 1) := dk_42 (dk_at dksX5_loan_0 3 rfl rfl)
theorem dX5_loan_4 : decode cX5_loan 4 = .ok (.getfield 9, 3) := dk_180 0 9 (dk_at dksX5_loan_0 4 rfl rfl)
theorem dX5_loan_7 : decode cX5_loan 7 = .ok (.iconst 3, 1) := dk_6 (dk_at dksX5_loan_0 7 rfl rfl)
theorem dX5_loan_8 : decode cX5_loan 8 = .ok (.iaload, 1) := dk_46 (dk_at dksX5_loan_0 8 rfl rfl)
theorem dX5_loan_9 : decode cX5_loan 9 = .ok (.iconst 1, 1) := dk_4 (dk_at dksX5_loan_0 9 rfl rfl)
theorem dX5_loan_10 : decode cX5_loan 10 = .ok (.isub, 1) := dk_100 (dk_at dksX5_loan_0 10 rfl rfl)
theorem dX5_loan_11 : decode cX5_loan 11 = .ok (.i2l, 1) := dk_133 (dk_at dksX5_loan_0 11 rfl rfl)
theorem dX5_loan_12 : decode cX5_loan 12 = .ok (.invokestatic 85, 3) := dk_184 0 85 (dk_at dksX5_loan_0 12 rfl rfl)
theorem dX5_loan_15 : decode cX5_loan 15 = .ok (.ifCond .eq 15, 3) := dk_153 0 15 (dk_at dksX5_loan_0 15 rfl rfl)
theorem dX5_loan_18 : decode cX5_loan 18 = .ok (.iload_n 2, 1) := dk_28 (dk_at dksX5_loan_0 18 rfl rfl)
theorem dX5_loan_19 : decode cX5_loan 19 = .ok (.i2l, 1) := dk_133 (dk_at dksX5_loan_0 19 rfl rfl)
theorem dX5_loan_20 : decode cX5_loan 20 = .ok (.lconst 0, 1) := dk_9 (dk_at dksX5_loan_0 20 rfl rfl)
theorem dX5_loan_21 : decode cX5_loan 21 = .ok (.ldc2_w 320, 3) := dk_20 1 64 (dk_at dksX5_loan_0 21 rfl rfl)
theorem dX5_loan_24 : decode cX5_loan 24 = .ok (.invokestatic 85, 3) := dk_184 0 85 (dk_at dksX5_loan_1 0 rfl rfl)
theorem dX5_loan_27 : decode cX5_loan 27 = .ok (.ifCond .ne 6, 3) := dk_154 0 6 (dk_at dksX5_loan_1 3 rfl rfl)
theorem dX5_loan_30 : decode cX5_loan 30 = .ok (.bipush (-2), 2) := dk_16 254 (dk_at dksX5_loan_1 6 rfl rfl)
theorem dX5_loan_32 : decode cX5_loan 32 = .ok (.ireturn, 1) := dk_172 (dk_at dksX5_loan_1 8 rfl rfl)
theorem dX5_loan_33 : decode cX5_loan 33 = .ok (.aload_n 0, 1) := dk_42 (dk_at dksX5_loan_1 9 rfl rfl)
theorem dX5_loan_34 : decode cX5_loan 34 = .ok (.invokevirtual 317, 3) := dk_182 1 61 (dk_at dksX5_loan_1 10 rfl rfl)
theorem dX5_loan_37 : decode cX5_loan 37 = .ok (.iload_n 2, 1) := dk_28 (dk_at dksX5_loan_1 13 rfl rfl)
theorem dX5_loan_38 : decode cX5_loan 38 = .ok (.iconst 3, 1) := dk_6 (dk_at dksX5_loan_1 14 rfl rfl)
theorem dX5_loan_39 : decode cX5_loan 39 = .ok (.if_icmp .ne 11, 3) := dk_160 0 11 (dk_at dksX5_loan_1 15 rfl rfl)
theorem dX5_loan_42 : decode cX5_loan 42 = .ok (.aload_n 0, 1) := dk_42 (dk_at dksX5_loan_1 18 rfl rfl)
theorem dX5_loan_43 : decode cX5_loan 43 = .ok (.iload_n 1, 1) := dk_27 (dk_at dksX5_loan_1 19 rfl rfl)
theorem dX5_loan_44 : decode cX5_loan 44 = .ok (.invokevirtual 300, 3) := dk_182 1 44 (dk_at dksX5_loan_1 20 rfl rfl)
theorem dX5_loan_47 : decode cX5_loan 47 = .ok (.goto 13, 3) := dk_167 0 13 (dk_at dksX5_loan_2 0 rfl rfl)
theorem dX5_loan_50 : decode cX5_loan 50 = .ok (.aload_n 0, 1) := dk_42 (dk_at dksX5_loan_2 3 rfl rfl)
theorem dX5_loan_51 : decode cX5_loan 51 = .ok (.getfield 43, 3) := dk_180 0 43 (dk_at dksX5_loan_2 4 rfl rfl)
theorem dX5_loan_54 : decode cX5_loan 54 = .ok (.iconst 3, 1) := dk_6 (dk_at dksX5_loan_2 7 rfl rfl)
theorem dX5_loan_55 : decode cX5_loan 55 = .ok (.iload_n 1, 1) := dk_27 (dk_at dksX5_loan_2 8 rfl rfl)
theorem dX5_loan_56 : decode cX5_loan 56 = .ok (.imul, 1) := dk_104 (dk_at dksX5_loan_2 9 rfl rfl)
theorem dX5_loan_57 : decode cX5_loan 57 = .ok (.iload_n 2, 1) := dk_28 (dk_at dksX5_loan_2 10 rfl rfl)
theorem dX5_loan_58 : decode cX5_loan 58 = .ok (.iadd, 1) := dk_96 (dk_at dksX5_loan_2 11 rfl rfl)
theorem dX5_loan_59 : decode cX5_loan 59 = .ok (.iaload, 1) := dk_46 (dk_at dksX5_loan_2 12 rfl rfl)
theorem dX5_loan_60 : decode cX5_loan 60 = .ok (.ireturn, 1) := dk_172 (dk_at dksX5_loan_2 13 rfl rfl)
abbrev cX5_shortOfLoan : ByteArray := prog_13_method_49_code
def yX5_shortOfLoan : MethodName := ⟨RX5, "shortOfLoan", "(I)I"⟩
def dkwX5_shortOfLoan_0 : List UInt8 := [42, 180, 0, 43, 6, 27, 104, 4, 96, 46, 42, 180, 0, 43, 6, 27, 104, 5, 96, 46, 100, 172]
abbrev dktX5_shortOfLoan_0 : List UInt8 := dkwX5_shortOfLoan_0 ++ []
theorem dksX5_shortOfLoan_0 : cX5_shortOfLoan.data.toList.drop 0 = dktX5_shortOfLoan_0 := by decide +kernel
theorem dX5_shortOfLoan_0 : decode cX5_shortOfLoan 0 = .ok (.aload_n 0, 1) := dk_42 (dk_at dksX5_shortOfLoan_0 0 rfl rfl)
theorem dX5_shortOfLoan_1 : decode cX5_shortOfLoan 1 = .ok (.getfield 43, 3) := dk_180 0 43 (dk_at dksX5_shortOfLoan_0 1 rfl rfl)
theorem dX5_shortOfLoan_4 : decode cX5_shortOfLoan 4 = .ok (.iconst 3, 1) := dk_6 (dk_at dksX5_shortOfLoan_0 4 rfl rfl)
theorem dX5_shortOfLoan_5 : decode cX5_shortOfLoan 5 = .ok (.iload_n 1, 1) := dk_27 (dk_at dksX5_shortOfLoan_0 5 rfl rfl)
theorem dX5_shortOfLoan_6 : decode cX5_shortOfLoan 6 = .ok (.imul, 1) := dk_104 (dk_at dksX5_shortOfLoan_0 6 rfl rfl)
theorem dX5_shortOfLoan_7 : decode cX5_shortOfLoan 7 = .ok (.iconst 1, 1) := dk_4 (dk_at dksX5_shortOfLoan_0 7 rfl rfl)
theorem dX5_shortOfLoan_8 : decode cX5_shortOfLoan 8 = .ok (.iadd, 1) := dk_96 (dk_at dksX5_shortOfLoan_0 8 rfl rfl)
theorem dX5_shortOfLoan_9 : decode cX5_shortOfLoan 9 = .ok (.iaload, 1) := dk_46 (dk_at dksX5_shortOfLoan_0 9 rfl rfl)
theorem dX5_shortOfLoan_10 : decode cX5_shortOfLoan 10 = .ok (.aload_n 0, 1) := dk_42 (dk_at dksX5_shortOfLoan_0 10 rfl rfl)
theorem dX5_shortOfLoan_11 : decode cX5_shortOfLoan 11 = .ok (.getfield 43, 3) := dk_180 0 43 (dk_at dksX5_shortOfLoan_0 11 rfl rfl)
theorem dX5_shortOfLoan_14 : decode cX5_shortOfLoan 14 = .ok (.iconst 3, 1) := dk_6 (dk_at dksX5_shortOfLoan_0 14 rfl rfl)
theorem dX5_shortOfLoan_15 : decode cX5_shortOfLoan 15 = .ok (.iload_n 1, 1) := dk_27 (dk_at dksX5_shortOfLoan_0 15 rfl rfl)
theorem dX5_shortOfLoan_16 : decode cX5_shortOfLoan 16 = .ok (.imul, 1) := dk_104 (dk_at dksX5_shortOfLoan_0 16 rfl rfl)
theorem dX5_shortOfLoan_17 : decode cX5_shortOfLoan 17 = .ok (.iconst 2, 1) := dk_5 (dk_at dksX5_shortOfLoan_0 17 rfl rfl)
theorem dX5_shortOfLoan_18 : decode cX5_shortOfLoan 18 = .ok (.iadd, 1) := dk_96 (dk_at dksX5_shortOfLoan_0 18 rfl rfl)
theorem dX5_shortOfLoan_19 : decode cX5_shortOfLoan 19 = .ok (.iaload, 1) := dk_46 (dk_at dksX5_shortOfLoan_0 19 rfl rfl)
theorem dX5_shortOfLoan_20 : decode cX5_shortOfLoan 20 = .ok (.isub, 1) := dk_100 (dk_at dksX5_shortOfLoan_0 20 rfl rfl)
theorem dX5_shortOfLoan_21 : decode cX5_shortOfLoan 21 = .ok (.ireturn, 1) := dk_172 (dk_at dksX5_shortOfLoan_0 21 rfl rfl)
abbrev cX5_crop : ByteArray := prog_13_method_58_code
def yX5_crop : MethodName := ⟨RX5, "crop", "(II)I"⟩
def dkwX5_crop_1 : List UInt8 := [184, 0, 85, 154, 0, 6, 16, 254, 172, 42, 182, 1, 61, 42, 180, 0, 46, 6, 27, 104, 28, 96, 46, 172]
abbrev dktX5_crop_1 : List UInt8 := dkwX5_crop_1 ++ []
def dkwX5_crop_0 : List UInt8 := [27, 133, 9, 42, 180, 0, 9, 4, 46, 4, 100, 133, 184, 0, 85, 153, 0, 15, 28, 133, 9, 20, 0, 83]
abbrev dktX5_crop_0 : List UInt8 := dkwX5_crop_0 ++ dktX5_crop_1
theorem dksX5_crop_0 : cX5_crop.data.toList.drop 0 = dktX5_crop_0 := by decide +kernel
theorem dksX5_crop_1 : cX5_crop.data.toList.drop 24 = dktX5_crop_1 := dk_seg dksX5_crop_0 24 rfl rfl
theorem dX5_crop_0 : decode cX5_crop 0 = .ok (.iload_n 1, 1) := dk_27 (dk_at dksX5_crop_0 0 rfl rfl)
theorem dX5_crop_1 : decode cX5_crop 1 = .ok (.i2l, 1) := dk_133 (dk_at dksX5_crop_0 1 rfl rfl)
theorem dX5_crop_2 : decode cX5_crop 2 = .ok (.lconst 0, 1) := dk_9 (dk_at dksX5_crop_0 2 rfl rfl)
theorem dX5_crop_3 : decode cX5_crop 3 = .ok (.aload_n 0, 1) := dk_42 (dk_at dksX5_crop_0 3 rfl rfl)
theorem dX5_crop_4 : decode cX5_crop 4 = .ok (.getfield 9, 3) := dk_180 0 9 (dk_at dksX5_crop_0 4 rfl rfl)
theorem dX5_crop_7 : decode cX5_crop 7 = .ok (.iconst 1, 1) := dk_4 (dk_at dksX5_crop_0 7 rfl rfl)
theorem dX5_crop_8 : decode cX5_crop 8 = .ok (.iaload, 1) := dk_46 (dk_at dksX5_crop_0 8 rfl rfl)
theorem dX5_crop_9 : decode cX5_crop 9 = .ok (.iconst 1, 1) := dk_4 (dk_at dksX5_crop_0 9 rfl rfl)
theorem dX5_crop_10 : decode cX5_crop 10 = .ok (.isub, 1) := dk_100 (dk_at dksX5_crop_0 10 rfl rfl)
theorem dX5_crop_11 : decode cX5_crop 11 = .ok (.i2l, 1) := dk_133 (dk_at dksX5_crop_0 11 rfl rfl)
theorem dX5_crop_12 : decode cX5_crop 12 = .ok (.invokestatic 85, 3) := dk_184 0 85 (dk_at dksX5_crop_0 12 rfl rfl)
theorem dX5_crop_15 : decode cX5_crop 15 = .ok (.ifCond .eq 15, 3) := dk_153 0 15 (dk_at dksX5_crop_0 15 rfl rfl)
theorem dX5_crop_18 : decode cX5_crop 18 = .ok (.iload_n 2, 1) := dk_28 (dk_at dksX5_crop_0 18 rfl rfl)
theorem dX5_crop_19 : decode cX5_crop 19 = .ok (.i2l, 1) := dk_133 (dk_at dksX5_crop_0 19 rfl rfl)
theorem dX5_crop_20 : decode cX5_crop 20 = .ok (.lconst 0, 1) := dk_9 (dk_at dksX5_crop_0 20 rfl rfl)
theorem dX5_crop_21 : decode cX5_crop 21 = .ok (.ldc2_w 83, 3) := dk_20 0 83 (dk_at dksX5_crop_0 21 rfl rfl)
theorem dX5_crop_24 : decode cX5_crop 24 = .ok (.invokestatic 85, 3) := dk_184 0 85 (dk_at dksX5_crop_1 0 rfl rfl)
theorem dX5_crop_27 : decode cX5_crop 27 = .ok (.ifCond .ne 6, 3) := dk_154 0 6 (dk_at dksX5_crop_1 3 rfl rfl)
theorem dX5_crop_30 : decode cX5_crop 30 = .ok (.bipush (-2), 2) := dk_16 254 (dk_at dksX5_crop_1 6 rfl rfl)
theorem dX5_crop_32 : decode cX5_crop 32 = .ok (.ireturn, 1) := dk_172 (dk_at dksX5_crop_1 8 rfl rfl)
theorem dX5_crop_33 : decode cX5_crop 33 = .ok (.aload_n 0, 1) := dk_42 (dk_at dksX5_crop_1 9 rfl rfl)
theorem dX5_crop_34 : decode cX5_crop 34 = .ok (.invokevirtual 317, 3) := dk_182 1 61 (dk_at dksX5_crop_1 10 rfl rfl)
theorem dX5_crop_37 : decode cX5_crop 37 = .ok (.aload_n 0, 1) := dk_42 (dk_at dksX5_crop_1 13 rfl rfl)
theorem dX5_crop_38 : decode cX5_crop 38 = .ok (.getfield 46, 3) := dk_180 0 46 (dk_at dksX5_crop_1 14 rfl rfl)
theorem dX5_crop_41 : decode cX5_crop 41 = .ok (.iconst 3, 1) := dk_6 (dk_at dksX5_crop_1 17 rfl rfl)
theorem dX5_crop_42 : decode cX5_crop 42 = .ok (.iload_n 1, 1) := dk_27 (dk_at dksX5_crop_1 18 rfl rfl)
theorem dX5_crop_43 : decode cX5_crop 43 = .ok (.imul, 1) := dk_104 (dk_at dksX5_crop_1 19 rfl rfl)
theorem dX5_crop_44 : decode cX5_crop 44 = .ok (.iload_n 2, 1) := dk_28 (dk_at dksX5_crop_1 20 rfl rfl)
theorem dX5_crop_45 : decode cX5_crop 45 = .ok (.iadd, 1) := dk_96 (dk_at dksX5_crop_1 21 rfl rfl)
theorem dX5_crop_46 : decode cX5_crop 46 = .ok (.iaload, 1) := dk_46 (dk_at dksX5_crop_1 22 rfl rfl)
theorem dX5_crop_47 : decode cX5_crop 47 = .ok (.ireturn, 1) := dk_172 (dk_at dksX5_crop_1 23 rfl rfl)
abbrev cX5_sum : ByteArray := prog_13_method_60_code
def yX5_sum : MethodName := ⟨RX5, "sum", "(I)I"⟩
def dkwX5_sum_5 : List UInt8 := [182, 0, 89, 162, 0, 18, 28, 42, 180, 0, 34, 29, 46, 96, 61, 132, 3, 1, 167, 255, 236, 28, 172]
abbrev dktX5_sum_5 : List UInt8 := dkwX5_sum_5 ++ []
def dkwX5_sum_4 : List UInt8 := [172, 42, 180, 1, 14, 172, 42, 3, 182, 1, 74, 172, 42, 5, 182, 1, 74, 172, 3, 61, 3, 62, 29, 42]
abbrev dktX5_sum_4 : List UInt8 := dkwX5_sum_4 ++ dktX5_sum_5
def dkwX5_sum_3 : List UInt8 := [42, 182, 1, 71, 172, 42, 182, 1, 47, 172, 42, 182, 1, 50, 172, 42, 180, 1, 17, 172, 42, 180, 1, 20]
abbrev dktX5_sum_3 : List UInt8 := dkwX5_sum_3 ++ dktX5_sum_4
def dkwX5_sum_2 : List UInt8 := [170, 0, 0, 0, 87, 0, 0, 0, 0, 0, 0, 0, 7, 0, 0, 0, 45, 0, 0, 0, 50, 0, 0, 0, 55, 0, 0, 0, 60, 0, 0, 0, 65, 0, 0, 0, 70, 0, 0, 0, 75, 0, 0, 0, 81]
abbrev dktX5_sum_2 : List UInt8 := dkwX5_sum_2 ++ dktX5_sum_3
def dkwX5_sum_1 : List UInt8 := [182, 1, 61, 27]
abbrev dktX5_sum_1 : List UInt8 := dkwX5_sum_1 ++ dktX5_sum_2
def dkwX5_sum_0 : List UInt8 := [42, 182, 1, 66, 153, 0, 15, 27, 133, 9, 20, 1, 69, 184, 0, 85, 154, 0, 6, 16, 254, 172, 42]
abbrev dktX5_sum_0 : List UInt8 := dkwX5_sum_0 ++ dktX5_sum_1
theorem dksX5_sum_0 : cX5_sum.data.toList.drop 0 = dktX5_sum_0 := by decide +kernel
theorem dksX5_sum_1 : cX5_sum.data.toList.drop 23 = dktX5_sum_1 := dk_seg dksX5_sum_0 23 rfl rfl
theorem dksX5_sum_2 : cX5_sum.data.toList.drop 27 = dktX5_sum_2 := dk_seg dksX5_sum_1 4 rfl rfl
theorem dksX5_sum_3 : cX5_sum.data.toList.drop 72 = dktX5_sum_3 := dk_seg dksX5_sum_2 45 rfl rfl
theorem dksX5_sum_4 : cX5_sum.data.toList.drop 96 = dktX5_sum_4 := dk_seg dksX5_sum_3 24 rfl rfl
theorem dksX5_sum_5 : cX5_sum.data.toList.drop 120 = dktX5_sum_5 := dk_seg dksX5_sum_4 24 rfl rfl
theorem dX5_sum_0 : decode cX5_sum 0 = .ok (.aload_n 0, 1) := dk_42 (dk_at dksX5_sum_0 0 rfl rfl)
theorem dX5_sum_1 : decode cX5_sum 1 = .ok (.invokevirtual 322, 3) := dk_182 1 66 (dk_at dksX5_sum_0 1 rfl rfl)
theorem dX5_sum_4 : decode cX5_sum 4 = .ok (.ifCond .eq 15, 3) := dk_153 0 15 (dk_at dksX5_sum_0 4 rfl rfl)
theorem dX5_sum_7 : decode cX5_sum 7 = .ok (.iload_n 1, 1) := dk_27 (dk_at dksX5_sum_0 7 rfl rfl)
theorem dX5_sum_8 : decode cX5_sum 8 = .ok (.i2l, 1) := dk_133 (dk_at dksX5_sum_0 8 rfl rfl)
theorem dX5_sum_9 : decode cX5_sum 9 = .ok (.lconst 0, 1) := dk_9 (dk_at dksX5_sum_0 9 rfl rfl)
theorem dX5_sum_10 : decode cX5_sum 10 = .ok (.ldc2_w 325, 3) := dk_20 1 69 (dk_at dksX5_sum_0 10 rfl rfl)
theorem dX5_sum_13 : decode cX5_sum 13 = .ok (.invokestatic 85, 3) := dk_184 0 85 (dk_at dksX5_sum_0 13 rfl rfl)
theorem dX5_sum_16 : decode cX5_sum 16 = .ok (.ifCond .ne 6, 3) := dk_154 0 6 (dk_at dksX5_sum_0 16 rfl rfl)
theorem dX5_sum_19 : decode cX5_sum 19 = .ok (.bipush (-2), 2) := dk_16 254 (dk_at dksX5_sum_0 19 rfl rfl)
theorem dX5_sum_21 : decode cX5_sum 21 = .ok (.ireturn, 1) := dk_172 (dk_at dksX5_sum_0 21 rfl rfl)
theorem dX5_sum_22 : decode cX5_sum 22 = .ok (.aload_n 0, 1) := dk_42 (dk_at dksX5_sum_0 22 rfl rfl)
theorem dX5_sum_23 : decode cX5_sum 23 = .ok (.invokevirtual 317, 3) := dk_182 1 61 (dk_at dksX5_sum_1 0 rfl rfl)
theorem dX5_sum_26 : decode cX5_sum 26 = .ok (.iload_n 1, 1) := dk_27 (dk_at dksX5_sum_1 3 rfl rfl)
theorem dX5_sum_27 : decode cX5_sum 27 = .ok (.tableswitch 87 0 7 #[45, 50, 55, 60, 65, 70, 75, 81], 45) := by decide +kernel
theorem dX5_sum_72 : decode cX5_sum 72 = .ok (.aload_n 0, 1) := dk_42 (dk_at dksX5_sum_3 0 rfl rfl)
theorem dX5_sum_73 : decode cX5_sum 73 = .ok (.invokevirtual 327, 3) := dk_182 1 71 (dk_at dksX5_sum_3 1 rfl rfl)
theorem dX5_sum_76 : decode cX5_sum 76 = .ok (.ireturn, 1) := dk_172 (dk_at dksX5_sum_3 4 rfl rfl)
theorem dX5_sum_77 : decode cX5_sum 77 = .ok (.aload_n 0, 1) := dk_42 (dk_at dksX5_sum_3 5 rfl rfl)
theorem dX5_sum_78 : decode cX5_sum 78 = .ok (.invokevirtual 303, 3) := dk_182 1 47 (dk_at dksX5_sum_3 6 rfl rfl)
theorem dX5_sum_81 : decode cX5_sum 81 = .ok (.ireturn, 1) := dk_172 (dk_at dksX5_sum_3 9 rfl rfl)
theorem dX5_sum_82 : decode cX5_sum 82 = .ok (.aload_n 0, 1) := dk_42 (dk_at dksX5_sum_3 10 rfl rfl)
theorem dX5_sum_83 : decode cX5_sum 83 = .ok (.invokevirtual 306, 3) := dk_182 1 50 (dk_at dksX5_sum_3 11 rfl rfl)
theorem dX5_sum_86 : decode cX5_sum 86 = .ok (.ireturn, 1) := dk_172 (dk_at dksX5_sum_3 14 rfl rfl)
theorem dX5_sum_87 : decode cX5_sum 87 = .ok (.aload_n 0, 1) := dk_42 (dk_at dksX5_sum_3 15 rfl rfl)
theorem dX5_sum_88 : decode cX5_sum 88 = .ok (.getfield 273, 3) := dk_180 1 17 (dk_at dksX5_sum_3 16 rfl rfl)
theorem dX5_sum_91 : decode cX5_sum 91 = .ok (.ireturn, 1) := dk_172 (dk_at dksX5_sum_3 19 rfl rfl)
theorem dX5_sum_92 : decode cX5_sum 92 = .ok (.aload_n 0, 1) := dk_42 (dk_at dksX5_sum_3 20 rfl rfl)
theorem dX5_sum_93 : decode cX5_sum 93 = .ok (.getfield 276, 3) := dk_180 1 20 (dk_at dksX5_sum_3 21 rfl rfl)
theorem dX5_sum_96 : decode cX5_sum 96 = .ok (.ireturn, 1) := dk_172 (dk_at dksX5_sum_4 0 rfl rfl)
theorem dX5_sum_97 : decode cX5_sum 97 = .ok (.aload_n 0, 1) := dk_42 (dk_at dksX5_sum_4 1 rfl rfl)
theorem dX5_sum_98 : decode cX5_sum 98 = .ok (.getfield 270, 3) := dk_180 1 14 (dk_at dksX5_sum_4 2 rfl rfl)
theorem dX5_sum_101 : decode cX5_sum 101 = .ok (.ireturn, 1) := dk_172 (dk_at dksX5_sum_4 5 rfl rfl)
theorem dX5_sum_102 : decode cX5_sum 102 = .ok (.aload_n 0, 1) := dk_42 (dk_at dksX5_sum_4 6 rfl rfl)
theorem dX5_sum_103 : decode cX5_sum 103 = .ok (.iconst 0, 1) := dk_3 (dk_at dksX5_sum_4 7 rfl rfl)
theorem dX5_sum_104 : decode cX5_sum 104 = .ok (.invokevirtual 330, 3) := dk_182 1 74 (dk_at dksX5_sum_4 8 rfl rfl)
theorem dX5_sum_107 : decode cX5_sum 107 = .ok (.ireturn, 1) := dk_172 (dk_at dksX5_sum_4 11 rfl rfl)
theorem dX5_sum_108 : decode cX5_sum 108 = .ok (.aload_n 0, 1) := dk_42 (dk_at dksX5_sum_4 12 rfl rfl)
theorem dX5_sum_109 : decode cX5_sum 109 = .ok (.iconst 2, 1) := dk_5 (dk_at dksX5_sum_4 13 rfl rfl)
theorem dX5_sum_110 : decode cX5_sum 110 = .ok (.invokevirtual 330, 3) := dk_182 1 74 (dk_at dksX5_sum_4 14 rfl rfl)
theorem dX5_sum_113 : decode cX5_sum 113 = .ok (.ireturn, 1) := dk_172 (dk_at dksX5_sum_4 17 rfl rfl)
theorem dX5_sum_114 : decode cX5_sum 114 = .ok (.iconst 0, 1) := dk_3 (dk_at dksX5_sum_4 18 rfl rfl)
theorem dX5_sum_115 : decode cX5_sum 115 = .ok (.istore_n 2, 1) := dk_61 (dk_at dksX5_sum_4 19 rfl rfl)
theorem dX5_sum_116 : decode cX5_sum 116 = .ok (.iconst 0, 1) := dk_3 (dk_at dksX5_sum_4 20 rfl rfl)
theorem dX5_sum_117 : decode cX5_sum 117 = .ok (.istore_n 3, 1) := dk_62 (dk_at dksX5_sum_4 21 rfl rfl)
theorem dX5_sum_118 : decode cX5_sum 118 = .ok (.iload_n 3, 1) := dk_29 (dk_at dksX5_sum_4 22 rfl rfl)
theorem dX5_sum_119 : decode cX5_sum 119 = .ok (.aload_n 0, 1) := dk_42 (dk_at dksX5_sum_4 23 rfl rfl)
theorem dX5_sum_120 : decode cX5_sum 120 = .ok (.invokevirtual 89, 3) := dk_182 0 89 (dk_at dksX5_sum_5 0 rfl rfl)
theorem dX5_sum_123 : decode cX5_sum 123 = .ok (.if_icmp .ge 18, 3) := dk_162 0 18 (dk_at dksX5_sum_5 3 rfl rfl)
theorem dX5_sum_126 : decode cX5_sum 126 = .ok (.iload_n 2, 1) := dk_28 (dk_at dksX5_sum_5 6 rfl rfl)
theorem dX5_sum_127 : decode cX5_sum 127 = .ok (.aload_n 0, 1) := dk_42 (dk_at dksX5_sum_5 7 rfl rfl)
theorem dX5_sum_128 : decode cX5_sum 128 = .ok (.getfield 34, 3) := dk_180 0 34 (dk_at dksX5_sum_5 8 rfl rfl)
theorem dX5_sum_131 : decode cX5_sum 131 = .ok (.iload_n 3, 1) := dk_29 (dk_at dksX5_sum_5 11 rfl rfl)
theorem dX5_sum_132 : decode cX5_sum 132 = .ok (.iaload, 1) := dk_46 (dk_at dksX5_sum_5 12 rfl rfl)
theorem dX5_sum_133 : decode cX5_sum 133 = .ok (.iadd, 1) := dk_96 (dk_at dksX5_sum_5 13 rfl rfl)
theorem dX5_sum_134 : decode cX5_sum 134 = .ok (.istore_n 2, 1) := dk_61 (dk_at dksX5_sum_5 14 rfl rfl)
theorem dX5_sum_135 : decode cX5_sum 135 = .ok (.iinc 3 1, 3) := dk_132 3 1 (dk_at dksX5_sum_5 15 rfl rfl)
theorem dX5_sum_138 : decode cX5_sum 138 = .ok (.goto (-20), 3) := dk_167 255 236 (dk_at dksX5_sum_5 18 rfl rfl)
theorem dX5_sum_141 : decode cX5_sum 141 = .ok (.iload_n 2, 1) := dk_28 (dk_at dksX5_sum_5 21 rfl rfl)
theorem dX5_sum_142 : decode cX5_sum 142 = .ok (.ireturn, 1) := dk_172 (dk_at dksX5_sum_5 22 rfl rfl)
abbrev cX5_isPlain : ByteArray := prog_13_method_6_code
def yX5_isPlain : MethodName := ⟨RX5, "isPlain", "()Z"⟩
def dkwX5_isPlain_0 : List UInt8 := [42, 180, 0, 9, 8, 46, 158, 0, 7, 4, 167, 0, 4, 3, 172]
abbrev dktX5_isPlain_0 : List UInt8 := dkwX5_isPlain_0 ++ []
theorem dksX5_isPlain_0 : cX5_isPlain.data.toList.drop 0 = dktX5_isPlain_0 := by decide +kernel
theorem dX5_isPlain_0 : decode cX5_isPlain 0 = .ok (.aload_n 0, 1) := dk_42 (dk_at dksX5_isPlain_0 0 rfl rfl)
theorem dX5_isPlain_1 : decode cX5_isPlain 1 = .ok (.getfield 9, 3) := dk_180 0 9 (dk_at dksX5_isPlain_0 1 rfl rfl)
theorem dX5_isPlain_4 : decode cX5_isPlain 4 = .ok (.iconst 5, 1) := dk_8 (dk_at dksX5_isPlain_0 4 rfl rfl)
theorem dX5_isPlain_5 : decode cX5_isPlain 5 = .ok (.iaload, 1) := dk_46 (dk_at dksX5_isPlain_0 5 rfl rfl)
theorem dX5_isPlain_6 : decode cX5_isPlain 6 = .ok (.ifCond .le 7, 3) := dk_158 0 7 (dk_at dksX5_isPlain_0 6 rfl rfl)
theorem dX5_isPlain_9 : decode cX5_isPlain 9 = .ok (.iconst 1, 1) := dk_4 (dk_at dksX5_isPlain_0 9 rfl rfl)
theorem dX5_isPlain_10 : decode cX5_isPlain 10 = .ok (.goto 4, 3) := dk_167 0 4 (dk_at dksX5_isPlain_0 10 rfl rfl)
theorem dX5_isPlain_13 : decode cX5_isPlain 13 = .ok (.iconst 0, 1) := dk_3 (dk_at dksX5_isPlain_0 13 rfl rfl)
theorem dX5_isPlain_14 : decode cX5_isPlain 14 = .ok (.ireturn, 1) := dk_172 (dk_at dksX5_isPlain_0 14 rfl rfl)
abbrev cX5_brought : ByteArray := prog_13_method_47_code
def yX5_brought : MethodName := ⟨RX5, "brought", "()I"⟩
def dkwX5_brought_1 : List UInt8 := [46, 96, 60, 132, 2, 1, 167, 255, 230, 27, 172]
abbrev dktX5_brought_1 : List UInt8 := dkwX5_brought_1 ++ []
def dkwX5_brought_0 : List UInt8 := [3, 60, 3, 61, 28, 42, 180, 0, 9, 4, 46, 162, 0, 22, 27, 42, 180, 0, 46, 6, 28, 104, 3, 96]
abbrev dktX5_brought_0 : List UInt8 := dkwX5_brought_0 ++ dktX5_brought_1
theorem dksX5_brought_0 : cX5_brought.data.toList.drop 0 = dktX5_brought_0 := by decide +kernel
theorem dksX5_brought_1 : cX5_brought.data.toList.drop 24 = dktX5_brought_1 := dk_seg dksX5_brought_0 24 rfl rfl
theorem dX5_brought_0 : decode cX5_brought 0 = .ok (.iconst 0, 1) := dk_3 (dk_at dksX5_brought_0 0 rfl rfl)
theorem dX5_brought_1 : decode cX5_brought 1 = .ok (.istore_n 1, 1) := dk_60 (dk_at dksX5_brought_0 1 rfl rfl)
theorem dX5_brought_2 : decode cX5_brought 2 = .ok (.iconst 0, 1) := dk_3 (dk_at dksX5_brought_0 2 rfl rfl)
theorem dX5_brought_3 : decode cX5_brought 3 = .ok (.istore_n 2, 1) := dk_61 (dk_at dksX5_brought_0 3 rfl rfl)
theorem dX5_brought_4 : decode cX5_brought 4 = .ok (.iload_n 2, 1) := dk_28 (dk_at dksX5_brought_0 4 rfl rfl)
theorem dX5_brought_5 : decode cX5_brought 5 = .ok (.aload_n 0, 1) := dk_42 (dk_at dksX5_brought_0 5 rfl rfl)
theorem dX5_brought_6 : decode cX5_brought 6 = .ok (.getfield 9, 3) := dk_180 0 9 (dk_at dksX5_brought_0 6 rfl rfl)
theorem dX5_brought_9 : decode cX5_brought 9 = .ok (.iconst 1, 1) := dk_4 (dk_at dksX5_brought_0 9 rfl rfl)
theorem dX5_brought_10 : decode cX5_brought 10 = .ok (.iaload, 1) := dk_46 (dk_at dksX5_brought_0 10 rfl rfl)
theorem dX5_brought_11 : decode cX5_brought 11 = .ok (.if_icmp .ge 22, 3) := dk_162 0 22 (dk_at dksX5_brought_0 11 rfl rfl)
theorem dX5_brought_14 : decode cX5_brought 14 = .ok (.iload_n 1, 1) := dk_27 (dk_at dksX5_brought_0 14 rfl rfl)
theorem dX5_brought_15 : decode cX5_brought 15 = .ok (.aload_n 0, 1) := dk_42 (dk_at dksX5_brought_0 15 rfl rfl)
theorem dX5_brought_16 : decode cX5_brought 16 = .ok (.getfield 46, 3) := dk_180 0 46 (dk_at dksX5_brought_0 16 rfl rfl)
theorem dX5_brought_19 : decode cX5_brought 19 = .ok (.iconst 3, 1) := dk_6 (dk_at dksX5_brought_0 19 rfl rfl)
theorem dX5_brought_20 : decode cX5_brought 20 = .ok (.iload_n 2, 1) := dk_28 (dk_at dksX5_brought_0 20 rfl rfl)
theorem dX5_brought_21 : decode cX5_brought 21 = .ok (.imul, 1) := dk_104 (dk_at dksX5_brought_0 21 rfl rfl)
theorem dX5_brought_22 : decode cX5_brought 22 = .ok (.iconst 0, 1) := dk_3 (dk_at dksX5_brought_0 22 rfl rfl)
theorem dX5_brought_23 : decode cX5_brought 23 = .ok (.iadd, 1) := dk_96 (dk_at dksX5_brought_0 23 rfl rfl)
theorem dX5_brought_24 : decode cX5_brought 24 = .ok (.iaload, 1) := dk_46 (dk_at dksX5_brought_1 0 rfl rfl)
theorem dX5_brought_25 : decode cX5_brought 25 = .ok (.iadd, 1) := dk_96 (dk_at dksX5_brought_1 1 rfl rfl)
theorem dX5_brought_26 : decode cX5_brought 26 = .ok (.istore_n 1, 1) := dk_60 (dk_at dksX5_brought_1 2 rfl rfl)
theorem dX5_brought_27 : decode cX5_brought 27 = .ok (.iinc 2 1, 3) := dk_132 2 1 (dk_at dksX5_brought_1 3 rfl rfl)
theorem dX5_brought_30 : decode cX5_brought 30 = .ok (.goto (-26), 3) := dk_167 255 230 (dk_at dksX5_brought_1 6 rfl rfl)
theorem dX5_brought_33 : decode cX5_brought 33 = .ok (.iload_n 1, 1) := dk_27 (dk_at dksX5_brought_1 9 rfl rfl)
theorem dX5_brought_34 : decode cX5_brought 34 = .ok (.ireturn, 1) := dk_172 (dk_at dksX5_brought_1 10 rfl rfl)
abbrev cX5_shortOfFloods : ByteArray := prog_13_method_50_code
def yX5_shortOfFloods : MethodName := ⟨RX5, "shortOfFloods", "()I"⟩
def dkwX5_shortOfFloods_1 : List UInt8 := [132, 2, 1, 167, 255, 235, 27, 172]
abbrev dktX5_shortOfFloods_1 : List UInt8 := dkwX5_shortOfFloods_1 ++ []
def dkwX5_shortOfFloods_0 : List UInt8 := [3, 60, 3, 61, 28, 42, 180, 0, 9, 5, 46, 162, 0, 17, 27, 42, 28, 182, 1, 41, 96, 60]
abbrev dktX5_shortOfFloods_0 : List UInt8 := dkwX5_shortOfFloods_0 ++ dktX5_shortOfFloods_1
theorem dksX5_shortOfFloods_0 : cX5_shortOfFloods.data.toList.drop 0 = dktX5_shortOfFloods_0 := by decide +kernel
theorem dksX5_shortOfFloods_1 : cX5_shortOfFloods.data.toList.drop 22 = dktX5_shortOfFloods_1 := dk_seg dksX5_shortOfFloods_0 22 rfl rfl
theorem dX5_shortOfFloods_0 : decode cX5_shortOfFloods 0 = .ok (.iconst 0, 1) := dk_3 (dk_at dksX5_shortOfFloods_0 0 rfl rfl)
theorem dX5_shortOfFloods_1 : decode cX5_shortOfFloods 1 = .ok (.istore_n 1, 1) := dk_60 (dk_at dksX5_shortOfFloods_0 1 rfl rfl)
theorem dX5_shortOfFloods_2 : decode cX5_shortOfFloods 2 = .ok (.iconst 0, 1) := dk_3 (dk_at dksX5_shortOfFloods_0 2 rfl rfl)
theorem dX5_shortOfFloods_3 : decode cX5_shortOfFloods 3 = .ok (.istore_n 2, 1) := dk_61 (dk_at dksX5_shortOfFloods_0 3 rfl rfl)
theorem dX5_shortOfFloods_4 : decode cX5_shortOfFloods 4 = .ok (.iload_n 2, 1) := dk_28 (dk_at dksX5_shortOfFloods_0 4 rfl rfl)
theorem dX5_shortOfFloods_5 : decode cX5_shortOfFloods 5 = .ok (.aload_n 0, 1) := dk_42 (dk_at dksX5_shortOfFloods_0 5 rfl rfl)
theorem dX5_shortOfFloods_6 : decode cX5_shortOfFloods 6 = .ok (.getfield 9, 3) := dk_180 0 9 (dk_at dksX5_shortOfFloods_0 6 rfl rfl)
theorem dX5_shortOfFloods_9 : decode cX5_shortOfFloods 9 = .ok (.iconst 2, 1) := dk_5 (dk_at dksX5_shortOfFloods_0 9 rfl rfl)
theorem dX5_shortOfFloods_10 : decode cX5_shortOfFloods 10 = .ok (.iaload, 1) := dk_46 (dk_at dksX5_shortOfFloods_0 10 rfl rfl)
theorem dX5_shortOfFloods_11 : decode cX5_shortOfFloods 11 = .ok (.if_icmp .ge 17, 3) := dk_162 0 17 (dk_at dksX5_shortOfFloods_0 11 rfl rfl)
theorem dX5_shortOfFloods_14 : decode cX5_shortOfFloods 14 = .ok (.iload_n 1, 1) := dk_27 (dk_at dksX5_shortOfFloods_0 14 rfl rfl)
theorem dX5_shortOfFloods_15 : decode cX5_shortOfFloods 15 = .ok (.aload_n 0, 1) := dk_42 (dk_at dksX5_shortOfFloods_0 15 rfl rfl)
theorem dX5_shortOfFloods_16 : decode cX5_shortOfFloods 16 = .ok (.iload_n 2, 1) := dk_28 (dk_at dksX5_shortOfFloods_0 16 rfl rfl)
theorem dX5_shortOfFloods_17 : decode cX5_shortOfFloods 17 = .ok (.invokevirtual 297, 3) := dk_182 1 41 (dk_at dksX5_shortOfFloods_0 17 rfl rfl)
theorem dX5_shortOfFloods_20 : decode cX5_shortOfFloods 20 = .ok (.iadd, 1) := dk_96 (dk_at dksX5_shortOfFloods_0 20 rfl rfl)
theorem dX5_shortOfFloods_21 : decode cX5_shortOfFloods 21 = .ok (.istore_n 1, 1) := dk_60 (dk_at dksX5_shortOfFloods_0 21 rfl rfl)
theorem dX5_shortOfFloods_22 : decode cX5_shortOfFloods 22 = .ok (.iinc 2 1, 3) := dk_132 2 1 (dk_at dksX5_shortOfFloods_1 0 rfl rfl)
theorem dX5_shortOfFloods_25 : decode cX5_shortOfFloods 25 = .ok (.goto (-21), 3) := dk_167 255 235 (dk_at dksX5_shortOfFloods_1 3 rfl rfl)
theorem dX5_shortOfFloods_28 : decode cX5_shortOfFloods 28 = .ok (.iload_n 1, 1) := dk_27 (dk_at dksX5_shortOfFloods_1 6 rfl rfl)
theorem dX5_shortOfFloods_29 : decode cX5_shortOfFloods 29 = .ok (.ireturn, 1) := dk_172 (dk_at dksX5_shortOfFloods_1 7 rfl rfl)
abbrev cX5_shortOfLoans : ByteArray := prog_13_method_51_code
def yX5_shortOfLoans : MethodName := ⟨RX5, "shortOfLoans", "()I"⟩
def dkwX5_shortOfLoans_1 : List UInt8 := [132, 2, 1, 167, 255, 235, 27, 172]
abbrev dktX5_shortOfLoans_1 : List UInt8 := dkwX5_shortOfLoans_1 ++ []
def dkwX5_shortOfLoans_0 : List UInt8 := [3, 60, 3, 61, 28, 42, 180, 0, 9, 6, 46, 162, 0, 17, 27, 42, 28, 182, 1, 44, 96, 60]
abbrev dktX5_shortOfLoans_0 : List UInt8 := dkwX5_shortOfLoans_0 ++ dktX5_shortOfLoans_1
theorem dksX5_shortOfLoans_0 : cX5_shortOfLoans.data.toList.drop 0 = dktX5_shortOfLoans_0 := by decide +kernel
theorem dksX5_shortOfLoans_1 : cX5_shortOfLoans.data.toList.drop 22 = dktX5_shortOfLoans_1 := dk_seg dksX5_shortOfLoans_0 22 rfl rfl
theorem dX5_shortOfLoans_0 : decode cX5_shortOfLoans 0 = .ok (.iconst 0, 1) := dk_3 (dk_at dksX5_shortOfLoans_0 0 rfl rfl)
theorem dX5_shortOfLoans_1 : decode cX5_shortOfLoans 1 = .ok (.istore_n 1, 1) := dk_60 (dk_at dksX5_shortOfLoans_0 1 rfl rfl)
theorem dX5_shortOfLoans_2 : decode cX5_shortOfLoans 2 = .ok (.iconst 0, 1) := dk_3 (dk_at dksX5_shortOfLoans_0 2 rfl rfl)
theorem dX5_shortOfLoans_3 : decode cX5_shortOfLoans 3 = .ok (.istore_n 2, 1) := dk_61 (dk_at dksX5_shortOfLoans_0 3 rfl rfl)
theorem dX5_shortOfLoans_4 : decode cX5_shortOfLoans 4 = .ok (.iload_n 2, 1) := dk_28 (dk_at dksX5_shortOfLoans_0 4 rfl rfl)
theorem dX5_shortOfLoans_5 : decode cX5_shortOfLoans 5 = .ok (.aload_n 0, 1) := dk_42 (dk_at dksX5_shortOfLoans_0 5 rfl rfl)
theorem dX5_shortOfLoans_6 : decode cX5_shortOfLoans 6 = .ok (.getfield 9, 3) := dk_180 0 9 (dk_at dksX5_shortOfLoans_0 6 rfl rfl)
theorem dX5_shortOfLoans_9 : decode cX5_shortOfLoans 9 = .ok (.iconst 3, 1) := dk_6 (dk_at dksX5_shortOfLoans_0 9 rfl rfl)
theorem dX5_shortOfLoans_10 : decode cX5_shortOfLoans 10 = .ok (.iaload, 1) := dk_46 (dk_at dksX5_shortOfLoans_0 10 rfl rfl)
theorem dX5_shortOfLoans_11 : decode cX5_shortOfLoans 11 = .ok (.if_icmp .ge 17, 3) := dk_162 0 17 (dk_at dksX5_shortOfLoans_0 11 rfl rfl)
theorem dX5_shortOfLoans_14 : decode cX5_shortOfLoans 14 = .ok (.iload_n 1, 1) := dk_27 (dk_at dksX5_shortOfLoans_0 14 rfl rfl)
theorem dX5_shortOfLoans_15 : decode cX5_shortOfLoans 15 = .ok (.aload_n 0, 1) := dk_42 (dk_at dksX5_shortOfLoans_0 15 rfl rfl)
theorem dX5_shortOfLoans_16 : decode cX5_shortOfLoans 16 = .ok (.iload_n 2, 1) := dk_28 (dk_at dksX5_shortOfLoans_0 16 rfl rfl)
theorem dX5_shortOfLoans_17 : decode cX5_shortOfLoans 17 = .ok (.invokevirtual 300, 3) := dk_182 1 44 (dk_at dksX5_shortOfLoans_0 17 rfl rfl)
theorem dX5_shortOfLoans_20 : decode cX5_shortOfLoans 20 = .ok (.iadd, 1) := dk_96 (dk_at dksX5_shortOfLoans_0 20 rfl rfl)
theorem dX5_shortOfLoans_21 : decode cX5_shortOfLoans 21 = .ok (.istore_n 1, 1) := dk_60 (dk_at dksX5_shortOfLoans_0 21 rfl rfl)
theorem dX5_shortOfLoans_22 : decode cX5_shortOfLoans 22 = .ok (.iinc 2 1, 3) := dk_132 2 1 (dk_at dksX5_shortOfLoans_1 0 rfl rfl)
theorem dX5_shortOfLoans_25 : decode cX5_shortOfLoans 25 = .ok (.goto (-21), 3) := dk_167 255 235 (dk_at dksX5_shortOfLoans_1 3 rfl rfl)
theorem dX5_shortOfLoans_28 : decode cX5_shortOfLoans 28 = .ok (.iload_n 1, 1) := dk_27 (dk_at dksX5_shortOfLoans_1 6 rfl rfl)
theorem dX5_shortOfLoans_29 : decode cX5_shortOfLoans 29 = .ok (.ireturn, 1) := dk_172 (dk_at dksX5_shortOfLoans_1 7 rfl rfl)
abbrev cX5_floodSum : ByteArray := prog_13_method_59_code
def yX5_floodSum : MethodName := ⟨RX5, "floodSum", "(I)I"⟩
def dkwX5_floodSum_1 : List UInt8 := [46, 96, 61, 132, 3, 1, 167, 255, 230, 28, 172]
abbrev dktX5_floodSum_1 : List UInt8 := dkwX5_floodSum_1 ++ []
def dkwX5_floodSum_0 : List UInt8 := [3, 61, 3, 62, 29, 42, 180, 0, 9, 5, 46, 162, 0, 22, 28, 42, 180, 0, 40, 6, 29, 104, 27, 96]
abbrev dktX5_floodSum_0 : List UInt8 := dkwX5_floodSum_0 ++ dktX5_floodSum_1
theorem dksX5_floodSum_0 : cX5_floodSum.data.toList.drop 0 = dktX5_floodSum_0 := by decide +kernel
theorem dksX5_floodSum_1 : cX5_floodSum.data.toList.drop 24 = dktX5_floodSum_1 := dk_seg dksX5_floodSum_0 24 rfl rfl
theorem dX5_floodSum_0 : decode cX5_floodSum 0 = .ok (.iconst 0, 1) := dk_3 (dk_at dksX5_floodSum_0 0 rfl rfl)
theorem dX5_floodSum_1 : decode cX5_floodSum 1 = .ok (.istore_n 2, 1) := dk_61 (dk_at dksX5_floodSum_0 1 rfl rfl)
theorem dX5_floodSum_2 : decode cX5_floodSum 2 = .ok (.iconst 0, 1) := dk_3 (dk_at dksX5_floodSum_0 2 rfl rfl)
theorem dX5_floodSum_3 : decode cX5_floodSum 3 = .ok (.istore_n 3, 1) := dk_62 (dk_at dksX5_floodSum_0 3 rfl rfl)
theorem dX5_floodSum_4 : decode cX5_floodSum 4 = .ok (.iload_n 3, 1) := dk_29 (dk_at dksX5_floodSum_0 4 rfl rfl)
theorem dX5_floodSum_5 : decode cX5_floodSum 5 = .ok (.aload_n 0, 1) := dk_42 (dk_at dksX5_floodSum_0 5 rfl rfl)
theorem dX5_floodSum_6 : decode cX5_floodSum 6 = .ok (.getfield 9, 3) := dk_180 0 9 (dk_at dksX5_floodSum_0 6 rfl rfl)
theorem dX5_floodSum_9 : decode cX5_floodSum 9 = .ok (.iconst 2, 1) := dk_5 (dk_at dksX5_floodSum_0 9 rfl rfl)
theorem dX5_floodSum_10 : decode cX5_floodSum 10 = .ok (.iaload, 1) := dk_46 (dk_at dksX5_floodSum_0 10 rfl rfl)
theorem dX5_floodSum_11 : decode cX5_floodSum 11 = .ok (.if_icmp .ge 22, 3) := dk_162 0 22 (dk_at dksX5_floodSum_0 11 rfl rfl)
theorem dX5_floodSum_14 : decode cX5_floodSum 14 = .ok (.iload_n 2, 1) := dk_28 (dk_at dksX5_floodSum_0 14 rfl rfl)
theorem dX5_floodSum_15 : decode cX5_floodSum 15 = .ok (.aload_n 0, 1) := dk_42 (dk_at dksX5_floodSum_0 15 rfl rfl)
theorem dX5_floodSum_16 : decode cX5_floodSum 16 = .ok (.getfield 40, 3) := dk_180 0 40 (dk_at dksX5_floodSum_0 16 rfl rfl)
theorem dX5_floodSum_19 : decode cX5_floodSum 19 = .ok (.iconst 3, 1) := dk_6 (dk_at dksX5_floodSum_0 19 rfl rfl)
theorem dX5_floodSum_20 : decode cX5_floodSum 20 = .ok (.iload_n 3, 1) := dk_29 (dk_at dksX5_floodSum_0 20 rfl rfl)
theorem dX5_floodSum_21 : decode cX5_floodSum 21 = .ok (.imul, 1) := dk_104 (dk_at dksX5_floodSum_0 21 rfl rfl)
theorem dX5_floodSum_22 : decode cX5_floodSum 22 = .ok (.iload_n 1, 1) := dk_27 (dk_at dksX5_floodSum_0 22 rfl rfl)
theorem dX5_floodSum_23 : decode cX5_floodSum 23 = .ok (.iadd, 1) := dk_96 (dk_at dksX5_floodSum_0 23 rfl rfl)
theorem dX5_floodSum_24 : decode cX5_floodSum 24 = .ok (.iaload, 1) := dk_46 (dk_at dksX5_floodSum_1 0 rfl rfl)
theorem dX5_floodSum_25 : decode cX5_floodSum 25 = .ok (.iadd, 1) := dk_96 (dk_at dksX5_floodSum_1 1 rfl rfl)
theorem dX5_floodSum_26 : decode cX5_floodSum 26 = .ok (.istore_n 2, 1) := dk_61 (dk_at dksX5_floodSum_1 2 rfl rfl)
theorem dX5_floodSum_27 : decode cX5_floodSum 27 = .ok (.iinc 3 1, 3) := dk_132 3 1 (dk_at dksX5_floodSum_1 3 rfl rfl)
theorem dX5_floodSum_30 : decode cX5_floodSum 30 = .ok (.goto (-26), 3) := dk_167 255 230 (dk_at dksX5_floodSum_1 6 rfl rfl)
theorem dX5_floodSum_33 : decode cX5_floodSum 33 = .ok (.iload_n 2, 1) := dk_28 (dk_at dksX5_floodSum_1 9 rfl rfl)
theorem dX5_floodSum_34 : decode cX5_floodSum 34 = .ok (.ireturn, 1) := dk_172 (dk_at dksX5_floodSum_1 10 rfl rfl)
abbrev cX5_first : ByteArray := prog_13_method_61_code
def yX5_first : MethodName := ⟨RX5, "first", "()I"⟩
def dkwX5_first_0 : List UInt8 := [42, 182, 1, 66, 154, 0, 6, 16, 254, 172, 42, 182, 1, 61, 42, 180, 0, 246, 172]
abbrev dktX5_first_0 : List UInt8 := dkwX5_first_0 ++ []
theorem dksX5_first_0 : cX5_first.data.toList.drop 0 = dktX5_first_0 := by decide +kernel
theorem dX5_first_0 : decode cX5_first 0 = .ok (.aload_n 0, 1) := dk_42 (dk_at dksX5_first_0 0 rfl rfl)
theorem dX5_first_1 : decode cX5_first 1 = .ok (.invokevirtual 322, 3) := dk_182 1 66 (dk_at dksX5_first_0 1 rfl rfl)
theorem dX5_first_4 : decode cX5_first 4 = .ok (.ifCond .ne 6, 3) := dk_154 0 6 (dk_at dksX5_first_0 4 rfl rfl)
theorem dX5_first_7 : decode cX5_first 7 = .ok (.bipush (-2), 2) := dk_16 254 (dk_at dksX5_first_0 7 rfl rfl)
theorem dX5_first_9 : decode cX5_first 9 = .ok (.ireturn, 1) := dk_172 (dk_at dksX5_first_0 9 rfl rfl)
theorem dX5_first_10 : decode cX5_first 10 = .ok (.aload_n 0, 1) := dk_42 (dk_at dksX5_first_0 10 rfl rfl)
theorem dX5_first_11 : decode cX5_first 11 = .ok (.invokevirtual 317, 3) := dk_182 1 61 (dk_at dksX5_first_0 11 rfl rfl)
theorem dX5_first_14 : decode cX5_first 14 = .ok (.aload_n 0, 1) := dk_42 (dk_at dksX5_first_0 14 rfl rfl)
theorem dX5_first_15 : decode cX5_first 15 = .ok (.getfield 246, 3) := dk_180 0 246 (dk_at dksX5_first_0 15 rfl rfl)
theorem dX5_first_18 : decode cX5_first 18 = .ok (.ireturn, 1) := dk_172 (dk_at dksX5_first_0 18 rfl rfl)
abbrev cX5_best : ByteArray := prog_13_method_68_code
def yX5_best : MethodName := ⟨RX5, "best", "()I"⟩
def dkwX5_best_0 : List UInt8 := [42, 182, 1, 66, 154, 0, 6, 16, 254, 172, 42, 182, 1, 95, 87, 42, 180, 1, 80, 172]
abbrev dktX5_best_0 : List UInt8 := dkwX5_best_0 ++ []
theorem dksX5_best_0 : cX5_best.data.toList.drop 0 = dktX5_best_0 := by decide +kernel
theorem dX5_best_0 : decode cX5_best 0 = .ok (.aload_n 0, 1) := dk_42 (dk_at dksX5_best_0 0 rfl rfl)
theorem dX5_best_1 : decode cX5_best 1 = .ok (.invokevirtual 322, 3) := dk_182 1 66 (dk_at dksX5_best_0 1 rfl rfl)
theorem dX5_best_4 : decode cX5_best 4 = .ok (.ifCond .ne 6, 3) := dk_154 0 6 (dk_at dksX5_best_0 4 rfl rfl)
theorem dX5_best_7 : decode cX5_best 7 = .ok (.bipush (-2), 2) := dk_16 254 (dk_at dksX5_best_0 7 rfl rfl)
theorem dX5_best_9 : decode cX5_best 9 = .ok (.ireturn, 1) := dk_172 (dk_at dksX5_best_0 9 rfl rfl)
theorem dX5_best_10 : decode cX5_best 10 = .ok (.aload_n 0, 1) := dk_42 (dk_at dksX5_best_0 10 rfl rfl)
theorem dX5_best_11 : decode cX5_best 11 = .ok (.invokevirtual 351, 3) := dk_182 1 95 (dk_at dksX5_best_0 11 rfl rfl)
theorem dX5_best_14 : decode cX5_best 14 = .ok (.pop, 1) := dk_87 (dk_at dksX5_best_0 14 rfl rfl)
theorem dX5_best_15 : decode cX5_best 15 = .ok (.aload_n 0, 1) := dk_42 (dk_at dksX5_best_0 15 rfl rfl)
theorem dX5_best_16 : decode cX5_best 16 = .ok (.getfield 336, 3) := dk_180 1 80 (dk_at dksX5_best_0 16 rfl rfl)
theorem dX5_best_19 : decode cX5_best 19 = .ok (.ireturn, 1) := dk_172 (dk_at dksX5_best_0 19 rfl rfl)
abbrev cX5_bestTakers : ByteArray := prog_13_method_67_code
def yX5_bestTakers : MethodName := ⟨RX5, "bestTakers", "()I"⟩
def dkwX5_bestTakers_3 : List UInt8 := [182, 1, 92, 27, 172]
abbrev dktX5_bestTakers_3 : List UInt8 := dkwX5_bestTakers_3 ++ []
def dkwX5_bestTakers_2 : List UInt8 := [163, 0, 6, 167, 0, 13, 29, 60, 42, 42, 182, 1, 71, 181, 1, 80, 132, 3, 1, 167, 255, 208, 42]
abbrev dktX5_bestTakers_2 : List UInt8 := dkwX5_bestTakers_2 ++ dktX5_bestTakers_3
def dkwX5_bestTakers_1 : List UInt8 := [29, 182, 1, 86, 42, 182, 1, 61, 42, 182, 1, 89, 157, 0, 27, 42, 182, 1, 71, 42, 180, 1, 80]
abbrev dktX5_bestTakers_1 : List UInt8 := dkwX5_bestTakers_1 ++ dktX5_bestTakers_2
def dkwX5_bestTakers_0 : List UInt8 := [42, 182, 1, 77, 2, 60, 42, 2, 181, 1, 80, 42, 182, 1, 83, 61, 3, 62, 29, 28, 162, 0, 49, 42]
abbrev dktX5_bestTakers_0 : List UInt8 := dkwX5_bestTakers_0 ++ dktX5_bestTakers_1
theorem dksX5_bestTakers_0 : cX5_bestTakers.data.toList.drop 0 = dktX5_bestTakers_0 := by decide +kernel
theorem dksX5_bestTakers_1 : cX5_bestTakers.data.toList.drop 24 = dktX5_bestTakers_1 := dk_seg dksX5_bestTakers_0 24 rfl rfl
theorem dksX5_bestTakers_2 : cX5_bestTakers.data.toList.drop 47 = dktX5_bestTakers_2 := dk_seg dksX5_bestTakers_1 23 rfl rfl
theorem dksX5_bestTakers_3 : cX5_bestTakers.data.toList.drop 70 = dktX5_bestTakers_3 := dk_seg dksX5_bestTakers_2 23 rfl rfl
theorem dX5_bestTakers_0 : decode cX5_bestTakers 0 = .ok (.aload_n 0, 1) := dk_42 (dk_at dksX5_bestTakers_0 0 rfl rfl)
theorem dX5_bestTakers_1 : decode cX5_bestTakers 1 = .ok (.invokevirtual 333, 3) := dk_182 1 77 (dk_at dksX5_bestTakers_0 1 rfl rfl)
theorem dX5_bestTakers_4 : decode cX5_bestTakers 4 = .ok (.iconst (-1), 1) := dk_2 (dk_at dksX5_bestTakers_0 4 rfl rfl)
theorem dX5_bestTakers_5 : decode cX5_bestTakers 5 = .ok (.istore_n 1, 1) := dk_60 (dk_at dksX5_bestTakers_0 5 rfl rfl)
theorem dX5_bestTakers_6 : decode cX5_bestTakers 6 = .ok (.aload_n 0, 1) := dk_42 (dk_at dksX5_bestTakers_0 6 rfl rfl)
theorem dX5_bestTakers_7 : decode cX5_bestTakers 7 = .ok (.iconst (-1), 1) := dk_2 (dk_at dksX5_bestTakers_0 7 rfl rfl)
theorem dX5_bestTakers_8 : decode cX5_bestTakers 8 = .ok (.putfield 336, 3) := dk_181 1 80 (dk_at dksX5_bestTakers_0 8 rfl rfl)
theorem dX5_bestTakers_11 : decode cX5_bestTakers 11 = .ok (.aload_n 0, 1) := dk_42 (dk_at dksX5_bestTakers_0 11 rfl rfl)
theorem dX5_bestTakers_12 : decode cX5_bestTakers 12 = .ok (.invokevirtual 339, 3) := dk_182 1 83 (dk_at dksX5_bestTakers_0 12 rfl rfl)
theorem dX5_bestTakers_15 : decode cX5_bestTakers 15 = .ok (.istore_n 2, 1) := dk_61 (dk_at dksX5_bestTakers_0 15 rfl rfl)
theorem dX5_bestTakers_16 : decode cX5_bestTakers 16 = .ok (.iconst 0, 1) := dk_3 (dk_at dksX5_bestTakers_0 16 rfl rfl)
theorem dX5_bestTakers_17 : decode cX5_bestTakers 17 = .ok (.istore_n 3, 1) := dk_62 (dk_at dksX5_bestTakers_0 17 rfl rfl)
theorem dX5_bestTakers_18 : decode cX5_bestTakers 18 = .ok (.iload_n 3, 1) := dk_29 (dk_at dksX5_bestTakers_0 18 rfl rfl)
theorem dX5_bestTakers_19 : decode cX5_bestTakers 19 = .ok (.iload_n 2, 1) := dk_28 (dk_at dksX5_bestTakers_0 19 rfl rfl)
theorem dX5_bestTakers_20 : decode cX5_bestTakers 20 = .ok (.if_icmp .ge 49, 3) := dk_162 0 49 (dk_at dksX5_bestTakers_0 20 rfl rfl)
theorem dX5_bestTakers_23 : decode cX5_bestTakers 23 = .ok (.aload_n 0, 1) := dk_42 (dk_at dksX5_bestTakers_0 23 rfl rfl)
theorem dX5_bestTakers_24 : decode cX5_bestTakers 24 = .ok (.iload_n 3, 1) := dk_29 (dk_at dksX5_bestTakers_1 0 rfl rfl)
theorem dX5_bestTakers_25 : decode cX5_bestTakers 25 = .ok (.invokevirtual 342, 3) := dk_182 1 86 (dk_at dksX5_bestTakers_1 1 rfl rfl)
theorem dX5_bestTakers_28 : decode cX5_bestTakers 28 = .ok (.aload_n 0, 1) := dk_42 (dk_at dksX5_bestTakers_1 4 rfl rfl)
theorem dX5_bestTakers_29 : decode cX5_bestTakers 29 = .ok (.invokevirtual 317, 3) := dk_182 1 61 (dk_at dksX5_bestTakers_1 5 rfl rfl)
theorem dX5_bestTakers_32 : decode cX5_bestTakers 32 = .ok (.aload_n 0, 1) := dk_42 (dk_at dksX5_bestTakers_1 8 rfl rfl)
theorem dX5_bestTakers_33 : decode cX5_bestTakers 33 = .ok (.invokevirtual 345, 3) := dk_182 1 89 (dk_at dksX5_bestTakers_1 9 rfl rfl)
theorem dX5_bestTakers_36 : decode cX5_bestTakers 36 = .ok (.ifCond .gt 27, 3) := dk_157 0 27 (dk_at dksX5_bestTakers_1 12 rfl rfl)
theorem dX5_bestTakers_39 : decode cX5_bestTakers 39 = .ok (.aload_n 0, 1) := dk_42 (dk_at dksX5_bestTakers_1 15 rfl rfl)
theorem dX5_bestTakers_40 : decode cX5_bestTakers 40 = .ok (.invokevirtual 327, 3) := dk_182 1 71 (dk_at dksX5_bestTakers_1 16 rfl rfl)
theorem dX5_bestTakers_43 : decode cX5_bestTakers 43 = .ok (.aload_n 0, 1) := dk_42 (dk_at dksX5_bestTakers_1 19 rfl rfl)
theorem dX5_bestTakers_44 : decode cX5_bestTakers 44 = .ok (.getfield 336, 3) := dk_180 1 80 (dk_at dksX5_bestTakers_1 20 rfl rfl)
theorem dX5_bestTakers_47 : decode cX5_bestTakers 47 = .ok (.if_icmp .gt 6, 3) := dk_163 0 6 (dk_at dksX5_bestTakers_2 0 rfl rfl)
theorem dX5_bestTakers_50 : decode cX5_bestTakers 50 = .ok (.goto 13, 3) := dk_167 0 13 (dk_at dksX5_bestTakers_2 3 rfl rfl)
theorem dX5_bestTakers_53 : decode cX5_bestTakers 53 = .ok (.iload_n 3, 1) := dk_29 (dk_at dksX5_bestTakers_2 6 rfl rfl)
theorem dX5_bestTakers_54 : decode cX5_bestTakers 54 = .ok (.istore_n 1, 1) := dk_60 (dk_at dksX5_bestTakers_2 7 rfl rfl)
theorem dX5_bestTakers_55 : decode cX5_bestTakers 55 = .ok (.aload_n 0, 1) := dk_42 (dk_at dksX5_bestTakers_2 8 rfl rfl)
theorem dX5_bestTakers_56 : decode cX5_bestTakers 56 = .ok (.aload_n 0, 1) := dk_42 (dk_at dksX5_bestTakers_2 9 rfl rfl)
theorem dX5_bestTakers_57 : decode cX5_bestTakers 57 = .ok (.invokevirtual 327, 3) := dk_182 1 71 (dk_at dksX5_bestTakers_2 10 rfl rfl)
theorem dX5_bestTakers_60 : decode cX5_bestTakers 60 = .ok (.putfield 336, 3) := dk_181 1 80 (dk_at dksX5_bestTakers_2 13 rfl rfl)
theorem dX5_bestTakers_63 : decode cX5_bestTakers 63 = .ok (.iinc 3 1, 3) := dk_132 3 1 (dk_at dksX5_bestTakers_2 16 rfl rfl)
theorem dX5_bestTakers_66 : decode cX5_bestTakers 66 = .ok (.goto (-48), 3) := dk_167 255 208 (dk_at dksX5_bestTakers_2 19 rfl rfl)
theorem dX5_bestTakers_69 : decode cX5_bestTakers 69 = .ok (.aload_n 0, 1) := dk_42 (dk_at dksX5_bestTakers_2 22 rfl rfl)
theorem dX5_bestTakers_70 : decode cX5_bestTakers 70 = .ok (.invokevirtual 348, 3) := dk_182 1 92 (dk_at dksX5_bestTakers_3 0 rfl rfl)
theorem dX5_bestTakers_73 : decode cX5_bestTakers 73 = .ok (.iload_n 1, 1) := dk_27 (dk_at dksX5_bestTakers_3 3 rfl rfl)
theorem dX5_bestTakers_74 : decode cX5_bestTakers 74 = .ok (.ireturn, 1) := dk_172 (dk_at dksX5_bestTakers_3 4 rfl rfl)
abbrev cX5_keepsTakers : ByteArray := prog_13_method_63_code
def yX5_keepsTakers : MethodName := ⟨RX5, "keepsTakers", "()V"⟩
def dkwX5_keepsTakers_1 : List UInt8 := [132, 1, 1, 167, 255, 232, 177]
abbrev dktX5_keepsTakers_1 : List UInt8 := dkwX5_keepsTakers_1 ++ []
def dkwX5_keepsTakers_0 : List UInt8 := [3, 60, 27, 6, 162, 0, 25, 42, 180, 0, 52, 27, 42, 180, 0, 9, 17, 0, 157, 27, 96, 46, 79]
abbrev dktX5_keepsTakers_0 : List UInt8 := dkwX5_keepsTakers_0 ++ dktX5_keepsTakers_1
theorem dksX5_keepsTakers_0 : cX5_keepsTakers.data.toList.drop 0 = dktX5_keepsTakers_0 := by decide +kernel
theorem dksX5_keepsTakers_1 : cX5_keepsTakers.data.toList.drop 23 = dktX5_keepsTakers_1 := dk_seg dksX5_keepsTakers_0 23 rfl rfl
theorem dX5_keepsTakers_0 : decode cX5_keepsTakers 0 = .ok (.iconst 0, 1) := dk_3 (dk_at dksX5_keepsTakers_0 0 rfl rfl)
theorem dX5_keepsTakers_1 : decode cX5_keepsTakers 1 = .ok (.istore_n 1, 1) := dk_60 (dk_at dksX5_keepsTakers_0 1 rfl rfl)
theorem dX5_keepsTakers_2 : decode cX5_keepsTakers 2 = .ok (.iload_n 1, 1) := dk_27 (dk_at dksX5_keepsTakers_0 2 rfl rfl)
theorem dX5_keepsTakers_3 : decode cX5_keepsTakers 3 = .ok (.iconst 3, 1) := dk_6 (dk_at dksX5_keepsTakers_0 3 rfl rfl)
theorem dX5_keepsTakers_4 : decode cX5_keepsTakers 4 = .ok (.if_icmp .ge 25, 3) := dk_162 0 25 (dk_at dksX5_keepsTakers_0 4 rfl rfl)
theorem dX5_keepsTakers_7 : decode cX5_keepsTakers 7 = .ok (.aload_n 0, 1) := dk_42 (dk_at dksX5_keepsTakers_0 7 rfl rfl)
theorem dX5_keepsTakers_8 : decode cX5_keepsTakers 8 = .ok (.getfield 52, 3) := dk_180 0 52 (dk_at dksX5_keepsTakers_0 8 rfl rfl)
theorem dX5_keepsTakers_11 : decode cX5_keepsTakers 11 = .ok (.iload_n 1, 1) := dk_27 (dk_at dksX5_keepsTakers_0 11 rfl rfl)
theorem dX5_keepsTakers_12 : decode cX5_keepsTakers 12 = .ok (.aload_n 0, 1) := dk_42 (dk_at dksX5_keepsTakers_0 12 rfl rfl)
theorem dX5_keepsTakers_13 : decode cX5_keepsTakers 13 = .ok (.getfield 9, 3) := dk_180 0 9 (dk_at dksX5_keepsTakers_0 13 rfl rfl)
theorem dX5_keepsTakers_16 : decode cX5_keepsTakers 16 = .ok (.sipush 157, 3) := dk_17 0 157 (dk_at dksX5_keepsTakers_0 16 rfl rfl)
theorem dX5_keepsTakers_19 : decode cX5_keepsTakers 19 = .ok (.iload_n 1, 1) := dk_27 (dk_at dksX5_keepsTakers_0 19 rfl rfl)
theorem dX5_keepsTakers_20 : decode cX5_keepsTakers 20 = .ok (.iadd, 1) := dk_96 (dk_at dksX5_keepsTakers_0 20 rfl rfl)
theorem dX5_keepsTakers_21 : decode cX5_keepsTakers 21 = .ok (.iaload, 1) := dk_46 (dk_at dksX5_keepsTakers_0 21 rfl rfl)
theorem dX5_keepsTakers_22 : decode cX5_keepsTakers 22 = .ok (.iastore, 1) := dk_79 (dk_at dksX5_keepsTakers_0 22 rfl rfl)
theorem dX5_keepsTakers_23 : decode cX5_keepsTakers 23 = .ok (.iinc 1 1, 3) := dk_132 1 1 (dk_at dksX5_keepsTakers_1 0 rfl rfl)
theorem dX5_keepsTakers_26 : decode cX5_keepsTakers 26 = .ok (.goto (-24), 3) := dk_167 255 232 (dk_at dksX5_keepsTakers_1 3 rfl rfl)
theorem dX5_keepsTakers_29 : decode cX5_keepsTakers 29 = .ok (.return_, 1) := dk_177 (dk_at dksX5_keepsTakers_1 6 rfl rfl)
abbrev cX5_takersMany : ByteArray := prog_13_method_62_code
def yX5_takersMany : MethodName := ⟨RX5, "takersMany", "()I"⟩
def dkwX5_takersMany_1 : List UInt8 := [132, 2, 1, 167, 255, 234, 27, 172]
abbrev dktX5_takersMany_1 : List UInt8 := dkwX5_takersMany_1 ++ []
def dkwX5_takersMany_0 : List UInt8 := [4, 60, 3, 61, 28, 42, 180, 0, 9, 5, 46, 162, 0, 18, 27, 42, 182, 0, 89, 4, 96, 104, 60]
abbrev dktX5_takersMany_0 : List UInt8 := dkwX5_takersMany_0 ++ dktX5_takersMany_1
theorem dksX5_takersMany_0 : cX5_takersMany.data.toList.drop 0 = dktX5_takersMany_0 := by decide +kernel
theorem dksX5_takersMany_1 : cX5_takersMany.data.toList.drop 23 = dktX5_takersMany_1 := dk_seg dksX5_takersMany_0 23 rfl rfl
theorem dX5_takersMany_0 : decode cX5_takersMany 0 = .ok (.iconst 1, 1) := dk_4 (dk_at dksX5_takersMany_0 0 rfl rfl)
theorem dX5_takersMany_1 : decode cX5_takersMany 1 = .ok (.istore_n 1, 1) := dk_60 (dk_at dksX5_takersMany_0 1 rfl rfl)
theorem dX5_takersMany_2 : decode cX5_takersMany 2 = .ok (.iconst 0, 1) := dk_3 (dk_at dksX5_takersMany_0 2 rfl rfl)
theorem dX5_takersMany_3 : decode cX5_takersMany 3 = .ok (.istore_n 2, 1) := dk_61 (dk_at dksX5_takersMany_0 3 rfl rfl)
theorem dX5_takersMany_4 : decode cX5_takersMany 4 = .ok (.iload_n 2, 1) := dk_28 (dk_at dksX5_takersMany_0 4 rfl rfl)
theorem dX5_takersMany_5 : decode cX5_takersMany 5 = .ok (.aload_n 0, 1) := dk_42 (dk_at dksX5_takersMany_0 5 rfl rfl)
theorem dX5_takersMany_6 : decode cX5_takersMany 6 = .ok (.getfield 9, 3) := dk_180 0 9 (dk_at dksX5_takersMany_0 6 rfl rfl)
theorem dX5_takersMany_9 : decode cX5_takersMany 9 = .ok (.iconst 2, 1) := dk_5 (dk_at dksX5_takersMany_0 9 rfl rfl)
theorem dX5_takersMany_10 : decode cX5_takersMany 10 = .ok (.iaload, 1) := dk_46 (dk_at dksX5_takersMany_0 10 rfl rfl)
theorem dX5_takersMany_11 : decode cX5_takersMany 11 = .ok (.if_icmp .ge 18, 3) := dk_162 0 18 (dk_at dksX5_takersMany_0 11 rfl rfl)
theorem dX5_takersMany_14 : decode cX5_takersMany 14 = .ok (.iload_n 1, 1) := dk_27 (dk_at dksX5_takersMany_0 14 rfl rfl)
theorem dX5_takersMany_15 : decode cX5_takersMany 15 = .ok (.aload_n 0, 1) := dk_42 (dk_at dksX5_takersMany_0 15 rfl rfl)
theorem dX5_takersMany_16 : decode cX5_takersMany 16 = .ok (.invokevirtual 89, 3) := dk_182 0 89 (dk_at dksX5_takersMany_0 16 rfl rfl)
theorem dX5_takersMany_19 : decode cX5_takersMany 19 = .ok (.iconst 1, 1) := dk_4 (dk_at dksX5_takersMany_0 19 rfl rfl)
theorem dX5_takersMany_20 : decode cX5_takersMany 20 = .ok (.iadd, 1) := dk_96 (dk_at dksX5_takersMany_0 20 rfl rfl)
theorem dX5_takersMany_21 : decode cX5_takersMany 21 = .ok (.imul, 1) := dk_104 (dk_at dksX5_takersMany_0 21 rfl rfl)
theorem dX5_takersMany_22 : decode cX5_takersMany 22 = .ok (.istore_n 1, 1) := dk_60 (dk_at dksX5_takersMany_0 22 rfl rfl)
theorem dX5_takersMany_23 : decode cX5_takersMany 23 = .ok (.iinc 2 1, 3) := dk_132 2 1 (dk_at dksX5_takersMany_1 0 rfl rfl)
theorem dX5_takersMany_26 : decode cX5_takersMany 26 = .ok (.goto (-22), 3) := dk_167 255 234 (dk_at dksX5_takersMany_1 3 rfl rfl)
theorem dX5_takersMany_29 : decode cX5_takersMany 29 = .ok (.iload_n 1, 1) := dk_27 (dk_at dksX5_takersMany_1 6 rfl rfl)
theorem dX5_takersMany_30 : decode cX5_takersMany 30 = .ok (.ireturn, 1) := dk_172 (dk_at dksX5_takersMany_1 7 rfl rfl)
abbrev cX5_takersAre : ByteArray := prog_13_method_65_code
def yX5_takersAre : MethodName := ⟨RX5, "takersAre", "(I)V"⟩
def dkwX5_takersAre_2 : List UInt8 := [167, 255, 220, 177]
abbrev dktX5_takersAre_2 : List UInt8 := dkwX5_takersAre_2 ++ []
def dkwX5_takersAre_1 : List UInt8 := [28, 42, 182, 0, 89, 4, 96, 112, 4, 100, 79, 28, 42, 182, 0, 89, 4, 96, 108, 61, 132, 3, 255]
abbrev dktX5_takersAre_1 : List UInt8 := dkwX5_takersAre_1 ++ dktX5_takersAre_2
def dkwX5_takersAre_0 : List UInt8 := [27, 61, 42, 180, 0, 9, 5, 46, 4, 100, 62, 29, 155, 0, 38, 42, 180, 0, 9, 17, 0, 157, 29, 96]
abbrev dktX5_takersAre_0 : List UInt8 := dkwX5_takersAre_0 ++ dktX5_takersAre_1
theorem dksX5_takersAre_0 : cX5_takersAre.data.toList.drop 0 = dktX5_takersAre_0 := by decide +kernel
theorem dksX5_takersAre_1 : cX5_takersAre.data.toList.drop 24 = dktX5_takersAre_1 := dk_seg dksX5_takersAre_0 24 rfl rfl
theorem dksX5_takersAre_2 : cX5_takersAre.data.toList.drop 47 = dktX5_takersAre_2 := dk_seg dksX5_takersAre_1 23 rfl rfl
theorem dX5_takersAre_0 : decode cX5_takersAre 0 = .ok (.iload_n 1, 1) := dk_27 (dk_at dksX5_takersAre_0 0 rfl rfl)
theorem dX5_takersAre_1 : decode cX5_takersAre 1 = .ok (.istore_n 2, 1) := dk_61 (dk_at dksX5_takersAre_0 1 rfl rfl)
theorem dX5_takersAre_2 : decode cX5_takersAre 2 = .ok (.aload_n 0, 1) := dk_42 (dk_at dksX5_takersAre_0 2 rfl rfl)
theorem dX5_takersAre_3 : decode cX5_takersAre 3 = .ok (.getfield 9, 3) := dk_180 0 9 (dk_at dksX5_takersAre_0 3 rfl rfl)
theorem dX5_takersAre_6 : decode cX5_takersAre 6 = .ok (.iconst 2, 1) := dk_5 (dk_at dksX5_takersAre_0 6 rfl rfl)
theorem dX5_takersAre_7 : decode cX5_takersAre 7 = .ok (.iaload, 1) := dk_46 (dk_at dksX5_takersAre_0 7 rfl rfl)
theorem dX5_takersAre_8 : decode cX5_takersAre 8 = .ok (.iconst 1, 1) := dk_4 (dk_at dksX5_takersAre_0 8 rfl rfl)
theorem dX5_takersAre_9 : decode cX5_takersAre 9 = .ok (.isub, 1) := dk_100 (dk_at dksX5_takersAre_0 9 rfl rfl)
theorem dX5_takersAre_10 : decode cX5_takersAre 10 = .ok (.istore_n 3, 1) := dk_62 (dk_at dksX5_takersAre_0 10 rfl rfl)
theorem dX5_takersAre_11 : decode cX5_takersAre 11 = .ok (.iload_n 3, 1) := dk_29 (dk_at dksX5_takersAre_0 11 rfl rfl)
theorem dX5_takersAre_12 : decode cX5_takersAre 12 = .ok (.ifCond .lt 38, 3) := dk_155 0 38 (dk_at dksX5_takersAre_0 12 rfl rfl)
theorem dX5_takersAre_15 : decode cX5_takersAre 15 = .ok (.aload_n 0, 1) := dk_42 (dk_at dksX5_takersAre_0 15 rfl rfl)
theorem dX5_takersAre_16 : decode cX5_takersAre 16 = .ok (.getfield 9, 3) := dk_180 0 9 (dk_at dksX5_takersAre_0 16 rfl rfl)
theorem dX5_takersAre_19 : decode cX5_takersAre 19 = .ok (.sipush 157, 3) := dk_17 0 157 (dk_at dksX5_takersAre_0 19 rfl rfl)
theorem dX5_takersAre_22 : decode cX5_takersAre 22 = .ok (.iload_n 3, 1) := dk_29 (dk_at dksX5_takersAre_0 22 rfl rfl)
theorem dX5_takersAre_23 : decode cX5_takersAre 23 = .ok (.iadd, 1) := dk_96 (dk_at dksX5_takersAre_0 23 rfl rfl)
theorem dX5_takersAre_24 : decode cX5_takersAre 24 = .ok (.iload_n 2, 1) := dk_28 (dk_at dksX5_takersAre_1 0 rfl rfl)
theorem dX5_takersAre_25 : decode cX5_takersAre 25 = .ok (.aload_n 0, 1) := dk_42 (dk_at dksX5_takersAre_1 1 rfl rfl)
theorem dX5_takersAre_26 : decode cX5_takersAre 26 = .ok (.invokevirtual 89, 3) := dk_182 0 89 (dk_at dksX5_takersAre_1 2 rfl rfl)
theorem dX5_takersAre_29 : decode cX5_takersAre 29 = .ok (.iconst 1, 1) := dk_4 (dk_at dksX5_takersAre_1 5 rfl rfl)
theorem dX5_takersAre_30 : decode cX5_takersAre 30 = .ok (.iadd, 1) := dk_96 (dk_at dksX5_takersAre_1 6 rfl rfl)
theorem dX5_takersAre_31 : decode cX5_takersAre 31 = .ok (.irem, 1) := dk_112 (dk_at dksX5_takersAre_1 7 rfl rfl)
theorem dX5_takersAre_32 : decode cX5_takersAre 32 = .ok (.iconst 1, 1) := dk_4 (dk_at dksX5_takersAre_1 8 rfl rfl)
theorem dX5_takersAre_33 : decode cX5_takersAre 33 = .ok (.isub, 1) := dk_100 (dk_at dksX5_takersAre_1 9 rfl rfl)
theorem dX5_takersAre_34 : decode cX5_takersAre 34 = .ok (.iastore, 1) := dk_79 (dk_at dksX5_takersAre_1 10 rfl rfl)
theorem dX5_takersAre_35 : decode cX5_takersAre 35 = .ok (.iload_n 2, 1) := dk_28 (dk_at dksX5_takersAre_1 11 rfl rfl)
theorem dX5_takersAre_36 : decode cX5_takersAre 36 = .ok (.aload_n 0, 1) := dk_42 (dk_at dksX5_takersAre_1 12 rfl rfl)
theorem dX5_takersAre_37 : decode cX5_takersAre 37 = .ok (.invokevirtual 89, 3) := dk_182 0 89 (dk_at dksX5_takersAre_1 13 rfl rfl)
theorem dX5_takersAre_40 : decode cX5_takersAre 40 = .ok (.iconst 1, 1) := dk_4 (dk_at dksX5_takersAre_1 16 rfl rfl)
theorem dX5_takersAre_41 : decode cX5_takersAre 41 = .ok (.iadd, 1) := dk_96 (dk_at dksX5_takersAre_1 17 rfl rfl)
theorem dX5_takersAre_42 : decode cX5_takersAre 42 = .ok (.idiv, 1) := dk_108 (dk_at dksX5_takersAre_1 18 rfl rfl)
theorem dX5_takersAre_43 : decode cX5_takersAre 43 = .ok (.istore_n 2, 1) := dk_61 (dk_at dksX5_takersAre_1 19 rfl rfl)
theorem dX5_takersAre_44 : decode cX5_takersAre 44 = .ok (.iinc 3 (-1), 3) := dk_132 3 255 (dk_at dksX5_takersAre_1 20 rfl rfl)
theorem dX5_takersAre_47 : decode cX5_takersAre 47 = .ok (.goto (-36), 3) := dk_167 255 220 (dk_at dksX5_takersAre_2 0 rfl rfl)
theorem dX5_takersAre_50 : decode cX5_takersAre 50 = .ok (.return_, 1) := dk_177 (dk_at dksX5_takersAre_2 3 rfl rfl)
abbrev cX5_shortOfAll : ByteArray := prog_13_method_52_code
def yX5_shortOfAll : MethodName := ⟨RX5, "shortOfAll", "()I"⟩
def dkwX5_shortOfAll_0 : List UInt8 := [42, 182, 1, 47, 42, 182, 1, 50, 96, 172]
abbrev dktX5_shortOfAll_0 : List UInt8 := dkwX5_shortOfAll_0 ++ []
theorem dksX5_shortOfAll_0 : cX5_shortOfAll.data.toList.drop 0 = dktX5_shortOfAll_0 := by decide +kernel
theorem dX5_shortOfAll_0 : decode cX5_shortOfAll 0 = .ok (.aload_n 0, 1) := dk_42 (dk_at dksX5_shortOfAll_0 0 rfl rfl)
theorem dX5_shortOfAll_1 : decode cX5_shortOfAll 1 = .ok (.invokevirtual 303, 3) := dk_182 1 47 (dk_at dksX5_shortOfAll_0 1 rfl rfl)
theorem dX5_shortOfAll_4 : decode cX5_shortOfAll 4 = .ok (.aload_n 0, 1) := dk_42 (dk_at dksX5_shortOfAll_0 4 rfl rfl)
theorem dX5_shortOfAll_5 : decode cX5_shortOfAll 5 = .ok (.invokevirtual 306, 3) := dk_182 1 50 (dk_at dksX5_shortOfAll_0 5 rfl rfl)
theorem dX5_shortOfAll_8 : decode cX5_shortOfAll 8 = .ok (.iadd, 1) := dk_96 (dk_at dksX5_shortOfAll_0 8 rfl rfl)
theorem dX5_shortOfAll_9 : decode cX5_shortOfAll 9 = .ok (.ireturn, 1) := dk_172 (dk_at dksX5_shortOfAll_0 9 rfl rfl)
abbrev cX5_bringsTakersBack : ByteArray := prog_13_method_64_code
def yX5_bringsTakersBack : MethodName := ⟨RX5, "bringsTakersBack", "()V"⟩
def dkwX5_bringsTakersBack_1 : List UInt8 := [132, 1, 1, 167, 255, 232, 177]
abbrev dktX5_bringsTakersBack_1 : List UInt8 := dkwX5_bringsTakersBack_1 ++ []
def dkwX5_bringsTakersBack_0 : List UInt8 := [3, 60, 27, 6, 162, 0, 25, 42, 180, 0, 9, 17, 0, 157, 27, 96, 42, 180, 0, 52, 27, 46, 79]
abbrev dktX5_bringsTakersBack_0 : List UInt8 := dkwX5_bringsTakersBack_0 ++ dktX5_bringsTakersBack_1
theorem dksX5_bringsTakersBack_0 : cX5_bringsTakersBack.data.toList.drop 0 = dktX5_bringsTakersBack_0 := by decide +kernel
theorem dksX5_bringsTakersBack_1 : cX5_bringsTakersBack.data.toList.drop 23 = dktX5_bringsTakersBack_1 := dk_seg dksX5_bringsTakersBack_0 23 rfl rfl
theorem dX5_bringsTakersBack_0 : decode cX5_bringsTakersBack 0 = .ok (.iconst 0, 1) := dk_3 (dk_at dksX5_bringsTakersBack_0 0 rfl rfl)
theorem dX5_bringsTakersBack_1 : decode cX5_bringsTakersBack 1 = .ok (.istore_n 1, 1) := dk_60 (dk_at dksX5_bringsTakersBack_0 1 rfl rfl)
theorem dX5_bringsTakersBack_2 : decode cX5_bringsTakersBack 2 = .ok (.iload_n 1, 1) := dk_27 (dk_at dksX5_bringsTakersBack_0 2 rfl rfl)
theorem dX5_bringsTakersBack_3 : decode cX5_bringsTakersBack 3 = .ok (.iconst 3, 1) := dk_6 (dk_at dksX5_bringsTakersBack_0 3 rfl rfl)
theorem dX5_bringsTakersBack_4 : decode cX5_bringsTakersBack 4 = .ok (.if_icmp .ge 25, 3) := dk_162 0 25 (dk_at dksX5_bringsTakersBack_0 4 rfl rfl)
theorem dX5_bringsTakersBack_7 : decode cX5_bringsTakersBack 7 = .ok (.aload_n 0, 1) := dk_42 (dk_at dksX5_bringsTakersBack_0 7 rfl rfl)
theorem dX5_bringsTakersBack_8 : decode cX5_bringsTakersBack 8 = .ok (.getfield 9, 3) := dk_180 0 9 (dk_at dksX5_bringsTakersBack_0 8 rfl rfl)
theorem dX5_bringsTakersBack_11 : decode cX5_bringsTakersBack 11 = .ok (.sipush 157, 3) := dk_17 0 157 (dk_at dksX5_bringsTakersBack_0 11 rfl rfl)
theorem dX5_bringsTakersBack_14 : decode cX5_bringsTakersBack 14 = .ok (.iload_n 1, 1) := dk_27 (dk_at dksX5_bringsTakersBack_0 14 rfl rfl)
theorem dX5_bringsTakersBack_15 : decode cX5_bringsTakersBack 15 = .ok (.iadd, 1) := dk_96 (dk_at dksX5_bringsTakersBack_0 15 rfl rfl)
theorem dX5_bringsTakersBack_16 : decode cX5_bringsTakersBack 16 = .ok (.aload_n 0, 1) := dk_42 (dk_at dksX5_bringsTakersBack_0 16 rfl rfl)
theorem dX5_bringsTakersBack_17 : decode cX5_bringsTakersBack 17 = .ok (.getfield 52, 3) := dk_180 0 52 (dk_at dksX5_bringsTakersBack_0 17 rfl rfl)
theorem dX5_bringsTakersBack_20 : decode cX5_bringsTakersBack 20 = .ok (.iload_n 1, 1) := dk_27 (dk_at dksX5_bringsTakersBack_0 20 rfl rfl)
theorem dX5_bringsTakersBack_21 : decode cX5_bringsTakersBack 21 = .ok (.iaload, 1) := dk_46 (dk_at dksX5_bringsTakersBack_0 21 rfl rfl)
theorem dX5_bringsTakersBack_22 : decode cX5_bringsTakersBack 22 = .ok (.iastore, 1) := dk_79 (dk_at dksX5_bringsTakersBack_0 22 rfl rfl)
theorem dX5_bringsTakersBack_23 : decode cX5_bringsTakersBack 23 = .ok (.iinc 1 1, 3) := dk_132 1 1 (dk_at dksX5_bringsTakersBack_1 0 rfl rfl)
theorem dX5_bringsTakersBack_26 : decode cX5_bringsTakersBack 26 = .ok (.goto (-24), 3) := dk_167 255 232 (dk_at dksX5_bringsTakersBack_1 3 rfl rfl)
theorem dX5_bringsTakersBack_29 : decode cX5_bringsTakersBack 29 = .ok (.return_, 1) := dk_177 (dk_at dksX5_bringsTakersBack_1 6 rfl rfl)
abbrev cX5_taker : ByteArray := prog_13_method_69_code
def yX5_taker : MethodName := ⟨RX5, "taker", "(I)I"⟩
def dkwX5_taker_1 : List UInt8 := [167, 0, 9, 42, 28, 27, 182, 1, 98, 172]
abbrev dktX5_taker_1 : List UInt8 := dkwX5_taker_1 ++ []
def dkwX5_taker_0 : List UInt8 := [42, 27, 182, 1, 55, 154, 0, 6, 16, 254, 172, 42, 182, 1, 95, 61, 28, 2, 160, 0, 7, 2]
abbrev dktX5_taker_0 : List UInt8 := dkwX5_taker_0 ++ dktX5_taker_1
theorem dksX5_taker_0 : cX5_taker.data.toList.drop 0 = dktX5_taker_0 := by decide +kernel
theorem dksX5_taker_1 : cX5_taker.data.toList.drop 22 = dktX5_taker_1 := dk_seg dksX5_taker_0 22 rfl rfl
theorem dX5_taker_0 : decode cX5_taker 0 = .ok (.aload_n 0, 1) := dk_42 (dk_at dksX5_taker_0 0 rfl rfl)
theorem dX5_taker_1 : decode cX5_taker 1 = .ok (.iload_n 1, 1) := dk_27 (dk_at dksX5_taker_0 1 rfl rfl)
theorem dX5_taker_2 : decode cX5_taker 2 = .ok (.invokevirtual 311, 3) := dk_182 1 55 (dk_at dksX5_taker_0 2 rfl rfl)
theorem dX5_taker_5 : decode cX5_taker 5 = .ok (.ifCond .ne 6, 3) := dk_154 0 6 (dk_at dksX5_taker_0 5 rfl rfl)
theorem dX5_taker_8 : decode cX5_taker 8 = .ok (.bipush (-2), 2) := dk_16 254 (dk_at dksX5_taker_0 8 rfl rfl)
theorem dX5_taker_10 : decode cX5_taker 10 = .ok (.ireturn, 1) := dk_172 (dk_at dksX5_taker_0 10 rfl rfl)
theorem dX5_taker_11 : decode cX5_taker 11 = .ok (.aload_n 0, 1) := dk_42 (dk_at dksX5_taker_0 11 rfl rfl)
theorem dX5_taker_12 : decode cX5_taker 12 = .ok (.invokevirtual 351, 3) := dk_182 1 95 (dk_at dksX5_taker_0 12 rfl rfl)
theorem dX5_taker_15 : decode cX5_taker 15 = .ok (.istore_n 2, 1) := dk_61 (dk_at dksX5_taker_0 15 rfl rfl)
theorem dX5_taker_16 : decode cX5_taker 16 = .ok (.iload_n 2, 1) := dk_28 (dk_at dksX5_taker_0 16 rfl rfl)
theorem dX5_taker_17 : decode cX5_taker 17 = .ok (.iconst (-1), 1) := dk_2 (dk_at dksX5_taker_0 17 rfl rfl)
theorem dX5_taker_18 : decode cX5_taker 18 = .ok (.if_icmp .ne 7, 3) := dk_160 0 7 (dk_at dksX5_taker_0 18 rfl rfl)
theorem dX5_taker_21 : decode cX5_taker 21 = .ok (.iconst (-1), 1) := dk_2 (dk_at dksX5_taker_0 21 rfl rfl)
theorem dX5_taker_22 : decode cX5_taker 22 = .ok (.goto 9, 3) := dk_167 0 9 (dk_at dksX5_taker_1 0 rfl rfl)
theorem dX5_taker_25 : decode cX5_taker 25 = .ok (.aload_n 0, 1) := dk_42 (dk_at dksX5_taker_1 3 rfl rfl)
theorem dX5_taker_26 : decode cX5_taker 26 = .ok (.iload_n 2, 1) := dk_28 (dk_at dksX5_taker_1 4 rfl rfl)
theorem dX5_taker_27 : decode cX5_taker 27 = .ok (.iload_n 1, 1) := dk_27 (dk_at dksX5_taker_1 5 rfl rfl)
theorem dX5_taker_28 : decode cX5_taker 28 = .ok (.invokevirtual 354, 3) := dk_182 1 98 (dk_at dksX5_taker_1 6 rfl rfl)
theorem dX5_taker_31 : decode cX5_taker 31 = .ok (.ireturn, 1) := dk_172 (dk_at dksX5_taker_1 9 rfl rfl)
abbrev cX5_takerIn : ByteArray := prog_13_method_66_code
def yX5_takerIn : MethodName := ⟨RX5, "takerIn", "(II)I"⟩
def dkwX5_takerIn_1 : List UInt8 := [96, 108, 62, 132, 4, 255, 167, 255, 238, 29, 42, 182, 0, 89, 4, 96, 112, 4, 100, 172]
abbrev dktX5_takerIn_1 : List UInt8 := dkwX5_takerIn_1 ++ []
def dkwX5_takerIn_0 : List UInt8 := [27, 62, 42, 180, 0, 9, 5, 46, 4, 100, 54, 4, 21, 4, 28, 164, 0, 18, 29, 42, 182, 0, 89, 4]
abbrev dktX5_takerIn_0 : List UInt8 := dkwX5_takerIn_0 ++ dktX5_takerIn_1
theorem dksX5_takerIn_0 : cX5_takerIn.data.toList.drop 0 = dktX5_takerIn_0 := by decide +kernel
theorem dksX5_takerIn_1 : cX5_takerIn.data.toList.drop 24 = dktX5_takerIn_1 := dk_seg dksX5_takerIn_0 24 rfl rfl
theorem dX5_takerIn_0 : decode cX5_takerIn 0 = .ok (.iload_n 1, 1) := dk_27 (dk_at dksX5_takerIn_0 0 rfl rfl)
theorem dX5_takerIn_1 : decode cX5_takerIn 1 = .ok (.istore_n 3, 1) := dk_62 (dk_at dksX5_takerIn_0 1 rfl rfl)
theorem dX5_takerIn_2 : decode cX5_takerIn 2 = .ok (.aload_n 0, 1) := dk_42 (dk_at dksX5_takerIn_0 2 rfl rfl)
theorem dX5_takerIn_3 : decode cX5_takerIn 3 = .ok (.getfield 9, 3) := dk_180 0 9 (dk_at dksX5_takerIn_0 3 rfl rfl)
theorem dX5_takerIn_6 : decode cX5_takerIn 6 = .ok (.iconst 2, 1) := dk_5 (dk_at dksX5_takerIn_0 6 rfl rfl)
theorem dX5_takerIn_7 : decode cX5_takerIn 7 = .ok (.iaload, 1) := dk_46 (dk_at dksX5_takerIn_0 7 rfl rfl)
theorem dX5_takerIn_8 : decode cX5_takerIn 8 = .ok (.iconst 1, 1) := dk_4 (dk_at dksX5_takerIn_0 8 rfl rfl)
theorem dX5_takerIn_9 : decode cX5_takerIn 9 = .ok (.isub, 1) := dk_100 (dk_at dksX5_takerIn_0 9 rfl rfl)
theorem dX5_takerIn_10 : decode cX5_takerIn 10 = .ok (.istore 4, 2) := dk_54 4 (dk_at dksX5_takerIn_0 10 rfl rfl)
theorem dX5_takerIn_12 : decode cX5_takerIn 12 = .ok (.iload 4, 2) := dk_21 4 (dk_at dksX5_takerIn_0 12 rfl rfl)
theorem dX5_takerIn_14 : decode cX5_takerIn 14 = .ok (.iload_n 2, 1) := dk_28 (dk_at dksX5_takerIn_0 14 rfl rfl)
theorem dX5_takerIn_15 : decode cX5_takerIn 15 = .ok (.if_icmp .le 18, 3) := dk_164 0 18 (dk_at dksX5_takerIn_0 15 rfl rfl)
theorem dX5_takerIn_18 : decode cX5_takerIn 18 = .ok (.iload_n 3, 1) := dk_29 (dk_at dksX5_takerIn_0 18 rfl rfl)
theorem dX5_takerIn_19 : decode cX5_takerIn 19 = .ok (.aload_n 0, 1) := dk_42 (dk_at dksX5_takerIn_0 19 rfl rfl)
theorem dX5_takerIn_20 : decode cX5_takerIn 20 = .ok (.invokevirtual 89, 3) := dk_182 0 89 (dk_at dksX5_takerIn_0 20 rfl rfl)
theorem dX5_takerIn_23 : decode cX5_takerIn 23 = .ok (.iconst 1, 1) := dk_4 (dk_at dksX5_takerIn_0 23 rfl rfl)
theorem dX5_takerIn_24 : decode cX5_takerIn 24 = .ok (.iadd, 1) := dk_96 (dk_at dksX5_takerIn_1 0 rfl rfl)
theorem dX5_takerIn_25 : decode cX5_takerIn 25 = .ok (.idiv, 1) := dk_108 (dk_at dksX5_takerIn_1 1 rfl rfl)
theorem dX5_takerIn_26 : decode cX5_takerIn 26 = .ok (.istore_n 3, 1) := dk_62 (dk_at dksX5_takerIn_1 2 rfl rfl)
theorem dX5_takerIn_27 : decode cX5_takerIn 27 = .ok (.iinc 4 (-1), 3) := dk_132 4 255 (dk_at dksX5_takerIn_1 3 rfl rfl)
theorem dX5_takerIn_30 : decode cX5_takerIn 30 = .ok (.goto (-18), 3) := dk_167 255 238 (dk_at dksX5_takerIn_1 6 rfl rfl)
theorem dX5_takerIn_33 : decode cX5_takerIn 33 = .ok (.iload_n 3, 1) := dk_29 (dk_at dksX5_takerIn_1 9 rfl rfl)
theorem dX5_takerIn_34 : decode cX5_takerIn 34 = .ok (.aload_n 0, 1) := dk_42 (dk_at dksX5_takerIn_1 10 rfl rfl)
theorem dX5_takerIn_35 : decode cX5_takerIn 35 = .ok (.invokevirtual 89, 3) := dk_182 0 89 (dk_at dksX5_takerIn_1 11 rfl rfl)
theorem dX5_takerIn_38 : decode cX5_takerIn 38 = .ok (.iconst 1, 1) := dk_4 (dk_at dksX5_takerIn_1 14 rfl rfl)
theorem dX5_takerIn_39 : decode cX5_takerIn 39 = .ok (.iadd, 1) := dk_96 (dk_at dksX5_takerIn_1 15 rfl rfl)
theorem dX5_takerIn_40 : decode cX5_takerIn 40 = .ok (.irem, 1) := dk_112 (dk_at dksX5_takerIn_1 16 rfl rfl)
theorem dX5_takerIn_41 : decode cX5_takerIn 41 = .ok (.iconst 1, 1) := dk_4 (dk_at dksX5_takerIn_1 17 rfl rfl)
theorem dX5_takerIn_42 : decode cX5_takerIn 42 = .ok (.isub, 1) := dk_100 (dk_at dksX5_takerIn_1 18 rfl rfl)
theorem dX5_takerIn_43 : decode cX5_takerIn 43 = .ok (.ireturn, 1) := dk_172 (dk_at dksX5_takerIn_1 19 rfl rfl)
abbrev cX5_safe : ByteArray := prog_13_method_70_code
def yX5_safe : MethodName := ⟨RX5, "safe", "()I"⟩
def dkwX5_safe_2 : List UInt8 := [167, 0, 4, 3, 96, 60, 132, 3, 1, 167, 255, 224, 42, 182, 1, 92, 27, 172]
abbrev dktX5_safe_2 : List UInt8 := dkwX5_safe_2 ++ []
def dkwX5_safe_1 : List UInt8 := [28, 162, 0, 33, 42, 29, 182, 1, 86, 42, 182, 1, 61, 27, 42, 182, 1, 89, 154, 0, 7, 4]
abbrev dktX5_safe_1 : List UInt8 := dkwX5_safe_1 ++ dktX5_safe_2
def dkwX5_safe_0 : List UInt8 := [42, 182, 1, 66, 154, 0, 6, 16, 254, 172, 42, 182, 1, 77, 3, 60, 42, 182, 1, 83, 61, 3, 62, 29]
abbrev dktX5_safe_0 : List UInt8 := dkwX5_safe_0 ++ dktX5_safe_1
theorem dksX5_safe_0 : cX5_safe.data.toList.drop 0 = dktX5_safe_0 := by decide +kernel
theorem dksX5_safe_1 : cX5_safe.data.toList.drop 24 = dktX5_safe_1 := dk_seg dksX5_safe_0 24 rfl rfl
theorem dksX5_safe_2 : cX5_safe.data.toList.drop 46 = dktX5_safe_2 := dk_seg dksX5_safe_1 22 rfl rfl
theorem dX5_safe_0 : decode cX5_safe 0 = .ok (.aload_n 0, 1) := dk_42 (dk_at dksX5_safe_0 0 rfl rfl)
theorem dX5_safe_1 : decode cX5_safe 1 = .ok (.invokevirtual 322, 3) := dk_182 1 66 (dk_at dksX5_safe_0 1 rfl rfl)
theorem dX5_safe_4 : decode cX5_safe 4 = .ok (.ifCond .ne 6, 3) := dk_154 0 6 (dk_at dksX5_safe_0 4 rfl rfl)
theorem dX5_safe_7 : decode cX5_safe 7 = .ok (.bipush (-2), 2) := dk_16 254 (dk_at dksX5_safe_0 7 rfl rfl)
theorem dX5_safe_9 : decode cX5_safe 9 = .ok (.ireturn, 1) := dk_172 (dk_at dksX5_safe_0 9 rfl rfl)
theorem dX5_safe_10 : decode cX5_safe 10 = .ok (.aload_n 0, 1) := dk_42 (dk_at dksX5_safe_0 10 rfl rfl)
theorem dX5_safe_11 : decode cX5_safe 11 = .ok (.invokevirtual 333, 3) := dk_182 1 77 (dk_at dksX5_safe_0 11 rfl rfl)
theorem dX5_safe_14 : decode cX5_safe 14 = .ok (.iconst 0, 1) := dk_3 (dk_at dksX5_safe_0 14 rfl rfl)
theorem dX5_safe_15 : decode cX5_safe 15 = .ok (.istore_n 1, 1) := dk_60 (dk_at dksX5_safe_0 15 rfl rfl)
theorem dX5_safe_16 : decode cX5_safe 16 = .ok (.aload_n 0, 1) := dk_42 (dk_at dksX5_safe_0 16 rfl rfl)
theorem dX5_safe_17 : decode cX5_safe 17 = .ok (.invokevirtual 339, 3) := dk_182 1 83 (dk_at dksX5_safe_0 17 rfl rfl)
theorem dX5_safe_20 : decode cX5_safe 20 = .ok (.istore_n 2, 1) := dk_61 (dk_at dksX5_safe_0 20 rfl rfl)
theorem dX5_safe_21 : decode cX5_safe 21 = .ok (.iconst 0, 1) := dk_3 (dk_at dksX5_safe_0 21 rfl rfl)
theorem dX5_safe_22 : decode cX5_safe 22 = .ok (.istore_n 3, 1) := dk_62 (dk_at dksX5_safe_0 22 rfl rfl)
theorem dX5_safe_23 : decode cX5_safe 23 = .ok (.iload_n 3, 1) := dk_29 (dk_at dksX5_safe_0 23 rfl rfl)
theorem dX5_safe_24 : decode cX5_safe 24 = .ok (.iload_n 2, 1) := dk_28 (dk_at dksX5_safe_1 0 rfl rfl)
theorem dX5_safe_25 : decode cX5_safe 25 = .ok (.if_icmp .ge 33, 3) := dk_162 0 33 (dk_at dksX5_safe_1 1 rfl rfl)
theorem dX5_safe_28 : decode cX5_safe 28 = .ok (.aload_n 0, 1) := dk_42 (dk_at dksX5_safe_1 4 rfl rfl)
theorem dX5_safe_29 : decode cX5_safe 29 = .ok (.iload_n 3, 1) := dk_29 (dk_at dksX5_safe_1 5 rfl rfl)
theorem dX5_safe_30 : decode cX5_safe 30 = .ok (.invokevirtual 342, 3) := dk_182 1 86 (dk_at dksX5_safe_1 6 rfl rfl)
theorem dX5_safe_33 : decode cX5_safe 33 = .ok (.aload_n 0, 1) := dk_42 (dk_at dksX5_safe_1 9 rfl rfl)
theorem dX5_safe_34 : decode cX5_safe 34 = .ok (.invokevirtual 317, 3) := dk_182 1 61 (dk_at dksX5_safe_1 10 rfl rfl)
theorem dX5_safe_37 : decode cX5_safe 37 = .ok (.iload_n 1, 1) := dk_27 (dk_at dksX5_safe_1 13 rfl rfl)
theorem dX5_safe_38 : decode cX5_safe 38 = .ok (.aload_n 0, 1) := dk_42 (dk_at dksX5_safe_1 14 rfl rfl)
theorem dX5_safe_39 : decode cX5_safe 39 = .ok (.invokevirtual 345, 3) := dk_182 1 89 (dk_at dksX5_safe_1 15 rfl rfl)
theorem dX5_safe_42 : decode cX5_safe 42 = .ok (.ifCond .ne 7, 3) := dk_154 0 7 (dk_at dksX5_safe_1 18 rfl rfl)
theorem dX5_safe_45 : decode cX5_safe 45 = .ok (.iconst 1, 1) := dk_4 (dk_at dksX5_safe_1 21 rfl rfl)
theorem dX5_safe_46 : decode cX5_safe 46 = .ok (.goto 4, 3) := dk_167 0 4 (dk_at dksX5_safe_2 0 rfl rfl)
theorem dX5_safe_49 : decode cX5_safe 49 = .ok (.iconst 0, 1) := dk_3 (dk_at dksX5_safe_2 3 rfl rfl)
theorem dX5_safe_50 : decode cX5_safe 50 = .ok (.iadd, 1) := dk_96 (dk_at dksX5_safe_2 4 rfl rfl)
theorem dX5_safe_51 : decode cX5_safe 51 = .ok (.istore_n 1, 1) := dk_60 (dk_at dksX5_safe_2 5 rfl rfl)
theorem dX5_safe_52 : decode cX5_safe 52 = .ok (.iinc 3 1, 3) := dk_132 3 1 (dk_at dksX5_safe_2 6 rfl rfl)
theorem dX5_safe_55 : decode cX5_safe 55 = .ok (.goto (-32), 3) := dk_167 255 224 (dk_at dksX5_safe_2 9 rfl rfl)
theorem dX5_safe_58 : decode cX5_safe 58 = .ok (.aload_n 0, 1) := dk_42 (dk_at dksX5_safe_2 12 rfl rfl)
theorem dX5_safe_59 : decode cX5_safe 59 = .ok (.invokevirtual 348, 3) := dk_182 1 92 (dk_at dksX5_safe_2 13 rfl rfl)
theorem dX5_safe_62 : decode cX5_safe 62 = .ok (.iload_n 1, 1) := dk_27 (dk_at dksX5_safe_2 16 rfl rfl)
theorem dX5_safe_63 : decode cX5_safe 63 = .ok (.ireturn, 1) := dk_172 (dk_at dksX5_safe_2 17 rfl rfl)
abbrev cX5_hope : ByteArray := prog_13_method_74_code
def yX5_hope : MethodName := ⟨RX5, "hope", "(I)J"⟩
def dkwX5_hope_1 : List UInt8 := [182, 1, 111, 27, 184, 1, 114, 167, 0, 6, 20, 1, 118, 173]
abbrev dktX5_hope_1 : List UInt8 := dkwX5_hope_1 ++ []
def dkwX5_hope_0 : List UInt8 := [42, 182, 1, 66, 153, 0, 28, 27, 133, 9, 10, 184, 0, 85, 153, 0, 18, 42, 182, 1, 107, 42]
abbrev dktX5_hope_0 : List UInt8 := dkwX5_hope_0 ++ dktX5_hope_1
theorem dksX5_hope_0 : cX5_hope.data.toList.drop 0 = dktX5_hope_0 := by decide +kernel
theorem dksX5_hope_1 : cX5_hope.data.toList.drop 22 = dktX5_hope_1 := dk_seg dksX5_hope_0 22 rfl rfl
theorem dX5_hope_0 : decode cX5_hope 0 = .ok (.aload_n 0, 1) := dk_42 (dk_at dksX5_hope_0 0 rfl rfl)
theorem dX5_hope_1 : decode cX5_hope 1 = .ok (.invokevirtual 322, 3) := dk_182 1 66 (dk_at dksX5_hope_0 1 rfl rfl)
theorem dX5_hope_4 : decode cX5_hope 4 = .ok (.ifCond .eq 28, 3) := dk_153 0 28 (dk_at dksX5_hope_0 4 rfl rfl)
theorem dX5_hope_7 : decode cX5_hope 7 = .ok (.iload_n 1, 1) := dk_27 (dk_at dksX5_hope_0 7 rfl rfl)
theorem dX5_hope_8 : decode cX5_hope 8 = .ok (.i2l, 1) := dk_133 (dk_at dksX5_hope_0 8 rfl rfl)
theorem dX5_hope_9 : decode cX5_hope 9 = .ok (.lconst 0, 1) := dk_9 (dk_at dksX5_hope_0 9 rfl rfl)
theorem dX5_hope_10 : decode cX5_hope 10 = .ok (.lconst 1, 1) := dk_10 (dk_at dksX5_hope_0 10 rfl rfl)
theorem dX5_hope_11 : decode cX5_hope 11 = .ok (.invokestatic 85, 3) := dk_184 0 85 (dk_at dksX5_hope_0 11 rfl rfl)
theorem dX5_hope_14 : decode cX5_hope 14 = .ok (.ifCond .eq 18, 3) := dk_153 0 18 (dk_at dksX5_hope_0 14 rfl rfl)
theorem dX5_hope_17 : decode cX5_hope 17 = .ok (.aload_n 0, 1) := dk_42 (dk_at dksX5_hope_0 17 rfl rfl)
theorem dX5_hope_18 : decode cX5_hope 18 = .ok (.invokevirtual 363, 3) := dk_182 1 107 (dk_at dksX5_hope_0 18 rfl rfl)
theorem dX5_hope_21 : decode cX5_hope 21 = .ok (.aload_n 0, 1) := dk_42 (dk_at dksX5_hope_0 21 rfl rfl)
theorem dX5_hope_22 : decode cX5_hope 22 = .ok (.invokevirtual 367, 3) := dk_182 1 111 (dk_at dksX5_hope_1 0 rfl rfl)
theorem dX5_hope_25 : decode cX5_hope 25 = .ok (.iload_n 1, 1) := dk_27 (dk_at dksX5_hope_1 3 rfl rfl)
theorem dX5_hope_26 : decode cX5_hope 26 = .ok (.invokestatic 370, 3) := dk_184 1 114 (dk_at dksX5_hope_1 4 rfl rfl)
theorem dX5_hope_29 : decode cX5_hope 29 = .ok (.goto 6, 3) := dk_167 0 6 (dk_at dksX5_hope_1 7 rfl rfl)
theorem dX5_hope_32 : decode cX5_hope 32 = .ok (.ldc2_w 374, 3) := dk_20 1 118 (dk_at dksX5_hope_1 10 rfl rfl)
theorem dX5_hope_35 : decode cX5_hope 35 = .ok (.lreturn, 1) := dk_173 (dk_at dksX5_hope_1 13 rfl rfl)
abbrev cX5_hopeAbove : ByteArray := prog_13_method_72_code
def yX5_hopeAbove : MethodName := ⟨RX5, "hopeAbove", "()J"⟩
def dkwX5_hopeAbove_4 : List UInt8 := [42, 182, 1, 71, 42, 182, 1, 89, 100, 133, 105, 97, 64, 132, 3, 1, 167, 255, 150, 31, 173]
abbrev dktX5_hopeAbove_4 : List UInt8 := dkwX5_hopeAbove_4 ++ []
def dkwX5_hopeAbove_3 : List UInt8 := [132, 6, 1, 167, 255, 205, 22, 4, 9, 148, 154, 0, 6, 167, 0, 24, 42, 29, 182, 1, 38, 31, 22, 4]
abbrev dktX5_hopeAbove_3 : List UInt8 := dkwX5_hopeAbove_3 ++ dktX5_hopeAbove_4
def dkwX5_hopeAbove_2 : List UInt8 := [5, 182, 0, 252, 133, 167, 0, 14, 16, 100, 42, 21, 6, 5, 182, 0, 252, 100, 133, 105, 55, 4]
abbrev dktX5_hopeAbove_2 : List UInt8 := dkwX5_hopeAbove_2 ++ dktX5_hopeAbove_3
def dkwX5_hopeAbove_1 : List UInt8 := [42, 180, 0, 9, 5, 46, 162, 0, 46, 22, 4, 29, 21, 6, 122, 4, 126, 4, 160, 0, 14, 42, 21, 6]
abbrev dktX5_hopeAbove_1 : List UInt8 := dkwX5_hopeAbove_1 ++ dktX5_hopeAbove_2
def dkwX5_hopeAbove_0 : List UInt8 := [9, 64, 3, 62, 29, 4, 42, 180, 0, 9, 5, 46, 120, 162, 0, 100, 10, 55, 4, 3, 54, 6, 21, 6]
abbrev dktX5_hopeAbove_0 : List UInt8 := dkwX5_hopeAbove_0 ++ dktX5_hopeAbove_1
theorem dksX5_hopeAbove_0 : cX5_hopeAbove.data.toList.drop 0 = dktX5_hopeAbove_0 := by decide +kernel
theorem dksX5_hopeAbove_1 : cX5_hopeAbove.data.toList.drop 24 = dktX5_hopeAbove_1 := dk_seg dksX5_hopeAbove_0 24 rfl rfl
theorem dksX5_hopeAbove_2 : cX5_hopeAbove.data.toList.drop 48 = dktX5_hopeAbove_2 := dk_seg dksX5_hopeAbove_1 24 rfl rfl
theorem dksX5_hopeAbove_3 : cX5_hopeAbove.data.toList.drop 70 = dktX5_hopeAbove_3 := dk_seg dksX5_hopeAbove_2 22 rfl rfl
theorem dksX5_hopeAbove_4 : cX5_hopeAbove.data.toList.drop 94 = dktX5_hopeAbove_4 := dk_seg dksX5_hopeAbove_3 24 rfl rfl
theorem dX5_hopeAbove_0 : decode cX5_hopeAbove 0 = .ok (.lconst 0, 1) := dk_9 (dk_at dksX5_hopeAbove_0 0 rfl rfl)
theorem dX5_hopeAbove_1 : decode cX5_hopeAbove 1 = .ok (.lstore_n 1, 1) := dk_64 (dk_at dksX5_hopeAbove_0 1 rfl rfl)
theorem dX5_hopeAbove_2 : decode cX5_hopeAbove 2 = .ok (.iconst 0, 1) := dk_3 (dk_at dksX5_hopeAbove_0 2 rfl rfl)
theorem dX5_hopeAbove_3 : decode cX5_hopeAbove 3 = .ok (.istore_n 3, 1) := dk_62 (dk_at dksX5_hopeAbove_0 3 rfl rfl)
theorem dX5_hopeAbove_4 : decode cX5_hopeAbove 4 = .ok (.iload_n 3, 1) := dk_29 (dk_at dksX5_hopeAbove_0 4 rfl rfl)
theorem dX5_hopeAbove_5 : decode cX5_hopeAbove 5 = .ok (.iconst 1, 1) := dk_4 (dk_at dksX5_hopeAbove_0 5 rfl rfl)
theorem dX5_hopeAbove_6 : decode cX5_hopeAbove 6 = .ok (.aload_n 0, 1) := dk_42 (dk_at dksX5_hopeAbove_0 6 rfl rfl)
theorem dX5_hopeAbove_7 : decode cX5_hopeAbove 7 = .ok (.getfield 9, 3) := dk_180 0 9 (dk_at dksX5_hopeAbove_0 7 rfl rfl)
theorem dX5_hopeAbove_10 : decode cX5_hopeAbove 10 = .ok (.iconst 2, 1) := dk_5 (dk_at dksX5_hopeAbove_0 10 rfl rfl)
theorem dX5_hopeAbove_11 : decode cX5_hopeAbove 11 = .ok (.iaload, 1) := dk_46 (dk_at dksX5_hopeAbove_0 11 rfl rfl)
theorem dX5_hopeAbove_12 : decode cX5_hopeAbove 12 = .ok (.ishl, 1) := dk_120 (dk_at dksX5_hopeAbove_0 12 rfl rfl)
theorem dX5_hopeAbove_13 : decode cX5_hopeAbove 13 = .ok (.if_icmp .ge 100, 3) := dk_162 0 100 (dk_at dksX5_hopeAbove_0 13 rfl rfl)
theorem dX5_hopeAbove_16 : decode cX5_hopeAbove 16 = .ok (.lconst 1, 1) := dk_10 (dk_at dksX5_hopeAbove_0 16 rfl rfl)
theorem dX5_hopeAbove_17 : decode cX5_hopeAbove 17 = .ok (.lstore 4, 2) := dk_55 4 (dk_at dksX5_hopeAbove_0 17 rfl rfl)
theorem dX5_hopeAbove_19 : decode cX5_hopeAbove 19 = .ok (.iconst 0, 1) := dk_3 (dk_at dksX5_hopeAbove_0 19 rfl rfl)
theorem dX5_hopeAbove_20 : decode cX5_hopeAbove 20 = .ok (.istore 6, 2) := dk_54 6 (dk_at dksX5_hopeAbove_0 20 rfl rfl)
theorem dX5_hopeAbove_22 : decode cX5_hopeAbove 22 = .ok (.iload 6, 2) := dk_21 6 (dk_at dksX5_hopeAbove_0 22 rfl rfl)
theorem dX5_hopeAbove_24 : decode cX5_hopeAbove 24 = .ok (.aload_n 0, 1) := dk_42 (dk_at dksX5_hopeAbove_1 0 rfl rfl)
theorem dX5_hopeAbove_25 : decode cX5_hopeAbove 25 = .ok (.getfield 9, 3) := dk_180 0 9 (dk_at dksX5_hopeAbove_1 1 rfl rfl)
theorem dX5_hopeAbove_28 : decode cX5_hopeAbove 28 = .ok (.iconst 2, 1) := dk_5 (dk_at dksX5_hopeAbove_1 4 rfl rfl)
theorem dX5_hopeAbove_29 : decode cX5_hopeAbove 29 = .ok (.iaload, 1) := dk_46 (dk_at dksX5_hopeAbove_1 5 rfl rfl)
theorem dX5_hopeAbove_30 : decode cX5_hopeAbove 30 = .ok (.if_icmp .ge 46, 3) := dk_162 0 46 (dk_at dksX5_hopeAbove_1 6 rfl rfl)
theorem dX5_hopeAbove_33 : decode cX5_hopeAbove 33 = .ok (.lload 4, 2) := dk_22 4 (dk_at dksX5_hopeAbove_1 9 rfl rfl)
theorem dX5_hopeAbove_35 : decode cX5_hopeAbove 35 = .ok (.iload_n 3, 1) := dk_29 (dk_at dksX5_hopeAbove_1 11 rfl rfl)
theorem dX5_hopeAbove_36 : decode cX5_hopeAbove 36 = .ok (.iload 6, 2) := dk_21 6 (dk_at dksX5_hopeAbove_1 12 rfl rfl)
theorem dX5_hopeAbove_38 : decode cX5_hopeAbove 38 = .ok (.ishr, 1) := dk_122 (dk_at dksX5_hopeAbove_1 14 rfl rfl)
theorem dX5_hopeAbove_39 : decode cX5_hopeAbove 39 = .ok (.iconst 1, 1) := dk_4 (dk_at dksX5_hopeAbove_1 15 rfl rfl)
theorem dX5_hopeAbove_40 : decode cX5_hopeAbove 40 = .ok (.iand, 1) := dk_126 (dk_at dksX5_hopeAbove_1 16 rfl rfl)
theorem dX5_hopeAbove_41 : decode cX5_hopeAbove 41 = .ok (.iconst 1, 1) := dk_4 (dk_at dksX5_hopeAbove_1 17 rfl rfl)
theorem dX5_hopeAbove_42 : decode cX5_hopeAbove 42 = .ok (.if_icmp .ne 14, 3) := dk_160 0 14 (dk_at dksX5_hopeAbove_1 18 rfl rfl)
theorem dX5_hopeAbove_45 : decode cX5_hopeAbove 45 = .ok (.aload_n 0, 1) := dk_42 (dk_at dksX5_hopeAbove_1 21 rfl rfl)
theorem dX5_hopeAbove_46 : decode cX5_hopeAbove 46 = .ok (.iload 6, 2) := dk_21 6 (dk_at dksX5_hopeAbove_1 22 rfl rfl)
theorem dX5_hopeAbove_48 : decode cX5_hopeAbove 48 = .ok (.iconst 2, 1) := dk_5 (dk_at dksX5_hopeAbove_2 0 rfl rfl)
theorem dX5_hopeAbove_49 : decode cX5_hopeAbove 49 = .ok (.invokevirtual 252, 3) := dk_182 0 252 (dk_at dksX5_hopeAbove_2 1 rfl rfl)
theorem dX5_hopeAbove_52 : decode cX5_hopeAbove 52 = .ok (.i2l, 1) := dk_133 (dk_at dksX5_hopeAbove_2 4 rfl rfl)
theorem dX5_hopeAbove_53 : decode cX5_hopeAbove 53 = .ok (.goto 14, 3) := dk_167 0 14 (dk_at dksX5_hopeAbove_2 5 rfl rfl)
theorem dX5_hopeAbove_56 : decode cX5_hopeAbove 56 = .ok (.bipush 100, 2) := dk_16 100 (dk_at dksX5_hopeAbove_2 8 rfl rfl)
theorem dX5_hopeAbove_58 : decode cX5_hopeAbove 58 = .ok (.aload_n 0, 1) := dk_42 (dk_at dksX5_hopeAbove_2 10 rfl rfl)
theorem dX5_hopeAbove_59 : decode cX5_hopeAbove 59 = .ok (.iload 6, 2) := dk_21 6 (dk_at dksX5_hopeAbove_2 11 rfl rfl)
theorem dX5_hopeAbove_61 : decode cX5_hopeAbove 61 = .ok (.iconst 2, 1) := dk_5 (dk_at dksX5_hopeAbove_2 13 rfl rfl)
theorem dX5_hopeAbove_62 : decode cX5_hopeAbove 62 = .ok (.invokevirtual 252, 3) := dk_182 0 252 (dk_at dksX5_hopeAbove_2 14 rfl rfl)
theorem dX5_hopeAbove_65 : decode cX5_hopeAbove 65 = .ok (.isub, 1) := dk_100 (dk_at dksX5_hopeAbove_2 17 rfl rfl)
theorem dX5_hopeAbove_66 : decode cX5_hopeAbove 66 = .ok (.i2l, 1) := dk_133 (dk_at dksX5_hopeAbove_2 18 rfl rfl)
theorem dX5_hopeAbove_67 : decode cX5_hopeAbove 67 = .ok (.lmul, 1) := dk_105 (dk_at dksX5_hopeAbove_2 19 rfl rfl)
theorem dX5_hopeAbove_68 : decode cX5_hopeAbove 68 = .ok (.lstore 4, 2) := dk_55 4 (dk_at dksX5_hopeAbove_2 20 rfl rfl)
theorem dX5_hopeAbove_70 : decode cX5_hopeAbove 70 = .ok (.iinc 6 1, 3) := dk_132 6 1 (dk_at dksX5_hopeAbove_3 0 rfl rfl)
theorem dX5_hopeAbove_73 : decode cX5_hopeAbove 73 = .ok (.goto (-51), 3) := dk_167 255 205 (dk_at dksX5_hopeAbove_3 3 rfl rfl)
theorem dX5_hopeAbove_76 : decode cX5_hopeAbove 76 = .ok (.lload 4, 2) := dk_22 4 (dk_at dksX5_hopeAbove_3 6 rfl rfl)
theorem dX5_hopeAbove_78 : decode cX5_hopeAbove 78 = .ok (.lconst 0, 1) := dk_9 (dk_at dksX5_hopeAbove_3 8 rfl rfl)
theorem dX5_hopeAbove_79 : decode cX5_hopeAbove 79 = .ok (.lcmp, 1) := dk_148 (dk_at dksX5_hopeAbove_3 9 rfl rfl)
theorem dX5_hopeAbove_80 : decode cX5_hopeAbove 80 = .ok (.ifCond .ne 6, 3) := dk_154 0 6 (dk_at dksX5_hopeAbove_3 10 rfl rfl)
theorem dX5_hopeAbove_83 : decode cX5_hopeAbove 83 = .ok (.goto 24, 3) := dk_167 0 24 (dk_at dksX5_hopeAbove_3 13 rfl rfl)
theorem dX5_hopeAbove_86 : decode cX5_hopeAbove 86 = .ok (.aload_n 0, 1) := dk_42 (dk_at dksX5_hopeAbove_3 16 rfl rfl)
theorem dX5_hopeAbove_87 : decode cX5_hopeAbove 87 = .ok (.iload_n 3, 1) := dk_29 (dk_at dksX5_hopeAbove_3 17 rfl rfl)
theorem dX5_hopeAbove_88 : decode cX5_hopeAbove 88 = .ok (.invokevirtual 294, 3) := dk_182 1 38 (dk_at dksX5_hopeAbove_3 18 rfl rfl)
theorem dX5_hopeAbove_91 : decode cX5_hopeAbove 91 = .ok (.lload_n 1, 1) := dk_31 (dk_at dksX5_hopeAbove_3 21 rfl rfl)
theorem dX5_hopeAbove_92 : decode cX5_hopeAbove 92 = .ok (.lload 4, 2) := dk_22 4 (dk_at dksX5_hopeAbove_3 22 rfl rfl)
theorem dX5_hopeAbove_94 : decode cX5_hopeAbove 94 = .ok (.aload_n 0, 1) := dk_42 (dk_at dksX5_hopeAbove_4 0 rfl rfl)
theorem dX5_hopeAbove_95 : decode cX5_hopeAbove 95 = .ok (.invokevirtual 327, 3) := dk_182 1 71 (dk_at dksX5_hopeAbove_4 1 rfl rfl)
theorem dX5_hopeAbove_98 : decode cX5_hopeAbove 98 = .ok (.aload_n 0, 1) := dk_42 (dk_at dksX5_hopeAbove_4 4 rfl rfl)
theorem dX5_hopeAbove_99 : decode cX5_hopeAbove 99 = .ok (.invokevirtual 345, 3) := dk_182 1 89 (dk_at dksX5_hopeAbove_4 5 rfl rfl)
theorem dX5_hopeAbove_102 : decode cX5_hopeAbove 102 = .ok (.isub, 1) := dk_100 (dk_at dksX5_hopeAbove_4 8 rfl rfl)
theorem dX5_hopeAbove_103 : decode cX5_hopeAbove 103 = .ok (.i2l, 1) := dk_133 (dk_at dksX5_hopeAbove_4 9 rfl rfl)
theorem dX5_hopeAbove_104 : decode cX5_hopeAbove 104 = .ok (.lmul, 1) := dk_105 (dk_at dksX5_hopeAbove_4 10 rfl rfl)
theorem dX5_hopeAbove_105 : decode cX5_hopeAbove 105 = .ok (.ladd, 1) := dk_97 (dk_at dksX5_hopeAbove_4 11 rfl rfl)
theorem dX5_hopeAbove_106 : decode cX5_hopeAbove 106 = .ok (.lstore_n 1, 1) := dk_64 (dk_at dksX5_hopeAbove_4 12 rfl rfl)
theorem dX5_hopeAbove_107 : decode cX5_hopeAbove 107 = .ok (.iinc 3 1, 3) := dk_132 3 1 (dk_at dksX5_hopeAbove_4 13 rfl rfl)
theorem dX5_hopeAbove_110 : decode cX5_hopeAbove 110 = .ok (.goto (-106), 3) := dk_167 255 150 (dk_at dksX5_hopeAbove_4 16 rfl rfl)
theorem dX5_hopeAbove_113 : decode cX5_hopeAbove 113 = .ok (.lload_n 1, 1) := dk_31 (dk_at dksX5_hopeAbove_4 19 rfl rfl)
theorem dX5_hopeAbove_114 : decode cX5_hopeAbove 114 = .ok (.lreturn, 1) := dk_173 (dk_at dksX5_hopeAbove_4 20 rfl rfl)
abbrev cX5_hopeBelow : ByteArray := prog_13_method_71_code
def yX5_hopeBelow : MethodName := ⟨RX5, "hopeBelow", "()J"⟩
def dkwX5_hopeBelow_1 : List UInt8 := [167, 255, 237, 31, 173]
abbrev dktX5_hopeBelow_1 : List UInt8 := dkwX5_hopeBelow_1 ++ []
def dkwX5_hopeBelow_0 : List UInt8 := [10, 64, 3, 62, 29, 42, 180, 0, 9, 5, 46, 162, 0, 15, 31, 20, 1, 101, 105, 64, 132, 3, 1]
abbrev dktX5_hopeBelow_0 : List UInt8 := dkwX5_hopeBelow_0 ++ dktX5_hopeBelow_1
theorem dksX5_hopeBelow_0 : cX5_hopeBelow.data.toList.drop 0 = dktX5_hopeBelow_0 := by decide +kernel
theorem dksX5_hopeBelow_1 : cX5_hopeBelow.data.toList.drop 23 = dktX5_hopeBelow_1 := dk_seg dksX5_hopeBelow_0 23 rfl rfl
theorem dX5_hopeBelow_0 : decode cX5_hopeBelow 0 = .ok (.lconst 1, 1) := dk_10 (dk_at dksX5_hopeBelow_0 0 rfl rfl)
theorem dX5_hopeBelow_1 : decode cX5_hopeBelow 1 = .ok (.lstore_n 1, 1) := dk_64 (dk_at dksX5_hopeBelow_0 1 rfl rfl)
theorem dX5_hopeBelow_2 : decode cX5_hopeBelow 2 = .ok (.iconst 0, 1) := dk_3 (dk_at dksX5_hopeBelow_0 2 rfl rfl)
theorem dX5_hopeBelow_3 : decode cX5_hopeBelow 3 = .ok (.istore_n 3, 1) := dk_62 (dk_at dksX5_hopeBelow_0 3 rfl rfl)
theorem dX5_hopeBelow_4 : decode cX5_hopeBelow 4 = .ok (.iload_n 3, 1) := dk_29 (dk_at dksX5_hopeBelow_0 4 rfl rfl)
theorem dX5_hopeBelow_5 : decode cX5_hopeBelow 5 = .ok (.aload_n 0, 1) := dk_42 (dk_at dksX5_hopeBelow_0 5 rfl rfl)
theorem dX5_hopeBelow_6 : decode cX5_hopeBelow 6 = .ok (.getfield 9, 3) := dk_180 0 9 (dk_at dksX5_hopeBelow_0 6 rfl rfl)
theorem dX5_hopeBelow_9 : decode cX5_hopeBelow 9 = .ok (.iconst 2, 1) := dk_5 (dk_at dksX5_hopeBelow_0 9 rfl rfl)
theorem dX5_hopeBelow_10 : decode cX5_hopeBelow 10 = .ok (.iaload, 1) := dk_46 (dk_at dksX5_hopeBelow_0 10 rfl rfl)
theorem dX5_hopeBelow_11 : decode cX5_hopeBelow 11 = .ok (.if_icmp .ge 15, 3) := dk_162 0 15 (dk_at dksX5_hopeBelow_0 11 rfl rfl)
theorem dX5_hopeBelow_14 : decode cX5_hopeBelow 14 = .ok (.lload_n 1, 1) := dk_31 (dk_at dksX5_hopeBelow_0 14 rfl rfl)
theorem dX5_hopeBelow_15 : decode cX5_hopeBelow 15 = .ok (.ldc2_w 357, 3) := dk_20 1 101 (dk_at dksX5_hopeBelow_0 15 rfl rfl)
theorem dX5_hopeBelow_18 : decode cX5_hopeBelow 18 = .ok (.lmul, 1) := dk_105 (dk_at dksX5_hopeBelow_0 18 rfl rfl)
theorem dX5_hopeBelow_19 : decode cX5_hopeBelow 19 = .ok (.lstore_n 1, 1) := dk_64 (dk_at dksX5_hopeBelow_0 19 rfl rfl)
theorem dX5_hopeBelow_20 : decode cX5_hopeBelow 20 = .ok (.iinc 3 1, 3) := dk_132 3 1 (dk_at dksX5_hopeBelow_0 20 rfl rfl)
theorem dX5_hopeBelow_23 : decode cX5_hopeBelow 23 = .ok (.goto (-19), 3) := dk_167 255 237 (dk_at dksX5_hopeBelow_1 0 rfl rfl)
theorem dX5_hopeBelow_26 : decode cX5_hopeBelow 26 = .ok (.lload_n 1, 1) := dk_31 (dk_at dksX5_hopeBelow_1 3 rfl rfl)
theorem dX5_hopeBelow_27 : decode cX5_hopeBelow 27 = .ok (.lreturn, 1) := dk_173 (dk_at dksX5_hopeBelow_1 4 rfl rfl)
abbrev cX5_part : ByteArray := prog_13_method_73_code
def yX5_part : MethodName := ⟨RX5, "part", "(JJI)J"⟩
def dkwX5_part_2 : List UInt8 := [173]
abbrev dktX5_part_2 : List UInt8 := dkwX5_part_2 ++ []
def dkwX5_part_1 : List UInt8 := [22, 7, 55, 5, 22, 9, 55, 7, 167, 255, 234, 21, 4, 154, 0, 7, 30, 167, 0, 4, 32, 22, 5, 109]
abbrev dktX5_part_1 : List UInt8 := dkwX5_part_1 ++ dktX5_part_2
def dkwX5_part_0 : List UInt8 := [30, 184, 1, 103, 55, 5, 32, 55, 7, 22, 7, 9, 148, 153, 0, 21, 22, 5, 22, 7, 113, 55, 9]
abbrev dktX5_part_0 : List UInt8 := dkwX5_part_0 ++ dktX5_part_1
theorem dksX5_part_0 : cX5_part.data.toList.drop 0 = dktX5_part_0 := by decide +kernel
theorem dksX5_part_1 : cX5_part.data.toList.drop 23 = dktX5_part_1 := dk_seg dksX5_part_0 23 rfl rfl
theorem dksX5_part_2 : cX5_part.data.toList.drop 47 = dktX5_part_2 := dk_seg dksX5_part_1 24 rfl rfl
theorem dX5_part_0 : decode cX5_part 0 = .ok (.lload_n 0, 1) := dk_30 (dk_at dksX5_part_0 0 rfl rfl)
theorem dX5_part_1 : decode cX5_part 1 = .ok (.invokestatic 359, 3) := dk_184 1 103 (dk_at dksX5_part_0 1 rfl rfl)
theorem dX5_part_4 : decode cX5_part 4 = .ok (.lstore 5, 2) := dk_55 5 (dk_at dksX5_part_0 4 rfl rfl)
theorem dX5_part_6 : decode cX5_part 6 = .ok (.lload_n 2, 1) := dk_32 (dk_at dksX5_part_0 6 rfl rfl)
theorem dX5_part_7 : decode cX5_part 7 = .ok (.lstore 7, 2) := dk_55 7 (dk_at dksX5_part_0 7 rfl rfl)
theorem dX5_part_9 : decode cX5_part 9 = .ok (.lload 7, 2) := dk_22 7 (dk_at dksX5_part_0 9 rfl rfl)
theorem dX5_part_11 : decode cX5_part 11 = .ok (.lconst 0, 1) := dk_9 (dk_at dksX5_part_0 11 rfl rfl)
theorem dX5_part_12 : decode cX5_part 12 = .ok (.lcmp, 1) := dk_148 (dk_at dksX5_part_0 12 rfl rfl)
theorem dX5_part_13 : decode cX5_part 13 = .ok (.ifCond .eq 21, 3) := dk_153 0 21 (dk_at dksX5_part_0 13 rfl rfl)
theorem dX5_part_16 : decode cX5_part 16 = .ok (.lload 5, 2) := dk_22 5 (dk_at dksX5_part_0 16 rfl rfl)
theorem dX5_part_18 : decode cX5_part 18 = .ok (.lload 7, 2) := dk_22 7 (dk_at dksX5_part_0 18 rfl rfl)
theorem dX5_part_20 : decode cX5_part 20 = .ok (.lrem, 1) := dk_113 (dk_at dksX5_part_0 20 rfl rfl)
theorem dX5_part_21 : decode cX5_part 21 = .ok (.lstore 9, 2) := dk_55 9 (dk_at dksX5_part_0 21 rfl rfl)
theorem dX5_part_23 : decode cX5_part 23 = .ok (.lload 7, 2) := dk_22 7 (dk_at dksX5_part_1 0 rfl rfl)
theorem dX5_part_25 : decode cX5_part 25 = .ok (.lstore 5, 2) := dk_55 5 (dk_at dksX5_part_1 2 rfl rfl)
theorem dX5_part_27 : decode cX5_part 27 = .ok (.lload 9, 2) := dk_22 9 (dk_at dksX5_part_1 4 rfl rfl)
theorem dX5_part_29 : decode cX5_part 29 = .ok (.lstore 7, 2) := dk_55 7 (dk_at dksX5_part_1 6 rfl rfl)
theorem dX5_part_31 : decode cX5_part 31 = .ok (.goto (-22), 3) := dk_167 255 234 (dk_at dksX5_part_1 8 rfl rfl)
theorem dX5_part_34 : decode cX5_part 34 = .ok (.iload 4, 2) := dk_21 4 (dk_at dksX5_part_1 11 rfl rfl)
theorem dX5_part_36 : decode cX5_part 36 = .ok (.ifCond .ne 7, 3) := dk_154 0 7 (dk_at dksX5_part_1 13 rfl rfl)
theorem dX5_part_39 : decode cX5_part 39 = .ok (.lload_n 0, 1) := dk_30 (dk_at dksX5_part_1 16 rfl rfl)
theorem dX5_part_40 : decode cX5_part 40 = .ok (.goto 4, 3) := dk_167 0 4 (dk_at dksX5_part_1 17 rfl rfl)
theorem dX5_part_43 : decode cX5_part 43 = .ok (.lload_n 2, 1) := dk_32 (dk_at dksX5_part_1 20 rfl rfl)
theorem dX5_part_44 : decode cX5_part 44 = .ok (.lload 5, 2) := dk_22 5 (dk_at dksX5_part_1 21 rfl rfl)
theorem dX5_part_46 : decode cX5_part 46 = .ok (.ldiv, 1) := dk_109 (dk_at dksX5_part_1 23 rfl rfl)
theorem dX5_part_47 : decode cX5_part 47 = .ok (.lreturn, 1) := dk_173 (dk_at dksX5_part_2 0 rfl rfl)
abbrev cX5_wise : ByteArray := prog_13_method_76_code
def yX5_wise : MethodName := ⟨RX5, "wise", "(I)I"⟩
def dkwX5_wise_0 : List UInt8 := [42, 27, 182, 1, 55, 153, 0, 15, 42, 42, 182, 1, 124, 27, 182, 1, 98, 167, 0, 5, 16, 254, 172]
abbrev dktX5_wise_0 : List UInt8 := dkwX5_wise_0 ++ []
theorem dksX5_wise_0 : cX5_wise.data.toList.drop 0 = dktX5_wise_0 := by decide +kernel
theorem dX5_wise_0 : decode cX5_wise 0 = .ok (.aload_n 0, 1) := dk_42 (dk_at dksX5_wise_0 0 rfl rfl)
theorem dX5_wise_1 : decode cX5_wise 1 = .ok (.iload_n 1, 1) := dk_27 (dk_at dksX5_wise_0 1 rfl rfl)
theorem dX5_wise_2 : decode cX5_wise 2 = .ok (.invokevirtual 311, 3) := dk_182 1 55 (dk_at dksX5_wise_0 2 rfl rfl)
theorem dX5_wise_5 : decode cX5_wise 5 = .ok (.ifCond .eq 15, 3) := dk_153 0 15 (dk_at dksX5_wise_0 5 rfl rfl)
theorem dX5_wise_8 : decode cX5_wise 8 = .ok (.aload_n 0, 1) := dk_42 (dk_at dksX5_wise_0 8 rfl rfl)
theorem dX5_wise_9 : decode cX5_wise 9 = .ok (.aload_n 0, 1) := dk_42 (dk_at dksX5_wise_0 9 rfl rfl)
theorem dX5_wise_10 : decode cX5_wise 10 = .ok (.invokevirtual 380, 3) := dk_182 1 124 (dk_at dksX5_wise_0 10 rfl rfl)
theorem dX5_wise_13 : decode cX5_wise 13 = .ok (.iload_n 1, 1) := dk_27 (dk_at dksX5_wise_0 13 rfl rfl)
theorem dX5_wise_14 : decode cX5_wise 14 = .ok (.invokevirtual 354, 3) := dk_182 1 98 (dk_at dksX5_wise_0 14 rfl rfl)
theorem dX5_wise_17 : decode cX5_wise 17 = .ok (.goto 5, 3) := dk_167 0 5 (dk_at dksX5_wise_0 17 rfl rfl)
theorem dX5_wise_20 : decode cX5_wise 20 = .ok (.bipush (-2), 2) := dk_16 254 (dk_at dksX5_wise_0 20 rfl rfl)
theorem dX5_wise_22 : decode cX5_wise 22 = .ok (.ireturn, 1) := dk_172 (dk_at dksX5_wise_0 22 rfl rfl)
abbrev cX5_wiseTakers : ByteArray := prog_13_method_75_code
def yX5_wiseTakers : MethodName := ⟨RX5, "wiseTakers", "()I"⟩
def dkwX5_wiseTakers_2 : List UInt8 := [60, 42, 22, 4, 181, 1, 120, 132, 3, 1, 167, 255, 211, 42, 182, 1, 92, 27, 172]
abbrev dktX5_wiseTakers_2 : List UInt8 := dkwX5_wiseTakers_2 ++ []
def dkwX5_wiseTakers_1 : List UInt8 := [182, 1, 107, 55, 4, 27, 2, 159, 0, 16, 22, 4, 42, 180, 1, 120, 148, 157, 0, 6, 167, 0, 11, 29]
abbrev dktX5_wiseTakers_1 : List UInt8 := dkwX5_wiseTakers_1 ++ dktX5_wiseTakers_2
def dkwX5_wiseTakers_0 : List UInt8 := [42, 182, 1, 77, 2, 60, 42, 182, 1, 83, 61, 3, 62, 29, 28, 162, 0, 46, 42, 29, 182, 1, 86, 42]
abbrev dktX5_wiseTakers_0 : List UInt8 := dkwX5_wiseTakers_0 ++ dktX5_wiseTakers_1
theorem dksX5_wiseTakers_0 : cX5_wiseTakers.data.toList.drop 0 = dktX5_wiseTakers_0 := by decide +kernel
theorem dksX5_wiseTakers_1 : cX5_wiseTakers.data.toList.drop 24 = dktX5_wiseTakers_1 := dk_seg dksX5_wiseTakers_0 24 rfl rfl
theorem dksX5_wiseTakers_2 : cX5_wiseTakers.data.toList.drop 48 = dktX5_wiseTakers_2 := dk_seg dksX5_wiseTakers_1 24 rfl rfl
theorem dX5_wiseTakers_0 : decode cX5_wiseTakers 0 = .ok (.aload_n 0, 1) := dk_42 (dk_at dksX5_wiseTakers_0 0 rfl rfl)
theorem dX5_wiseTakers_1 : decode cX5_wiseTakers 1 = .ok (.invokevirtual 333, 3) := dk_182 1 77 (dk_at dksX5_wiseTakers_0 1 rfl rfl)
theorem dX5_wiseTakers_4 : decode cX5_wiseTakers 4 = .ok (.iconst (-1), 1) := dk_2 (dk_at dksX5_wiseTakers_0 4 rfl rfl)
theorem dX5_wiseTakers_5 : decode cX5_wiseTakers 5 = .ok (.istore_n 1, 1) := dk_60 (dk_at dksX5_wiseTakers_0 5 rfl rfl)
theorem dX5_wiseTakers_6 : decode cX5_wiseTakers 6 = .ok (.aload_n 0, 1) := dk_42 (dk_at dksX5_wiseTakers_0 6 rfl rfl)
theorem dX5_wiseTakers_7 : decode cX5_wiseTakers 7 = .ok (.invokevirtual 339, 3) := dk_182 1 83 (dk_at dksX5_wiseTakers_0 7 rfl rfl)
theorem dX5_wiseTakers_10 : decode cX5_wiseTakers 10 = .ok (.istore_n 2, 1) := dk_61 (dk_at dksX5_wiseTakers_0 10 rfl rfl)
theorem dX5_wiseTakers_11 : decode cX5_wiseTakers 11 = .ok (.iconst 0, 1) := dk_3 (dk_at dksX5_wiseTakers_0 11 rfl rfl)
theorem dX5_wiseTakers_12 : decode cX5_wiseTakers 12 = .ok (.istore_n 3, 1) := dk_62 (dk_at dksX5_wiseTakers_0 12 rfl rfl)
theorem dX5_wiseTakers_13 : decode cX5_wiseTakers 13 = .ok (.iload_n 3, 1) := dk_29 (dk_at dksX5_wiseTakers_0 13 rfl rfl)
theorem dX5_wiseTakers_14 : decode cX5_wiseTakers 14 = .ok (.iload_n 2, 1) := dk_28 (dk_at dksX5_wiseTakers_0 14 rfl rfl)
theorem dX5_wiseTakers_15 : decode cX5_wiseTakers 15 = .ok (.if_icmp .ge 46, 3) := dk_162 0 46 (dk_at dksX5_wiseTakers_0 15 rfl rfl)
theorem dX5_wiseTakers_18 : decode cX5_wiseTakers 18 = .ok (.aload_n 0, 1) := dk_42 (dk_at dksX5_wiseTakers_0 18 rfl rfl)
theorem dX5_wiseTakers_19 : decode cX5_wiseTakers 19 = .ok (.iload_n 3, 1) := dk_29 (dk_at dksX5_wiseTakers_0 19 rfl rfl)
theorem dX5_wiseTakers_20 : decode cX5_wiseTakers 20 = .ok (.invokevirtual 342, 3) := dk_182 1 86 (dk_at dksX5_wiseTakers_0 20 rfl rfl)
theorem dX5_wiseTakers_23 : decode cX5_wiseTakers 23 = .ok (.aload_n 0, 1) := dk_42 (dk_at dksX5_wiseTakers_0 23 rfl rfl)
theorem dX5_wiseTakers_24 : decode cX5_wiseTakers 24 = .ok (.invokevirtual 363, 3) := dk_182 1 107 (dk_at dksX5_wiseTakers_1 0 rfl rfl)
theorem dX5_wiseTakers_27 : decode cX5_wiseTakers 27 = .ok (.lstore 4, 2) := dk_55 4 (dk_at dksX5_wiseTakers_1 3 rfl rfl)
theorem dX5_wiseTakers_29 : decode cX5_wiseTakers 29 = .ok (.iload_n 1, 1) := dk_27 (dk_at dksX5_wiseTakers_1 5 rfl rfl)
theorem dX5_wiseTakers_30 : decode cX5_wiseTakers 30 = .ok (.iconst (-1), 1) := dk_2 (dk_at dksX5_wiseTakers_1 6 rfl rfl)
theorem dX5_wiseTakers_31 : decode cX5_wiseTakers 31 = .ok (.if_icmp .eq 16, 3) := dk_159 0 16 (dk_at dksX5_wiseTakers_1 7 rfl rfl)
theorem dX5_wiseTakers_34 : decode cX5_wiseTakers 34 = .ok (.lload 4, 2) := dk_22 4 (dk_at dksX5_wiseTakers_1 10 rfl rfl)
theorem dX5_wiseTakers_36 : decode cX5_wiseTakers 36 = .ok (.aload_n 0, 1) := dk_42 (dk_at dksX5_wiseTakers_1 12 rfl rfl)
theorem dX5_wiseTakers_37 : decode cX5_wiseTakers 37 = .ok (.getfield 376, 3) := dk_180 1 120 (dk_at dksX5_wiseTakers_1 13 rfl rfl)
theorem dX5_wiseTakers_40 : decode cX5_wiseTakers 40 = .ok (.lcmp, 1) := dk_148 (dk_at dksX5_wiseTakers_1 16 rfl rfl)
theorem dX5_wiseTakers_41 : decode cX5_wiseTakers 41 = .ok (.ifCond .gt 6, 3) := dk_157 0 6 (dk_at dksX5_wiseTakers_1 17 rfl rfl)
theorem dX5_wiseTakers_44 : decode cX5_wiseTakers 44 = .ok (.goto 11, 3) := dk_167 0 11 (dk_at dksX5_wiseTakers_1 20 rfl rfl)
theorem dX5_wiseTakers_47 : decode cX5_wiseTakers 47 = .ok (.iload_n 3, 1) := dk_29 (dk_at dksX5_wiseTakers_1 23 rfl rfl)
theorem dX5_wiseTakers_48 : decode cX5_wiseTakers 48 = .ok (.istore_n 1, 1) := dk_60 (dk_at dksX5_wiseTakers_2 0 rfl rfl)
theorem dX5_wiseTakers_49 : decode cX5_wiseTakers 49 = .ok (.aload_n 0, 1) := dk_42 (dk_at dksX5_wiseTakers_2 1 rfl rfl)
theorem dX5_wiseTakers_50 : decode cX5_wiseTakers 50 = .ok (.lload 4, 2) := dk_22 4 (dk_at dksX5_wiseTakers_2 2 rfl rfl)
theorem dX5_wiseTakers_52 : decode cX5_wiseTakers 52 = .ok (.putfield 376, 3) := dk_181 1 120 (dk_at dksX5_wiseTakers_2 4 rfl rfl)
theorem dX5_wiseTakers_55 : decode cX5_wiseTakers 55 = .ok (.iinc 3 1, 3) := dk_132 3 1 (dk_at dksX5_wiseTakers_2 7 rfl rfl)
theorem dX5_wiseTakers_58 : decode cX5_wiseTakers 58 = .ok (.goto (-45), 3) := dk_167 255 211 (dk_at dksX5_wiseTakers_2 10 rfl rfl)
theorem dX5_wiseTakers_61 : decode cX5_wiseTakers 61 = .ok (.aload_n 0, 1) := dk_42 (dk_at dksX5_wiseTakers_2 13 rfl rfl)
theorem dX5_wiseTakers_62 : decode cX5_wiseTakers 62 = .ok (.invokevirtual 348, 3) := dk_182 1 92 (dk_at dksX5_wiseTakers_2 14 rfl rfl)
theorem dX5_wiseTakers_65 : decode cX5_wiseTakers 65 = .ok (.iload_n 1, 1) := dk_27 (dk_at dksX5_wiseTakers_2 17 rfl rfl)
theorem dX5_wiseTakers_66 : decode cX5_wiseTakers 66 = .ok (.ireturn, 1) := dk_172 (dk_at dksX5_wiseTakers_2 18 rfl rfl)
abbrev cX5_wisest : ByteArray := prog_13_method_77_code
def yX5_wisest : MethodName := ⟨RX5, "wisest", "(I)J"⟩
def dkwX5_wisest_1 : List UInt8 := [182, 1, 124, 87, 42, 180, 1, 120, 42, 182, 1, 111, 27, 184, 1, 114, 173]
abbrev dktX5_wisest_1 : List UInt8 := dkwX5_wisest_1 ++ []
def dkwX5_wisest_0 : List UInt8 := [42, 182, 1, 66, 153, 0, 13, 27, 133, 9, 10, 184, 0, 85, 154, 0, 7, 20, 1, 118, 173, 42]
abbrev dktX5_wisest_0 : List UInt8 := dkwX5_wisest_0 ++ dktX5_wisest_1
theorem dksX5_wisest_0 : cX5_wisest.data.toList.drop 0 = dktX5_wisest_0 := by decide +kernel
theorem dksX5_wisest_1 : cX5_wisest.data.toList.drop 22 = dktX5_wisest_1 := dk_seg dksX5_wisest_0 22 rfl rfl
theorem dX5_wisest_0 : decode cX5_wisest 0 = .ok (.aload_n 0, 1) := dk_42 (dk_at dksX5_wisest_0 0 rfl rfl)
theorem dX5_wisest_1 : decode cX5_wisest 1 = .ok (.invokevirtual 322, 3) := dk_182 1 66 (dk_at dksX5_wisest_0 1 rfl rfl)
theorem dX5_wisest_4 : decode cX5_wisest 4 = .ok (.ifCond .eq 13, 3) := dk_153 0 13 (dk_at dksX5_wisest_0 4 rfl rfl)
theorem dX5_wisest_7 : decode cX5_wisest 7 = .ok (.iload_n 1, 1) := dk_27 (dk_at dksX5_wisest_0 7 rfl rfl)
theorem dX5_wisest_8 : decode cX5_wisest 8 = .ok (.i2l, 1) := dk_133 (dk_at dksX5_wisest_0 8 rfl rfl)
theorem dX5_wisest_9 : decode cX5_wisest 9 = .ok (.lconst 0, 1) := dk_9 (dk_at dksX5_wisest_0 9 rfl rfl)
theorem dX5_wisest_10 : decode cX5_wisest 10 = .ok (.lconst 1, 1) := dk_10 (dk_at dksX5_wisest_0 10 rfl rfl)
theorem dX5_wisest_11 : decode cX5_wisest 11 = .ok (.invokestatic 85, 3) := dk_184 0 85 (dk_at dksX5_wisest_0 11 rfl rfl)
theorem dX5_wisest_14 : decode cX5_wisest 14 = .ok (.ifCond .ne 7, 3) := dk_154 0 7 (dk_at dksX5_wisest_0 14 rfl rfl)
theorem dX5_wisest_17 : decode cX5_wisest 17 = .ok (.ldc2_w 374, 3) := dk_20 1 118 (dk_at dksX5_wisest_0 17 rfl rfl)
theorem dX5_wisest_20 : decode cX5_wisest 20 = .ok (.lreturn, 1) := dk_173 (dk_at dksX5_wisest_0 20 rfl rfl)
theorem dX5_wisest_21 : decode cX5_wisest 21 = .ok (.aload_n 0, 1) := dk_42 (dk_at dksX5_wisest_0 21 rfl rfl)
theorem dX5_wisest_22 : decode cX5_wisest 22 = .ok (.invokevirtual 380, 3) := dk_182 1 124 (dk_at dksX5_wisest_1 0 rfl rfl)
theorem dX5_wisest_25 : decode cX5_wisest 25 = .ok (.pop, 1) := dk_87 (dk_at dksX5_wisest_1 3 rfl rfl)
theorem dX5_wisest_26 : decode cX5_wisest 26 = .ok (.aload_n 0, 1) := dk_42 (dk_at dksX5_wisest_1 4 rfl rfl)
theorem dX5_wisest_27 : decode cX5_wisest 27 = .ok (.getfield 376, 3) := dk_180 1 120 (dk_at dksX5_wisest_1 5 rfl rfl)
theorem dX5_wisest_30 : decode cX5_wisest 30 = .ok (.aload_n 0, 1) := dk_42 (dk_at dksX5_wisest_1 8 rfl rfl)
theorem dX5_wisest_31 : decode cX5_wisest 31 = .ok (.invokevirtual 367, 3) := dk_182 1 111 (dk_at dksX5_wisest_1 9 rfl rfl)
theorem dX5_wisest_34 : decode cX5_wisest 34 = .ok (.iload_n 1, 1) := dk_27 (dk_at dksX5_wisest_1 12 rfl rfl)
theorem dX5_wisest_35 : decode cX5_wisest 35 = .ok (.invokestatic 370, 3) := dk_184 1 114 (dk_at dksX5_wisest_1 13 rfl rfl)
theorem dX5_wisest_38 : decode cX5_wisest 38 = .ok (.lreturn, 1) := dk_173 (dk_at dksX5_wisest_1 16 rfl rfl)
abbrev cX5_agree : ByteArray := prog_13_method_81_code
def yX5_agree : MethodName := ⟨RX5, "agree", "(I)I"⟩
def dkwX5_agree_0 : List UInt8 := [42, 27, 4, 182, 1, 134, 61, 28, 156, 0, 7, 28, 167, 0, 9, 42, 27, 2, 182, 1, 138, 172]
abbrev dktX5_agree_0 : List UInt8 := dkwX5_agree_0 ++ []
theorem dksX5_agree_0 : cX5_agree.data.toList.drop 0 = dktX5_agree_0 := by decide +kernel
theorem dX5_agree_0 : decode cX5_agree 0 = .ok (.aload_n 0, 1) := dk_42 (dk_at dksX5_agree_0 0 rfl rfl)
theorem dX5_agree_1 : decode cX5_agree 1 = .ok (.iload_n 1, 1) := dk_27 (dk_at dksX5_agree_0 1 rfl rfl)
theorem dX5_agree_2 : decode cX5_agree 2 = .ok (.iconst 1, 1) := dk_4 (dk_at dksX5_agree_0 2 rfl rfl)
theorem dX5_agree_3 : decode cX5_agree 3 = .ok (.invokevirtual 390, 3) := dk_182 1 134 (dk_at dksX5_agree_0 3 rfl rfl)
theorem dX5_agree_6 : decode cX5_agree 6 = .ok (.istore_n 2, 1) := dk_61 (dk_at dksX5_agree_0 6 rfl rfl)
theorem dX5_agree_7 : decode cX5_agree 7 = .ok (.iload_n 2, 1) := dk_28 (dk_at dksX5_agree_0 7 rfl rfl)
theorem dX5_agree_8 : decode cX5_agree 8 = .ok (.ifCond .ge 7, 3) := dk_156 0 7 (dk_at dksX5_agree_0 8 rfl rfl)
theorem dX5_agree_11 : decode cX5_agree 11 = .ok (.iload_n 2, 1) := dk_28 (dk_at dksX5_agree_0 11 rfl rfl)
theorem dX5_agree_12 : decode cX5_agree 12 = .ok (.goto 9, 3) := dk_167 0 9 (dk_at dksX5_agree_0 12 rfl rfl)
theorem dX5_agree_15 : decode cX5_agree 15 = .ok (.aload_n 0, 1) := dk_42 (dk_at dksX5_agree_0 15 rfl rfl)
theorem dX5_agree_16 : decode cX5_agree 16 = .ok (.iload_n 1, 1) := dk_27 (dk_at dksX5_agree_0 16 rfl rfl)
theorem dX5_agree_17 : decode cX5_agree 17 = .ok (.iconst (-1), 1) := dk_2 (dk_at dksX5_agree_0 17 rfl rfl)
theorem dX5_agree_18 : decode cX5_agree 18 = .ok (.invokevirtual 394, 3) := dk_182 1 138 (dk_at dksX5_agree_0 18 rfl rfl)
theorem dX5_agree_21 : decode cX5_agree 21 = .ok (.ireturn, 1) := dk_172 (dk_at dksX5_agree_0 21 rfl rfl)
abbrev cX5_asksMarks : ByteArray := prog_13_method_78_code
def yX5_asksMarks : MethodName := ⟨RX5, "asksMarks", "(IZ)I"⟩
def dkwX5_asksMarks_5 : List UInt8 := [132, 3, 3, 167, 255, 186, 3, 172]
abbrev dktX5_asksMarks_5 : List UInt8 := dkwX5_asksMarks_5 ++ []
def dkwX5_asksMarks_4 : List UInt8 := [29, 96, 4, 96, 47, 9, 42, 180, 0, 9, 8, 46, 4, 100, 133, 184, 0, 85, 154, 0, 6, 16, 254, 172]
abbrev dktX5_asksMarks_4 : List UInt8 := dkwX5_asksMarks_4 ++ dktX5_asksMarks_5
def dkwX5_asksMarks_3 : List UInt8 := [96, 47, 9, 42, 182, 0, 89, 4, 100, 133, 184, 0, 85, 153, 0, 32, 42, 180, 0, 73, 16, 60, 27, 104]
abbrev dktX5_asksMarks_3 : List UInt8 := dkwX5_asksMarks_3 ++ dktX5_asksMarks_4
def dkwX5_asksMarks_2 : List UInt8 := [16, 254, 172, 3, 62, 29, 42, 180, 0, 67, 27, 46, 162, 0, 66, 42, 180, 0, 73, 16, 60, 27, 104, 29]
abbrev dktX5_asksMarks_2 : List UInt8 := dkwX5_asksMarks_2 ++ dktX5_asksMarks_3
def dkwX5_asksMarks_1 : List UInt8 := [180, 0, 67, 27, 46, 2, 160, 0, 6, 16, 250, 172, 42, 180, 0, 67, 27, 46, 6, 112, 153, 0, 6]
abbrev dktX5_asksMarks_1 : List UInt8 := dkwX5_asksMarks_1 ++ dktX5_asksMarks_2
def dkwX5_asksMarks_0 : List UInt8 := [27, 184, 1, 127, 153, 0, 14, 42, 182, 1, 66, 153, 0, 7, 28, 154, 0, 6, 16, 254, 172, 42]
abbrev dktX5_asksMarks_0 : List UInt8 := dkwX5_asksMarks_0 ++ dktX5_asksMarks_1
theorem dksX5_asksMarks_0 : cX5_asksMarks.data.toList.drop 0 = dktX5_asksMarks_0 := by decide +kernel
theorem dksX5_asksMarks_1 : cX5_asksMarks.data.toList.drop 22 = dktX5_asksMarks_1 := dk_seg dksX5_asksMarks_0 22 rfl rfl
theorem dksX5_asksMarks_2 : cX5_asksMarks.data.toList.drop 45 = dktX5_asksMarks_2 := dk_seg dksX5_asksMarks_1 23 rfl rfl
theorem dksX5_asksMarks_3 : cX5_asksMarks.data.toList.drop 69 = dktX5_asksMarks_3 := dk_seg dksX5_asksMarks_2 24 rfl rfl
theorem dksX5_asksMarks_4 : cX5_asksMarks.data.toList.drop 93 = dktX5_asksMarks_4 := dk_seg dksX5_asksMarks_3 24 rfl rfl
theorem dksX5_asksMarks_5 : cX5_asksMarks.data.toList.drop 117 = dktX5_asksMarks_5 := dk_seg dksX5_asksMarks_4 24 rfl rfl
theorem dX5_asksMarks_0 : decode cX5_asksMarks 0 = .ok (.iload_n 1, 1) := dk_27 (dk_at dksX5_asksMarks_0 0 rfl rfl)
theorem dX5_asksMarks_1 : decode cX5_asksMarks 1 = .ok (.invokestatic 383, 3) := dk_184 1 127 (dk_at dksX5_asksMarks_0 1 rfl rfl)
theorem dX5_asksMarks_4 : decode cX5_asksMarks 4 = .ok (.ifCond .eq 14, 3) := dk_153 0 14 (dk_at dksX5_asksMarks_0 4 rfl rfl)
theorem dX5_asksMarks_7 : decode cX5_asksMarks 7 = .ok (.aload_n 0, 1) := dk_42 (dk_at dksX5_asksMarks_0 7 rfl rfl)
theorem dX5_asksMarks_8 : decode cX5_asksMarks 8 = .ok (.invokevirtual 322, 3) := dk_182 1 66 (dk_at dksX5_asksMarks_0 8 rfl rfl)
theorem dX5_asksMarks_11 : decode cX5_asksMarks 11 = .ok (.ifCond .eq 7, 3) := dk_153 0 7 (dk_at dksX5_asksMarks_0 11 rfl rfl)
theorem dX5_asksMarks_14 : decode cX5_asksMarks 14 = .ok (.iload_n 2, 1) := dk_28 (dk_at dksX5_asksMarks_0 14 rfl rfl)
theorem dX5_asksMarks_15 : decode cX5_asksMarks 15 = .ok (.ifCond .ne 6, 3) := dk_154 0 6 (dk_at dksX5_asksMarks_0 15 rfl rfl)
theorem dX5_asksMarks_18 : decode cX5_asksMarks 18 = .ok (.bipush (-2), 2) := dk_16 254 (dk_at dksX5_asksMarks_0 18 rfl rfl)
theorem dX5_asksMarks_20 : decode cX5_asksMarks 20 = .ok (.ireturn, 1) := dk_172 (dk_at dksX5_asksMarks_0 20 rfl rfl)
theorem dX5_asksMarks_21 : decode cX5_asksMarks 21 = .ok (.aload_n 0, 1) := dk_42 (dk_at dksX5_asksMarks_0 21 rfl rfl)
theorem dX5_asksMarks_22 : decode cX5_asksMarks 22 = .ok (.getfield 67, 3) := dk_180 0 67 (dk_at dksX5_asksMarks_1 0 rfl rfl)
theorem dX5_asksMarks_25 : decode cX5_asksMarks 25 = .ok (.iload_n 1, 1) := dk_27 (dk_at dksX5_asksMarks_1 3 rfl rfl)
theorem dX5_asksMarks_26 : decode cX5_asksMarks 26 = .ok (.iaload, 1) := dk_46 (dk_at dksX5_asksMarks_1 4 rfl rfl)
theorem dX5_asksMarks_27 : decode cX5_asksMarks 27 = .ok (.iconst (-1), 1) := dk_2 (dk_at dksX5_asksMarks_1 5 rfl rfl)
theorem dX5_asksMarks_28 : decode cX5_asksMarks 28 = .ok (.if_icmp .ne 6, 3) := dk_160 0 6 (dk_at dksX5_asksMarks_1 6 rfl rfl)
theorem dX5_asksMarks_31 : decode cX5_asksMarks 31 = .ok (.bipush (-6), 2) := dk_16 250 (dk_at dksX5_asksMarks_1 9 rfl rfl)
theorem dX5_asksMarks_33 : decode cX5_asksMarks 33 = .ok (.ireturn, 1) := dk_172 (dk_at dksX5_asksMarks_1 11 rfl rfl)
theorem dX5_asksMarks_34 : decode cX5_asksMarks 34 = .ok (.aload_n 0, 1) := dk_42 (dk_at dksX5_asksMarks_1 12 rfl rfl)
theorem dX5_asksMarks_35 : decode cX5_asksMarks 35 = .ok (.getfield 67, 3) := dk_180 0 67 (dk_at dksX5_asksMarks_1 13 rfl rfl)
theorem dX5_asksMarks_38 : decode cX5_asksMarks 38 = .ok (.iload_n 1, 1) := dk_27 (dk_at dksX5_asksMarks_1 16 rfl rfl)
theorem dX5_asksMarks_39 : decode cX5_asksMarks 39 = .ok (.iaload, 1) := dk_46 (dk_at dksX5_asksMarks_1 17 rfl rfl)
theorem dX5_asksMarks_40 : decode cX5_asksMarks 40 = .ok (.iconst 3, 1) := dk_6 (dk_at dksX5_asksMarks_1 18 rfl rfl)
theorem dX5_asksMarks_41 : decode cX5_asksMarks 41 = .ok (.irem, 1) := dk_112 (dk_at dksX5_asksMarks_1 19 rfl rfl)
theorem dX5_asksMarks_42 : decode cX5_asksMarks 42 = .ok (.ifCond .eq 6, 3) := dk_153 0 6 (dk_at dksX5_asksMarks_1 20 rfl rfl)
theorem dX5_asksMarks_45 : decode cX5_asksMarks 45 = .ok (.bipush (-2), 2) := dk_16 254 (dk_at dksX5_asksMarks_2 0 rfl rfl)
theorem dX5_asksMarks_47 : decode cX5_asksMarks 47 = .ok (.ireturn, 1) := dk_172 (dk_at dksX5_asksMarks_2 2 rfl rfl)
theorem dX5_asksMarks_48 : decode cX5_asksMarks 48 = .ok (.iconst 0, 1) := dk_3 (dk_at dksX5_asksMarks_2 3 rfl rfl)
theorem dX5_asksMarks_49 : decode cX5_asksMarks 49 = .ok (.istore_n 3, 1) := dk_62 (dk_at dksX5_asksMarks_2 4 rfl rfl)
theorem dX5_asksMarks_50 : decode cX5_asksMarks 50 = .ok (.iload_n 3, 1) := dk_29 (dk_at dksX5_asksMarks_2 5 rfl rfl)
theorem dX5_asksMarks_51 : decode cX5_asksMarks 51 = .ok (.aload_n 0, 1) := dk_42 (dk_at dksX5_asksMarks_2 6 rfl rfl)
theorem dX5_asksMarks_52 : decode cX5_asksMarks 52 = .ok (.getfield 67, 3) := dk_180 0 67 (dk_at dksX5_asksMarks_2 7 rfl rfl)
theorem dX5_asksMarks_55 : decode cX5_asksMarks 55 = .ok (.iload_n 1, 1) := dk_27 (dk_at dksX5_asksMarks_2 10 rfl rfl)
theorem dX5_asksMarks_56 : decode cX5_asksMarks 56 = .ok (.iaload, 1) := dk_46 (dk_at dksX5_asksMarks_2 11 rfl rfl)
theorem dX5_asksMarks_57 : decode cX5_asksMarks 57 = .ok (.if_icmp .ge 66, 3) := dk_162 0 66 (dk_at dksX5_asksMarks_2 12 rfl rfl)
theorem dX5_asksMarks_60 : decode cX5_asksMarks 60 = .ok (.aload_n 0, 1) := dk_42 (dk_at dksX5_asksMarks_2 15 rfl rfl)
theorem dX5_asksMarks_61 : decode cX5_asksMarks 61 = .ok (.getfield 73, 3) := dk_180 0 73 (dk_at dksX5_asksMarks_2 16 rfl rfl)
theorem dX5_asksMarks_64 : decode cX5_asksMarks 64 = .ok (.bipush 60, 2) := dk_16 60 (dk_at dksX5_asksMarks_2 19 rfl rfl)
theorem dX5_asksMarks_66 : decode cX5_asksMarks 66 = .ok (.iload_n 1, 1) := dk_27 (dk_at dksX5_asksMarks_2 21 rfl rfl)
theorem dX5_asksMarks_67 : decode cX5_asksMarks 67 = .ok (.imul, 1) := dk_104 (dk_at dksX5_asksMarks_2 22 rfl rfl)
theorem dX5_asksMarks_68 : decode cX5_asksMarks 68 = .ok (.iload_n 3, 1) := dk_29 (dk_at dksX5_asksMarks_2 23 rfl rfl)
theorem dX5_asksMarks_69 : decode cX5_asksMarks 69 = .ok (.iadd, 1) := dk_96 (dk_at dksX5_asksMarks_3 0 rfl rfl)
theorem dX5_asksMarks_70 : decode cX5_asksMarks 70 = .ok (.laload, 1) := dk_47 (dk_at dksX5_asksMarks_3 1 rfl rfl)
theorem dX5_asksMarks_71 : decode cX5_asksMarks 71 = .ok (.lconst 0, 1) := dk_9 (dk_at dksX5_asksMarks_3 2 rfl rfl)
theorem dX5_asksMarks_72 : decode cX5_asksMarks 72 = .ok (.aload_n 0, 1) := dk_42 (dk_at dksX5_asksMarks_3 3 rfl rfl)
theorem dX5_asksMarks_73 : decode cX5_asksMarks 73 = .ok (.invokevirtual 89, 3) := dk_182 0 89 (dk_at dksX5_asksMarks_3 4 rfl rfl)
theorem dX5_asksMarks_76 : decode cX5_asksMarks 76 = .ok (.iconst 1, 1) := dk_4 (dk_at dksX5_asksMarks_3 7 rfl rfl)
theorem dX5_asksMarks_77 : decode cX5_asksMarks 77 = .ok (.isub, 1) := dk_100 (dk_at dksX5_asksMarks_3 8 rfl rfl)
theorem dX5_asksMarks_78 : decode cX5_asksMarks 78 = .ok (.i2l, 1) := dk_133 (dk_at dksX5_asksMarks_3 9 rfl rfl)
theorem dX5_asksMarks_79 : decode cX5_asksMarks 79 = .ok (.invokestatic 85, 3) := dk_184 0 85 (dk_at dksX5_asksMarks_3 10 rfl rfl)
theorem dX5_asksMarks_82 : decode cX5_asksMarks 82 = .ok (.ifCond .eq 32, 3) := dk_153 0 32 (dk_at dksX5_asksMarks_3 13 rfl rfl)
theorem dX5_asksMarks_85 : decode cX5_asksMarks 85 = .ok (.aload_n 0, 1) := dk_42 (dk_at dksX5_asksMarks_3 16 rfl rfl)
theorem dX5_asksMarks_86 : decode cX5_asksMarks 86 = .ok (.getfield 73, 3) := dk_180 0 73 (dk_at dksX5_asksMarks_3 17 rfl rfl)
theorem dX5_asksMarks_89 : decode cX5_asksMarks 89 = .ok (.bipush 60, 2) := dk_16 60 (dk_at dksX5_asksMarks_3 20 rfl rfl)
theorem dX5_asksMarks_91 : decode cX5_asksMarks 91 = .ok (.iload_n 1, 1) := dk_27 (dk_at dksX5_asksMarks_3 22 rfl rfl)
theorem dX5_asksMarks_92 : decode cX5_asksMarks 92 = .ok (.imul, 1) := dk_104 (dk_at dksX5_asksMarks_3 23 rfl rfl)
theorem dX5_asksMarks_93 : decode cX5_asksMarks 93 = .ok (.iload_n 3, 1) := dk_29 (dk_at dksX5_asksMarks_4 0 rfl rfl)
theorem dX5_asksMarks_94 : decode cX5_asksMarks 94 = .ok (.iadd, 1) := dk_96 (dk_at dksX5_asksMarks_4 1 rfl rfl)
theorem dX5_asksMarks_95 : decode cX5_asksMarks 95 = .ok (.iconst 1, 1) := dk_4 (dk_at dksX5_asksMarks_4 2 rfl rfl)
theorem dX5_asksMarks_96 : decode cX5_asksMarks 96 = .ok (.iadd, 1) := dk_96 (dk_at dksX5_asksMarks_4 3 rfl rfl)
theorem dX5_asksMarks_97 : decode cX5_asksMarks 97 = .ok (.laload, 1) := dk_47 (dk_at dksX5_asksMarks_4 4 rfl rfl)
theorem dX5_asksMarks_98 : decode cX5_asksMarks 98 = .ok (.lconst 0, 1) := dk_9 (dk_at dksX5_asksMarks_4 5 rfl rfl)
theorem dX5_asksMarks_99 : decode cX5_asksMarks 99 = .ok (.aload_n 0, 1) := dk_42 (dk_at dksX5_asksMarks_4 6 rfl rfl)
theorem dX5_asksMarks_100 : decode cX5_asksMarks 100 = .ok (.getfield 9, 3) := dk_180 0 9 (dk_at dksX5_asksMarks_4 7 rfl rfl)
theorem dX5_asksMarks_103 : decode cX5_asksMarks 103 = .ok (.iconst 5, 1) := dk_8 (dk_at dksX5_asksMarks_4 10 rfl rfl)
theorem dX5_asksMarks_104 : decode cX5_asksMarks 104 = .ok (.iaload, 1) := dk_46 (dk_at dksX5_asksMarks_4 11 rfl rfl)
theorem dX5_asksMarks_105 : decode cX5_asksMarks 105 = .ok (.iconst 1, 1) := dk_4 (dk_at dksX5_asksMarks_4 12 rfl rfl)
theorem dX5_asksMarks_106 : decode cX5_asksMarks 106 = .ok (.isub, 1) := dk_100 (dk_at dksX5_asksMarks_4 13 rfl rfl)
theorem dX5_asksMarks_107 : decode cX5_asksMarks 107 = .ok (.i2l, 1) := dk_133 (dk_at dksX5_asksMarks_4 14 rfl rfl)
theorem dX5_asksMarks_108 : decode cX5_asksMarks 108 = .ok (.invokestatic 85, 3) := dk_184 0 85 (dk_at dksX5_asksMarks_4 15 rfl rfl)
theorem dX5_asksMarks_111 : decode cX5_asksMarks 111 = .ok (.ifCond .ne 6, 3) := dk_154 0 6 (dk_at dksX5_asksMarks_4 18 rfl rfl)
theorem dX5_asksMarks_114 : decode cX5_asksMarks 114 = .ok (.bipush (-2), 2) := dk_16 254 (dk_at dksX5_asksMarks_4 21 rfl rfl)
theorem dX5_asksMarks_116 : decode cX5_asksMarks 116 = .ok (.ireturn, 1) := dk_172 (dk_at dksX5_asksMarks_4 23 rfl rfl)
theorem dX5_asksMarks_117 : decode cX5_asksMarks 117 = .ok (.iinc 3 3, 3) := dk_132 3 3 (dk_at dksX5_asksMarks_5 0 rfl rfl)
theorem dX5_asksMarks_120 : decode cX5_asksMarks 120 = .ok (.goto (-70), 3) := dk_167 255 186 (dk_at dksX5_asksMarks_5 3 rfl rfl)
theorem dX5_asksMarks_123 : decode cX5_asksMarks 123 = .ok (.iconst 0, 1) := dk_3 (dk_at dksX5_asksMarks_5 6 rfl rfl)
theorem dX5_asksMarks_124 : decode cX5_asksMarks 124 = .ok (.ireturn, 1) := dk_172 (dk_at dksX5_asksMarks_5 7 rfl rfl)
abbrev cX5_isSlot : ByteArray := prog_13_method_117_code
def yX5_isSlot : MethodName := ⟨RX5, "isSlot", "(I)Z"⟩
def dkwX5_isSlot_0 : List UInt8 := [26, 133, 9, 20, 1, 64, 184, 0, 85, 172]
abbrev dktX5_isSlot_0 : List UInt8 := dkwX5_isSlot_0 ++ []
theorem dksX5_isSlot_0 : cX5_isSlot.data.toList.drop 0 = dktX5_isSlot_0 := by decide +kernel
theorem dX5_isSlot_0 : decode cX5_isSlot 0 = .ok (.iload_n 0, 1) := dk_26 (dk_at dksX5_isSlot_0 0 rfl rfl)
theorem dX5_isSlot_1 : decode cX5_isSlot 1 = .ok (.i2l, 1) := dk_133 (dk_at dksX5_isSlot_0 1 rfl rfl)
theorem dX5_isSlot_2 : decode cX5_isSlot 2 = .ok (.lconst 0, 1) := dk_9 (dk_at dksX5_isSlot_0 2 rfl rfl)
theorem dX5_isSlot_3 : decode cX5_isSlot 3 = .ok (.ldc2_w 320, 3) := dk_20 1 64 (dk_at dksX5_isSlot_0 3 rfl rfl)
theorem dX5_isSlot_6 : decode cX5_isSlot 6 = .ok (.invokestatic 85, 3) := dk_184 0 85 (dk_at dksX5_isSlot_0 6 rfl rfl)
theorem dX5_isSlot_9 : decode cX5_isSlot 9 = .ok (.ireturn, 1) := dk_172 (dk_at dksX5_isSlot_0 9 rfl rfl)
abbrev cX5_agreeBut : ByteArray := prog_13_method_80_code
def yX5_agreeBut : MethodName := ⟨RX5, "agreeBut", "(II)I"⟩
def dkwX5_agreeBut_2 : List UInt8 := [96, 62, 132, 5, 1, 167, 255, 219, 42, 182, 1, 92, 29, 172]
abbrev dktX5_agreeBut_2 : List UInt8 := dkwX5_agreeBut_2 ++ []
def dkwX5_agreeBut_1 : List UInt8 := [21, 5, 182, 1, 86, 42, 182, 1, 61, 29, 42, 27, 28, 182, 1, 130, 153, 0, 7, 4, 167, 0, 4, 3]
abbrev dktX5_agreeBut_1 : List UInt8 := dkwX5_agreeBut_1 ++ dktX5_agreeBut_2
def dkwX5_agreeBut_0 : List UInt8 := [42, 182, 1, 77, 3, 62, 42, 182, 1, 83, 54, 4, 3, 54, 5, 21, 5, 21, 4, 162, 0, 36, 42]
abbrev dktX5_agreeBut_0 : List UInt8 := dkwX5_agreeBut_0 ++ dktX5_agreeBut_1
theorem dksX5_agreeBut_0 : cX5_agreeBut.data.toList.drop 0 = dktX5_agreeBut_0 := by decide +kernel
theorem dksX5_agreeBut_1 : cX5_agreeBut.data.toList.drop 23 = dktX5_agreeBut_1 := dk_seg dksX5_agreeBut_0 23 rfl rfl
theorem dksX5_agreeBut_2 : cX5_agreeBut.data.toList.drop 47 = dktX5_agreeBut_2 := dk_seg dksX5_agreeBut_1 24 rfl rfl
theorem dX5_agreeBut_0 : decode cX5_agreeBut 0 = .ok (.aload_n 0, 1) := dk_42 (dk_at dksX5_agreeBut_0 0 rfl rfl)
theorem dX5_agreeBut_1 : decode cX5_agreeBut 1 = .ok (.invokevirtual 333, 3) := dk_182 1 77 (dk_at dksX5_agreeBut_0 1 rfl rfl)
theorem dX5_agreeBut_4 : decode cX5_agreeBut 4 = .ok (.iconst 0, 1) := dk_3 (dk_at dksX5_agreeBut_0 4 rfl rfl)
theorem dX5_agreeBut_5 : decode cX5_agreeBut 5 = .ok (.istore_n 3, 1) := dk_62 (dk_at dksX5_agreeBut_0 5 rfl rfl)
theorem dX5_agreeBut_6 : decode cX5_agreeBut 6 = .ok (.aload_n 0, 1) := dk_42 (dk_at dksX5_agreeBut_0 6 rfl rfl)
theorem dX5_agreeBut_7 : decode cX5_agreeBut 7 = .ok (.invokevirtual 339, 3) := dk_182 1 83 (dk_at dksX5_agreeBut_0 7 rfl rfl)
theorem dX5_agreeBut_10 : decode cX5_agreeBut 10 = .ok (.istore 4, 2) := dk_54 4 (dk_at dksX5_agreeBut_0 10 rfl rfl)
theorem dX5_agreeBut_12 : decode cX5_agreeBut 12 = .ok (.iconst 0, 1) := dk_3 (dk_at dksX5_agreeBut_0 12 rfl rfl)
theorem dX5_agreeBut_13 : decode cX5_agreeBut 13 = .ok (.istore 5, 2) := dk_54 5 (dk_at dksX5_agreeBut_0 13 rfl rfl)
theorem dX5_agreeBut_15 : decode cX5_agreeBut 15 = .ok (.iload 5, 2) := dk_21 5 (dk_at dksX5_agreeBut_0 15 rfl rfl)
theorem dX5_agreeBut_17 : decode cX5_agreeBut 17 = .ok (.iload 4, 2) := dk_21 4 (dk_at dksX5_agreeBut_0 17 rfl rfl)
theorem dX5_agreeBut_19 : decode cX5_agreeBut 19 = .ok (.if_icmp .ge 36, 3) := dk_162 0 36 (dk_at dksX5_agreeBut_0 19 rfl rfl)
theorem dX5_agreeBut_22 : decode cX5_agreeBut 22 = .ok (.aload_n 0, 1) := dk_42 (dk_at dksX5_agreeBut_0 22 rfl rfl)
theorem dX5_agreeBut_23 : decode cX5_agreeBut 23 = .ok (.iload 5, 2) := dk_21 5 (dk_at dksX5_agreeBut_1 0 rfl rfl)
theorem dX5_agreeBut_25 : decode cX5_agreeBut 25 = .ok (.invokevirtual 342, 3) := dk_182 1 86 (dk_at dksX5_agreeBut_1 2 rfl rfl)
theorem dX5_agreeBut_28 : decode cX5_agreeBut 28 = .ok (.aload_n 0, 1) := dk_42 (dk_at dksX5_agreeBut_1 5 rfl rfl)
theorem dX5_agreeBut_29 : decode cX5_agreeBut 29 = .ok (.invokevirtual 317, 3) := dk_182 1 61 (dk_at dksX5_agreeBut_1 6 rfl rfl)
theorem dX5_agreeBut_32 : decode cX5_agreeBut 32 = .ok (.iload_n 3, 1) := dk_29 (dk_at dksX5_agreeBut_1 9 rfl rfl)
theorem dX5_agreeBut_33 : decode cX5_agreeBut 33 = .ok (.aload_n 0, 1) := dk_42 (dk_at dksX5_agreeBut_1 10 rfl rfl)
theorem dX5_agreeBut_34 : decode cX5_agreeBut 34 = .ok (.iload_n 1, 1) := dk_27 (dk_at dksX5_agreeBut_1 11 rfl rfl)
theorem dX5_agreeBut_35 : decode cX5_agreeBut 35 = .ok (.iload_n 2, 1) := dk_28 (dk_at dksX5_agreeBut_1 12 rfl rfl)
theorem dX5_agreeBut_36 : decode cX5_agreeBut 36 = .ok (.invokevirtual 386, 3) := dk_182 1 130 (dk_at dksX5_agreeBut_1 13 rfl rfl)
theorem dX5_agreeBut_39 : decode cX5_agreeBut 39 = .ok (.ifCond .eq 7, 3) := dk_153 0 7 (dk_at dksX5_agreeBut_1 16 rfl rfl)
theorem dX5_agreeBut_42 : decode cX5_agreeBut 42 = .ok (.iconst 1, 1) := dk_4 (dk_at dksX5_agreeBut_1 19 rfl rfl)
theorem dX5_agreeBut_43 : decode cX5_agreeBut 43 = .ok (.goto 4, 3) := dk_167 0 4 (dk_at dksX5_agreeBut_1 20 rfl rfl)
theorem dX5_agreeBut_46 : decode cX5_agreeBut 46 = .ok (.iconst 0, 1) := dk_3 (dk_at dksX5_agreeBut_1 23 rfl rfl)
theorem dX5_agreeBut_47 : decode cX5_agreeBut 47 = .ok (.iadd, 1) := dk_96 (dk_at dksX5_agreeBut_2 0 rfl rfl)
theorem dX5_agreeBut_48 : decode cX5_agreeBut 48 = .ok (.istore_n 3, 1) := dk_62 (dk_at dksX5_agreeBut_2 1 rfl rfl)
theorem dX5_agreeBut_49 : decode cX5_agreeBut 49 = .ok (.iinc 5 1, 3) := dk_132 5 1 (dk_at dksX5_agreeBut_2 2 rfl rfl)
theorem dX5_agreeBut_52 : decode cX5_agreeBut 52 = .ok (.goto (-37), 3) := dk_167 255 219 (dk_at dksX5_agreeBut_2 5 rfl rfl)
theorem dX5_agreeBut_55 : decode cX5_agreeBut 55 = .ok (.aload_n 0, 1) := dk_42 (dk_at dksX5_agreeBut_2 8 rfl rfl)
theorem dX5_agreeBut_56 : decode cX5_agreeBut 56 = .ok (.invokevirtual 348, 3) := dk_182 1 92 (dk_at dksX5_agreeBut_2 9 rfl rfl)
theorem dX5_agreeBut_59 : decode cX5_agreeBut 59 = .ok (.iload_n 3, 1) := dk_29 (dk_at dksX5_agreeBut_2 12 rfl rfl)
theorem dX5_agreeBut_60 : decode cX5_agreeBut 60 = .ok (.ireturn, 1) := dk_172 (dk_at dksX5_agreeBut_2 13 rfl rfl)
abbrev cX5_agrees : ByteArray := prog_13_method_79_code
def yX5_agrees : MethodName := ⟨RX5, "agrees", "(II)Z"⟩
def dkwX5_agrees_3 : List UInt8 := [132, 3, 1, 167, 255, 183, 4, 172]
abbrev dktX5_agrees_3 : List UInt8 := dkwX5_agrees_3 ++ []
def dkwX5_agrees_2 : List UInt8 := [21, 4, 4, 96, 47, 136, 96, 46, 133, 42, 180, 0, 73, 21, 4, 5, 96, 47, 148, 153, 0, 5, 3, 172]
abbrev dktX5_agrees_2 : List UInt8 := dkwX5_agrees_2 ++ dktX5_agrees_3
def dkwX5_agrees_1 : List UInt8 := [29, 28, 159, 0, 46, 42, 180, 0, 37, 16, 30, 42, 180, 0, 73, 21, 4, 47, 136, 104, 42, 180, 0, 73]
abbrev dktX5_agrees_1 : List UInt8 := dkwX5_agrees_1 ++ dktX5_agrees_2
def dkwX5_agrees_0 : List UInt8 := [3, 62, 6, 29, 104, 42, 180, 0, 67, 27, 46, 162, 0, 67, 16, 60, 27, 104, 6, 29, 104, 96, 54, 4]
abbrev dktX5_agrees_0 : List UInt8 := dkwX5_agrees_0 ++ dktX5_agrees_1
theorem dksX5_agrees_0 : cX5_agrees.data.toList.drop 0 = dktX5_agrees_0 := by decide +kernel
theorem dksX5_agrees_1 : cX5_agrees.data.toList.drop 24 = dktX5_agrees_1 := dk_seg dksX5_agrees_0 24 rfl rfl
theorem dksX5_agrees_2 : cX5_agrees.data.toList.drop 48 = dktX5_agrees_2 := dk_seg dksX5_agrees_1 24 rfl rfl
theorem dksX5_agrees_3 : cX5_agrees.data.toList.drop 72 = dktX5_agrees_3 := dk_seg dksX5_agrees_2 24 rfl rfl
theorem dX5_agrees_0 : decode cX5_agrees 0 = .ok (.iconst 0, 1) := dk_3 (dk_at dksX5_agrees_0 0 rfl rfl)
theorem dX5_agrees_1 : decode cX5_agrees 1 = .ok (.istore_n 3, 1) := dk_62 (dk_at dksX5_agrees_0 1 rfl rfl)
theorem dX5_agrees_2 : decode cX5_agrees 2 = .ok (.iconst 3, 1) := dk_6 (dk_at dksX5_agrees_0 2 rfl rfl)
theorem dX5_agrees_3 : decode cX5_agrees 3 = .ok (.iload_n 3, 1) := dk_29 (dk_at dksX5_agrees_0 3 rfl rfl)
theorem dX5_agrees_4 : decode cX5_agrees 4 = .ok (.imul, 1) := dk_104 (dk_at dksX5_agrees_0 4 rfl rfl)
theorem dX5_agrees_5 : decode cX5_agrees 5 = .ok (.aload_n 0, 1) := dk_42 (dk_at dksX5_agrees_0 5 rfl rfl)
theorem dX5_agrees_6 : decode cX5_agrees 6 = .ok (.getfield 67, 3) := dk_180 0 67 (dk_at dksX5_agrees_0 6 rfl rfl)
theorem dX5_agrees_9 : decode cX5_agrees 9 = .ok (.iload_n 1, 1) := dk_27 (dk_at dksX5_agrees_0 9 rfl rfl)
theorem dX5_agrees_10 : decode cX5_agrees 10 = .ok (.iaload, 1) := dk_46 (dk_at dksX5_agrees_0 10 rfl rfl)
theorem dX5_agrees_11 : decode cX5_agrees 11 = .ok (.if_icmp .ge 67, 3) := dk_162 0 67 (dk_at dksX5_agrees_0 11 rfl rfl)
theorem dX5_agrees_14 : decode cX5_agrees 14 = .ok (.bipush 60, 2) := dk_16 60 (dk_at dksX5_agrees_0 14 rfl rfl)
theorem dX5_agrees_16 : decode cX5_agrees 16 = .ok (.iload_n 1, 1) := dk_27 (dk_at dksX5_agrees_0 16 rfl rfl)
theorem dX5_agrees_17 : decode cX5_agrees 17 = .ok (.imul, 1) := dk_104 (dk_at dksX5_agrees_0 17 rfl rfl)
theorem dX5_agrees_18 : decode cX5_agrees 18 = .ok (.iconst 3, 1) := dk_6 (dk_at dksX5_agrees_0 18 rfl rfl)
theorem dX5_agrees_19 : decode cX5_agrees 19 = .ok (.iload_n 3, 1) := dk_29 (dk_at dksX5_agrees_0 19 rfl rfl)
theorem dX5_agrees_20 : decode cX5_agrees 20 = .ok (.imul, 1) := dk_104 (dk_at dksX5_agrees_0 20 rfl rfl)
theorem dX5_agrees_21 : decode cX5_agrees 21 = .ok (.iadd, 1) := dk_96 (dk_at dksX5_agrees_0 21 rfl rfl)
theorem dX5_agrees_22 : decode cX5_agrees 22 = .ok (.istore 4, 2) := dk_54 4 (dk_at dksX5_agrees_0 22 rfl rfl)
theorem dX5_agrees_24 : decode cX5_agrees 24 = .ok (.iload_n 3, 1) := dk_29 (dk_at dksX5_agrees_1 0 rfl rfl)
theorem dX5_agrees_25 : decode cX5_agrees 25 = .ok (.iload_n 2, 1) := dk_28 (dk_at dksX5_agrees_1 1 rfl rfl)
theorem dX5_agrees_26 : decode cX5_agrees 26 = .ok (.if_icmp .eq 46, 3) := dk_159 0 46 (dk_at dksX5_agrees_1 2 rfl rfl)
theorem dX5_agrees_29 : decode cX5_agrees 29 = .ok (.aload_n 0, 1) := dk_42 (dk_at dksX5_agrees_1 5 rfl rfl)
theorem dX5_agrees_30 : decode cX5_agrees 30 = .ok (.getfield 37, 3) := dk_180 0 37 (dk_at dksX5_agrees_1 6 rfl rfl)
theorem dX5_agrees_33 : decode cX5_agrees 33 = .ok (.bipush 30, 2) := dk_16 30 (dk_at dksX5_agrees_1 9 rfl rfl)
theorem dX5_agrees_35 : decode cX5_agrees 35 = .ok (.aload_n 0, 1) := dk_42 (dk_at dksX5_agrees_1 11 rfl rfl)
theorem dX5_agrees_36 : decode cX5_agrees 36 = .ok (.getfield 73, 3) := dk_180 0 73 (dk_at dksX5_agrees_1 12 rfl rfl)
theorem dX5_agrees_39 : decode cX5_agrees 39 = .ok (.iload 4, 2) := dk_21 4 (dk_at dksX5_agrees_1 15 rfl rfl)
theorem dX5_agrees_41 : decode cX5_agrees 41 = .ok (.laload, 1) := dk_47 (dk_at dksX5_agrees_1 17 rfl rfl)
theorem dX5_agrees_42 : decode cX5_agrees 42 = .ok (.l2i, 1) := dk_136 (dk_at dksX5_agrees_1 18 rfl rfl)
theorem dX5_agrees_43 : decode cX5_agrees 43 = .ok (.imul, 1) := dk_104 (dk_at dksX5_agrees_1 19 rfl rfl)
theorem dX5_agrees_44 : decode cX5_agrees 44 = .ok (.aload_n 0, 1) := dk_42 (dk_at dksX5_agrees_1 20 rfl rfl)
theorem dX5_agrees_45 : decode cX5_agrees 45 = .ok (.getfield 73, 3) := dk_180 0 73 (dk_at dksX5_agrees_1 21 rfl rfl)
theorem dX5_agrees_48 : decode cX5_agrees 48 = .ok (.iload 4, 2) := dk_21 4 (dk_at dksX5_agrees_2 0 rfl rfl)
theorem dX5_agrees_50 : decode cX5_agrees 50 = .ok (.iconst 1, 1) := dk_4 (dk_at dksX5_agrees_2 2 rfl rfl)
theorem dX5_agrees_51 : decode cX5_agrees 51 = .ok (.iadd, 1) := dk_96 (dk_at dksX5_agrees_2 3 rfl rfl)
theorem dX5_agrees_52 : decode cX5_agrees 52 = .ok (.laload, 1) := dk_47 (dk_at dksX5_agrees_2 4 rfl rfl)
theorem dX5_agrees_53 : decode cX5_agrees 53 = .ok (.l2i, 1) := dk_136 (dk_at dksX5_agrees_2 5 rfl rfl)
theorem dX5_agrees_54 : decode cX5_agrees 54 = .ok (.iadd, 1) := dk_96 (dk_at dksX5_agrees_2 6 rfl rfl)
theorem dX5_agrees_55 : decode cX5_agrees 55 = .ok (.iaload, 1) := dk_46 (dk_at dksX5_agrees_2 7 rfl rfl)
theorem dX5_agrees_56 : decode cX5_agrees 56 = .ok (.i2l, 1) := dk_133 (dk_at dksX5_agrees_2 8 rfl rfl)
theorem dX5_agrees_57 : decode cX5_agrees 57 = .ok (.aload_n 0, 1) := dk_42 (dk_at dksX5_agrees_2 9 rfl rfl)
theorem dX5_agrees_58 : decode cX5_agrees 58 = .ok (.getfield 73, 3) := dk_180 0 73 (dk_at dksX5_agrees_2 10 rfl rfl)
theorem dX5_agrees_61 : decode cX5_agrees 61 = .ok (.iload 4, 2) := dk_21 4 (dk_at dksX5_agrees_2 13 rfl rfl)
theorem dX5_agrees_63 : decode cX5_agrees 63 = .ok (.iconst 2, 1) := dk_5 (dk_at dksX5_agrees_2 15 rfl rfl)
theorem dX5_agrees_64 : decode cX5_agrees 64 = .ok (.iadd, 1) := dk_96 (dk_at dksX5_agrees_2 16 rfl rfl)
theorem dX5_agrees_65 : decode cX5_agrees 65 = .ok (.laload, 1) := dk_47 (dk_at dksX5_agrees_2 17 rfl rfl)
theorem dX5_agrees_66 : decode cX5_agrees 66 = .ok (.lcmp, 1) := dk_148 (dk_at dksX5_agrees_2 18 rfl rfl)
theorem dX5_agrees_67 : decode cX5_agrees 67 = .ok (.ifCond .eq 5, 3) := dk_153 0 5 (dk_at dksX5_agrees_2 19 rfl rfl)
theorem dX5_agrees_70 : decode cX5_agrees 70 = .ok (.iconst 0, 1) := dk_3 (dk_at dksX5_agrees_2 22 rfl rfl)
theorem dX5_agrees_71 : decode cX5_agrees 71 = .ok (.ireturn, 1) := dk_172 (dk_at dksX5_agrees_2 23 rfl rfl)
theorem dX5_agrees_72 : decode cX5_agrees 72 = .ok (.iinc 3 1, 3) := dk_132 3 1 (dk_at dksX5_agrees_3 0 rfl rfl)
theorem dX5_agrees_75 : decode cX5_agrees 75 = .ok (.goto (-73), 3) := dk_167 255 183 (dk_at dksX5_agrees_3 3 rfl rfl)
theorem dX5_agrees_78 : decode cX5_agrees 78 = .ok (.iconst 1, 1) := dk_4 (dk_at dksX5_agrees_3 6 rfl rfl)
theorem dX5_agrees_79 : decode cX5_agrees 79 = .ok (.ireturn, 1) := dk_172 (dk_at dksX5_agrees_3 7 rfl rfl)
abbrev cX5_who : ByteArray := prog_13_method_82_code
def yX5_who : MethodName := ⟨RX5, "who", "(II)I"⟩
def dkwX5_who_6 : List UInt8 := [153, 0, 8, 21, 4, 167, 0, 4, 2, 172]
abbrev dktX5_who_6 : List UInt8 := dkwX5_who_6 ++ []
def dkwX5_who_5 : List UInt8 := [167, 0, 4, 3, 54, 5, 21, 8, 54, 4, 132, 7, 1, 167, 255, 164, 42, 182, 1, 92, 21, 5]
abbrev dktX5_who_5 : List UInt8 := dkwX5_who_5 ++ dktX5_who_6
def dkwX5_who_4 : List UInt8 := [46, 54, 8, 21, 5, 153, 0, 20, 21, 4, 2, 159, 0, 10, 21, 4, 21, 8, 160, 0, 7, 4]
abbrev dktX5_who_4 : List UInt8 := dkwX5_who_4 ++ dktX5_who_5
def dkwX5_who_3 : List UInt8 := [17, 0, 157, 28, 96, 46, 2, 160, 0, 8, 16, 9, 167, 0, 13, 42, 180, 0, 9, 17, 0, 157, 28, 96]
abbrev dktX5_who_3 : List UInt8 := dkwX5_who_3 ++ dktX5_who_4
def dkwX5_who_2 : List UInt8 := [182, 1, 86, 42, 182, 1, 61, 42, 27, 2, 182, 1, 130, 154, 0, 6, 167, 0, 63, 42, 180, 0, 9]
abbrev dktX5_who_2 : List UInt8 := dkwX5_who_2 ++ dktX5_who_3
def dkwX5_who_1 : List UInt8 := [4, 54, 5, 42, 182, 1, 83, 54, 6, 3, 54, 7, 21, 7, 21, 6, 162, 0, 91, 42, 21, 7]
abbrev dktX5_who_1 : List UInt8 := dkwX5_who_1 ++ dktX5_who_2
def dkwX5_who_0 : List UInt8 := [42, 27, 42, 28, 182, 1, 55, 182, 1, 134, 62, 29, 156, 0, 5, 29, 172, 42, 182, 1, 77, 2, 54, 4]
abbrev dktX5_who_0 : List UInt8 := dkwX5_who_0 ++ dktX5_who_1
theorem dksX5_who_0 : cX5_who.data.toList.drop 0 = dktX5_who_0 := by decide +kernel
theorem dksX5_who_1 : cX5_who.data.toList.drop 24 = dktX5_who_1 := dk_seg dksX5_who_0 24 rfl rfl
theorem dksX5_who_2 : cX5_who.data.toList.drop 46 = dktX5_who_2 := dk_seg dksX5_who_1 22 rfl rfl
theorem dksX5_who_3 : cX5_who.data.toList.drop 69 = dktX5_who_3 := dk_seg dksX5_who_2 23 rfl rfl
theorem dksX5_who_4 : cX5_who.data.toList.drop 93 = dktX5_who_4 := dk_seg dksX5_who_3 24 rfl rfl
theorem dksX5_who_5 : cX5_who.data.toList.drop 115 = dktX5_who_5 := dk_seg dksX5_who_4 22 rfl rfl
theorem dksX5_who_6 : cX5_who.data.toList.drop 137 = dktX5_who_6 := dk_seg dksX5_who_5 22 rfl rfl
theorem dX5_who_0 : decode cX5_who 0 = .ok (.aload_n 0, 1) := dk_42 (dk_at dksX5_who_0 0 rfl rfl)
theorem dX5_who_1 : decode cX5_who 1 = .ok (.iload_n 1, 1) := dk_27 (dk_at dksX5_who_0 1 rfl rfl)
theorem dX5_who_2 : decode cX5_who 2 = .ok (.aload_n 0, 1) := dk_42 (dk_at dksX5_who_0 2 rfl rfl)
theorem dX5_who_3 : decode cX5_who 3 = .ok (.iload_n 2, 1) := dk_28 (dk_at dksX5_who_0 3 rfl rfl)
theorem dX5_who_4 : decode cX5_who 4 = .ok (.invokevirtual 311, 3) := dk_182 1 55 (dk_at dksX5_who_0 4 rfl rfl)
theorem dX5_who_7 : decode cX5_who 7 = .ok (.invokevirtual 390, 3) := dk_182 1 134 (dk_at dksX5_who_0 7 rfl rfl)
theorem dX5_who_10 : decode cX5_who 10 = .ok (.istore_n 3, 1) := dk_62 (dk_at dksX5_who_0 10 rfl rfl)
theorem dX5_who_11 : decode cX5_who 11 = .ok (.iload_n 3, 1) := dk_29 (dk_at dksX5_who_0 11 rfl rfl)
theorem dX5_who_12 : decode cX5_who 12 = .ok (.ifCond .ge 5, 3) := dk_156 0 5 (dk_at dksX5_who_0 12 rfl rfl)
theorem dX5_who_15 : decode cX5_who 15 = .ok (.iload_n 3, 1) := dk_29 (dk_at dksX5_who_0 15 rfl rfl)
theorem dX5_who_16 : decode cX5_who 16 = .ok (.ireturn, 1) := dk_172 (dk_at dksX5_who_0 16 rfl rfl)
theorem dX5_who_17 : decode cX5_who 17 = .ok (.aload_n 0, 1) := dk_42 (dk_at dksX5_who_0 17 rfl rfl)
theorem dX5_who_18 : decode cX5_who 18 = .ok (.invokevirtual 333, 3) := dk_182 1 77 (dk_at dksX5_who_0 18 rfl rfl)
theorem dX5_who_21 : decode cX5_who 21 = .ok (.iconst (-1), 1) := dk_2 (dk_at dksX5_who_0 21 rfl rfl)
theorem dX5_who_22 : decode cX5_who 22 = .ok (.istore 4, 2) := dk_54 4 (dk_at dksX5_who_0 22 rfl rfl)
theorem dX5_who_24 : decode cX5_who 24 = .ok (.iconst 1, 1) := dk_4 (dk_at dksX5_who_1 0 rfl rfl)
theorem dX5_who_25 : decode cX5_who 25 = .ok (.istore 5, 2) := dk_54 5 (dk_at dksX5_who_1 1 rfl rfl)
theorem dX5_who_27 : decode cX5_who 27 = .ok (.aload_n 0, 1) := dk_42 (dk_at dksX5_who_1 3 rfl rfl)
theorem dX5_who_28 : decode cX5_who 28 = .ok (.invokevirtual 339, 3) := dk_182 1 83 (dk_at dksX5_who_1 4 rfl rfl)
theorem dX5_who_31 : decode cX5_who 31 = .ok (.istore 6, 2) := dk_54 6 (dk_at dksX5_who_1 7 rfl rfl)
theorem dX5_who_33 : decode cX5_who 33 = .ok (.iconst 0, 1) := dk_3 (dk_at dksX5_who_1 9 rfl rfl)
theorem dX5_who_34 : decode cX5_who 34 = .ok (.istore 7, 2) := dk_54 7 (dk_at dksX5_who_1 10 rfl rfl)
theorem dX5_who_36 : decode cX5_who 36 = .ok (.iload 7, 2) := dk_21 7 (dk_at dksX5_who_1 12 rfl rfl)
theorem dX5_who_38 : decode cX5_who 38 = .ok (.iload 6, 2) := dk_21 6 (dk_at dksX5_who_1 14 rfl rfl)
theorem dX5_who_40 : decode cX5_who 40 = .ok (.if_icmp .ge 91, 3) := dk_162 0 91 (dk_at dksX5_who_1 16 rfl rfl)
theorem dX5_who_43 : decode cX5_who 43 = .ok (.aload_n 0, 1) := dk_42 (dk_at dksX5_who_1 19 rfl rfl)
theorem dX5_who_44 : decode cX5_who 44 = .ok (.iload 7, 2) := dk_21 7 (dk_at dksX5_who_1 20 rfl rfl)
theorem dX5_who_46 : decode cX5_who 46 = .ok (.invokevirtual 342, 3) := dk_182 1 86 (dk_at dksX5_who_2 0 rfl rfl)
theorem dX5_who_49 : decode cX5_who 49 = .ok (.aload_n 0, 1) := dk_42 (dk_at dksX5_who_2 3 rfl rfl)
theorem dX5_who_50 : decode cX5_who 50 = .ok (.invokevirtual 317, 3) := dk_182 1 61 (dk_at dksX5_who_2 4 rfl rfl)
theorem dX5_who_53 : decode cX5_who 53 = .ok (.aload_n 0, 1) := dk_42 (dk_at dksX5_who_2 7 rfl rfl)
theorem dX5_who_54 : decode cX5_who 54 = .ok (.iload_n 1, 1) := dk_27 (dk_at dksX5_who_2 8 rfl rfl)
theorem dX5_who_55 : decode cX5_who 55 = .ok (.iconst (-1), 1) := dk_2 (dk_at dksX5_who_2 9 rfl rfl)
theorem dX5_who_56 : decode cX5_who 56 = .ok (.invokevirtual 386, 3) := dk_182 1 130 (dk_at dksX5_who_2 10 rfl rfl)
theorem dX5_who_59 : decode cX5_who 59 = .ok (.ifCond .ne 6, 3) := dk_154 0 6 (dk_at dksX5_who_2 13 rfl rfl)
theorem dX5_who_62 : decode cX5_who 62 = .ok (.goto 63, 3) := dk_167 0 63 (dk_at dksX5_who_2 16 rfl rfl)
theorem dX5_who_65 : decode cX5_who 65 = .ok (.aload_n 0, 1) := dk_42 (dk_at dksX5_who_2 19 rfl rfl)
theorem dX5_who_66 : decode cX5_who 66 = .ok (.getfield 9, 3) := dk_180 0 9 (dk_at dksX5_who_2 20 rfl rfl)
theorem dX5_who_69 : decode cX5_who 69 = .ok (.sipush 157, 3) := dk_17 0 157 (dk_at dksX5_who_3 0 rfl rfl)
theorem dX5_who_72 : decode cX5_who 72 = .ok (.iload_n 2, 1) := dk_28 (dk_at dksX5_who_3 3 rfl rfl)
theorem dX5_who_73 : decode cX5_who 73 = .ok (.iadd, 1) := dk_96 (dk_at dksX5_who_3 4 rfl rfl)
theorem dX5_who_74 : decode cX5_who 74 = .ok (.iaload, 1) := dk_46 (dk_at dksX5_who_3 5 rfl rfl)
theorem dX5_who_75 : decode cX5_who 75 = .ok (.iconst (-1), 1) := dk_2 (dk_at dksX5_who_3 6 rfl rfl)
theorem dX5_who_76 : decode cX5_who 76 = .ok (.if_icmp .ne 8, 3) := dk_160 0 8 (dk_at dksX5_who_3 7 rfl rfl)
theorem dX5_who_79 : decode cX5_who 79 = .ok (.bipush 9, 2) := dk_16 9 (dk_at dksX5_who_3 10 rfl rfl)
theorem dX5_who_81 : decode cX5_who 81 = .ok (.goto 13, 3) := dk_167 0 13 (dk_at dksX5_who_3 12 rfl rfl)
theorem dX5_who_84 : decode cX5_who 84 = .ok (.aload_n 0, 1) := dk_42 (dk_at dksX5_who_3 15 rfl rfl)
theorem dX5_who_85 : decode cX5_who 85 = .ok (.getfield 9, 3) := dk_180 0 9 (dk_at dksX5_who_3 16 rfl rfl)
theorem dX5_who_88 : decode cX5_who 88 = .ok (.sipush 157, 3) := dk_17 0 157 (dk_at dksX5_who_3 19 rfl rfl)
theorem dX5_who_91 : decode cX5_who 91 = .ok (.iload_n 2, 1) := dk_28 (dk_at dksX5_who_3 22 rfl rfl)
theorem dX5_who_92 : decode cX5_who 92 = .ok (.iadd, 1) := dk_96 (dk_at dksX5_who_3 23 rfl rfl)
theorem dX5_who_93 : decode cX5_who 93 = .ok (.iaload, 1) := dk_46 (dk_at dksX5_who_4 0 rfl rfl)
theorem dX5_who_94 : decode cX5_who 94 = .ok (.istore 8, 2) := dk_54 8 (dk_at dksX5_who_4 1 rfl rfl)
theorem dX5_who_96 : decode cX5_who 96 = .ok (.iload 5, 2) := dk_21 5 (dk_at dksX5_who_4 3 rfl rfl)
theorem dX5_who_98 : decode cX5_who 98 = .ok (.ifCond .eq 20, 3) := dk_153 0 20 (dk_at dksX5_who_4 5 rfl rfl)
theorem dX5_who_101 : decode cX5_who 101 = .ok (.iload 4, 2) := dk_21 4 (dk_at dksX5_who_4 8 rfl rfl)
theorem dX5_who_103 : decode cX5_who 103 = .ok (.iconst (-1), 1) := dk_2 (dk_at dksX5_who_4 10 rfl rfl)
theorem dX5_who_104 : decode cX5_who 104 = .ok (.if_icmp .eq 10, 3) := dk_159 0 10 (dk_at dksX5_who_4 11 rfl rfl)
theorem dX5_who_107 : decode cX5_who 107 = .ok (.iload 4, 2) := dk_21 4 (dk_at dksX5_who_4 14 rfl rfl)
theorem dX5_who_109 : decode cX5_who 109 = .ok (.iload 8, 2) := dk_21 8 (dk_at dksX5_who_4 16 rfl rfl)
theorem dX5_who_111 : decode cX5_who 111 = .ok (.if_icmp .ne 7, 3) := dk_160 0 7 (dk_at dksX5_who_4 18 rfl rfl)
theorem dX5_who_114 : decode cX5_who 114 = .ok (.iconst 1, 1) := dk_4 (dk_at dksX5_who_4 21 rfl rfl)
theorem dX5_who_115 : decode cX5_who 115 = .ok (.goto 4, 3) := dk_167 0 4 (dk_at dksX5_who_5 0 rfl rfl)
theorem dX5_who_118 : decode cX5_who 118 = .ok (.iconst 0, 1) := dk_3 (dk_at dksX5_who_5 3 rfl rfl)
theorem dX5_who_119 : decode cX5_who 119 = .ok (.istore 5, 2) := dk_54 5 (dk_at dksX5_who_5 4 rfl rfl)
theorem dX5_who_121 : decode cX5_who 121 = .ok (.iload 8, 2) := dk_21 8 (dk_at dksX5_who_5 6 rfl rfl)
theorem dX5_who_123 : decode cX5_who 123 = .ok (.istore 4, 2) := dk_54 4 (dk_at dksX5_who_5 8 rfl rfl)
theorem dX5_who_125 : decode cX5_who 125 = .ok (.iinc 7 1, 3) := dk_132 7 1 (dk_at dksX5_who_5 10 rfl rfl)
theorem dX5_who_128 : decode cX5_who 128 = .ok (.goto (-92), 3) := dk_167 255 164 (dk_at dksX5_who_5 13 rfl rfl)
theorem dX5_who_131 : decode cX5_who 131 = .ok (.aload_n 0, 1) := dk_42 (dk_at dksX5_who_5 16 rfl rfl)
theorem dX5_who_132 : decode cX5_who 132 = .ok (.invokevirtual 348, 3) := dk_182 1 92 (dk_at dksX5_who_5 17 rfl rfl)
theorem dX5_who_135 : decode cX5_who 135 = .ok (.iload 5, 2) := dk_21 5 (dk_at dksX5_who_5 20 rfl rfl)
theorem dX5_who_137 : decode cX5_who 137 = .ok (.ifCond .eq 8, 3) := dk_153 0 8 (dk_at dksX5_who_6 0 rfl rfl)
theorem dX5_who_140 : decode cX5_who 140 = .ok (.iload 4, 2) := dk_21 4 (dk_at dksX5_who_6 3 rfl rfl)
theorem dX5_who_142 : decode cX5_who 142 = .ok (.goto 4, 3) := dk_167 0 4 (dk_at dksX5_who_6 5 rfl rfl)
theorem dX5_who_145 : decode cX5_who 145 = .ok (.iconst (-1), 1) := dk_2 (dk_at dksX5_who_6 8 rfl rfl)
theorem dX5_who_146 : decode cX5_who 146 = .ok (.ireturn, 1) := dk_172 (dk_at dksX5_who_6 9 rfl rfl)
abbrev cX5_sure : ByteArray := prog_13_method_83_code
def yX5_sure : MethodName := ⟨RX5, "sure", "(III)I"⟩
def dkwX5_sure_6 : List UInt8 := [182, 1, 92, 21, 6, 153, 0, 8, 21, 5, 167, 0, 4, 2, 172]
abbrev dktX5_sure_6 : List UInt8 := dkwX5_sure_6 ++ []
def dkwX5_sure_5 : List UInt8 := [54, 6, 42, 180, 0, 37, 16, 30, 28, 104, 29, 96, 46, 54, 5, 132, 8, 1, 167, 255, 177, 42]
abbrev dktX5_sure_5 : List UInt8 := dkwX5_sure_5 ++ dktX5_sure_6
def dkwX5_sure_4 : List UInt8 := [159, 0, 19, 21, 5, 42, 180, 0, 37, 16, 30, 28, 104, 29, 96, 46, 160, 0, 7, 4, 167, 0, 4, 3]
abbrev dktX5_sure_4 : List UInt8 := dkwX5_sure_4 ++ dktX5_sure_5
def dkwX5_sure_3 : List UInt8 := [182, 1, 61, 42, 27, 2, 182, 1, 130, 154, 0, 6, 167, 0, 50, 21, 6, 153, 0, 29, 21, 5, 2]
abbrev dktX5_sure_3 : List UInt8 := dkwX5_sure_3 ++ dktX5_sure_4
def dkwX5_sure_2 : List UInt8 := [182, 1, 83, 54, 7, 3, 54, 8, 21, 8, 21, 7, 162, 0, 78, 42, 21, 8, 182, 1, 86, 42]
abbrev dktX5_sure_2 : List UInt8 := dkwX5_sure_2 ++ dktX5_sure_3
def dkwX5_sure_1 : List UInt8 := [182, 1, 134, 54, 4, 21, 4, 156, 0, 6, 21, 4, 172, 42, 182, 1, 77, 2, 54, 5, 4, 54, 6, 42]
abbrev dktX5_sure_1 : List UInt8 := dkwX5_sure_1 ++ dktX5_sure_2
def dkwX5_sure_0 : List UInt8 := [42, 27, 42, 28, 182, 0, 93, 153, 0, 15, 42, 29, 182, 1, 58, 153, 0, 7, 4, 167, 0, 4, 3]
abbrev dktX5_sure_0 : List UInt8 := dkwX5_sure_0 ++ dktX5_sure_1
theorem dksX5_sure_0 : cX5_sure.data.toList.drop 0 = dktX5_sure_0 := by decide +kernel
theorem dksX5_sure_1 : cX5_sure.data.toList.drop 23 = dktX5_sure_1 := dk_seg dksX5_sure_0 23 rfl rfl
theorem dksX5_sure_2 : cX5_sure.data.toList.drop 47 = dktX5_sure_2 := dk_seg dksX5_sure_1 24 rfl rfl
theorem dksX5_sure_3 : cX5_sure.data.toList.drop 69 = dktX5_sure_3 := dk_seg dksX5_sure_2 22 rfl rfl
theorem dksX5_sure_4 : cX5_sure.data.toList.drop 92 = dktX5_sure_4 := dk_seg dksX5_sure_3 23 rfl rfl
theorem dksX5_sure_5 : cX5_sure.data.toList.drop 116 = dktX5_sure_5 := dk_seg dksX5_sure_4 24 rfl rfl
theorem dksX5_sure_6 : cX5_sure.data.toList.drop 138 = dktX5_sure_6 := dk_seg dksX5_sure_5 22 rfl rfl
theorem dX5_sure_0 : decode cX5_sure 0 = .ok (.aload_n 0, 1) := dk_42 (dk_at dksX5_sure_0 0 rfl rfl)
theorem dX5_sure_1 : decode cX5_sure 1 = .ok (.iload_n 1, 1) := dk_27 (dk_at dksX5_sure_0 1 rfl rfl)
theorem dX5_sure_2 : decode cX5_sure 2 = .ok (.aload_n 0, 1) := dk_42 (dk_at dksX5_sure_0 2 rfl rfl)
theorem dX5_sure_3 : decode cX5_sure 3 = .ok (.iload_n 2, 1) := dk_28 (dk_at dksX5_sure_0 3 rfl rfl)
theorem dX5_sure_4 : decode cX5_sure 4 = .ok (.invokevirtual 93, 3) := dk_182 0 93 (dk_at dksX5_sure_0 4 rfl rfl)
theorem dX5_sure_7 : decode cX5_sure 7 = .ok (.ifCond .eq 15, 3) := dk_153 0 15 (dk_at dksX5_sure_0 7 rfl rfl)
theorem dX5_sure_10 : decode cX5_sure 10 = .ok (.aload_n 0, 1) := dk_42 (dk_at dksX5_sure_0 10 rfl rfl)
theorem dX5_sure_11 : decode cX5_sure 11 = .ok (.iload_n 3, 1) := dk_29 (dk_at dksX5_sure_0 11 rfl rfl)
theorem dX5_sure_12 : decode cX5_sure 12 = .ok (.invokevirtual 314, 3) := dk_182 1 58 (dk_at dksX5_sure_0 12 rfl rfl)
theorem dX5_sure_15 : decode cX5_sure 15 = .ok (.ifCond .eq 7, 3) := dk_153 0 7 (dk_at dksX5_sure_0 15 rfl rfl)
theorem dX5_sure_18 : decode cX5_sure 18 = .ok (.iconst 1, 1) := dk_4 (dk_at dksX5_sure_0 18 rfl rfl)
theorem dX5_sure_19 : decode cX5_sure 19 = .ok (.goto 4, 3) := dk_167 0 4 (dk_at dksX5_sure_0 19 rfl rfl)
theorem dX5_sure_22 : decode cX5_sure 22 = .ok (.iconst 0, 1) := dk_3 (dk_at dksX5_sure_0 22 rfl rfl)
theorem dX5_sure_23 : decode cX5_sure 23 = .ok (.invokevirtual 390, 3) := dk_182 1 134 (dk_at dksX5_sure_1 0 rfl rfl)
theorem dX5_sure_26 : decode cX5_sure 26 = .ok (.istore 4, 2) := dk_54 4 (dk_at dksX5_sure_1 3 rfl rfl)
theorem dX5_sure_28 : decode cX5_sure 28 = .ok (.iload 4, 2) := dk_21 4 (dk_at dksX5_sure_1 5 rfl rfl)
theorem dX5_sure_30 : decode cX5_sure 30 = .ok (.ifCond .ge 6, 3) := dk_156 0 6 (dk_at dksX5_sure_1 7 rfl rfl)
theorem dX5_sure_33 : decode cX5_sure 33 = .ok (.iload 4, 2) := dk_21 4 (dk_at dksX5_sure_1 10 rfl rfl)
theorem dX5_sure_35 : decode cX5_sure 35 = .ok (.ireturn, 1) := dk_172 (dk_at dksX5_sure_1 12 rfl rfl)
theorem dX5_sure_36 : decode cX5_sure 36 = .ok (.aload_n 0, 1) := dk_42 (dk_at dksX5_sure_1 13 rfl rfl)
theorem dX5_sure_37 : decode cX5_sure 37 = .ok (.invokevirtual 333, 3) := dk_182 1 77 (dk_at dksX5_sure_1 14 rfl rfl)
theorem dX5_sure_40 : decode cX5_sure 40 = .ok (.iconst (-1), 1) := dk_2 (dk_at dksX5_sure_1 17 rfl rfl)
theorem dX5_sure_41 : decode cX5_sure 41 = .ok (.istore 5, 2) := dk_54 5 (dk_at dksX5_sure_1 18 rfl rfl)
theorem dX5_sure_43 : decode cX5_sure 43 = .ok (.iconst 1, 1) := dk_4 (dk_at dksX5_sure_1 20 rfl rfl)
theorem dX5_sure_44 : decode cX5_sure 44 = .ok (.istore 6, 2) := dk_54 6 (dk_at dksX5_sure_1 21 rfl rfl)
theorem dX5_sure_46 : decode cX5_sure 46 = .ok (.aload_n 0, 1) := dk_42 (dk_at dksX5_sure_1 23 rfl rfl)
theorem dX5_sure_47 : decode cX5_sure 47 = .ok (.invokevirtual 339, 3) := dk_182 1 83 (dk_at dksX5_sure_2 0 rfl rfl)
theorem dX5_sure_50 : decode cX5_sure 50 = .ok (.istore 7, 2) := dk_54 7 (dk_at dksX5_sure_2 3 rfl rfl)
theorem dX5_sure_52 : decode cX5_sure 52 = .ok (.iconst 0, 1) := dk_3 (dk_at dksX5_sure_2 5 rfl rfl)
theorem dX5_sure_53 : decode cX5_sure 53 = .ok (.istore 8, 2) := dk_54 8 (dk_at dksX5_sure_2 6 rfl rfl)
theorem dX5_sure_55 : decode cX5_sure 55 = .ok (.iload 8, 2) := dk_21 8 (dk_at dksX5_sure_2 8 rfl rfl)
theorem dX5_sure_57 : decode cX5_sure 57 = .ok (.iload 7, 2) := dk_21 7 (dk_at dksX5_sure_2 10 rfl rfl)
theorem dX5_sure_59 : decode cX5_sure 59 = .ok (.if_icmp .ge 78, 3) := dk_162 0 78 (dk_at dksX5_sure_2 12 rfl rfl)
theorem dX5_sure_62 : decode cX5_sure 62 = .ok (.aload_n 0, 1) := dk_42 (dk_at dksX5_sure_2 15 rfl rfl)
theorem dX5_sure_63 : decode cX5_sure 63 = .ok (.iload 8, 2) := dk_21 8 (dk_at dksX5_sure_2 16 rfl rfl)
theorem dX5_sure_65 : decode cX5_sure 65 = .ok (.invokevirtual 342, 3) := dk_182 1 86 (dk_at dksX5_sure_2 18 rfl rfl)
theorem dX5_sure_68 : decode cX5_sure 68 = .ok (.aload_n 0, 1) := dk_42 (dk_at dksX5_sure_2 21 rfl rfl)
theorem dX5_sure_69 : decode cX5_sure 69 = .ok (.invokevirtual 317, 3) := dk_182 1 61 (dk_at dksX5_sure_3 0 rfl rfl)
theorem dX5_sure_72 : decode cX5_sure 72 = .ok (.aload_n 0, 1) := dk_42 (dk_at dksX5_sure_3 3 rfl rfl)
theorem dX5_sure_73 : decode cX5_sure 73 = .ok (.iload_n 1, 1) := dk_27 (dk_at dksX5_sure_3 4 rfl rfl)
theorem dX5_sure_74 : decode cX5_sure 74 = .ok (.iconst (-1), 1) := dk_2 (dk_at dksX5_sure_3 5 rfl rfl)
theorem dX5_sure_75 : decode cX5_sure 75 = .ok (.invokevirtual 386, 3) := dk_182 1 130 (dk_at dksX5_sure_3 6 rfl rfl)
theorem dX5_sure_78 : decode cX5_sure 78 = .ok (.ifCond .ne 6, 3) := dk_154 0 6 (dk_at dksX5_sure_3 9 rfl rfl)
theorem dX5_sure_81 : decode cX5_sure 81 = .ok (.goto 50, 3) := dk_167 0 50 (dk_at dksX5_sure_3 12 rfl rfl)
theorem dX5_sure_84 : decode cX5_sure 84 = .ok (.iload 6, 2) := dk_21 6 (dk_at dksX5_sure_3 15 rfl rfl)
theorem dX5_sure_86 : decode cX5_sure 86 = .ok (.ifCond .eq 29, 3) := dk_153 0 29 (dk_at dksX5_sure_3 17 rfl rfl)
theorem dX5_sure_89 : decode cX5_sure 89 = .ok (.iload 5, 2) := dk_21 5 (dk_at dksX5_sure_3 20 rfl rfl)
theorem dX5_sure_91 : decode cX5_sure 91 = .ok (.iconst (-1), 1) := dk_2 (dk_at dksX5_sure_3 22 rfl rfl)
theorem dX5_sure_92 : decode cX5_sure 92 = .ok (.if_icmp .eq 19, 3) := dk_159 0 19 (dk_at dksX5_sure_4 0 rfl rfl)
theorem dX5_sure_95 : decode cX5_sure 95 = .ok (.iload 5, 2) := dk_21 5 (dk_at dksX5_sure_4 3 rfl rfl)
theorem dX5_sure_97 : decode cX5_sure 97 = .ok (.aload_n 0, 1) := dk_42 (dk_at dksX5_sure_4 5 rfl rfl)
theorem dX5_sure_98 : decode cX5_sure 98 = .ok (.getfield 37, 3) := dk_180 0 37 (dk_at dksX5_sure_4 6 rfl rfl)
theorem dX5_sure_101 : decode cX5_sure 101 = .ok (.bipush 30, 2) := dk_16 30 (dk_at dksX5_sure_4 9 rfl rfl)
theorem dX5_sure_103 : decode cX5_sure 103 = .ok (.iload_n 2, 1) := dk_28 (dk_at dksX5_sure_4 11 rfl rfl)
theorem dX5_sure_104 : decode cX5_sure 104 = .ok (.imul, 1) := dk_104 (dk_at dksX5_sure_4 12 rfl rfl)
theorem dX5_sure_105 : decode cX5_sure 105 = .ok (.iload_n 3, 1) := dk_29 (dk_at dksX5_sure_4 13 rfl rfl)
theorem dX5_sure_106 : decode cX5_sure 106 = .ok (.iadd, 1) := dk_96 (dk_at dksX5_sure_4 14 rfl rfl)
theorem dX5_sure_107 : decode cX5_sure 107 = .ok (.iaload, 1) := dk_46 (dk_at dksX5_sure_4 15 rfl rfl)
theorem dX5_sure_108 : decode cX5_sure 108 = .ok (.if_icmp .ne 7, 3) := dk_160 0 7 (dk_at dksX5_sure_4 16 rfl rfl)
theorem dX5_sure_111 : decode cX5_sure 111 = .ok (.iconst 1, 1) := dk_4 (dk_at dksX5_sure_4 19 rfl rfl)
theorem dX5_sure_112 : decode cX5_sure 112 = .ok (.goto 4, 3) := dk_167 0 4 (dk_at dksX5_sure_4 20 rfl rfl)
theorem dX5_sure_115 : decode cX5_sure 115 = .ok (.iconst 0, 1) := dk_3 (dk_at dksX5_sure_4 23 rfl rfl)
theorem dX5_sure_116 : decode cX5_sure 116 = .ok (.istore 6, 2) := dk_54 6 (dk_at dksX5_sure_5 0 rfl rfl)
theorem dX5_sure_118 : decode cX5_sure 118 = .ok (.aload_n 0, 1) := dk_42 (dk_at dksX5_sure_5 2 rfl rfl)
theorem dX5_sure_119 : decode cX5_sure 119 = .ok (.getfield 37, 3) := dk_180 0 37 (dk_at dksX5_sure_5 3 rfl rfl)
theorem dX5_sure_122 : decode cX5_sure 122 = .ok (.bipush 30, 2) := dk_16 30 (dk_at dksX5_sure_5 6 rfl rfl)
theorem dX5_sure_124 : decode cX5_sure 124 = .ok (.iload_n 2, 1) := dk_28 (dk_at dksX5_sure_5 8 rfl rfl)
theorem dX5_sure_125 : decode cX5_sure 125 = .ok (.imul, 1) := dk_104 (dk_at dksX5_sure_5 9 rfl rfl)
theorem dX5_sure_126 : decode cX5_sure 126 = .ok (.iload_n 3, 1) := dk_29 (dk_at dksX5_sure_5 10 rfl rfl)
theorem dX5_sure_127 : decode cX5_sure 127 = .ok (.iadd, 1) := dk_96 (dk_at dksX5_sure_5 11 rfl rfl)
theorem dX5_sure_128 : decode cX5_sure 128 = .ok (.iaload, 1) := dk_46 (dk_at dksX5_sure_5 12 rfl rfl)
theorem dX5_sure_129 : decode cX5_sure 129 = .ok (.istore 5, 2) := dk_54 5 (dk_at dksX5_sure_5 13 rfl rfl)
theorem dX5_sure_131 : decode cX5_sure 131 = .ok (.iinc 8 1, 3) := dk_132 8 1 (dk_at dksX5_sure_5 15 rfl rfl)
theorem dX5_sure_134 : decode cX5_sure 134 = .ok (.goto (-79), 3) := dk_167 255 177 (dk_at dksX5_sure_5 18 rfl rfl)
theorem dX5_sure_137 : decode cX5_sure 137 = .ok (.aload_n 0, 1) := dk_42 (dk_at dksX5_sure_5 21 rfl rfl)
theorem dX5_sure_138 : decode cX5_sure 138 = .ok (.invokevirtual 348, 3) := dk_182 1 92 (dk_at dksX5_sure_6 0 rfl rfl)
theorem dX5_sure_141 : decode cX5_sure 141 = .ok (.iload 6, 2) := dk_21 6 (dk_at dksX5_sure_6 3 rfl rfl)
theorem dX5_sure_143 : decode cX5_sure 143 = .ok (.ifCond .eq 8, 3) := dk_153 0 8 (dk_at dksX5_sure_6 5 rfl rfl)
theorem dX5_sure_146 : decode cX5_sure 146 = .ok (.iload 5, 2) := dk_21 5 (dk_at dksX5_sure_6 8 rfl rfl)
theorem dX5_sure_148 : decode cX5_sure 148 = .ok (.goto 4, 3) := dk_167 0 4 (dk_at dksX5_sure_6 10 rfl rfl)
theorem dX5_sure_151 : decode cX5_sure 151 = .ok (.iconst (-1), 1) := dk_2 (dk_at dksX5_sure_6 13 rfl rfl)
theorem dX5_sure_152 : decode cX5_sure 152 = .ok (.ireturn, 1) := dk_172 (dk_at dksX5_sure_6 14 rfl rfl)
abbrev cX5_needed : ByteArray := prog_13_method_84_code
def yX5_needed : MethodName := ⟨RX5, "needed", "(I)I"⟩
def dkwX5_needed_2 : List UInt8 := [21, 4, 172, 132, 4, 1, 167, 255, 226, 2, 172]
abbrev dktX5_needed_2 : List UInt8 := dkwX5_needed_2 ++ []
def dkwX5_needed_1 : List UInt8 := [21, 4, 104, 42, 180, 0, 67, 27, 46, 162, 0, 23, 42, 27, 21, 4, 182, 1, 138, 29, 164, 0, 6]
abbrev dktX5_needed_1 : List UInt8 := dkwX5_needed_1 ++ dktX5_needed_2
def dkwX5_needed_0 : List UInt8 := [42, 27, 4, 182, 1, 134, 61, 28, 156, 0, 5, 28, 172, 42, 27, 2, 182, 1, 138, 62, 3, 54, 4, 6]
abbrev dktX5_needed_0 : List UInt8 := dkwX5_needed_0 ++ dktX5_needed_1
theorem dksX5_needed_0 : cX5_needed.data.toList.drop 0 = dktX5_needed_0 := by decide +kernel
theorem dksX5_needed_1 : cX5_needed.data.toList.drop 24 = dktX5_needed_1 := dk_seg dksX5_needed_0 24 rfl rfl
theorem dksX5_needed_2 : cX5_needed.data.toList.drop 47 = dktX5_needed_2 := dk_seg dksX5_needed_1 23 rfl rfl
theorem dX5_needed_0 : decode cX5_needed 0 = .ok (.aload_n 0, 1) := dk_42 (dk_at dksX5_needed_0 0 rfl rfl)
theorem dX5_needed_1 : decode cX5_needed 1 = .ok (.iload_n 1, 1) := dk_27 (dk_at dksX5_needed_0 1 rfl rfl)
theorem dX5_needed_2 : decode cX5_needed 2 = .ok (.iconst 1, 1) := dk_4 (dk_at dksX5_needed_0 2 rfl rfl)
theorem dX5_needed_3 : decode cX5_needed 3 = .ok (.invokevirtual 390, 3) := dk_182 1 134 (dk_at dksX5_needed_0 3 rfl rfl)
theorem dX5_needed_6 : decode cX5_needed 6 = .ok (.istore_n 2, 1) := dk_61 (dk_at dksX5_needed_0 6 rfl rfl)
theorem dX5_needed_7 : decode cX5_needed 7 = .ok (.iload_n 2, 1) := dk_28 (dk_at dksX5_needed_0 7 rfl rfl)
theorem dX5_needed_8 : decode cX5_needed 8 = .ok (.ifCond .ge 5, 3) := dk_156 0 5 (dk_at dksX5_needed_0 8 rfl rfl)
theorem dX5_needed_11 : decode cX5_needed 11 = .ok (.iload_n 2, 1) := dk_28 (dk_at dksX5_needed_0 11 rfl rfl)
theorem dX5_needed_12 : decode cX5_needed 12 = .ok (.ireturn, 1) := dk_172 (dk_at dksX5_needed_0 12 rfl rfl)
theorem dX5_needed_13 : decode cX5_needed 13 = .ok (.aload_n 0, 1) := dk_42 (dk_at dksX5_needed_0 13 rfl rfl)
theorem dX5_needed_14 : decode cX5_needed 14 = .ok (.iload_n 1, 1) := dk_27 (dk_at dksX5_needed_0 14 rfl rfl)
theorem dX5_needed_15 : decode cX5_needed 15 = .ok (.iconst (-1), 1) := dk_2 (dk_at dksX5_needed_0 15 rfl rfl)
theorem dX5_needed_16 : decode cX5_needed 16 = .ok (.invokevirtual 394, 3) := dk_182 1 138 (dk_at dksX5_needed_0 16 rfl rfl)
theorem dX5_needed_19 : decode cX5_needed 19 = .ok (.istore_n 3, 1) := dk_62 (dk_at dksX5_needed_0 19 rfl rfl)
theorem dX5_needed_20 : decode cX5_needed 20 = .ok (.iconst 0, 1) := dk_3 (dk_at dksX5_needed_0 20 rfl rfl)
theorem dX5_needed_21 : decode cX5_needed 21 = .ok (.istore 4, 2) := dk_54 4 (dk_at dksX5_needed_0 21 rfl rfl)
theorem dX5_needed_23 : decode cX5_needed 23 = .ok (.iconst 3, 1) := dk_6 (dk_at dksX5_needed_0 23 rfl rfl)
theorem dX5_needed_24 : decode cX5_needed 24 = .ok (.iload 4, 2) := dk_21 4 (dk_at dksX5_needed_1 0 rfl rfl)
theorem dX5_needed_26 : decode cX5_needed 26 = .ok (.imul, 1) := dk_104 (dk_at dksX5_needed_1 2 rfl rfl)
theorem dX5_needed_27 : decode cX5_needed 27 = .ok (.aload_n 0, 1) := dk_42 (dk_at dksX5_needed_1 3 rfl rfl)
theorem dX5_needed_28 : decode cX5_needed 28 = .ok (.getfield 67, 3) := dk_180 0 67 (dk_at dksX5_needed_1 4 rfl rfl)
theorem dX5_needed_31 : decode cX5_needed 31 = .ok (.iload_n 1, 1) := dk_27 (dk_at dksX5_needed_1 7 rfl rfl)
theorem dX5_needed_32 : decode cX5_needed 32 = .ok (.iaload, 1) := dk_46 (dk_at dksX5_needed_1 8 rfl rfl)
theorem dX5_needed_33 : decode cX5_needed 33 = .ok (.if_icmp .ge 23, 3) := dk_162 0 23 (dk_at dksX5_needed_1 9 rfl rfl)
theorem dX5_needed_36 : decode cX5_needed 36 = .ok (.aload_n 0, 1) := dk_42 (dk_at dksX5_needed_1 12 rfl rfl)
theorem dX5_needed_37 : decode cX5_needed 37 = .ok (.iload_n 1, 1) := dk_27 (dk_at dksX5_needed_1 13 rfl rfl)
theorem dX5_needed_38 : decode cX5_needed 38 = .ok (.iload 4, 2) := dk_21 4 (dk_at dksX5_needed_1 14 rfl rfl)
theorem dX5_needed_40 : decode cX5_needed 40 = .ok (.invokevirtual 394, 3) := dk_182 1 138 (dk_at dksX5_needed_1 16 rfl rfl)
theorem dX5_needed_43 : decode cX5_needed 43 = .ok (.iload_n 3, 1) := dk_29 (dk_at dksX5_needed_1 19 rfl rfl)
theorem dX5_needed_44 : decode cX5_needed 44 = .ok (.if_icmp .le 6, 3) := dk_164 0 6 (dk_at dksX5_needed_1 20 rfl rfl)
theorem dX5_needed_47 : decode cX5_needed 47 = .ok (.iload 4, 2) := dk_21 4 (dk_at dksX5_needed_2 0 rfl rfl)
theorem dX5_needed_49 : decode cX5_needed 49 = .ok (.ireturn, 1) := dk_172 (dk_at dksX5_needed_2 2 rfl rfl)
theorem dX5_needed_50 : decode cX5_needed 50 = .ok (.iinc 4 1, 3) := dk_132 4 1 (dk_at dksX5_needed_2 3 rfl rfl)
theorem dX5_needed_53 : decode cX5_needed 53 = .ok (.goto (-30), 3) := dk_167 255 226 (dk_at dksX5_needed_2 6 rfl rfl)
theorem dX5_needed_56 : decode cX5_needed 56 = .ok (.iconst (-1), 1) := dk_2 (dk_at dksX5_needed_2 9 rfl rfl)
theorem dX5_needed_57 : decode cX5_needed 57 = .ok (.ireturn, 1) := dk_172 (dk_at dksX5_needed_2 10 rfl rfl)
abbrev cX5_fair : ByteArray := prog_13_method_86_code
def yX5_fair : MethodName := ⟨RX5, "fair", "(I)I"⟩
def dkwX5_fair_4 : List UInt8 := [180, 0, 9, 16, 6, 28, 79, 29, 172]
abbrev dktX5_fair_4 : List UInt8 := dkwX5_fair_4 ++ []
def dkwX5_fair_3 : List UInt8 := [21, 5, 42, 27, 182, 1, 141, 161, 0, 8, 21, 4, 167, 0, 4, 2, 62, 132, 4, 1, 167, 255, 190, 42]
abbrev dktX5_fair_3 : List UInt8 := dkwX5_fair_3 ++ dktX5_fair_4
def dkwX5_fair_2 : List UInt8 := [182, 1, 61, 42, 27, 182, 1, 141, 54, 5, 42, 27, 181, 0, 49, 42, 182, 1, 61, 42, 2, 181, 0, 49]
abbrev dktX5_fair_2 : List UInt8 := dkwX5_fair_2 ++ dktX5_fair_3
def dkwX5_fair_1 : List UInt8 := [21, 4, 16, 100, 163, 0, 65, 29, 2, 160, 0, 60, 42, 180, 0, 9, 16, 6, 21, 4, 79, 42]
abbrev dktX5_fair_1 : List UInt8 := dkwX5_fair_1 ++ dktX5_fair_2
def dkwX5_fair_0 : List UInt8 := [42, 27, 182, 0, 93, 154, 0, 6, 16, 254, 172, 42, 180, 0, 9, 16, 6, 46, 61, 2, 62, 3, 54, 4]
abbrev dktX5_fair_0 : List UInt8 := dkwX5_fair_0 ++ dktX5_fair_1
theorem dksX5_fair_0 : cX5_fair.data.toList.drop 0 = dktX5_fair_0 := by decide +kernel
theorem dksX5_fair_1 : cX5_fair.data.toList.drop 24 = dktX5_fair_1 := dk_seg dksX5_fair_0 24 rfl rfl
theorem dksX5_fair_2 : cX5_fair.data.toList.drop 46 = dktX5_fair_2 := dk_seg dksX5_fair_1 22 rfl rfl
theorem dksX5_fair_3 : cX5_fair.data.toList.drop 70 = dktX5_fair_3 := dk_seg dksX5_fair_2 24 rfl rfl
theorem dksX5_fair_4 : cX5_fair.data.toList.drop 94 = dktX5_fair_4 := dk_seg dksX5_fair_3 24 rfl rfl
theorem dX5_fair_0 : decode cX5_fair 0 = .ok (.aload_n 0, 1) := dk_42 (dk_at dksX5_fair_0 0 rfl rfl)
theorem dX5_fair_1 : decode cX5_fair 1 = .ok (.iload_n 1, 1) := dk_27 (dk_at dksX5_fair_0 1 rfl rfl)
theorem dX5_fair_2 : decode cX5_fair 2 = .ok (.invokevirtual 93, 3) := dk_182 0 93 (dk_at dksX5_fair_0 2 rfl rfl)
theorem dX5_fair_5 : decode cX5_fair 5 = .ok (.ifCond .ne 6, 3) := dk_154 0 6 (dk_at dksX5_fair_0 5 rfl rfl)
theorem dX5_fair_8 : decode cX5_fair 8 = .ok (.bipush (-2), 2) := dk_16 254 (dk_at dksX5_fair_0 8 rfl rfl)
theorem dX5_fair_10 : decode cX5_fair 10 = .ok (.ireturn, 1) := dk_172 (dk_at dksX5_fair_0 10 rfl rfl)
theorem dX5_fair_11 : decode cX5_fair 11 = .ok (.aload_n 0, 1) := dk_42 (dk_at dksX5_fair_0 11 rfl rfl)
theorem dX5_fair_12 : decode cX5_fair 12 = .ok (.getfield 9, 3) := dk_180 0 9 (dk_at dksX5_fair_0 12 rfl rfl)
theorem dX5_fair_15 : decode cX5_fair 15 = .ok (.bipush 6, 2) := dk_16 6 (dk_at dksX5_fair_0 15 rfl rfl)
theorem dX5_fair_17 : decode cX5_fair 17 = .ok (.iaload, 1) := dk_46 (dk_at dksX5_fair_0 17 rfl rfl)
theorem dX5_fair_18 : decode cX5_fair 18 = .ok (.istore_n 2, 1) := dk_61 (dk_at dksX5_fair_0 18 rfl rfl)
theorem dX5_fair_19 : decode cX5_fair 19 = .ok (.iconst (-1), 1) := dk_2 (dk_at dksX5_fair_0 19 rfl rfl)
theorem dX5_fair_20 : decode cX5_fair 20 = .ok (.istore_n 3, 1) := dk_62 (dk_at dksX5_fair_0 20 rfl rfl)
theorem dX5_fair_21 : decode cX5_fair 21 = .ok (.iconst 0, 1) := dk_3 (dk_at dksX5_fair_0 21 rfl rfl)
theorem dX5_fair_22 : decode cX5_fair 22 = .ok (.istore 4, 2) := dk_54 4 (dk_at dksX5_fair_0 22 rfl rfl)
theorem dX5_fair_24 : decode cX5_fair 24 = .ok (.iload 4, 2) := dk_21 4 (dk_at dksX5_fair_1 0 rfl rfl)
theorem dX5_fair_26 : decode cX5_fair 26 = .ok (.bipush 100, 2) := dk_16 100 (dk_at dksX5_fair_1 2 rfl rfl)
theorem dX5_fair_28 : decode cX5_fair 28 = .ok (.if_icmp .gt 65, 3) := dk_163 0 65 (dk_at dksX5_fair_1 4 rfl rfl)
theorem dX5_fair_31 : decode cX5_fair 31 = .ok (.iload_n 3, 1) := dk_29 (dk_at dksX5_fair_1 7 rfl rfl)
theorem dX5_fair_32 : decode cX5_fair 32 = .ok (.iconst (-1), 1) := dk_2 (dk_at dksX5_fair_1 8 rfl rfl)
theorem dX5_fair_33 : decode cX5_fair 33 = .ok (.if_icmp .ne 60, 3) := dk_160 0 60 (dk_at dksX5_fair_1 9 rfl rfl)
theorem dX5_fair_36 : decode cX5_fair 36 = .ok (.aload_n 0, 1) := dk_42 (dk_at dksX5_fair_1 12 rfl rfl)
theorem dX5_fair_37 : decode cX5_fair 37 = .ok (.getfield 9, 3) := dk_180 0 9 (dk_at dksX5_fair_1 13 rfl rfl)
theorem dX5_fair_40 : decode cX5_fair 40 = .ok (.bipush 6, 2) := dk_16 6 (dk_at dksX5_fair_1 16 rfl rfl)
theorem dX5_fair_42 : decode cX5_fair 42 = .ok (.iload 4, 2) := dk_21 4 (dk_at dksX5_fair_1 18 rfl rfl)
theorem dX5_fair_44 : decode cX5_fair 44 = .ok (.iastore, 1) := dk_79 (dk_at dksX5_fair_1 20 rfl rfl)
theorem dX5_fair_45 : decode cX5_fair 45 = .ok (.aload_n 0, 1) := dk_42 (dk_at dksX5_fair_1 21 rfl rfl)
theorem dX5_fair_46 : decode cX5_fair 46 = .ok (.invokevirtual 317, 3) := dk_182 1 61 (dk_at dksX5_fair_2 0 rfl rfl)
theorem dX5_fair_49 : decode cX5_fair 49 = .ok (.aload_n 0, 1) := dk_42 (dk_at dksX5_fair_2 3 rfl rfl)
theorem dX5_fair_50 : decode cX5_fair 50 = .ok (.iload_n 1, 1) := dk_27 (dk_at dksX5_fair_2 4 rfl rfl)
theorem dX5_fair_51 : decode cX5_fair 51 = .ok (.invokevirtual 397, 3) := dk_182 1 141 (dk_at dksX5_fair_2 5 rfl rfl)
theorem dX5_fair_54 : decode cX5_fair 54 = .ok (.istore 5, 2) := dk_54 5 (dk_at dksX5_fair_2 8 rfl rfl)
theorem dX5_fair_56 : decode cX5_fair 56 = .ok (.aload_n 0, 1) := dk_42 (dk_at dksX5_fair_2 10 rfl rfl)
theorem dX5_fair_57 : decode cX5_fair 57 = .ok (.iload_n 1, 1) := dk_27 (dk_at dksX5_fair_2 11 rfl rfl)
theorem dX5_fair_58 : decode cX5_fair 58 = .ok (.putfield 49, 3) := dk_181 0 49 (dk_at dksX5_fair_2 12 rfl rfl)
theorem dX5_fair_61 : decode cX5_fair 61 = .ok (.aload_n 0, 1) := dk_42 (dk_at dksX5_fair_2 15 rfl rfl)
theorem dX5_fair_62 : decode cX5_fair 62 = .ok (.invokevirtual 317, 3) := dk_182 1 61 (dk_at dksX5_fair_2 16 rfl rfl)
theorem dX5_fair_65 : decode cX5_fair 65 = .ok (.aload_n 0, 1) := dk_42 (dk_at dksX5_fair_2 19 rfl rfl)
theorem dX5_fair_66 : decode cX5_fair 66 = .ok (.iconst (-1), 1) := dk_2 (dk_at dksX5_fair_2 20 rfl rfl)
theorem dX5_fair_67 : decode cX5_fair 67 = .ok (.putfield 49, 3) := dk_181 0 49 (dk_at dksX5_fair_2 21 rfl rfl)
theorem dX5_fair_70 : decode cX5_fair 70 = .ok (.iload 5, 2) := dk_21 5 (dk_at dksX5_fair_3 0 rfl rfl)
theorem dX5_fair_72 : decode cX5_fair 72 = .ok (.aload_n 0, 1) := dk_42 (dk_at dksX5_fair_3 2 rfl rfl)
theorem dX5_fair_73 : decode cX5_fair 73 = .ok (.iload_n 1, 1) := dk_27 (dk_at dksX5_fair_3 3 rfl rfl)
theorem dX5_fair_74 : decode cX5_fair 74 = .ok (.invokevirtual 397, 3) := dk_182 1 141 (dk_at dksX5_fair_3 4 rfl rfl)
theorem dX5_fair_77 : decode cX5_fair 77 = .ok (.if_icmp .lt 8, 3) := dk_161 0 8 (dk_at dksX5_fair_3 7 rfl rfl)
theorem dX5_fair_80 : decode cX5_fair 80 = .ok (.iload 4, 2) := dk_21 4 (dk_at dksX5_fair_3 10 rfl rfl)
theorem dX5_fair_82 : decode cX5_fair 82 = .ok (.goto 4, 3) := dk_167 0 4 (dk_at dksX5_fair_3 12 rfl rfl)
theorem dX5_fair_85 : decode cX5_fair 85 = .ok (.iconst (-1), 1) := dk_2 (dk_at dksX5_fair_3 15 rfl rfl)
theorem dX5_fair_86 : decode cX5_fair 86 = .ok (.istore_n 3, 1) := dk_62 (dk_at dksX5_fair_3 16 rfl rfl)
theorem dX5_fair_87 : decode cX5_fair 87 = .ok (.iinc 4 1, 3) := dk_132 4 1 (dk_at dksX5_fair_3 17 rfl rfl)
theorem dX5_fair_90 : decode cX5_fair 90 = .ok (.goto (-66), 3) := dk_167 255 190 (dk_at dksX5_fair_3 20 rfl rfl)
theorem dX5_fair_93 : decode cX5_fair 93 = .ok (.aload_n 0, 1) := dk_42 (dk_at dksX5_fair_3 23 rfl rfl)
theorem dX5_fair_94 : decode cX5_fair 94 = .ok (.getfield 9, 3) := dk_180 0 9 (dk_at dksX5_fair_4 0 rfl rfl)
theorem dX5_fair_97 : decode cX5_fair 97 = .ok (.bipush 6, 2) := dk_16 6 (dk_at dksX5_fair_4 3 rfl rfl)
theorem dX5_fair_99 : decode cX5_fair 99 = .ok (.iload_n 2, 1) := dk_28 (dk_at dksX5_fair_4 5 rfl rfl)
theorem dX5_fair_100 : decode cX5_fair 100 = .ok (.iastore, 1) := dk_79 (dk_at dksX5_fair_4 6 rfl rfl)
theorem dX5_fair_101 : decode cX5_fair 101 = .ok (.iload_n 3, 1) := dk_29 (dk_at dksX5_fair_4 7 rfl rfl)
theorem dX5_fair_102 : decode cX5_fair 102 = .ok (.ireturn, 1) := dk_172 (dk_at dksX5_fair_4 8 rfl rfl)
abbrev cX5_haveOf : ByteArray := prog_13_method_85_code
def yX5_haveOf : MethodName := ⟨RX5, "haveOf", "(I)I"⟩
def dkwX5_haveOf_2 : List UInt8 := [132, 3, 1, 167, 255, 216, 28, 172]
abbrev dktX5_haveOf_2 : List UInt8 := dkwX5_haveOf_2 ++ []
def dkwX5_haveOf_1 : List UInt8 := [182, 1, 11, 27, 160, 0, 16, 42, 180, 0, 46, 6, 29, 104, 3, 96, 46, 167, 0, 4, 3, 96, 61]
abbrev dktX5_haveOf_1 : List UInt8 := dkwX5_haveOf_1 ++ dktX5_haveOf_2
def dkwX5_haveOf_0 : List UInt8 := [42, 180, 0, 34, 27, 46, 61, 3, 62, 29, 42, 180, 0, 9, 4, 46, 162, 0, 36, 28, 42, 29, 3]
abbrev dktX5_haveOf_0 : List UInt8 := dkwX5_haveOf_0 ++ dktX5_haveOf_1
theorem dksX5_haveOf_0 : cX5_haveOf.data.toList.drop 0 = dktX5_haveOf_0 := by decide +kernel
theorem dksX5_haveOf_1 : cX5_haveOf.data.toList.drop 23 = dktX5_haveOf_1 := dk_seg dksX5_haveOf_0 23 rfl rfl
theorem dksX5_haveOf_2 : cX5_haveOf.data.toList.drop 46 = dktX5_haveOf_2 := dk_seg dksX5_haveOf_1 23 rfl rfl
theorem dX5_haveOf_0 : decode cX5_haveOf 0 = .ok (.aload_n 0, 1) := dk_42 (dk_at dksX5_haveOf_0 0 rfl rfl)
theorem dX5_haveOf_1 : decode cX5_haveOf 1 = .ok (.getfield 34, 3) := dk_180 0 34 (dk_at dksX5_haveOf_0 1 rfl rfl)
theorem dX5_haveOf_4 : decode cX5_haveOf 4 = .ok (.iload_n 1, 1) := dk_27 (dk_at dksX5_haveOf_0 4 rfl rfl)
theorem dX5_haveOf_5 : decode cX5_haveOf 5 = .ok (.iaload, 1) := dk_46 (dk_at dksX5_haveOf_0 5 rfl rfl)
theorem dX5_haveOf_6 : decode cX5_haveOf 6 = .ok (.istore_n 2, 1) := dk_61 (dk_at dksX5_haveOf_0 6 rfl rfl)
theorem dX5_haveOf_7 : decode cX5_haveOf 7 = .ok (.iconst 0, 1) := dk_3 (dk_at dksX5_haveOf_0 7 rfl rfl)
theorem dX5_haveOf_8 : decode cX5_haveOf 8 = .ok (.istore_n 3, 1) := dk_62 (dk_at dksX5_haveOf_0 8 rfl rfl)
theorem dX5_haveOf_9 : decode cX5_haveOf 9 = .ok (.iload_n 3, 1) := dk_29 (dk_at dksX5_haveOf_0 9 rfl rfl)
theorem dX5_haveOf_10 : decode cX5_haveOf 10 = .ok (.aload_n 0, 1) := dk_42 (dk_at dksX5_haveOf_0 10 rfl rfl)
theorem dX5_haveOf_11 : decode cX5_haveOf 11 = .ok (.getfield 9, 3) := dk_180 0 9 (dk_at dksX5_haveOf_0 11 rfl rfl)
theorem dX5_haveOf_14 : decode cX5_haveOf 14 = .ok (.iconst 1, 1) := dk_4 (dk_at dksX5_haveOf_0 14 rfl rfl)
theorem dX5_haveOf_15 : decode cX5_haveOf 15 = .ok (.iaload, 1) := dk_46 (dk_at dksX5_haveOf_0 15 rfl rfl)
theorem dX5_haveOf_16 : decode cX5_haveOf 16 = .ok (.if_icmp .ge 36, 3) := dk_162 0 36 (dk_at dksX5_haveOf_0 16 rfl rfl)
theorem dX5_haveOf_19 : decode cX5_haveOf 19 = .ok (.iload_n 2, 1) := dk_28 (dk_at dksX5_haveOf_0 19 rfl rfl)
theorem dX5_haveOf_20 : decode cX5_haveOf 20 = .ok (.aload_n 0, 1) := dk_42 (dk_at dksX5_haveOf_0 20 rfl rfl)
theorem dX5_haveOf_21 : decode cX5_haveOf 21 = .ok (.iload_n 3, 1) := dk_29 (dk_at dksX5_haveOf_0 21 rfl rfl)
theorem dX5_haveOf_22 : decode cX5_haveOf 22 = .ok (.iconst 0, 1) := dk_3 (dk_at dksX5_haveOf_0 22 rfl rfl)
theorem dX5_haveOf_23 : decode cX5_haveOf 23 = .ok (.invokevirtual 267, 3) := dk_182 1 11 (dk_at dksX5_haveOf_1 0 rfl rfl)
theorem dX5_haveOf_26 : decode cX5_haveOf 26 = .ok (.iload_n 1, 1) := dk_27 (dk_at dksX5_haveOf_1 3 rfl rfl)
theorem dX5_haveOf_27 : decode cX5_haveOf 27 = .ok (.if_icmp .ne 16, 3) := dk_160 0 16 (dk_at dksX5_haveOf_1 4 rfl rfl)
theorem dX5_haveOf_30 : decode cX5_haveOf 30 = .ok (.aload_n 0, 1) := dk_42 (dk_at dksX5_haveOf_1 7 rfl rfl)
theorem dX5_haveOf_31 : decode cX5_haveOf 31 = .ok (.getfield 46, 3) := dk_180 0 46 (dk_at dksX5_haveOf_1 8 rfl rfl)
theorem dX5_haveOf_34 : decode cX5_haveOf 34 = .ok (.iconst 3, 1) := dk_6 (dk_at dksX5_haveOf_1 11 rfl rfl)
theorem dX5_haveOf_35 : decode cX5_haveOf 35 = .ok (.iload_n 3, 1) := dk_29 (dk_at dksX5_haveOf_1 12 rfl rfl)
theorem dX5_haveOf_36 : decode cX5_haveOf 36 = .ok (.imul, 1) := dk_104 (dk_at dksX5_haveOf_1 13 rfl rfl)
theorem dX5_haveOf_37 : decode cX5_haveOf 37 = .ok (.iconst 0, 1) := dk_3 (dk_at dksX5_haveOf_1 14 rfl rfl)
theorem dX5_haveOf_38 : decode cX5_haveOf 38 = .ok (.iadd, 1) := dk_96 (dk_at dksX5_haveOf_1 15 rfl rfl)
theorem dX5_haveOf_39 : decode cX5_haveOf 39 = .ok (.iaload, 1) := dk_46 (dk_at dksX5_haveOf_1 16 rfl rfl)
theorem dX5_haveOf_40 : decode cX5_haveOf 40 = .ok (.goto 4, 3) := dk_167 0 4 (dk_at dksX5_haveOf_1 17 rfl rfl)
theorem dX5_haveOf_43 : decode cX5_haveOf 43 = .ok (.iconst 0, 1) := dk_3 (dk_at dksX5_haveOf_1 20 rfl rfl)
theorem dX5_haveOf_44 : decode cX5_haveOf 44 = .ok (.iadd, 1) := dk_96 (dk_at dksX5_haveOf_1 21 rfl rfl)
theorem dX5_haveOf_45 : decode cX5_haveOf 45 = .ok (.istore_n 2, 1) := dk_61 (dk_at dksX5_haveOf_1 22 rfl rfl)
theorem dX5_haveOf_46 : decode cX5_haveOf 46 = .ok (.iinc 3 1, 3) := dk_132 3 1 (dk_at dksX5_haveOf_2 0 rfl rfl)
theorem dX5_haveOf_49 : decode cX5_haveOf 49 = .ok (.goto (-40), 3) := dk_167 255 216 (dk_at dksX5_haveOf_2 3 rfl rfl)
theorem dX5_haveOf_52 : decode cX5_haveOf 52 = .ok (.iload_n 2, 1) := dk_28 (dk_at dksX5_haveOf_2 6 rfl rfl)
theorem dX5_haveOf_53 : decode cX5_haveOf 53 = .ok (.ireturn, 1) := dk_172 (dk_at dksX5_haveOf_2 7 rfl rfl)
abbrev cX5_more : ByteArray := prog_13_method_87_code
def yX5_more : MethodName := ⟨RX5, "more", "(I)I"⟩
def dkwX5_more_1 : List UInt8 := [180, 0, 9, 16, 6, 46, 61, 42, 180, 0, 9, 16, 6, 27, 79, 28, 172]
abbrev dktX5_more_1 : List UInt8 := dkwX5_more_1 ++ []
def dkwX5_more_0 : List UInt8 := [42, 182, 1, 66, 153, 0, 15, 27, 133, 9, 20, 1, 101, 184, 0, 85, 154, 0, 6, 16, 254, 172, 42]
abbrev dktX5_more_0 : List UInt8 := dkwX5_more_0 ++ dktX5_more_1
theorem dksX5_more_0 : cX5_more.data.toList.drop 0 = dktX5_more_0 := by decide +kernel
theorem dksX5_more_1 : cX5_more.data.toList.drop 23 = dktX5_more_1 := dk_seg dksX5_more_0 23 rfl rfl
theorem dX5_more_0 : decode cX5_more 0 = .ok (.aload_n 0, 1) := dk_42 (dk_at dksX5_more_0 0 rfl rfl)
theorem dX5_more_1 : decode cX5_more 1 = .ok (.invokevirtual 322, 3) := dk_182 1 66 (dk_at dksX5_more_0 1 rfl rfl)
theorem dX5_more_4 : decode cX5_more 4 = .ok (.ifCond .eq 15, 3) := dk_153 0 15 (dk_at dksX5_more_0 4 rfl rfl)
theorem dX5_more_7 : decode cX5_more 7 = .ok (.iload_n 1, 1) := dk_27 (dk_at dksX5_more_0 7 rfl rfl)
theorem dX5_more_8 : decode cX5_more 8 = .ok (.i2l, 1) := dk_133 (dk_at dksX5_more_0 8 rfl rfl)
theorem dX5_more_9 : decode cX5_more 9 = .ok (.lconst 0, 1) := dk_9 (dk_at dksX5_more_0 9 rfl rfl)
theorem dX5_more_10 : decode cX5_more 10 = .ok (.ldc2_w 357, 3) := dk_20 1 101 (dk_at dksX5_more_0 10 rfl rfl)
theorem dX5_more_13 : decode cX5_more 13 = .ok (.invokestatic 85, 3) := dk_184 0 85 (dk_at dksX5_more_0 13 rfl rfl)
theorem dX5_more_16 : decode cX5_more 16 = .ok (.ifCond .ne 6, 3) := dk_154 0 6 (dk_at dksX5_more_0 16 rfl rfl)
theorem dX5_more_19 : decode cX5_more 19 = .ok (.bipush (-2), 2) := dk_16 254 (dk_at dksX5_more_0 19 rfl rfl)
theorem dX5_more_21 : decode cX5_more 21 = .ok (.ireturn, 1) := dk_172 (dk_at dksX5_more_0 21 rfl rfl)
theorem dX5_more_22 : decode cX5_more 22 = .ok (.aload_n 0, 1) := dk_42 (dk_at dksX5_more_0 22 rfl rfl)
theorem dX5_more_23 : decode cX5_more 23 = .ok (.getfield 9, 3) := dk_180 0 9 (dk_at dksX5_more_1 0 rfl rfl)
theorem dX5_more_26 : decode cX5_more 26 = .ok (.bipush 6, 2) := dk_16 6 (dk_at dksX5_more_1 3 rfl rfl)
theorem dX5_more_28 : decode cX5_more 28 = .ok (.iaload, 1) := dk_46 (dk_at dksX5_more_1 5 rfl rfl)
theorem dX5_more_29 : decode cX5_more 29 = .ok (.istore_n 2, 1) := dk_61 (dk_at dksX5_more_1 6 rfl rfl)
theorem dX5_more_30 : decode cX5_more 30 = .ok (.aload_n 0, 1) := dk_42 (dk_at dksX5_more_1 7 rfl rfl)
theorem dX5_more_31 : decode cX5_more 31 = .ok (.getfield 9, 3) := dk_180 0 9 (dk_at dksX5_more_1 8 rfl rfl)
theorem dX5_more_34 : decode cX5_more 34 = .ok (.bipush 6, 2) := dk_16 6 (dk_at dksX5_more_1 11 rfl rfl)
theorem dX5_more_36 : decode cX5_more 36 = .ok (.iload_n 1, 1) := dk_27 (dk_at dksX5_more_1 13 rfl rfl)
theorem dX5_more_37 : decode cX5_more 37 = .ok (.iastore, 1) := dk_79 (dk_at dksX5_more_1 14 rfl rfl)
theorem dX5_more_38 : decode cX5_more 38 = .ok (.iload_n 2, 1) := dk_28 (dk_at dksX5_more_1 15 rfl rfl)
theorem dX5_more_39 : decode cX5_more 39 = .ok (.ireturn, 1) := dk_172 (dk_at dksX5_more_1 16 rfl rfl)
abbrev cX5_owes : ByteArray := prog_13_method_94_code
def yX5_owes : MethodName := ⟨RX5, "owes", "(II)I"⟩
def dkwX5_owes_0 : List UInt8 := [42, 27, 28, 182, 1, 165, 154, 0, 6, 16, 254, 172, 42, 182, 1, 153, 42, 27, 28, 182, 1, 144, 172]
abbrev dktX5_owes_0 : List UInt8 := dkwX5_owes_0 ++ []
theorem dksX5_owes_0 : cX5_owes.data.toList.drop 0 = dktX5_owes_0 := by decide +kernel
theorem dX5_owes_0 : decode cX5_owes 0 = .ok (.aload_n 0, 1) := dk_42 (dk_at dksX5_owes_0 0 rfl rfl)
theorem dX5_owes_1 : decode cX5_owes 1 = .ok (.iload_n 1, 1) := dk_27 (dk_at dksX5_owes_0 1 rfl rfl)
theorem dX5_owes_2 : decode cX5_owes 2 = .ok (.iload_n 2, 1) := dk_28 (dk_at dksX5_owes_0 2 rfl rfl)
theorem dX5_owes_3 : decode cX5_owes 3 = .ok (.invokevirtual 421, 3) := dk_182 1 165 (dk_at dksX5_owes_0 3 rfl rfl)
theorem dX5_owes_6 : decode cX5_owes 6 = .ok (.ifCond .ne 6, 3) := dk_154 0 6 (dk_at dksX5_owes_0 6 rfl rfl)
theorem dX5_owes_9 : decode cX5_owes 9 = .ok (.bipush (-2), 2) := dk_16 254 (dk_at dksX5_owes_0 9 rfl rfl)
theorem dX5_owes_11 : decode cX5_owes 11 = .ok (.ireturn, 1) := dk_172 (dk_at dksX5_owes_0 11 rfl rfl)
theorem dX5_owes_12 : decode cX5_owes 12 = .ok (.aload_n 0, 1) := dk_42 (dk_at dksX5_owes_0 12 rfl rfl)
theorem dX5_owes_13 : decode cX5_owes 13 = .ok (.invokevirtual 409, 3) := dk_182 1 153 (dk_at dksX5_owes_0 13 rfl rfl)
theorem dX5_owes_16 : decode cX5_owes 16 = .ok (.aload_n 0, 1) := dk_42 (dk_at dksX5_owes_0 16 rfl rfl)
theorem dX5_owes_17 : decode cX5_owes 17 = .ok (.iload_n 1, 1) := dk_27 (dk_at dksX5_owes_0 17 rfl rfl)
theorem dX5_owes_18 : decode cX5_owes 18 = .ok (.iload_n 2, 1) := dk_28 (dk_at dksX5_owes_0 18 rfl rfl)
theorem dX5_owes_19 : decode cX5_owes 19 = .ok (.invokevirtual 400, 3) := dk_182 1 144 (dk_at dksX5_owes_0 19 rfl rfl)
theorem dX5_owes_22 : decode cX5_owes 22 = .ok (.ireturn, 1) := dk_172 (dk_at dksX5_owes_0 22 rfl rfl)
abbrev cX5_areTwo : ByteArray := prog_13_method_11_code
def yX5_areTwo : MethodName := ⟨RX5, "areTwo", "(II)Z"⟩
def dkwX5_areTwo_1 : List UInt8 := [167, 0, 4, 3, 172]
abbrev dktX5_areTwo_1 : List UInt8 := dkwX5_areTwo_1 ++ []
def dkwX5_areTwo_0 : List UInt8 := [42, 27, 182, 0, 93, 153, 0, 20, 42, 28, 182, 0, 93, 153, 0, 12, 27, 28, 159, 0, 7, 4]
abbrev dktX5_areTwo_0 : List UInt8 := dkwX5_areTwo_0 ++ dktX5_areTwo_1
theorem dksX5_areTwo_0 : cX5_areTwo.data.toList.drop 0 = dktX5_areTwo_0 := by decide +kernel
theorem dksX5_areTwo_1 : cX5_areTwo.data.toList.drop 22 = dktX5_areTwo_1 := dk_seg dksX5_areTwo_0 22 rfl rfl
theorem dX5_areTwo_0 : decode cX5_areTwo 0 = .ok (.aload_n 0, 1) := dk_42 (dk_at dksX5_areTwo_0 0 rfl rfl)
theorem dX5_areTwo_1 : decode cX5_areTwo 1 = .ok (.iload_n 1, 1) := dk_27 (dk_at dksX5_areTwo_0 1 rfl rfl)
theorem dX5_areTwo_2 : decode cX5_areTwo 2 = .ok (.invokevirtual 93, 3) := dk_182 0 93 (dk_at dksX5_areTwo_0 2 rfl rfl)
theorem dX5_areTwo_5 : decode cX5_areTwo 5 = .ok (.ifCond .eq 20, 3) := dk_153 0 20 (dk_at dksX5_areTwo_0 5 rfl rfl)
theorem dX5_areTwo_8 : decode cX5_areTwo 8 = .ok (.aload_n 0, 1) := dk_42 (dk_at dksX5_areTwo_0 8 rfl rfl)
theorem dX5_areTwo_9 : decode cX5_areTwo 9 = .ok (.iload_n 2, 1) := dk_28 (dk_at dksX5_areTwo_0 9 rfl rfl)
theorem dX5_areTwo_10 : decode cX5_areTwo 10 = .ok (.invokevirtual 93, 3) := dk_182 0 93 (dk_at dksX5_areTwo_0 10 rfl rfl)
theorem dX5_areTwo_13 : decode cX5_areTwo 13 = .ok (.ifCond .eq 12, 3) := dk_153 0 12 (dk_at dksX5_areTwo_0 13 rfl rfl)
theorem dX5_areTwo_16 : decode cX5_areTwo 16 = .ok (.iload_n 1, 1) := dk_27 (dk_at dksX5_areTwo_0 16 rfl rfl)
theorem dX5_areTwo_17 : decode cX5_areTwo 17 = .ok (.iload_n 2, 1) := dk_28 (dk_at dksX5_areTwo_0 17 rfl rfl)
theorem dX5_areTwo_18 : decode cX5_areTwo 18 = .ok (.if_icmp .eq 7, 3) := dk_159 0 7 (dk_at dksX5_areTwo_0 18 rfl rfl)
theorem dX5_areTwo_21 : decode cX5_areTwo 21 = .ok (.iconst 1, 1) := dk_4 (dk_at dksX5_areTwo_0 21 rfl rfl)
theorem dX5_areTwo_22 : decode cX5_areTwo 22 = .ok (.goto 4, 3) := dk_167 0 4 (dk_at dksX5_areTwo_1 0 rfl rfl)
theorem dX5_areTwo_25 : decode cX5_areTwo 25 = .ok (.iconst 0, 1) := dk_3 (dk_at dksX5_areTwo_1 3 rfl rfl)
theorem dX5_areTwo_26 : decode cX5_areTwo 26 = .ok (.ireturn, 1) := dk_172 (dk_at dksX5_areTwo_1 4 rfl rfl)
abbrev cX5_fillDebts : ByteArray := prog_13_method_88_code
def yX5_fillDebts : MethodName := ⟨RX5, "fillDebts", "()V"⟩
def dkwX5_fillDebts_3 : List UInt8 := [167, 255, 214, 177]
abbrev dktX5_fillDebts_3 : List UInt8 := dkwX5_fillDebts_3 ++ []
def dkwX5_fillDebts_2 : List UInt8 := [182, 1, 5, 104, 42, 27, 3, 182, 1, 5, 96, 92, 46, 42, 27, 182, 1, 44, 96, 79, 132, 1, 1]
abbrev dktX5_fillDebts_2 : List UInt8 := dkwX5_fillDebts_2 ++ dktX5_fillDebts_3
def dkwX5_fillDebts_1 : List UInt8 := [167, 255, 240, 3, 60, 27, 42, 180, 0, 9, 6, 46, 162, 0, 38, 42, 180, 0, 55, 16, 6, 42, 27, 4]
abbrev dktX5_fillDebts_1 : List UInt8 := dkwX5_fillDebts_1 ++ dktX5_fillDebts_2
def dkwX5_fillDebts_0 : List UInt8 := [42, 182, 1, 61, 3, 60, 27, 16, 36, 162, 0, 16, 42, 180, 0, 55, 27, 3, 79, 132, 1, 1]
abbrev dktX5_fillDebts_0 : List UInt8 := dkwX5_fillDebts_0 ++ dktX5_fillDebts_1
theorem dksX5_fillDebts_0 : cX5_fillDebts.data.toList.drop 0 = dktX5_fillDebts_0 := by decide +kernel
theorem dksX5_fillDebts_1 : cX5_fillDebts.data.toList.drop 22 = dktX5_fillDebts_1 := dk_seg dksX5_fillDebts_0 22 rfl rfl
theorem dksX5_fillDebts_2 : cX5_fillDebts.data.toList.drop 46 = dktX5_fillDebts_2 := dk_seg dksX5_fillDebts_1 24 rfl rfl
theorem dksX5_fillDebts_3 : cX5_fillDebts.data.toList.drop 69 = dktX5_fillDebts_3 := dk_seg dksX5_fillDebts_2 23 rfl rfl
theorem dX5_fillDebts_0 : decode cX5_fillDebts 0 = .ok (.aload_n 0, 1) := dk_42 (dk_at dksX5_fillDebts_0 0 rfl rfl)
theorem dX5_fillDebts_1 : decode cX5_fillDebts 1 = .ok (.invokevirtual 317, 3) := dk_182 1 61 (dk_at dksX5_fillDebts_0 1 rfl rfl)
theorem dX5_fillDebts_4 : decode cX5_fillDebts 4 = .ok (.iconst 0, 1) := dk_3 (dk_at dksX5_fillDebts_0 4 rfl rfl)
theorem dX5_fillDebts_5 : decode cX5_fillDebts 5 = .ok (.istore_n 1, 1) := dk_60 (dk_at dksX5_fillDebts_0 5 rfl rfl)
theorem dX5_fillDebts_6 : decode cX5_fillDebts 6 = .ok (.iload_n 1, 1) := dk_27 (dk_at dksX5_fillDebts_0 6 rfl rfl)
theorem dX5_fillDebts_7 : decode cX5_fillDebts 7 = .ok (.bipush 36, 2) := dk_16 36 (dk_at dksX5_fillDebts_0 7 rfl rfl)
theorem dX5_fillDebts_9 : decode cX5_fillDebts 9 = .ok (.if_icmp .ge 16, 3) := dk_162 0 16 (dk_at dksX5_fillDebts_0 9 rfl rfl)
theorem dX5_fillDebts_12 : decode cX5_fillDebts 12 = .ok (.aload_n 0, 1) := dk_42 (dk_at dksX5_fillDebts_0 12 rfl rfl)
theorem dX5_fillDebts_13 : decode cX5_fillDebts 13 = .ok (.getfield 55, 3) := dk_180 0 55 (dk_at dksX5_fillDebts_0 13 rfl rfl)
theorem dX5_fillDebts_16 : decode cX5_fillDebts 16 = .ok (.iload_n 1, 1) := dk_27 (dk_at dksX5_fillDebts_0 16 rfl rfl)
theorem dX5_fillDebts_17 : decode cX5_fillDebts 17 = .ok (.iconst 0, 1) := dk_3 (dk_at dksX5_fillDebts_0 17 rfl rfl)
theorem dX5_fillDebts_18 : decode cX5_fillDebts 18 = .ok (.iastore, 1) := dk_79 (dk_at dksX5_fillDebts_0 18 rfl rfl)
theorem dX5_fillDebts_19 : decode cX5_fillDebts 19 = .ok (.iinc 1 1, 3) := dk_132 1 1 (dk_at dksX5_fillDebts_0 19 rfl rfl)
theorem dX5_fillDebts_22 : decode cX5_fillDebts 22 = .ok (.goto (-16), 3) := dk_167 255 240 (dk_at dksX5_fillDebts_1 0 rfl rfl)
theorem dX5_fillDebts_25 : decode cX5_fillDebts 25 = .ok (.iconst 0, 1) := dk_3 (dk_at dksX5_fillDebts_1 3 rfl rfl)
theorem dX5_fillDebts_26 : decode cX5_fillDebts 26 = .ok (.istore_n 1, 1) := dk_60 (dk_at dksX5_fillDebts_1 4 rfl rfl)
theorem dX5_fillDebts_27 : decode cX5_fillDebts 27 = .ok (.iload_n 1, 1) := dk_27 (dk_at dksX5_fillDebts_1 5 rfl rfl)
theorem dX5_fillDebts_28 : decode cX5_fillDebts 28 = .ok (.aload_n 0, 1) := dk_42 (dk_at dksX5_fillDebts_1 6 rfl rfl)
theorem dX5_fillDebts_29 : decode cX5_fillDebts 29 = .ok (.getfield 9, 3) := dk_180 0 9 (dk_at dksX5_fillDebts_1 7 rfl rfl)
theorem dX5_fillDebts_32 : decode cX5_fillDebts 32 = .ok (.iconst 3, 1) := dk_6 (dk_at dksX5_fillDebts_1 10 rfl rfl)
theorem dX5_fillDebts_33 : decode cX5_fillDebts 33 = .ok (.iaload, 1) := dk_46 (dk_at dksX5_fillDebts_1 11 rfl rfl)
theorem dX5_fillDebts_34 : decode cX5_fillDebts 34 = .ok (.if_icmp .ge 38, 3) := dk_162 0 38 (dk_at dksX5_fillDebts_1 12 rfl rfl)
theorem dX5_fillDebts_37 : decode cX5_fillDebts 37 = .ok (.aload_n 0, 1) := dk_42 (dk_at dksX5_fillDebts_1 15 rfl rfl)
theorem dX5_fillDebts_38 : decode cX5_fillDebts 38 = .ok (.getfield 55, 3) := dk_180 0 55 (dk_at dksX5_fillDebts_1 16 rfl rfl)
theorem dX5_fillDebts_41 : decode cX5_fillDebts 41 = .ok (.bipush 6, 2) := dk_16 6 (dk_at dksX5_fillDebts_1 19 rfl rfl)
theorem dX5_fillDebts_43 : decode cX5_fillDebts 43 = .ok (.aload_n 0, 1) := dk_42 (dk_at dksX5_fillDebts_1 21 rfl rfl)
theorem dX5_fillDebts_44 : decode cX5_fillDebts 44 = .ok (.iload_n 1, 1) := dk_27 (dk_at dksX5_fillDebts_1 22 rfl rfl)
theorem dX5_fillDebts_45 : decode cX5_fillDebts 45 = .ok (.iconst 1, 1) := dk_4 (dk_at dksX5_fillDebts_1 23 rfl rfl)
theorem dX5_fillDebts_46 : decode cX5_fillDebts 46 = .ok (.invokevirtual 261, 3) := dk_182 1 5 (dk_at dksX5_fillDebts_2 0 rfl rfl)
theorem dX5_fillDebts_49 : decode cX5_fillDebts 49 = .ok (.imul, 1) := dk_104 (dk_at dksX5_fillDebts_2 3 rfl rfl)
theorem dX5_fillDebts_50 : decode cX5_fillDebts 50 = .ok (.aload_n 0, 1) := dk_42 (dk_at dksX5_fillDebts_2 4 rfl rfl)
theorem dX5_fillDebts_51 : decode cX5_fillDebts 51 = .ok (.iload_n 1, 1) := dk_27 (dk_at dksX5_fillDebts_2 5 rfl rfl)
theorem dX5_fillDebts_52 : decode cX5_fillDebts 52 = .ok (.iconst 0, 1) := dk_3 (dk_at dksX5_fillDebts_2 6 rfl rfl)
theorem dX5_fillDebts_53 : decode cX5_fillDebts 53 = .ok (.invokevirtual 261, 3) := dk_182 1 5 (dk_at dksX5_fillDebts_2 7 rfl rfl)
theorem dX5_fillDebts_56 : decode cX5_fillDebts 56 = .ok (.iadd, 1) := dk_96 (dk_at dksX5_fillDebts_2 10 rfl rfl)
theorem dX5_fillDebts_57 : decode cX5_fillDebts 57 = .ok (.dup2, 1) := dk_92 (dk_at dksX5_fillDebts_2 11 rfl rfl)
theorem dX5_fillDebts_58 : decode cX5_fillDebts 58 = .ok (.iaload, 1) := dk_46 (dk_at dksX5_fillDebts_2 12 rfl rfl)
theorem dX5_fillDebts_59 : decode cX5_fillDebts 59 = .ok (.aload_n 0, 1) := dk_42 (dk_at dksX5_fillDebts_2 13 rfl rfl)
theorem dX5_fillDebts_60 : decode cX5_fillDebts 60 = .ok (.iload_n 1, 1) := dk_27 (dk_at dksX5_fillDebts_2 14 rfl rfl)
theorem dX5_fillDebts_61 : decode cX5_fillDebts 61 = .ok (.invokevirtual 300, 3) := dk_182 1 44 (dk_at dksX5_fillDebts_2 15 rfl rfl)
theorem dX5_fillDebts_64 : decode cX5_fillDebts 64 = .ok (.iadd, 1) := dk_96 (dk_at dksX5_fillDebts_2 18 rfl rfl)
theorem dX5_fillDebts_65 : decode cX5_fillDebts 65 = .ok (.iastore, 1) := dk_79 (dk_at dksX5_fillDebts_2 19 rfl rfl)
theorem dX5_fillDebts_66 : decode cX5_fillDebts 66 = .ok (.iinc 1 1, 3) := dk_132 1 1 (dk_at dksX5_fillDebts_2 20 rfl rfl)
theorem dX5_fillDebts_69 : decode cX5_fillDebts 69 = .ok (.goto (-42), 3) := dk_167 255 214 (dk_at dksX5_fillDebts_3 0 rfl rfl)
theorem dX5_fillDebts_72 : decode cX5_fillDebts 72 = .ok (.return_, 1) := dk_177 (dk_at dksX5_fillDebts_3 3 rfl rfl)
abbrev cX5_debt : ByteArray := prog_13_method_89_code
def yX5_debt : MethodName := ⟨RX5, "debt", "(II)I"⟩
def dkwX5_debt_0 : List UInt8 := [42, 180, 0, 55, 16, 6, 27, 104, 28, 96, 46, 172]
abbrev dktX5_debt_0 : List UInt8 := dkwX5_debt_0 ++ []
theorem dksX5_debt_0 : cX5_debt.data.toList.drop 0 = dktX5_debt_0 := by decide +kernel
theorem dX5_debt_0 : decode cX5_debt 0 = .ok (.aload_n 0, 1) := dk_42 (dk_at dksX5_debt_0 0 rfl rfl)
theorem dX5_debt_1 : decode cX5_debt 1 = .ok (.getfield 55, 3) := dk_180 0 55 (dk_at dksX5_debt_0 1 rfl rfl)
theorem dX5_debt_4 : decode cX5_debt 4 = .ok (.bipush 6, 2) := dk_16 6 (dk_at dksX5_debt_0 4 rfl rfl)
theorem dX5_debt_6 : decode cX5_debt 6 = .ok (.iload_n 1, 1) := dk_27 (dk_at dksX5_debt_0 6 rfl rfl)
theorem dX5_debt_7 : decode cX5_debt 7 = .ok (.imul, 1) := dk_104 (dk_at dksX5_debt_0 7 rfl rfl)
theorem dX5_debt_8 : decode cX5_debt 8 = .ok (.iload_n 2, 1) := dk_28 (dk_at dksX5_debt_0 8 rfl rfl)
theorem dX5_debt_9 : decode cX5_debt 9 = .ok (.iadd, 1) := dk_96 (dk_at dksX5_debt_0 9 rfl rfl)
theorem dX5_debt_10 : decode cX5_debt 10 = .ok (.iaload, 1) := dk_46 (dk_at dksX5_debt_0 10 rfl rfl)
theorem dX5_debt_11 : decode cX5_debt 11 = .ok (.ireturn, 1) := dk_172 (dk_at dksX5_debt_0 11 rfl rfl)
abbrev cX5_rings : ByteArray := prog_13_method_95_code
def yX5_rings : MethodName := ⟨RX5, "rings", "(I)I"⟩
def dkwX5_rings_1 : List UInt8 := [27, 154, 0, 10, 42, 180, 1, 156, 167, 0, 7, 42, 180, 1, 159, 172]
abbrev dktX5_rings_1 : List UInt8 := dkwX5_rings_1 ++ []
def dkwX5_rings_0 : List UInt8 := [42, 182, 1, 66, 153, 0, 13, 27, 133, 9, 10, 184, 0, 85, 154, 0, 6, 16, 254, 172, 42, 182, 1, 168]
abbrev dktX5_rings_0 : List UInt8 := dkwX5_rings_0 ++ dktX5_rings_1
theorem dksX5_rings_0 : cX5_rings.data.toList.drop 0 = dktX5_rings_0 := by decide +kernel
theorem dksX5_rings_1 : cX5_rings.data.toList.drop 24 = dktX5_rings_1 := dk_seg dksX5_rings_0 24 rfl rfl
theorem dX5_rings_0 : decode cX5_rings 0 = .ok (.aload_n 0, 1) := dk_42 (dk_at dksX5_rings_0 0 rfl rfl)
theorem dX5_rings_1 : decode cX5_rings 1 = .ok (.invokevirtual 322, 3) := dk_182 1 66 (dk_at dksX5_rings_0 1 rfl rfl)
theorem dX5_rings_4 : decode cX5_rings 4 = .ok (.ifCond .eq 13, 3) := dk_153 0 13 (dk_at dksX5_rings_0 4 rfl rfl)
theorem dX5_rings_7 : decode cX5_rings 7 = .ok (.iload_n 1, 1) := dk_27 (dk_at dksX5_rings_0 7 rfl rfl)
theorem dX5_rings_8 : decode cX5_rings 8 = .ok (.i2l, 1) := dk_133 (dk_at dksX5_rings_0 8 rfl rfl)
theorem dX5_rings_9 : decode cX5_rings 9 = .ok (.lconst 0, 1) := dk_9 (dk_at dksX5_rings_0 9 rfl rfl)
theorem dX5_rings_10 : decode cX5_rings 10 = .ok (.lconst 1, 1) := dk_10 (dk_at dksX5_rings_0 10 rfl rfl)
theorem dX5_rings_11 : decode cX5_rings 11 = .ok (.invokestatic 85, 3) := dk_184 0 85 (dk_at dksX5_rings_0 11 rfl rfl)
theorem dX5_rings_14 : decode cX5_rings 14 = .ok (.ifCond .ne 6, 3) := dk_154 0 6 (dk_at dksX5_rings_0 14 rfl rfl)
theorem dX5_rings_17 : decode cX5_rings 17 = .ok (.bipush (-2), 2) := dk_16 254 (dk_at dksX5_rings_0 17 rfl rfl)
theorem dX5_rings_19 : decode cX5_rings 19 = .ok (.ireturn, 1) := dk_172 (dk_at dksX5_rings_0 19 rfl rfl)
theorem dX5_rings_20 : decode cX5_rings 20 = .ok (.aload_n 0, 1) := dk_42 (dk_at dksX5_rings_0 20 rfl rfl)
theorem dX5_rings_21 : decode cX5_rings 21 = .ok (.invokevirtual 424, 3) := dk_182 1 168 (dk_at dksX5_rings_0 21 rfl rfl)
theorem dX5_rings_24 : decode cX5_rings 24 = .ok (.iload_n 1, 1) := dk_27 (dk_at dksX5_rings_1 0 rfl rfl)
theorem dX5_rings_25 : decode cX5_rings 25 = .ok (.ifCond .ne 10, 3) := dk_154 0 10 (dk_at dksX5_rings_1 1 rfl rfl)
theorem dX5_rings_28 : decode cX5_rings 28 = .ok (.aload_n 0, 1) := dk_42 (dk_at dksX5_rings_1 4 rfl rfl)
theorem dX5_rings_29 : decode cX5_rings 29 = .ok (.getfield 412, 3) := dk_180 1 156 (dk_at dksX5_rings_1 5 rfl rfl)
theorem dX5_rings_32 : decode cX5_rings 32 = .ok (.goto 7, 3) := dk_167 0 7 (dk_at dksX5_rings_1 8 rfl rfl)
theorem dX5_rings_35 : decode cX5_rings 35 = .ok (.aload_n 0, 1) := dk_42 (dk_at dksX5_rings_1 11 rfl rfl)
theorem dX5_rings_36 : decode cX5_rings 36 = .ok (.getfield 415, 3) := dk_180 1 159 (dk_at dksX5_rings_1 12 rfl rfl)
theorem dX5_rings_39 : decode cX5_rings 39 = .ok (.ireturn, 1) := dk_172 (dk_at dksX5_rings_1 15 rfl rfl)
abbrev cX5_clears : ByteArray := prog_13_method_93_code
def yX5_clears : MethodName := ⟨RX5, "clears", "()V"⟩
def dkwX5_clears_7 : List UInt8 := [89, 180, 1, 159, 28, 27, 104, 96, 181, 1, 159, 42, 182, 1, 162, 60, 167, 255, 95, 177]
abbrev dktX5_clears_7 : List UInt8 := dkwX5_clears_7 ++ []
def dkwX5_clears_6 : List UInt8 := [167, 255, 216, 42, 180, 0, 58, 42, 180, 1, 156, 29, 79, 42, 89, 180, 1, 156, 4, 96, 181, 1, 156, 42]
abbrev dktX5_clears_6 : List UInt8 := dkwX5_clears_6 ++ dktX5_clears_7
def dkwX5_clears_5 : List UInt8 := [46, 104, 42, 180, 0, 61, 21, 4, 4, 96, 27, 112, 46, 96, 92, 46, 28, 100, 79, 132, 4, 1]
abbrev dktX5_clears_5 : List UInt8 := dkwX5_clears_5 ++ dktX5_clears_6
def dkwX5_clears_4 : List UInt8 := [167, 255, 208, 3, 54, 4, 21, 4, 27, 162, 0, 40, 42, 180, 0, 55, 16, 6, 42, 180, 0, 61, 21, 4]
abbrev dktX5_clears_4 : List UInt8 := dkwX5_clears_4 ++ dktX5_clears_5
def dkwX5_clears_3 : List UInt8 := [182, 1, 144, 184, 0, 128, 61, 29, 4, 42, 180, 0, 61, 21, 4, 46, 120, 128, 62, 132, 4, 1]
abbrev dktX5_clears_3 : List UInt8 := dkwX5_clears_3 ++ dktX5_clears_4
def dkwX5_clears_2 : List UInt8 := [27, 162, 0, 48, 28, 42, 42, 180, 0, 61, 21, 4, 46, 42, 180, 0, 61, 21, 4, 4, 96, 27, 112, 46]
abbrev dktX5_clears_2 : List UInt8 := dkwX5_clears_2 ++ dktX5_clears_3
def dkwX5_clears_1 : List UInt8 := [42, 42, 180, 0, 61, 3, 46, 42, 180, 0, 61, 4, 46, 182, 1, 144, 61, 3, 62, 3, 54, 4, 21, 4]
abbrev dktX5_clears_1 : List UInt8 := dkwX5_clears_1 ++ dktX5_clears_2
def dkwX5_clears_0 : List UInt8 := [42, 182, 1, 153, 42, 3, 181, 1, 156, 42, 3, 181, 1, 159, 42, 182, 1, 162, 60, 27, 2, 159, 0, 162]
abbrev dktX5_clears_0 : List UInt8 := dkwX5_clears_0 ++ dktX5_clears_1
theorem dksX5_clears_0 : cX5_clears.data.toList.drop 0 = dktX5_clears_0 := by decide +kernel
theorem dksX5_clears_1 : cX5_clears.data.toList.drop 24 = dktX5_clears_1 := dk_seg dksX5_clears_0 24 rfl rfl
theorem dksX5_clears_2 : cX5_clears.data.toList.drop 48 = dktX5_clears_2 := dk_seg dksX5_clears_1 24 rfl rfl
theorem dksX5_clears_3 : cX5_clears.data.toList.drop 72 = dktX5_clears_3 := dk_seg dksX5_clears_2 24 rfl rfl
theorem dksX5_clears_4 : cX5_clears.data.toList.drop 94 = dktX5_clears_4 := dk_seg dksX5_clears_3 22 rfl rfl
theorem dksX5_clears_5 : cX5_clears.data.toList.drop 118 = dktX5_clears_5 := dk_seg dksX5_clears_4 24 rfl rfl
theorem dksX5_clears_6 : cX5_clears.data.toList.drop 140 = dktX5_clears_6 := dk_seg dksX5_clears_5 22 rfl rfl
theorem dksX5_clears_7 : cX5_clears.data.toList.drop 164 = dktX5_clears_7 := dk_seg dksX5_clears_6 24 rfl rfl
theorem dX5_clears_0 : decode cX5_clears 0 = .ok (.aload_n 0, 1) := dk_42 (dk_at dksX5_clears_0 0 rfl rfl)
theorem dX5_clears_1 : decode cX5_clears 1 = .ok (.invokevirtual 409, 3) := dk_182 1 153 (dk_at dksX5_clears_0 1 rfl rfl)
theorem dX5_clears_4 : decode cX5_clears 4 = .ok (.aload_n 0, 1) := dk_42 (dk_at dksX5_clears_0 4 rfl rfl)
theorem dX5_clears_5 : decode cX5_clears 5 = .ok (.iconst 0, 1) := dk_3 (dk_at dksX5_clears_0 5 rfl rfl)
theorem dX5_clears_6 : decode cX5_clears 6 = .ok (.putfield 412, 3) := dk_181 1 156 (dk_at dksX5_clears_0 6 rfl rfl)
theorem dX5_clears_9 : decode cX5_clears 9 = .ok (.aload_n 0, 1) := dk_42 (dk_at dksX5_clears_0 9 rfl rfl)
theorem dX5_clears_10 : decode cX5_clears 10 = .ok (.iconst 0, 1) := dk_3 (dk_at dksX5_clears_0 10 rfl rfl)
theorem dX5_clears_11 : decode cX5_clears 11 = .ok (.putfield 415, 3) := dk_181 1 159 (dk_at dksX5_clears_0 11 rfl rfl)
theorem dX5_clears_14 : decode cX5_clears 14 = .ok (.aload_n 0, 1) := dk_42 (dk_at dksX5_clears_0 14 rfl rfl)
theorem dX5_clears_15 : decode cX5_clears 15 = .ok (.invokevirtual 418, 3) := dk_182 1 162 (dk_at dksX5_clears_0 15 rfl rfl)
theorem dX5_clears_18 : decode cX5_clears 18 = .ok (.istore_n 1, 1) := dk_60 (dk_at dksX5_clears_0 18 rfl rfl)
theorem dX5_clears_19 : decode cX5_clears 19 = .ok (.iload_n 1, 1) := dk_27 (dk_at dksX5_clears_0 19 rfl rfl)
theorem dX5_clears_20 : decode cX5_clears 20 = .ok (.iconst (-1), 1) := dk_2 (dk_at dksX5_clears_0 20 rfl rfl)
theorem dX5_clears_21 : decode cX5_clears 21 = .ok (.if_icmp .eq 162, 3) := dk_159 0 162 (dk_at dksX5_clears_0 21 rfl rfl)
theorem dX5_clears_24 : decode cX5_clears 24 = .ok (.aload_n 0, 1) := dk_42 (dk_at dksX5_clears_1 0 rfl rfl)
theorem dX5_clears_25 : decode cX5_clears 25 = .ok (.aload_n 0, 1) := dk_42 (dk_at dksX5_clears_1 1 rfl rfl)
theorem dX5_clears_26 : decode cX5_clears 26 = .ok (.getfield 61, 3) := dk_180 0 61 (dk_at dksX5_clears_1 2 rfl rfl)
theorem dX5_clears_29 : decode cX5_clears 29 = .ok (.iconst 0, 1) := dk_3 (dk_at dksX5_clears_1 5 rfl rfl)
theorem dX5_clears_30 : decode cX5_clears 30 = .ok (.iaload, 1) := dk_46 (dk_at dksX5_clears_1 6 rfl rfl)
theorem dX5_clears_31 : decode cX5_clears 31 = .ok (.aload_n 0, 1) := dk_42 (dk_at dksX5_clears_1 7 rfl rfl)
theorem dX5_clears_32 : decode cX5_clears 32 = .ok (.getfield 61, 3) := dk_180 0 61 (dk_at dksX5_clears_1 8 rfl rfl)
theorem dX5_clears_35 : decode cX5_clears 35 = .ok (.iconst 1, 1) := dk_4 (dk_at dksX5_clears_1 11 rfl rfl)
theorem dX5_clears_36 : decode cX5_clears 36 = .ok (.iaload, 1) := dk_46 (dk_at dksX5_clears_1 12 rfl rfl)
theorem dX5_clears_37 : decode cX5_clears 37 = .ok (.invokevirtual 400, 3) := dk_182 1 144 (dk_at dksX5_clears_1 13 rfl rfl)
theorem dX5_clears_40 : decode cX5_clears 40 = .ok (.istore_n 2, 1) := dk_61 (dk_at dksX5_clears_1 16 rfl rfl)
theorem dX5_clears_41 : decode cX5_clears 41 = .ok (.iconst 0, 1) := dk_3 (dk_at dksX5_clears_1 17 rfl rfl)
theorem dX5_clears_42 : decode cX5_clears 42 = .ok (.istore_n 3, 1) := dk_62 (dk_at dksX5_clears_1 18 rfl rfl)
theorem dX5_clears_43 : decode cX5_clears 43 = .ok (.iconst 0, 1) := dk_3 (dk_at dksX5_clears_1 19 rfl rfl)
theorem dX5_clears_44 : decode cX5_clears 44 = .ok (.istore 4, 2) := dk_54 4 (dk_at dksX5_clears_1 20 rfl rfl)
theorem dX5_clears_46 : decode cX5_clears 46 = .ok (.iload 4, 2) := dk_21 4 (dk_at dksX5_clears_1 22 rfl rfl)
theorem dX5_clears_48 : decode cX5_clears 48 = .ok (.iload_n 1, 1) := dk_27 (dk_at dksX5_clears_2 0 rfl rfl)
theorem dX5_clears_49 : decode cX5_clears 49 = .ok (.if_icmp .ge 48, 3) := dk_162 0 48 (dk_at dksX5_clears_2 1 rfl rfl)
theorem dX5_clears_52 : decode cX5_clears 52 = .ok (.iload_n 2, 1) := dk_28 (dk_at dksX5_clears_2 4 rfl rfl)
theorem dX5_clears_53 : decode cX5_clears 53 = .ok (.aload_n 0, 1) := dk_42 (dk_at dksX5_clears_2 5 rfl rfl)
theorem dX5_clears_54 : decode cX5_clears 54 = .ok (.aload_n 0, 1) := dk_42 (dk_at dksX5_clears_2 6 rfl rfl)
theorem dX5_clears_55 : decode cX5_clears 55 = .ok (.getfield 61, 3) := dk_180 0 61 (dk_at dksX5_clears_2 7 rfl rfl)
theorem dX5_clears_58 : decode cX5_clears 58 = .ok (.iload 4, 2) := dk_21 4 (dk_at dksX5_clears_2 10 rfl rfl)
theorem dX5_clears_60 : decode cX5_clears 60 = .ok (.iaload, 1) := dk_46 (dk_at dksX5_clears_2 12 rfl rfl)
theorem dX5_clears_61 : decode cX5_clears 61 = .ok (.aload_n 0, 1) := dk_42 (dk_at dksX5_clears_2 13 rfl rfl)
theorem dX5_clears_62 : decode cX5_clears 62 = .ok (.getfield 61, 3) := dk_180 0 61 (dk_at dksX5_clears_2 14 rfl rfl)
theorem dX5_clears_65 : decode cX5_clears 65 = .ok (.iload 4, 2) := dk_21 4 (dk_at dksX5_clears_2 17 rfl rfl)
theorem dX5_clears_67 : decode cX5_clears 67 = .ok (.iconst 1, 1) := dk_4 (dk_at dksX5_clears_2 19 rfl rfl)
theorem dX5_clears_68 : decode cX5_clears 68 = .ok (.iadd, 1) := dk_96 (dk_at dksX5_clears_2 20 rfl rfl)
theorem dX5_clears_69 : decode cX5_clears 69 = .ok (.iload_n 1, 1) := dk_27 (dk_at dksX5_clears_2 21 rfl rfl)
theorem dX5_clears_70 : decode cX5_clears 70 = .ok (.irem, 1) := dk_112 (dk_at dksX5_clears_2 22 rfl rfl)
theorem dX5_clears_71 : decode cX5_clears 71 = .ok (.iaload, 1) := dk_46 (dk_at dksX5_clears_2 23 rfl rfl)
theorem dX5_clears_72 : decode cX5_clears 72 = .ok (.invokevirtual 400, 3) := dk_182 1 144 (dk_at dksX5_clears_3 0 rfl rfl)
theorem dX5_clears_75 : decode cX5_clears 75 = .ok (.invokestatic 128, 3) := dk_184 0 128 (dk_at dksX5_clears_3 3 rfl rfl)
theorem dX5_clears_78 : decode cX5_clears 78 = .ok (.istore_n 2, 1) := dk_61 (dk_at dksX5_clears_3 6 rfl rfl)
theorem dX5_clears_79 : decode cX5_clears 79 = .ok (.iload_n 3, 1) := dk_29 (dk_at dksX5_clears_3 7 rfl rfl)
theorem dX5_clears_80 : decode cX5_clears 80 = .ok (.iconst 1, 1) := dk_4 (dk_at dksX5_clears_3 8 rfl rfl)
theorem dX5_clears_81 : decode cX5_clears 81 = .ok (.aload_n 0, 1) := dk_42 (dk_at dksX5_clears_3 9 rfl rfl)
theorem dX5_clears_82 : decode cX5_clears 82 = .ok (.getfield 61, 3) := dk_180 0 61 (dk_at dksX5_clears_3 10 rfl rfl)
theorem dX5_clears_85 : decode cX5_clears 85 = .ok (.iload 4, 2) := dk_21 4 (dk_at dksX5_clears_3 13 rfl rfl)
theorem dX5_clears_87 : decode cX5_clears 87 = .ok (.iaload, 1) := dk_46 (dk_at dksX5_clears_3 15 rfl rfl)
theorem dX5_clears_88 : decode cX5_clears 88 = .ok (.ishl, 1) := dk_120 (dk_at dksX5_clears_3 16 rfl rfl)
theorem dX5_clears_89 : decode cX5_clears 89 = .ok (.ior, 1) := dk_128 (dk_at dksX5_clears_3 17 rfl rfl)
theorem dX5_clears_90 : decode cX5_clears 90 = .ok (.istore_n 3, 1) := dk_62 (dk_at dksX5_clears_3 18 rfl rfl)
theorem dX5_clears_91 : decode cX5_clears 91 = .ok (.iinc 4 1, 3) := dk_132 4 1 (dk_at dksX5_clears_3 19 rfl rfl)
theorem dX5_clears_94 : decode cX5_clears 94 = .ok (.goto (-48), 3) := dk_167 255 208 (dk_at dksX5_clears_4 0 rfl rfl)
theorem dX5_clears_97 : decode cX5_clears 97 = .ok (.iconst 0, 1) := dk_3 (dk_at dksX5_clears_4 3 rfl rfl)
theorem dX5_clears_98 : decode cX5_clears 98 = .ok (.istore 4, 2) := dk_54 4 (dk_at dksX5_clears_4 4 rfl rfl)
theorem dX5_clears_100 : decode cX5_clears 100 = .ok (.iload 4, 2) := dk_21 4 (dk_at dksX5_clears_4 6 rfl rfl)
theorem dX5_clears_102 : decode cX5_clears 102 = .ok (.iload_n 1, 1) := dk_27 (dk_at dksX5_clears_4 8 rfl rfl)
theorem dX5_clears_103 : decode cX5_clears 103 = .ok (.if_icmp .ge 40, 3) := dk_162 0 40 (dk_at dksX5_clears_4 9 rfl rfl)
theorem dX5_clears_106 : decode cX5_clears 106 = .ok (.aload_n 0, 1) := dk_42 (dk_at dksX5_clears_4 12 rfl rfl)
theorem dX5_clears_107 : decode cX5_clears 107 = .ok (.getfield 55, 3) := dk_180 0 55 (dk_at dksX5_clears_4 13 rfl rfl)
theorem dX5_clears_110 : decode cX5_clears 110 = .ok (.bipush 6, 2) := dk_16 6 (dk_at dksX5_clears_4 16 rfl rfl)
theorem dX5_clears_112 : decode cX5_clears 112 = .ok (.aload_n 0, 1) := dk_42 (dk_at dksX5_clears_4 18 rfl rfl)
theorem dX5_clears_113 : decode cX5_clears 113 = .ok (.getfield 61, 3) := dk_180 0 61 (dk_at dksX5_clears_4 19 rfl rfl)
theorem dX5_clears_116 : decode cX5_clears 116 = .ok (.iload 4, 2) := dk_21 4 (dk_at dksX5_clears_4 22 rfl rfl)
theorem dX5_clears_118 : decode cX5_clears 118 = .ok (.iaload, 1) := dk_46 (dk_at dksX5_clears_5 0 rfl rfl)
theorem dX5_clears_119 : decode cX5_clears 119 = .ok (.imul, 1) := dk_104 (dk_at dksX5_clears_5 1 rfl rfl)
theorem dX5_clears_120 : decode cX5_clears 120 = .ok (.aload_n 0, 1) := dk_42 (dk_at dksX5_clears_5 2 rfl rfl)
theorem dX5_clears_121 : decode cX5_clears 121 = .ok (.getfield 61, 3) := dk_180 0 61 (dk_at dksX5_clears_5 3 rfl rfl)
theorem dX5_clears_124 : decode cX5_clears 124 = .ok (.iload 4, 2) := dk_21 4 (dk_at dksX5_clears_5 6 rfl rfl)
theorem dX5_clears_126 : decode cX5_clears 126 = .ok (.iconst 1, 1) := dk_4 (dk_at dksX5_clears_5 8 rfl rfl)
theorem dX5_clears_127 : decode cX5_clears 127 = .ok (.iadd, 1) := dk_96 (dk_at dksX5_clears_5 9 rfl rfl)
theorem dX5_clears_128 : decode cX5_clears 128 = .ok (.iload_n 1, 1) := dk_27 (dk_at dksX5_clears_5 10 rfl rfl)
theorem dX5_clears_129 : decode cX5_clears 129 = .ok (.irem, 1) := dk_112 (dk_at dksX5_clears_5 11 rfl rfl)
theorem dX5_clears_130 : decode cX5_clears 130 = .ok (.iaload, 1) := dk_46 (dk_at dksX5_clears_5 12 rfl rfl)
theorem dX5_clears_131 : decode cX5_clears 131 = .ok (.iadd, 1) := dk_96 (dk_at dksX5_clears_5 13 rfl rfl)
theorem dX5_clears_132 : decode cX5_clears 132 = .ok (.dup2, 1) := dk_92 (dk_at dksX5_clears_5 14 rfl rfl)
theorem dX5_clears_133 : decode cX5_clears 133 = .ok (.iaload, 1) := dk_46 (dk_at dksX5_clears_5 15 rfl rfl)
theorem dX5_clears_134 : decode cX5_clears 134 = .ok (.iload_n 2, 1) := dk_28 (dk_at dksX5_clears_5 16 rfl rfl)
theorem dX5_clears_135 : decode cX5_clears 135 = .ok (.isub, 1) := dk_100 (dk_at dksX5_clears_5 17 rfl rfl)
theorem dX5_clears_136 : decode cX5_clears 136 = .ok (.iastore, 1) := dk_79 (dk_at dksX5_clears_5 18 rfl rfl)
theorem dX5_clears_137 : decode cX5_clears 137 = .ok (.iinc 4 1, 3) := dk_132 4 1 (dk_at dksX5_clears_5 19 rfl rfl)
theorem dX5_clears_140 : decode cX5_clears 140 = .ok (.goto (-40), 3) := dk_167 255 216 (dk_at dksX5_clears_6 0 rfl rfl)
theorem dX5_clears_143 : decode cX5_clears 143 = .ok (.aload_n 0, 1) := dk_42 (dk_at dksX5_clears_6 3 rfl rfl)
theorem dX5_clears_144 : decode cX5_clears 144 = .ok (.getfield 58, 3) := dk_180 0 58 (dk_at dksX5_clears_6 4 rfl rfl)
theorem dX5_clears_147 : decode cX5_clears 147 = .ok (.aload_n 0, 1) := dk_42 (dk_at dksX5_clears_6 7 rfl rfl)
theorem dX5_clears_148 : decode cX5_clears 148 = .ok (.getfield 412, 3) := dk_180 1 156 (dk_at dksX5_clears_6 8 rfl rfl)
theorem dX5_clears_151 : decode cX5_clears 151 = .ok (.iload_n 3, 1) := dk_29 (dk_at dksX5_clears_6 11 rfl rfl)
theorem dX5_clears_152 : decode cX5_clears 152 = .ok (.iastore, 1) := dk_79 (dk_at dksX5_clears_6 12 rfl rfl)
theorem dX5_clears_153 : decode cX5_clears 153 = .ok (.aload_n 0, 1) := dk_42 (dk_at dksX5_clears_6 13 rfl rfl)
theorem dX5_clears_154 : decode cX5_clears 154 = .ok (.dup, 1) := dk_89 (dk_at dksX5_clears_6 14 rfl rfl)
theorem dX5_clears_155 : decode cX5_clears 155 = .ok (.getfield 412, 3) := dk_180 1 156 (dk_at dksX5_clears_6 15 rfl rfl)
theorem dX5_clears_158 : decode cX5_clears 158 = .ok (.iconst 1, 1) := dk_4 (dk_at dksX5_clears_6 18 rfl rfl)
theorem dX5_clears_159 : decode cX5_clears 159 = .ok (.iadd, 1) := dk_96 (dk_at dksX5_clears_6 19 rfl rfl)
theorem dX5_clears_160 : decode cX5_clears 160 = .ok (.putfield 412, 3) := dk_181 1 156 (dk_at dksX5_clears_6 20 rfl rfl)
theorem dX5_clears_163 : decode cX5_clears 163 = .ok (.aload_n 0, 1) := dk_42 (dk_at dksX5_clears_6 23 rfl rfl)
theorem dX5_clears_164 : decode cX5_clears 164 = .ok (.dup, 1) := dk_89 (dk_at dksX5_clears_7 0 rfl rfl)
theorem dX5_clears_165 : decode cX5_clears 165 = .ok (.getfield 415, 3) := dk_180 1 159 (dk_at dksX5_clears_7 1 rfl rfl)
theorem dX5_clears_168 : decode cX5_clears 168 = .ok (.iload_n 2, 1) := dk_28 (dk_at dksX5_clears_7 4 rfl rfl)
theorem dX5_clears_169 : decode cX5_clears 169 = .ok (.iload_n 1, 1) := dk_27 (dk_at dksX5_clears_7 5 rfl rfl)
theorem dX5_clears_170 : decode cX5_clears 170 = .ok (.imul, 1) := dk_104 (dk_at dksX5_clears_7 6 rfl rfl)
theorem dX5_clears_171 : decode cX5_clears 171 = .ok (.iadd, 1) := dk_96 (dk_at dksX5_clears_7 7 rfl rfl)
theorem dX5_clears_172 : decode cX5_clears 172 = .ok (.putfield 415, 3) := dk_181 1 159 (dk_at dksX5_clears_7 8 rfl rfl)
theorem dX5_clears_175 : decode cX5_clears 175 = .ok (.aload_n 0, 1) := dk_42 (dk_at dksX5_clears_7 11 rfl rfl)
theorem dX5_clears_176 : decode cX5_clears 176 = .ok (.invokevirtual 418, 3) := dk_182 1 162 (dk_at dksX5_clears_7 12 rfl rfl)
theorem dX5_clears_179 : decode cX5_clears 179 = .ok (.istore_n 1, 1) := dk_60 (dk_at dksX5_clears_7 15 rfl rfl)
theorem dX5_clears_180 : decode cX5_clears 180 = .ok (.goto (-161), 3) := dk_167 255 95 (dk_at dksX5_clears_7 16 rfl rfl)
theorem dX5_clears_183 : decode cX5_clears 183 = .ok (.return_, 1) := dk_177 (dk_at dksX5_clears_7 19 rfl rfl)
abbrev cX5_ringSize : ByteArray := prog_13_method_92_code
def yX5_ringSize : MethodName := ⟨RX5, "ringSize", "()I"⟩
def dkwX5_ringSize_1 : List UInt8 := [167, 255, 235, 2, 172]
abbrev dktX5_ringSize_1 : List UInt8 := dkwX5_ringSize_1 ++ []
def dkwX5_ringSize_0 : List UInt8 := [5, 60, 27, 42, 182, 0, 89, 163, 0, 19, 42, 27, 182, 1, 150, 153, 0, 5, 27, 172, 132, 1, 1]
abbrev dktX5_ringSize_0 : List UInt8 := dkwX5_ringSize_0 ++ dktX5_ringSize_1
theorem dksX5_ringSize_0 : cX5_ringSize.data.toList.drop 0 = dktX5_ringSize_0 := by decide +kernel
theorem dksX5_ringSize_1 : cX5_ringSize.data.toList.drop 23 = dktX5_ringSize_1 := dk_seg dksX5_ringSize_0 23 rfl rfl
theorem dX5_ringSize_0 : decode cX5_ringSize 0 = .ok (.iconst 2, 1) := dk_5 (dk_at dksX5_ringSize_0 0 rfl rfl)
theorem dX5_ringSize_1 : decode cX5_ringSize 1 = .ok (.istore_n 1, 1) := dk_60 (dk_at dksX5_ringSize_0 1 rfl rfl)
theorem dX5_ringSize_2 : decode cX5_ringSize 2 = .ok (.iload_n 1, 1) := dk_27 (dk_at dksX5_ringSize_0 2 rfl rfl)
theorem dX5_ringSize_3 : decode cX5_ringSize 3 = .ok (.aload_n 0, 1) := dk_42 (dk_at dksX5_ringSize_0 3 rfl rfl)
theorem dX5_ringSize_4 : decode cX5_ringSize 4 = .ok (.invokevirtual 89, 3) := dk_182 0 89 (dk_at dksX5_ringSize_0 4 rfl rfl)
theorem dX5_ringSize_7 : decode cX5_ringSize 7 = .ok (.if_icmp .gt 19, 3) := dk_163 0 19 (dk_at dksX5_ringSize_0 7 rfl rfl)
theorem dX5_ringSize_10 : decode cX5_ringSize 10 = .ok (.aload_n 0, 1) := dk_42 (dk_at dksX5_ringSize_0 10 rfl rfl)
theorem dX5_ringSize_11 : decode cX5_ringSize 11 = .ok (.iload_n 1, 1) := dk_27 (dk_at dksX5_ringSize_0 11 rfl rfl)
theorem dX5_ringSize_12 : decode cX5_ringSize 12 = .ok (.invokevirtual 406, 3) := dk_182 1 150 (dk_at dksX5_ringSize_0 12 rfl rfl)
theorem dX5_ringSize_15 : decode cX5_ringSize 15 = .ok (.ifCond .eq 5, 3) := dk_153 0 5 (dk_at dksX5_ringSize_0 15 rfl rfl)
theorem dX5_ringSize_18 : decode cX5_ringSize 18 = .ok (.iload_n 1, 1) := dk_27 (dk_at dksX5_ringSize_0 18 rfl rfl)
theorem dX5_ringSize_19 : decode cX5_ringSize 19 = .ok (.ireturn, 1) := dk_172 (dk_at dksX5_ringSize_0 19 rfl rfl)
theorem dX5_ringSize_20 : decode cX5_ringSize 20 = .ok (.iinc 1 1, 3) := dk_132 1 1 (dk_at dksX5_ringSize_0 20 rfl rfl)
theorem dX5_ringSize_23 : decode cX5_ringSize 23 = .ok (.goto (-21), 3) := dk_167 255 235 (dk_at dksX5_ringSize_1 0 rfl rfl)
theorem dX5_ringSize_26 : decode cX5_ringSize 26 = .ok (.iconst (-1), 1) := dk_2 (dk_at dksX5_ringSize_1 3 rfl rfl)
theorem dX5_ringSize_27 : decode cX5_ringSize 27 = .ok (.ireturn, 1) := dk_172 (dk_at dksX5_ringSize_1 4 rfl rfl)
abbrev cX5_findsRing : ByteArray := prog_13_method_91_code
def yX5_findsRing : MethodName := ⟨RX5, "findsRing", "(I)Z"⟩
def dkwX5_findsRing_3 : List UInt8 := [27, 182, 1, 147, 153, 0, 5, 4, 172, 132, 3, 1, 167, 255, 196, 3, 172]
abbrev dktX5_findsRing_3 : List UInt8 := dkwX5_findsRing_3 ++ []
def dkwX5_findsRing_2 : List UInt8 := [21, 4, 42, 182, 0, 89, 112, 79, 21, 4, 42, 182, 0, 89, 108, 54, 4, 132, 5, 255, 167, 255, 225, 42]
abbrev dktX5_findsRing_2 : List UInt8 := dkwX5_findsRing_2 ++ dktX5_findsRing_3
def dkwX5_findsRing_1 : List UInt8 := [29, 28, 162, 0, 61, 29, 54, 4, 27, 4, 100, 54, 5, 21, 5, 155, 0, 32, 42, 180, 0, 61, 21, 5]
abbrev dktX5_findsRing_1 : List UInt8 := dkwX5_findsRing_1 ++ dktX5_findsRing_2
def dkwX5_findsRing_0 : List UInt8 := [4, 61, 3, 62, 29, 27, 162, 0, 16, 28, 42, 182, 0, 89, 104, 61, 132, 3, 1, 167, 255, 241, 3, 62]
abbrev dktX5_findsRing_0 : List UInt8 := dkwX5_findsRing_0 ++ dktX5_findsRing_1
theorem dksX5_findsRing_0 : cX5_findsRing.data.toList.drop 0 = dktX5_findsRing_0 := by decide +kernel
theorem dksX5_findsRing_1 : cX5_findsRing.data.toList.drop 24 = dktX5_findsRing_1 := dk_seg dksX5_findsRing_0 24 rfl rfl
theorem dksX5_findsRing_2 : cX5_findsRing.data.toList.drop 48 = dktX5_findsRing_2 := dk_seg dksX5_findsRing_1 24 rfl rfl
theorem dksX5_findsRing_3 : cX5_findsRing.data.toList.drop 72 = dktX5_findsRing_3 := dk_seg dksX5_findsRing_2 24 rfl rfl
theorem dX5_findsRing_0 : decode cX5_findsRing 0 = .ok (.iconst 1, 1) := dk_4 (dk_at dksX5_findsRing_0 0 rfl rfl)
theorem dX5_findsRing_1 : decode cX5_findsRing 1 = .ok (.istore_n 2, 1) := dk_61 (dk_at dksX5_findsRing_0 1 rfl rfl)
theorem dX5_findsRing_2 : decode cX5_findsRing 2 = .ok (.iconst 0, 1) := dk_3 (dk_at dksX5_findsRing_0 2 rfl rfl)
theorem dX5_findsRing_3 : decode cX5_findsRing 3 = .ok (.istore_n 3, 1) := dk_62 (dk_at dksX5_findsRing_0 3 rfl rfl)
theorem dX5_findsRing_4 : decode cX5_findsRing 4 = .ok (.iload_n 3, 1) := dk_29 (dk_at dksX5_findsRing_0 4 rfl rfl)
theorem dX5_findsRing_5 : decode cX5_findsRing 5 = .ok (.iload_n 1, 1) := dk_27 (dk_at dksX5_findsRing_0 5 rfl rfl)
theorem dX5_findsRing_6 : decode cX5_findsRing 6 = .ok (.if_icmp .ge 16, 3) := dk_162 0 16 (dk_at dksX5_findsRing_0 6 rfl rfl)
theorem dX5_findsRing_9 : decode cX5_findsRing 9 = .ok (.iload_n 2, 1) := dk_28 (dk_at dksX5_findsRing_0 9 rfl rfl)
theorem dX5_findsRing_10 : decode cX5_findsRing 10 = .ok (.aload_n 0, 1) := dk_42 (dk_at dksX5_findsRing_0 10 rfl rfl)
theorem dX5_findsRing_11 : decode cX5_findsRing 11 = .ok (.invokevirtual 89, 3) := dk_182 0 89 (dk_at dksX5_findsRing_0 11 rfl rfl)
theorem dX5_findsRing_14 : decode cX5_findsRing 14 = .ok (.imul, 1) := dk_104 (dk_at dksX5_findsRing_0 14 rfl rfl)
theorem dX5_findsRing_15 : decode cX5_findsRing 15 = .ok (.istore_n 2, 1) := dk_61 (dk_at dksX5_findsRing_0 15 rfl rfl)
theorem dX5_findsRing_16 : decode cX5_findsRing 16 = .ok (.iinc 3 1, 3) := dk_132 3 1 (dk_at dksX5_findsRing_0 16 rfl rfl)
theorem dX5_findsRing_19 : decode cX5_findsRing 19 = .ok (.goto (-15), 3) := dk_167 255 241 (dk_at dksX5_findsRing_0 19 rfl rfl)
theorem dX5_findsRing_22 : decode cX5_findsRing 22 = .ok (.iconst 0, 1) := dk_3 (dk_at dksX5_findsRing_0 22 rfl rfl)
theorem dX5_findsRing_23 : decode cX5_findsRing 23 = .ok (.istore_n 3, 1) := dk_62 (dk_at dksX5_findsRing_0 23 rfl rfl)
theorem dX5_findsRing_24 : decode cX5_findsRing 24 = .ok (.iload_n 3, 1) := dk_29 (dk_at dksX5_findsRing_1 0 rfl rfl)
theorem dX5_findsRing_25 : decode cX5_findsRing 25 = .ok (.iload_n 2, 1) := dk_28 (dk_at dksX5_findsRing_1 1 rfl rfl)
theorem dX5_findsRing_26 : decode cX5_findsRing 26 = .ok (.if_icmp .ge 61, 3) := dk_162 0 61 (dk_at dksX5_findsRing_1 2 rfl rfl)
theorem dX5_findsRing_29 : decode cX5_findsRing 29 = .ok (.iload_n 3, 1) := dk_29 (dk_at dksX5_findsRing_1 5 rfl rfl)
theorem dX5_findsRing_30 : decode cX5_findsRing 30 = .ok (.istore 4, 2) := dk_54 4 (dk_at dksX5_findsRing_1 6 rfl rfl)
theorem dX5_findsRing_32 : decode cX5_findsRing 32 = .ok (.iload_n 1, 1) := dk_27 (dk_at dksX5_findsRing_1 8 rfl rfl)
theorem dX5_findsRing_33 : decode cX5_findsRing 33 = .ok (.iconst 1, 1) := dk_4 (dk_at dksX5_findsRing_1 9 rfl rfl)
theorem dX5_findsRing_34 : decode cX5_findsRing 34 = .ok (.isub, 1) := dk_100 (dk_at dksX5_findsRing_1 10 rfl rfl)
theorem dX5_findsRing_35 : decode cX5_findsRing 35 = .ok (.istore 5, 2) := dk_54 5 (dk_at dksX5_findsRing_1 11 rfl rfl)
theorem dX5_findsRing_37 : decode cX5_findsRing 37 = .ok (.iload 5, 2) := dk_21 5 (dk_at dksX5_findsRing_1 13 rfl rfl)
theorem dX5_findsRing_39 : decode cX5_findsRing 39 = .ok (.ifCond .lt 32, 3) := dk_155 0 32 (dk_at dksX5_findsRing_1 15 rfl rfl)
theorem dX5_findsRing_42 : decode cX5_findsRing 42 = .ok (.aload_n 0, 1) := dk_42 (dk_at dksX5_findsRing_1 18 rfl rfl)
theorem dX5_findsRing_43 : decode cX5_findsRing 43 = .ok (.getfield 61, 3) := dk_180 0 61 (dk_at dksX5_findsRing_1 19 rfl rfl)
theorem dX5_findsRing_46 : decode cX5_findsRing 46 = .ok (.iload 5, 2) := dk_21 5 (dk_at dksX5_findsRing_1 22 rfl rfl)
theorem dX5_findsRing_48 : decode cX5_findsRing 48 = .ok (.iload 4, 2) := dk_21 4 (dk_at dksX5_findsRing_2 0 rfl rfl)
theorem dX5_findsRing_50 : decode cX5_findsRing 50 = .ok (.aload_n 0, 1) := dk_42 (dk_at dksX5_findsRing_2 2 rfl rfl)
theorem dX5_findsRing_51 : decode cX5_findsRing 51 = .ok (.invokevirtual 89, 3) := dk_182 0 89 (dk_at dksX5_findsRing_2 3 rfl rfl)
theorem dX5_findsRing_54 : decode cX5_findsRing 54 = .ok (.irem, 1) := dk_112 (dk_at dksX5_findsRing_2 6 rfl rfl)
theorem dX5_findsRing_55 : decode cX5_findsRing 55 = .ok (.iastore, 1) := dk_79 (dk_at dksX5_findsRing_2 7 rfl rfl)
theorem dX5_findsRing_56 : decode cX5_findsRing 56 = .ok (.iload 4, 2) := dk_21 4 (dk_at dksX5_findsRing_2 8 rfl rfl)
theorem dX5_findsRing_58 : decode cX5_findsRing 58 = .ok (.aload_n 0, 1) := dk_42 (dk_at dksX5_findsRing_2 10 rfl rfl)
theorem dX5_findsRing_59 : decode cX5_findsRing 59 = .ok (.invokevirtual 89, 3) := dk_182 0 89 (dk_at dksX5_findsRing_2 11 rfl rfl)
theorem dX5_findsRing_62 : decode cX5_findsRing 62 = .ok (.idiv, 1) := dk_108 (dk_at dksX5_findsRing_2 14 rfl rfl)
theorem dX5_findsRing_63 : decode cX5_findsRing 63 = .ok (.istore 4, 2) := dk_54 4 (dk_at dksX5_findsRing_2 15 rfl rfl)
theorem dX5_findsRing_65 : decode cX5_findsRing 65 = .ok (.iinc 5 (-1), 3) := dk_132 5 255 (dk_at dksX5_findsRing_2 17 rfl rfl)
theorem dX5_findsRing_68 : decode cX5_findsRing 68 = .ok (.goto (-31), 3) := dk_167 255 225 (dk_at dksX5_findsRing_2 20 rfl rfl)
theorem dX5_findsRing_71 : decode cX5_findsRing 71 = .ok (.aload_n 0, 1) := dk_42 (dk_at dksX5_findsRing_2 23 rfl rfl)
theorem dX5_findsRing_72 : decode cX5_findsRing 72 = .ok (.iload_n 1, 1) := dk_27 (dk_at dksX5_findsRing_3 0 rfl rfl)
theorem dX5_findsRing_73 : decode cX5_findsRing 73 = .ok (.invokevirtual 403, 3) := dk_182 1 147 (dk_at dksX5_findsRing_3 1 rfl rfl)
theorem dX5_findsRing_76 : decode cX5_findsRing 76 = .ok (.ifCond .eq 5, 3) := dk_153 0 5 (dk_at dksX5_findsRing_3 4 rfl rfl)
theorem dX5_findsRing_79 : decode cX5_findsRing 79 = .ok (.iconst 1, 1) := dk_4 (dk_at dksX5_findsRing_3 7 rfl rfl)
theorem dX5_findsRing_80 : decode cX5_findsRing 80 = .ok (.ireturn, 1) := dk_172 (dk_at dksX5_findsRing_3 8 rfl rfl)
theorem dX5_findsRing_81 : decode cX5_findsRing 81 = .ok (.iinc 3 1, 3) := dk_132 3 1 (dk_at dksX5_findsRing_3 9 rfl rfl)
theorem dX5_findsRing_84 : decode cX5_findsRing 84 = .ok (.goto (-60), 3) := dk_167 255 196 (dk_at dksX5_findsRing_3 12 rfl rfl)
theorem dX5_findsRing_87 : decode cX5_findsRing 87 = .ok (.iconst 0, 1) := dk_3 (dk_at dksX5_findsRing_3 15 rfl rfl)
theorem dX5_findsRing_88 : decode cX5_findsRing 88 = .ok (.ireturn, 1) := dk_172 (dk_at dksX5_findsRing_3 16 rfl rfl)
abbrev cX5_isRing : ByteArray := prog_13_method_90_code
def yX5_isRing : MethodName := ⟨RX5, "isRing", "(I)Z"⟩
def dkwX5_isRing_3 : List UInt8 := [46, 120, 128, 61, 132, 3, 1, 167, 255, 183, 4, 172]
abbrev dktX5_isRing_3 : List UInt8 := dkwX5_isRing_3 ++ []
def dkwX5_isRing_2 : List UInt8 := [180, 0, 61, 29, 4, 96, 27, 112, 46, 182, 1, 144, 154, 0, 5, 3, 172, 28, 4, 42, 180, 0, 61, 29]
abbrev dktX5_isRing_2 : List UInt8 := dkwX5_isRing_2 ++ dktX5_isRing_3
def dkwX5_isRing_1 : List UInt8 := [28, 42, 180, 0, 61, 29, 46, 122, 4, 126, 4, 159, 0, 26, 42, 42, 180, 0, 61, 29, 46, 42]
abbrev dktX5_isRing_1 : List UInt8 := dkwX5_isRing_1 ++ dktX5_isRing_2
def dkwX5_isRing_0 : List UInt8 := [3, 61, 3, 62, 29, 27, 162, 0, 74, 42, 180, 0, 61, 29, 46, 42, 180, 0, 61, 3, 46, 161, 0, 40]
abbrev dktX5_isRing_0 : List UInt8 := dkwX5_isRing_0 ++ dktX5_isRing_1
theorem dksX5_isRing_0 : cX5_isRing.data.toList.drop 0 = dktX5_isRing_0 := by decide +kernel
theorem dksX5_isRing_1 : cX5_isRing.data.toList.drop 24 = dktX5_isRing_1 := dk_seg dksX5_isRing_0 24 rfl rfl
theorem dksX5_isRing_2 : cX5_isRing.data.toList.drop 46 = dktX5_isRing_2 := dk_seg dksX5_isRing_1 22 rfl rfl
theorem dksX5_isRing_3 : cX5_isRing.data.toList.drop 70 = dktX5_isRing_3 := dk_seg dksX5_isRing_2 24 rfl rfl
theorem dX5_isRing_0 : decode cX5_isRing 0 = .ok (.iconst 0, 1) := dk_3 (dk_at dksX5_isRing_0 0 rfl rfl)
theorem dX5_isRing_1 : decode cX5_isRing 1 = .ok (.istore_n 2, 1) := dk_61 (dk_at dksX5_isRing_0 1 rfl rfl)
theorem dX5_isRing_2 : decode cX5_isRing 2 = .ok (.iconst 0, 1) := dk_3 (dk_at dksX5_isRing_0 2 rfl rfl)
theorem dX5_isRing_3 : decode cX5_isRing 3 = .ok (.istore_n 3, 1) := dk_62 (dk_at dksX5_isRing_0 3 rfl rfl)
theorem dX5_isRing_4 : decode cX5_isRing 4 = .ok (.iload_n 3, 1) := dk_29 (dk_at dksX5_isRing_0 4 rfl rfl)
theorem dX5_isRing_5 : decode cX5_isRing 5 = .ok (.iload_n 1, 1) := dk_27 (dk_at dksX5_isRing_0 5 rfl rfl)
theorem dX5_isRing_6 : decode cX5_isRing 6 = .ok (.if_icmp .ge 74, 3) := dk_162 0 74 (dk_at dksX5_isRing_0 6 rfl rfl)
theorem dX5_isRing_9 : decode cX5_isRing 9 = .ok (.aload_n 0, 1) := dk_42 (dk_at dksX5_isRing_0 9 rfl rfl)
theorem dX5_isRing_10 : decode cX5_isRing 10 = .ok (.getfield 61, 3) := dk_180 0 61 (dk_at dksX5_isRing_0 10 rfl rfl)
theorem dX5_isRing_13 : decode cX5_isRing 13 = .ok (.iload_n 3, 1) := dk_29 (dk_at dksX5_isRing_0 13 rfl rfl)
theorem dX5_isRing_14 : decode cX5_isRing 14 = .ok (.iaload, 1) := dk_46 (dk_at dksX5_isRing_0 14 rfl rfl)
theorem dX5_isRing_15 : decode cX5_isRing 15 = .ok (.aload_n 0, 1) := dk_42 (dk_at dksX5_isRing_0 15 rfl rfl)
theorem dX5_isRing_16 : decode cX5_isRing 16 = .ok (.getfield 61, 3) := dk_180 0 61 (dk_at dksX5_isRing_0 16 rfl rfl)
theorem dX5_isRing_19 : decode cX5_isRing 19 = .ok (.iconst 0, 1) := dk_3 (dk_at dksX5_isRing_0 19 rfl rfl)
theorem dX5_isRing_20 : decode cX5_isRing 20 = .ok (.iaload, 1) := dk_46 (dk_at dksX5_isRing_0 20 rfl rfl)
theorem dX5_isRing_21 : decode cX5_isRing 21 = .ok (.if_icmp .lt 40, 3) := dk_161 0 40 (dk_at dksX5_isRing_0 21 rfl rfl)
theorem dX5_isRing_24 : decode cX5_isRing 24 = .ok (.iload_n 2, 1) := dk_28 (dk_at dksX5_isRing_1 0 rfl rfl)
theorem dX5_isRing_25 : decode cX5_isRing 25 = .ok (.aload_n 0, 1) := dk_42 (dk_at dksX5_isRing_1 1 rfl rfl)
theorem dX5_isRing_26 : decode cX5_isRing 26 = .ok (.getfield 61, 3) := dk_180 0 61 (dk_at dksX5_isRing_1 2 rfl rfl)
theorem dX5_isRing_29 : decode cX5_isRing 29 = .ok (.iload_n 3, 1) := dk_29 (dk_at dksX5_isRing_1 5 rfl rfl)
theorem dX5_isRing_30 : decode cX5_isRing 30 = .ok (.iaload, 1) := dk_46 (dk_at dksX5_isRing_1 6 rfl rfl)
theorem dX5_isRing_31 : decode cX5_isRing 31 = .ok (.ishr, 1) := dk_122 (dk_at dksX5_isRing_1 7 rfl rfl)
theorem dX5_isRing_32 : decode cX5_isRing 32 = .ok (.iconst 1, 1) := dk_4 (dk_at dksX5_isRing_1 8 rfl rfl)
theorem dX5_isRing_33 : decode cX5_isRing 33 = .ok (.iand, 1) := dk_126 (dk_at dksX5_isRing_1 9 rfl rfl)
theorem dX5_isRing_34 : decode cX5_isRing 34 = .ok (.iconst 1, 1) := dk_4 (dk_at dksX5_isRing_1 10 rfl rfl)
theorem dX5_isRing_35 : decode cX5_isRing 35 = .ok (.if_icmp .eq 26, 3) := dk_159 0 26 (dk_at dksX5_isRing_1 11 rfl rfl)
theorem dX5_isRing_38 : decode cX5_isRing 38 = .ok (.aload_n 0, 1) := dk_42 (dk_at dksX5_isRing_1 14 rfl rfl)
theorem dX5_isRing_39 : decode cX5_isRing 39 = .ok (.aload_n 0, 1) := dk_42 (dk_at dksX5_isRing_1 15 rfl rfl)
theorem dX5_isRing_40 : decode cX5_isRing 40 = .ok (.getfield 61, 3) := dk_180 0 61 (dk_at dksX5_isRing_1 16 rfl rfl)
theorem dX5_isRing_43 : decode cX5_isRing 43 = .ok (.iload_n 3, 1) := dk_29 (dk_at dksX5_isRing_1 19 rfl rfl)
theorem dX5_isRing_44 : decode cX5_isRing 44 = .ok (.iaload, 1) := dk_46 (dk_at dksX5_isRing_1 20 rfl rfl)
theorem dX5_isRing_45 : decode cX5_isRing 45 = .ok (.aload_n 0, 1) := dk_42 (dk_at dksX5_isRing_1 21 rfl rfl)
theorem dX5_isRing_46 : decode cX5_isRing 46 = .ok (.getfield 61, 3) := dk_180 0 61 (dk_at dksX5_isRing_2 0 rfl rfl)
theorem dX5_isRing_49 : decode cX5_isRing 49 = .ok (.iload_n 3, 1) := dk_29 (dk_at dksX5_isRing_2 3 rfl rfl)
theorem dX5_isRing_50 : decode cX5_isRing 50 = .ok (.iconst 1, 1) := dk_4 (dk_at dksX5_isRing_2 4 rfl rfl)
theorem dX5_isRing_51 : decode cX5_isRing 51 = .ok (.iadd, 1) := dk_96 (dk_at dksX5_isRing_2 5 rfl rfl)
theorem dX5_isRing_52 : decode cX5_isRing 52 = .ok (.iload_n 1, 1) := dk_27 (dk_at dksX5_isRing_2 6 rfl rfl)
theorem dX5_isRing_53 : decode cX5_isRing 53 = .ok (.irem, 1) := dk_112 (dk_at dksX5_isRing_2 7 rfl rfl)
theorem dX5_isRing_54 : decode cX5_isRing 54 = .ok (.iaload, 1) := dk_46 (dk_at dksX5_isRing_2 8 rfl rfl)
theorem dX5_isRing_55 : decode cX5_isRing 55 = .ok (.invokevirtual 400, 3) := dk_182 1 144 (dk_at dksX5_isRing_2 9 rfl rfl)
theorem dX5_isRing_58 : decode cX5_isRing 58 = .ok (.ifCond .ne 5, 3) := dk_154 0 5 (dk_at dksX5_isRing_2 12 rfl rfl)
theorem dX5_isRing_61 : decode cX5_isRing 61 = .ok (.iconst 0, 1) := dk_3 (dk_at dksX5_isRing_2 15 rfl rfl)
theorem dX5_isRing_62 : decode cX5_isRing 62 = .ok (.ireturn, 1) := dk_172 (dk_at dksX5_isRing_2 16 rfl rfl)
theorem dX5_isRing_63 : decode cX5_isRing 63 = .ok (.iload_n 2, 1) := dk_28 (dk_at dksX5_isRing_2 17 rfl rfl)
theorem dX5_isRing_64 : decode cX5_isRing 64 = .ok (.iconst 1, 1) := dk_4 (dk_at dksX5_isRing_2 18 rfl rfl)
theorem dX5_isRing_65 : decode cX5_isRing 65 = .ok (.aload_n 0, 1) := dk_42 (dk_at dksX5_isRing_2 19 rfl rfl)
theorem dX5_isRing_66 : decode cX5_isRing 66 = .ok (.getfield 61, 3) := dk_180 0 61 (dk_at dksX5_isRing_2 20 rfl rfl)
theorem dX5_isRing_69 : decode cX5_isRing 69 = .ok (.iload_n 3, 1) := dk_29 (dk_at dksX5_isRing_2 23 rfl rfl)
theorem dX5_isRing_70 : decode cX5_isRing 70 = .ok (.iaload, 1) := dk_46 (dk_at dksX5_isRing_3 0 rfl rfl)
theorem dX5_isRing_71 : decode cX5_isRing 71 = .ok (.ishl, 1) := dk_120 (dk_at dksX5_isRing_3 1 rfl rfl)
theorem dX5_isRing_72 : decode cX5_isRing 72 = .ok (.ior, 1) := dk_128 (dk_at dksX5_isRing_3 2 rfl rfl)
theorem dX5_isRing_73 : decode cX5_isRing 73 = .ok (.istore_n 2, 1) := dk_61 (dk_at dksX5_isRing_3 3 rfl rfl)
theorem dX5_isRing_74 : decode cX5_isRing 74 = .ok (.iinc 3 1, 3) := dk_132 3 1 (dk_at dksX5_isRing_3 4 rfl rfl)
theorem dX5_isRing_77 : decode cX5_isRing 77 = .ok (.goto (-73), 3) := dk_167 255 183 (dk_at dksX5_isRing_3 7 rfl rfl)
theorem dX5_isRing_80 : decode cX5_isRing 80 = .ok (.iconst 1, 1) := dk_4 (dk_at dksX5_isRing_3 10 rfl rfl)
theorem dX5_isRing_81 : decode cX5_isRing 81 = .ok (.ireturn, 1) := dk_172 (dk_at dksX5_isRing_3 11 rfl rfl)
abbrev cX5_ring : ByteArray := prog_13_method_96_code
def yX5_ring : MethodName := ⟨RX5, "ring", "(I)I"⟩
def dkwX5_ring_1 : List UInt8 := [184, 0, 85, 153, 0, 12, 42, 180, 0, 58, 27, 46, 167, 0, 4, 2, 172]
abbrev dktX5_ring_1 : List UInt8 := dkwX5_ring_1 ++ []
def dkwX5_ring_0 : List UInt8 := [42, 182, 1, 66, 154, 0, 6, 16, 254, 172, 42, 182, 1, 168, 27, 133, 9, 42, 180, 1, 156, 4, 100, 133]
abbrev dktX5_ring_0 : List UInt8 := dkwX5_ring_0 ++ dktX5_ring_1
theorem dksX5_ring_0 : cX5_ring.data.toList.drop 0 = dktX5_ring_0 := by decide +kernel
theorem dksX5_ring_1 : cX5_ring.data.toList.drop 24 = dktX5_ring_1 := dk_seg dksX5_ring_0 24 rfl rfl
theorem dX5_ring_0 : decode cX5_ring 0 = .ok (.aload_n 0, 1) := dk_42 (dk_at dksX5_ring_0 0 rfl rfl)
theorem dX5_ring_1 : decode cX5_ring 1 = .ok (.invokevirtual 322, 3) := dk_182 1 66 (dk_at dksX5_ring_0 1 rfl rfl)
theorem dX5_ring_4 : decode cX5_ring 4 = .ok (.ifCond .ne 6, 3) := dk_154 0 6 (dk_at dksX5_ring_0 4 rfl rfl)
theorem dX5_ring_7 : decode cX5_ring 7 = .ok (.bipush (-2), 2) := dk_16 254 (dk_at dksX5_ring_0 7 rfl rfl)
theorem dX5_ring_9 : decode cX5_ring 9 = .ok (.ireturn, 1) := dk_172 (dk_at dksX5_ring_0 9 rfl rfl)
theorem dX5_ring_10 : decode cX5_ring 10 = .ok (.aload_n 0, 1) := dk_42 (dk_at dksX5_ring_0 10 rfl rfl)
theorem dX5_ring_11 : decode cX5_ring 11 = .ok (.invokevirtual 424, 3) := dk_182 1 168 (dk_at dksX5_ring_0 11 rfl rfl)
theorem dX5_ring_14 : decode cX5_ring 14 = .ok (.iload_n 1, 1) := dk_27 (dk_at dksX5_ring_0 14 rfl rfl)
theorem dX5_ring_15 : decode cX5_ring 15 = .ok (.i2l, 1) := dk_133 (dk_at dksX5_ring_0 15 rfl rfl)
theorem dX5_ring_16 : decode cX5_ring 16 = .ok (.lconst 0, 1) := dk_9 (dk_at dksX5_ring_0 16 rfl rfl)
theorem dX5_ring_17 : decode cX5_ring 17 = .ok (.aload_n 0, 1) := dk_42 (dk_at dksX5_ring_0 17 rfl rfl)
theorem dX5_ring_18 : decode cX5_ring 18 = .ok (.getfield 412, 3) := dk_180 1 156 (dk_at dksX5_ring_0 18 rfl rfl)
theorem dX5_ring_21 : decode cX5_ring 21 = .ok (.iconst 1, 1) := dk_4 (dk_at dksX5_ring_0 21 rfl rfl)
theorem dX5_ring_22 : decode cX5_ring 22 = .ok (.isub, 1) := dk_100 (dk_at dksX5_ring_0 22 rfl rfl)
theorem dX5_ring_23 : decode cX5_ring 23 = .ok (.i2l, 1) := dk_133 (dk_at dksX5_ring_0 23 rfl rfl)
theorem dX5_ring_24 : decode cX5_ring 24 = .ok (.invokestatic 85, 3) := dk_184 0 85 (dk_at dksX5_ring_1 0 rfl rfl)
theorem dX5_ring_27 : decode cX5_ring 27 = .ok (.ifCond .eq 12, 3) := dk_153 0 12 (dk_at dksX5_ring_1 3 rfl rfl)
theorem dX5_ring_30 : decode cX5_ring 30 = .ok (.aload_n 0, 1) := dk_42 (dk_at dksX5_ring_1 6 rfl rfl)
theorem dX5_ring_31 : decode cX5_ring 31 = .ok (.getfield 58, 3) := dk_180 0 58 (dk_at dksX5_ring_1 7 rfl rfl)
theorem dX5_ring_34 : decode cX5_ring 34 = .ok (.iload_n 1, 1) := dk_27 (dk_at dksX5_ring_1 10 rfl rfl)
theorem dX5_ring_35 : decode cX5_ring 35 = .ok (.iaload, 1) := dk_46 (dk_at dksX5_ring_1 11 rfl rfl)
theorem dX5_ring_36 : decode cX5_ring 36 = .ok (.goto 4, 3) := dk_167 0 4 (dk_at dksX5_ring_1 12 rfl rfl)
theorem dX5_ring_39 : decode cX5_ring 39 = .ok (.iconst (-1), 1) := dk_2 (dk_at dksX5_ring_1 15 rfl rfl)
theorem dX5_ring_40 : decode cX5_ring 40 = .ok (.ireturn, 1) := dk_172 (dk_at dksX5_ring_1 16 rfl rfl)
abbrev cX5_left : ByteArray := prog_13_method_97_code
def yX5_left : MethodName := ⟨RX5, "left", "(II)I"⟩
def dkwX5_left_0 : List UInt8 := [42, 27, 28, 182, 1, 165, 154, 0, 6, 16, 254, 172, 42, 182, 1, 168, 42, 27, 28, 182, 1, 144, 172]
abbrev dktX5_left_0 : List UInt8 := dkwX5_left_0 ++ []
theorem dksX5_left_0 : cX5_left.data.toList.drop 0 = dktX5_left_0 := by decide +kernel
theorem dX5_left_0 : decode cX5_left 0 = .ok (.aload_n 0, 1) := dk_42 (dk_at dksX5_left_0 0 rfl rfl)
theorem dX5_left_1 : decode cX5_left 1 = .ok (.iload_n 1, 1) := dk_27 (dk_at dksX5_left_0 1 rfl rfl)
theorem dX5_left_2 : decode cX5_left 2 = .ok (.iload_n 2, 1) := dk_28 (dk_at dksX5_left_0 2 rfl rfl)
theorem dX5_left_3 : decode cX5_left 3 = .ok (.invokevirtual 421, 3) := dk_182 1 165 (dk_at dksX5_left_0 3 rfl rfl)
theorem dX5_left_6 : decode cX5_left 6 = .ok (.ifCond .ne 6, 3) := dk_154 0 6 (dk_at dksX5_left_0 6 rfl rfl)
theorem dX5_left_9 : decode cX5_left 9 = .ok (.bipush (-2), 2) := dk_16 254 (dk_at dksX5_left_0 9 rfl rfl)
theorem dX5_left_11 : decode cX5_left 11 = .ok (.ireturn, 1) := dk_172 (dk_at dksX5_left_0 11 rfl rfl)
theorem dX5_left_12 : decode cX5_left 12 = .ok (.aload_n 0, 1) := dk_42 (dk_at dksX5_left_0 12 rfl rfl)
theorem dX5_left_13 : decode cX5_left 13 = .ok (.invokevirtual 424, 3) := dk_182 1 168 (dk_at dksX5_left_0 13 rfl rfl)
theorem dX5_left_16 : decode cX5_left 16 = .ok (.aload_n 0, 1) := dk_42 (dk_at dksX5_left_0 16 rfl rfl)
theorem dX5_left_17 : decode cX5_left 17 = .ok (.iload_n 1, 1) := dk_27 (dk_at dksX5_left_0 17 rfl rfl)
theorem dX5_left_18 : decode cX5_left 18 = .ok (.iload_n 2, 1) := dk_28 (dk_at dksX5_left_0 18 rfl rfl)
theorem dX5_left_19 : decode cX5_left 19 = .ok (.invokevirtual 400, 3) := dk_182 1 144 (dk_at dksX5_left_0 19 rfl rfl)
theorem dX5_left_22 : decode cX5_left 22 = .ok (.ireturn, 1) := dk_172 (dk_at dksX5_left_0 22 rfl rfl)
abbrev cX5_struck : ByteArray := prog_13_method_103_code
def yX5_struck : MethodName := ⟨RX5, "struck", "(II)I"⟩
def dkwX5_struck_3 : List UInt8 := [132, 4, 1, 167, 255, 236, 29, 172]
abbrev dktX5_struck_3 : List UInt8 := dkwX5_struck_3 ++ []
def dkwX5_struck_2 : List UInt8 := [3, 62, 3, 54, 4, 21, 4, 16, 36, 162, 0, 19, 29, 42, 180, 0, 64, 21, 4, 46, 96, 62]
abbrev dktX5_struck_2 : List UInt8 := dkwX5_struck_2 ++ dktX5_struck_3
def dkwX5_struck_1 : List UInt8 := [184, 0, 85, 154, 0, 6, 16, 254, 172, 42, 27, 182, 1, 178, 28, 4, 160, 0, 8, 42, 182, 1, 181, 172]
abbrev dktX5_struck_1 : List UInt8 := dkwX5_struck_1 ++ dktX5_struck_2
def dkwX5_struck_0 : List UInt8 := [42, 182, 1, 66, 153, 0, 25, 27, 133, 9, 20, 0, 83, 184, 0, 85, 153, 0, 13, 28, 133, 9, 10]
abbrev dktX5_struck_0 : List UInt8 := dkwX5_struck_0 ++ dktX5_struck_1
theorem dksX5_struck_0 : cX5_struck.data.toList.drop 0 = dktX5_struck_0 := by decide +kernel
theorem dksX5_struck_1 : cX5_struck.data.toList.drop 23 = dktX5_struck_1 := dk_seg dksX5_struck_0 23 rfl rfl
theorem dksX5_struck_2 : cX5_struck.data.toList.drop 47 = dktX5_struck_2 := dk_seg dksX5_struck_1 24 rfl rfl
theorem dksX5_struck_3 : cX5_struck.data.toList.drop 69 = dktX5_struck_3 := dk_seg dksX5_struck_2 22 rfl rfl
theorem dX5_struck_0 : decode cX5_struck 0 = .ok (.aload_n 0, 1) := dk_42 (dk_at dksX5_struck_0 0 rfl rfl)
theorem dX5_struck_1 : decode cX5_struck 1 = .ok (.invokevirtual 322, 3) := dk_182 1 66 (dk_at dksX5_struck_0 1 rfl rfl)
theorem dX5_struck_4 : decode cX5_struck 4 = .ok (.ifCond .eq 25, 3) := dk_153 0 25 (dk_at dksX5_struck_0 4 rfl rfl)
theorem dX5_struck_7 : decode cX5_struck 7 = .ok (.iload_n 1, 1) := dk_27 (dk_at dksX5_struck_0 7 rfl rfl)
theorem dX5_struck_8 : decode cX5_struck 8 = .ok (.i2l, 1) := dk_133 (dk_at dksX5_struck_0 8 rfl rfl)
theorem dX5_struck_9 : decode cX5_struck 9 = .ok (.lconst 0, 1) := dk_9 (dk_at dksX5_struck_0 9 rfl rfl)
theorem dX5_struck_10 : decode cX5_struck 10 = .ok (.ldc2_w 83, 3) := dk_20 0 83 (dk_at dksX5_struck_0 10 rfl rfl)
theorem dX5_struck_13 : decode cX5_struck 13 = .ok (.invokestatic 85, 3) := dk_184 0 85 (dk_at dksX5_struck_0 13 rfl rfl)
theorem dX5_struck_16 : decode cX5_struck 16 = .ok (.ifCond .eq 13, 3) := dk_153 0 13 (dk_at dksX5_struck_0 16 rfl rfl)
theorem dX5_struck_19 : decode cX5_struck 19 = .ok (.iload_n 2, 1) := dk_28 (dk_at dksX5_struck_0 19 rfl rfl)
theorem dX5_struck_20 : decode cX5_struck 20 = .ok (.i2l, 1) := dk_133 (dk_at dksX5_struck_0 20 rfl rfl)
theorem dX5_struck_21 : decode cX5_struck 21 = .ok (.lconst 0, 1) := dk_9 (dk_at dksX5_struck_0 21 rfl rfl)
theorem dX5_struck_22 : decode cX5_struck 22 = .ok (.lconst 1, 1) := dk_10 (dk_at dksX5_struck_0 22 rfl rfl)
theorem dX5_struck_23 : decode cX5_struck 23 = .ok (.invokestatic 85, 3) := dk_184 0 85 (dk_at dksX5_struck_1 0 rfl rfl)
theorem dX5_struck_26 : decode cX5_struck 26 = .ok (.ifCond .ne 6, 3) := dk_154 0 6 (dk_at dksX5_struck_1 3 rfl rfl)
theorem dX5_struck_29 : decode cX5_struck 29 = .ok (.bipush (-2), 2) := dk_16 254 (dk_at dksX5_struck_1 6 rfl rfl)
theorem dX5_struck_31 : decode cX5_struck 31 = .ok (.ireturn, 1) := dk_172 (dk_at dksX5_struck_1 8 rfl rfl)
theorem dX5_struck_32 : decode cX5_struck 32 = .ok (.aload_n 0, 1) := dk_42 (dk_at dksX5_struck_1 9 rfl rfl)
theorem dX5_struck_33 : decode cX5_struck 33 = .ok (.iload_n 1, 1) := dk_27 (dk_at dksX5_struck_1 10 rfl rfl)
theorem dX5_struck_34 : decode cX5_struck 34 = .ok (.invokevirtual 434, 3) := dk_182 1 178 (dk_at dksX5_struck_1 11 rfl rfl)
theorem dX5_struck_37 : decode cX5_struck 37 = .ok (.iload_n 2, 1) := dk_28 (dk_at dksX5_struck_1 14 rfl rfl)
theorem dX5_struck_38 : decode cX5_struck 38 = .ok (.iconst 1, 1) := dk_4 (dk_at dksX5_struck_1 15 rfl rfl)
theorem dX5_struck_39 : decode cX5_struck 39 = .ok (.if_icmp .ne 8, 3) := dk_160 0 8 (dk_at dksX5_struck_1 16 rfl rfl)
theorem dX5_struck_42 : decode cX5_struck 42 = .ok (.aload_n 0, 1) := dk_42 (dk_at dksX5_struck_1 19 rfl rfl)
theorem dX5_struck_43 : decode cX5_struck 43 = .ok (.invokevirtual 437, 3) := dk_182 1 181 (dk_at dksX5_struck_1 20 rfl rfl)
theorem dX5_struck_46 : decode cX5_struck 46 = .ok (.ireturn, 1) := dk_172 (dk_at dksX5_struck_1 23 rfl rfl)
theorem dX5_struck_47 : decode cX5_struck 47 = .ok (.iconst 0, 1) := dk_3 (dk_at dksX5_struck_2 0 rfl rfl)
theorem dX5_struck_48 : decode cX5_struck 48 = .ok (.istore_n 3, 1) := dk_62 (dk_at dksX5_struck_2 1 rfl rfl)
theorem dX5_struck_49 : decode cX5_struck 49 = .ok (.iconst 0, 1) := dk_3 (dk_at dksX5_struck_2 2 rfl rfl)
theorem dX5_struck_50 : decode cX5_struck 50 = .ok (.istore 4, 2) := dk_54 4 (dk_at dksX5_struck_2 3 rfl rfl)
theorem dX5_struck_52 : decode cX5_struck 52 = .ok (.iload 4, 2) := dk_21 4 (dk_at dksX5_struck_2 5 rfl rfl)
theorem dX5_struck_54 : decode cX5_struck 54 = .ok (.bipush 36, 2) := dk_16 36 (dk_at dksX5_struck_2 7 rfl rfl)
theorem dX5_struck_56 : decode cX5_struck 56 = .ok (.if_icmp .ge 19, 3) := dk_162 0 19 (dk_at dksX5_struck_2 9 rfl rfl)
theorem dX5_struck_59 : decode cX5_struck 59 = .ok (.iload_n 3, 1) := dk_29 (dk_at dksX5_struck_2 12 rfl rfl)
theorem dX5_struck_60 : decode cX5_struck 60 = .ok (.aload_n 0, 1) := dk_42 (dk_at dksX5_struck_2 13 rfl rfl)
theorem dX5_struck_61 : decode cX5_struck 61 = .ok (.getfield 64, 3) := dk_180 0 64 (dk_at dksX5_struck_2 14 rfl rfl)
theorem dX5_struck_64 : decode cX5_struck 64 = .ok (.iload 4, 2) := dk_21 4 (dk_at dksX5_struck_2 17 rfl rfl)
theorem dX5_struck_66 : decode cX5_struck 66 = .ok (.iaload, 1) := dk_46 (dk_at dksX5_struck_2 19 rfl rfl)
theorem dX5_struck_67 : decode cX5_struck 67 = .ok (.iadd, 1) := dk_96 (dk_at dksX5_struck_2 20 rfl rfl)
theorem dX5_struck_68 : decode cX5_struck 68 = .ok (.istore_n 3, 1) := dk_62 (dk_at dksX5_struck_2 21 rfl rfl)
theorem dX5_struck_69 : decode cX5_struck 69 = .ok (.iinc 4 1, 3) := dk_132 4 1 (dk_at dksX5_struck_3 0 rfl rfl)
theorem dX5_struck_72 : decode cX5_struck 72 = .ok (.goto (-20), 3) := dk_167 255 236 (dk_at dksX5_struck_3 3 rfl rfl)
theorem dX5_struck_75 : decode cX5_struck 75 = .ok (.iload_n 3, 1) := dk_29 (dk_at dksX5_struck_3 6 rfl rfl)
theorem dX5_struck_76 : decode cX5_struck 76 = .ok (.ireturn, 1) := dk_172 (dk_at dksX5_struck_3 7 rfl rfl)
abbrev cX5_strikes : ByteArray := prog_13_method_100_code
def yX5_strikes : MethodName := ⟨RX5, "strikes", "(I)V"⟩
def dkwX5_strikes_7 : List UInt8 := [132, 2, 1, 167, 255, 118, 177]
abbrev dktX5_strikes_7 : List UInt8 := dkwX5_strikes_7 ++ []
def dkwX5_strikes_6 : List UInt8 := [54, 4, 21, 5, 4, 21, 6, 120, 128, 54, 5, 42, 27, 28, 21, 5, 182, 1, 174, 54, 6, 167, 255, 158]
abbrev dktX5_strikes_6 : List UInt8 := dkwX5_strikes_6 ++ dktX5_strikes_7
def dkwX5_strikes_5 : List UInt8 := [184, 0, 128, 54, 7, 42, 180, 0, 64, 16, 6, 28, 104, 21, 6, 96, 21, 7, 79, 21, 4, 21, 7, 100]
abbrev dktX5_strikes_5 : List UInt8 := dkwX5_strikes_5 ++ dktX5_strikes_6
def dkwX5_strikes_4 : List UInt8 := [180, 0, 34, 28, 46, 133, 105, 29, 133, 109, 136, 167, 0, 15, 42, 28, 21, 6, 182, 1, 144, 21, 4]
abbrev dktX5_strikes_4 : List UInt8 := dkwX5_strikes_4 ++ dktX5_strikes_5
def dkwX5_strikes_3 : List UInt8 := [160, 0, 36, 42, 180, 0, 34, 28, 46, 29, 162, 0, 26, 42, 28, 21, 6, 182, 1, 144, 133, 42]
abbrev dktX5_strikes_3 : List UInt8 := dkwX5_strikes_3 ++ dktX5_strikes_4
def dkwX5_strikes_2 : List UInt8 := [46, 54, 4, 3, 54, 5, 42, 27, 28, 3, 182, 1, 174, 54, 6, 21, 6, 2, 159, 0, 98, 27, 5]
abbrev dktX5_strikes_2 : List UInt8 := dkwX5_strikes_2 ++ dktX5_strikes_3
def dkwX5_strikes_1 : List UInt8 := [167, 255, 240, 3, 61, 28, 42, 182, 0, 89, 162, 0, 136, 42, 28, 182, 1, 171, 62, 42, 180, 0, 34, 28]
abbrev dktX5_strikes_1 : List UInt8 := dkwX5_strikes_1 ++ dktX5_strikes_2
def dkwX5_strikes_0 : List UInt8 := [42, 182, 1, 153, 3, 61, 28, 16, 36, 162, 0, 16, 42, 180, 0, 64, 28, 3, 79, 132, 2, 1]
abbrev dktX5_strikes_0 : List UInt8 := dkwX5_strikes_0 ++ dktX5_strikes_1
theorem dksX5_strikes_0 : cX5_strikes.data.toList.drop 0 = dktX5_strikes_0 := by decide +kernel
theorem dksX5_strikes_1 : cX5_strikes.data.toList.drop 22 = dktX5_strikes_1 := dk_seg dksX5_strikes_0 22 rfl rfl
theorem dksX5_strikes_2 : cX5_strikes.data.toList.drop 46 = dktX5_strikes_2 := dk_seg dksX5_strikes_1 24 rfl rfl
theorem dksX5_strikes_3 : cX5_strikes.data.toList.drop 69 = dktX5_strikes_3 := dk_seg dksX5_strikes_2 23 rfl rfl
theorem dksX5_strikes_4 : cX5_strikes.data.toList.drop 91 = dktX5_strikes_4 := dk_seg dksX5_strikes_3 22 rfl rfl
theorem dksX5_strikes_5 : cX5_strikes.data.toList.drop 114 = dktX5_strikes_5 := dk_seg dksX5_strikes_4 23 rfl rfl
theorem dksX5_strikes_6 : cX5_strikes.data.toList.drop 138 = dktX5_strikes_6 := dk_seg dksX5_strikes_5 24 rfl rfl
theorem dksX5_strikes_7 : cX5_strikes.data.toList.drop 162 = dktX5_strikes_7 := dk_seg dksX5_strikes_6 24 rfl rfl
theorem dX5_strikes_0 : decode cX5_strikes 0 = .ok (.aload_n 0, 1) := dk_42 (dk_at dksX5_strikes_0 0 rfl rfl)
theorem dX5_strikes_1 : decode cX5_strikes 1 = .ok (.invokevirtual 409, 3) := dk_182 1 153 (dk_at dksX5_strikes_0 1 rfl rfl)
theorem dX5_strikes_4 : decode cX5_strikes 4 = .ok (.iconst 0, 1) := dk_3 (dk_at dksX5_strikes_0 4 rfl rfl)
theorem dX5_strikes_5 : decode cX5_strikes 5 = .ok (.istore_n 2, 1) := dk_61 (dk_at dksX5_strikes_0 5 rfl rfl)
theorem dX5_strikes_6 : decode cX5_strikes 6 = .ok (.iload_n 2, 1) := dk_28 (dk_at dksX5_strikes_0 6 rfl rfl)
theorem dX5_strikes_7 : decode cX5_strikes 7 = .ok (.bipush 36, 2) := dk_16 36 (dk_at dksX5_strikes_0 7 rfl rfl)
theorem dX5_strikes_9 : decode cX5_strikes 9 = .ok (.if_icmp .ge 16, 3) := dk_162 0 16 (dk_at dksX5_strikes_0 9 rfl rfl)
theorem dX5_strikes_12 : decode cX5_strikes 12 = .ok (.aload_n 0, 1) := dk_42 (dk_at dksX5_strikes_0 12 rfl rfl)
theorem dX5_strikes_13 : decode cX5_strikes 13 = .ok (.getfield 64, 3) := dk_180 0 64 (dk_at dksX5_strikes_0 13 rfl rfl)
theorem dX5_strikes_16 : decode cX5_strikes 16 = .ok (.iload_n 2, 1) := dk_28 (dk_at dksX5_strikes_0 16 rfl rfl)
theorem dX5_strikes_17 : decode cX5_strikes 17 = .ok (.iconst 0, 1) := dk_3 (dk_at dksX5_strikes_0 17 rfl rfl)
theorem dX5_strikes_18 : decode cX5_strikes 18 = .ok (.iastore, 1) := dk_79 (dk_at dksX5_strikes_0 18 rfl rfl)
theorem dX5_strikes_19 : decode cX5_strikes 19 = .ok (.iinc 2 1, 3) := dk_132 2 1 (dk_at dksX5_strikes_0 19 rfl rfl)
theorem dX5_strikes_22 : decode cX5_strikes 22 = .ok (.goto (-16), 3) := dk_167 255 240 (dk_at dksX5_strikes_1 0 rfl rfl)
theorem dX5_strikes_25 : decode cX5_strikes 25 = .ok (.iconst 0, 1) := dk_3 (dk_at dksX5_strikes_1 3 rfl rfl)
theorem dX5_strikes_26 : decode cX5_strikes 26 = .ok (.istore_n 2, 1) := dk_61 (dk_at dksX5_strikes_1 4 rfl rfl)
theorem dX5_strikes_27 : decode cX5_strikes 27 = .ok (.iload_n 2, 1) := dk_28 (dk_at dksX5_strikes_1 5 rfl rfl)
theorem dX5_strikes_28 : decode cX5_strikes 28 = .ok (.aload_n 0, 1) := dk_42 (dk_at dksX5_strikes_1 6 rfl rfl)
theorem dX5_strikes_29 : decode cX5_strikes 29 = .ok (.invokevirtual 89, 3) := dk_182 0 89 (dk_at dksX5_strikes_1 7 rfl rfl)
theorem dX5_strikes_32 : decode cX5_strikes 32 = .ok (.if_icmp .ge 136, 3) := dk_162 0 136 (dk_at dksX5_strikes_1 10 rfl rfl)
theorem dX5_strikes_35 : decode cX5_strikes 35 = .ok (.aload_n 0, 1) := dk_42 (dk_at dksX5_strikes_1 13 rfl rfl)
theorem dX5_strikes_36 : decode cX5_strikes 36 = .ok (.iload_n 2, 1) := dk_28 (dk_at dksX5_strikes_1 14 rfl rfl)
theorem dX5_strikes_37 : decode cX5_strikes 37 = .ok (.invokevirtual 427, 3) := dk_182 1 171 (dk_at dksX5_strikes_1 15 rfl rfl)
theorem dX5_strikes_40 : decode cX5_strikes 40 = .ok (.istore_n 3, 1) := dk_62 (dk_at dksX5_strikes_1 18 rfl rfl)
theorem dX5_strikes_41 : decode cX5_strikes 41 = .ok (.aload_n 0, 1) := dk_42 (dk_at dksX5_strikes_1 19 rfl rfl)
theorem dX5_strikes_42 : decode cX5_strikes 42 = .ok (.getfield 34, 3) := dk_180 0 34 (dk_at dksX5_strikes_1 20 rfl rfl)
theorem dX5_strikes_45 : decode cX5_strikes 45 = .ok (.iload_n 2, 1) := dk_28 (dk_at dksX5_strikes_1 23 rfl rfl)
theorem dX5_strikes_46 : decode cX5_strikes 46 = .ok (.iaload, 1) := dk_46 (dk_at dksX5_strikes_2 0 rfl rfl)
theorem dX5_strikes_47 : decode cX5_strikes 47 = .ok (.istore 4, 2) := dk_54 4 (dk_at dksX5_strikes_2 1 rfl rfl)
theorem dX5_strikes_49 : decode cX5_strikes 49 = .ok (.iconst 0, 1) := dk_3 (dk_at dksX5_strikes_2 3 rfl rfl)
theorem dX5_strikes_50 : decode cX5_strikes 50 = .ok (.istore 5, 2) := dk_54 5 (dk_at dksX5_strikes_2 4 rfl rfl)
theorem dX5_strikes_52 : decode cX5_strikes 52 = .ok (.aload_n 0, 1) := dk_42 (dk_at dksX5_strikes_2 6 rfl rfl)
theorem dX5_strikes_53 : decode cX5_strikes 53 = .ok (.iload_n 1, 1) := dk_27 (dk_at dksX5_strikes_2 7 rfl rfl)
theorem dX5_strikes_54 : decode cX5_strikes 54 = .ok (.iload_n 2, 1) := dk_28 (dk_at dksX5_strikes_2 8 rfl rfl)
theorem dX5_strikes_55 : decode cX5_strikes 55 = .ok (.iconst 0, 1) := dk_3 (dk_at dksX5_strikes_2 9 rfl rfl)
theorem dX5_strikes_56 : decode cX5_strikes 56 = .ok (.invokevirtual 430, 3) := dk_182 1 174 (dk_at dksX5_strikes_2 10 rfl rfl)
theorem dX5_strikes_59 : decode cX5_strikes 59 = .ok (.istore 6, 2) := dk_54 6 (dk_at dksX5_strikes_2 13 rfl rfl)
theorem dX5_strikes_61 : decode cX5_strikes 61 = .ok (.iload 6, 2) := dk_21 6 (dk_at dksX5_strikes_2 15 rfl rfl)
theorem dX5_strikes_63 : decode cX5_strikes 63 = .ok (.iconst (-1), 1) := dk_2 (dk_at dksX5_strikes_2 17 rfl rfl)
theorem dX5_strikes_64 : decode cX5_strikes 64 = .ok (.if_icmp .eq 98, 3) := dk_159 0 98 (dk_at dksX5_strikes_2 18 rfl rfl)
theorem dX5_strikes_67 : decode cX5_strikes 67 = .ok (.iload_n 1, 1) := dk_27 (dk_at dksX5_strikes_2 21 rfl rfl)
theorem dX5_strikes_68 : decode cX5_strikes 68 = .ok (.iconst 2, 1) := dk_5 (dk_at dksX5_strikes_2 22 rfl rfl)
theorem dX5_strikes_69 : decode cX5_strikes 69 = .ok (.if_icmp .ne 36, 3) := dk_160 0 36 (dk_at dksX5_strikes_3 0 rfl rfl)
theorem dX5_strikes_72 : decode cX5_strikes 72 = .ok (.aload_n 0, 1) := dk_42 (dk_at dksX5_strikes_3 3 rfl rfl)
theorem dX5_strikes_73 : decode cX5_strikes 73 = .ok (.getfield 34, 3) := dk_180 0 34 (dk_at dksX5_strikes_3 4 rfl rfl)
theorem dX5_strikes_76 : decode cX5_strikes 76 = .ok (.iload_n 2, 1) := dk_28 (dk_at dksX5_strikes_3 7 rfl rfl)
theorem dX5_strikes_77 : decode cX5_strikes 77 = .ok (.iaload, 1) := dk_46 (dk_at dksX5_strikes_3 8 rfl rfl)
theorem dX5_strikes_78 : decode cX5_strikes 78 = .ok (.iload_n 3, 1) := dk_29 (dk_at dksX5_strikes_3 9 rfl rfl)
theorem dX5_strikes_79 : decode cX5_strikes 79 = .ok (.if_icmp .ge 26, 3) := dk_162 0 26 (dk_at dksX5_strikes_3 10 rfl rfl)
theorem dX5_strikes_82 : decode cX5_strikes 82 = .ok (.aload_n 0, 1) := dk_42 (dk_at dksX5_strikes_3 13 rfl rfl)
theorem dX5_strikes_83 : decode cX5_strikes 83 = .ok (.iload_n 2, 1) := dk_28 (dk_at dksX5_strikes_3 14 rfl rfl)
theorem dX5_strikes_84 : decode cX5_strikes 84 = .ok (.iload 6, 2) := dk_21 6 (dk_at dksX5_strikes_3 15 rfl rfl)
theorem dX5_strikes_86 : decode cX5_strikes 86 = .ok (.invokevirtual 400, 3) := dk_182 1 144 (dk_at dksX5_strikes_3 17 rfl rfl)
theorem dX5_strikes_89 : decode cX5_strikes 89 = .ok (.i2l, 1) := dk_133 (dk_at dksX5_strikes_3 20 rfl rfl)
theorem dX5_strikes_90 : decode cX5_strikes 90 = .ok (.aload_n 0, 1) := dk_42 (dk_at dksX5_strikes_3 21 rfl rfl)
theorem dX5_strikes_91 : decode cX5_strikes 91 = .ok (.getfield 34, 3) := dk_180 0 34 (dk_at dksX5_strikes_4 0 rfl rfl)
theorem dX5_strikes_94 : decode cX5_strikes 94 = .ok (.iload_n 2, 1) := dk_28 (dk_at dksX5_strikes_4 3 rfl rfl)
theorem dX5_strikes_95 : decode cX5_strikes 95 = .ok (.iaload, 1) := dk_46 (dk_at dksX5_strikes_4 4 rfl rfl)
theorem dX5_strikes_96 : decode cX5_strikes 96 = .ok (.i2l, 1) := dk_133 (dk_at dksX5_strikes_4 5 rfl rfl)
theorem dX5_strikes_97 : decode cX5_strikes 97 = .ok (.lmul, 1) := dk_105 (dk_at dksX5_strikes_4 6 rfl rfl)
theorem dX5_strikes_98 : decode cX5_strikes 98 = .ok (.iload_n 3, 1) := dk_29 (dk_at dksX5_strikes_4 7 rfl rfl)
theorem dX5_strikes_99 : decode cX5_strikes 99 = .ok (.i2l, 1) := dk_133 (dk_at dksX5_strikes_4 8 rfl rfl)
theorem dX5_strikes_100 : decode cX5_strikes 100 = .ok (.ldiv, 1) := dk_109 (dk_at dksX5_strikes_4 9 rfl rfl)
theorem dX5_strikes_101 : decode cX5_strikes 101 = .ok (.l2i, 1) := dk_136 (dk_at dksX5_strikes_4 10 rfl rfl)
theorem dX5_strikes_102 : decode cX5_strikes 102 = .ok (.goto 15, 3) := dk_167 0 15 (dk_at dksX5_strikes_4 11 rfl rfl)
theorem dX5_strikes_105 : decode cX5_strikes 105 = .ok (.aload_n 0, 1) := dk_42 (dk_at dksX5_strikes_4 14 rfl rfl)
theorem dX5_strikes_106 : decode cX5_strikes 106 = .ok (.iload_n 2, 1) := dk_28 (dk_at dksX5_strikes_4 15 rfl rfl)
theorem dX5_strikes_107 : decode cX5_strikes 107 = .ok (.iload 6, 2) := dk_21 6 (dk_at dksX5_strikes_4 16 rfl rfl)
theorem dX5_strikes_109 : decode cX5_strikes 109 = .ok (.invokevirtual 400, 3) := dk_182 1 144 (dk_at dksX5_strikes_4 18 rfl rfl)
theorem dX5_strikes_112 : decode cX5_strikes 112 = .ok (.iload 4, 2) := dk_21 4 (dk_at dksX5_strikes_4 21 rfl rfl)
theorem dX5_strikes_114 : decode cX5_strikes 114 = .ok (.invokestatic 128, 3) := dk_184 0 128 (dk_at dksX5_strikes_5 0 rfl rfl)
theorem dX5_strikes_117 : decode cX5_strikes 117 = .ok (.istore 7, 2) := dk_54 7 (dk_at dksX5_strikes_5 3 rfl rfl)
theorem dX5_strikes_119 : decode cX5_strikes 119 = .ok (.aload_n 0, 1) := dk_42 (dk_at dksX5_strikes_5 5 rfl rfl)
theorem dX5_strikes_120 : decode cX5_strikes 120 = .ok (.getfield 64, 3) := dk_180 0 64 (dk_at dksX5_strikes_5 6 rfl rfl)
theorem dX5_strikes_123 : decode cX5_strikes 123 = .ok (.bipush 6, 2) := dk_16 6 (dk_at dksX5_strikes_5 9 rfl rfl)
theorem dX5_strikes_125 : decode cX5_strikes 125 = .ok (.iload_n 2, 1) := dk_28 (dk_at dksX5_strikes_5 11 rfl rfl)
theorem dX5_strikes_126 : decode cX5_strikes 126 = .ok (.imul, 1) := dk_104 (dk_at dksX5_strikes_5 12 rfl rfl)
theorem dX5_strikes_127 : decode cX5_strikes 127 = .ok (.iload 6, 2) := dk_21 6 (dk_at dksX5_strikes_5 13 rfl rfl)
theorem dX5_strikes_129 : decode cX5_strikes 129 = .ok (.iadd, 1) := dk_96 (dk_at dksX5_strikes_5 15 rfl rfl)
theorem dX5_strikes_130 : decode cX5_strikes 130 = .ok (.iload 7, 2) := dk_21 7 (dk_at dksX5_strikes_5 16 rfl rfl)
theorem dX5_strikes_132 : decode cX5_strikes 132 = .ok (.iastore, 1) := dk_79 (dk_at dksX5_strikes_5 18 rfl rfl)
theorem dX5_strikes_133 : decode cX5_strikes 133 = .ok (.iload 4, 2) := dk_21 4 (dk_at dksX5_strikes_5 19 rfl rfl)
theorem dX5_strikes_135 : decode cX5_strikes 135 = .ok (.iload 7, 2) := dk_21 7 (dk_at dksX5_strikes_5 21 rfl rfl)
theorem dX5_strikes_137 : decode cX5_strikes 137 = .ok (.isub, 1) := dk_100 (dk_at dksX5_strikes_5 23 rfl rfl)
theorem dX5_strikes_138 : decode cX5_strikes 138 = .ok (.istore 4, 2) := dk_54 4 (dk_at dksX5_strikes_6 0 rfl rfl)
theorem dX5_strikes_140 : decode cX5_strikes 140 = .ok (.iload 5, 2) := dk_21 5 (dk_at dksX5_strikes_6 2 rfl rfl)
theorem dX5_strikes_142 : decode cX5_strikes 142 = .ok (.iconst 1, 1) := dk_4 (dk_at dksX5_strikes_6 4 rfl rfl)
theorem dX5_strikes_143 : decode cX5_strikes 143 = .ok (.iload 6, 2) := dk_21 6 (dk_at dksX5_strikes_6 5 rfl rfl)
theorem dX5_strikes_145 : decode cX5_strikes 145 = .ok (.ishl, 1) := dk_120 (dk_at dksX5_strikes_6 7 rfl rfl)
theorem dX5_strikes_146 : decode cX5_strikes 146 = .ok (.ior, 1) := dk_128 (dk_at dksX5_strikes_6 8 rfl rfl)
theorem dX5_strikes_147 : decode cX5_strikes 147 = .ok (.istore 5, 2) := dk_54 5 (dk_at dksX5_strikes_6 9 rfl rfl)
theorem dX5_strikes_149 : decode cX5_strikes 149 = .ok (.aload_n 0, 1) := dk_42 (dk_at dksX5_strikes_6 11 rfl rfl)
theorem dX5_strikes_150 : decode cX5_strikes 150 = .ok (.iload_n 1, 1) := dk_27 (dk_at dksX5_strikes_6 12 rfl rfl)
theorem dX5_strikes_151 : decode cX5_strikes 151 = .ok (.iload_n 2, 1) := dk_28 (dk_at dksX5_strikes_6 13 rfl rfl)
theorem dX5_strikes_152 : decode cX5_strikes 152 = .ok (.iload 5, 2) := dk_21 5 (dk_at dksX5_strikes_6 14 rfl rfl)
theorem dX5_strikes_154 : decode cX5_strikes 154 = .ok (.invokevirtual 430, 3) := dk_182 1 174 (dk_at dksX5_strikes_6 16 rfl rfl)
theorem dX5_strikes_157 : decode cX5_strikes 157 = .ok (.istore 6, 2) := dk_54 6 (dk_at dksX5_strikes_6 19 rfl rfl)
theorem dX5_strikes_159 : decode cX5_strikes 159 = .ok (.goto (-98), 3) := dk_167 255 158 (dk_at dksX5_strikes_6 21 rfl rfl)
theorem dX5_strikes_162 : decode cX5_strikes 162 = .ok (.iinc 2 1, 3) := dk_132 2 1 (dk_at dksX5_strikes_7 0 rfl rfl)
theorem dX5_strikes_165 : decode cX5_strikes 165 = .ok (.goto (-138), 3) := dk_167 255 118 (dk_at dksX5_strikes_7 3 rfl rfl)
theorem dX5_strikes_168 : decode cX5_strikes 168 = .ok (.return_, 1) := dk_177 (dk_at dksX5_strikes_7 6 rfl rfl)
abbrev cX5_allDebts : ByteArray := prog_13_method_98_code
def yX5_allDebts : MethodName := ⟨RX5, "allDebts", "(I)I"⟩
def dkwX5_allDebts_1 : List UInt8 := [167, 255, 236, 28, 172]
abbrev dktX5_allDebts_1 : List UInt8 := dkwX5_allDebts_1 ++ []
def dkwX5_allDebts_0 : List UInt8 := [3, 61, 3, 62, 29, 42, 182, 0, 89, 162, 0, 18, 28, 42, 27, 29, 182, 1, 144, 96, 61, 132, 3, 1]
abbrev dktX5_allDebts_0 : List UInt8 := dkwX5_allDebts_0 ++ dktX5_allDebts_1
theorem dksX5_allDebts_0 : cX5_allDebts.data.toList.drop 0 = dktX5_allDebts_0 := by decide +kernel
theorem dksX5_allDebts_1 : cX5_allDebts.data.toList.drop 24 = dktX5_allDebts_1 := dk_seg dksX5_allDebts_0 24 rfl rfl
theorem dX5_allDebts_0 : decode cX5_allDebts 0 = .ok (.iconst 0, 1) := dk_3 (dk_at dksX5_allDebts_0 0 rfl rfl)
theorem dX5_allDebts_1 : decode cX5_allDebts 1 = .ok (.istore_n 2, 1) := dk_61 (dk_at dksX5_allDebts_0 1 rfl rfl)
theorem dX5_allDebts_2 : decode cX5_allDebts 2 = .ok (.iconst 0, 1) := dk_3 (dk_at dksX5_allDebts_0 2 rfl rfl)
theorem dX5_allDebts_3 : decode cX5_allDebts 3 = .ok (.istore_n 3, 1) := dk_62 (dk_at dksX5_allDebts_0 3 rfl rfl)
theorem dX5_allDebts_4 : decode cX5_allDebts 4 = .ok (.iload_n 3, 1) := dk_29 (dk_at dksX5_allDebts_0 4 rfl rfl)
theorem dX5_allDebts_5 : decode cX5_allDebts 5 = .ok (.aload_n 0, 1) := dk_42 (dk_at dksX5_allDebts_0 5 rfl rfl)
theorem dX5_allDebts_6 : decode cX5_allDebts 6 = .ok (.invokevirtual 89, 3) := dk_182 0 89 (dk_at dksX5_allDebts_0 6 rfl rfl)
theorem dX5_allDebts_9 : decode cX5_allDebts 9 = .ok (.if_icmp .ge 18, 3) := dk_162 0 18 (dk_at dksX5_allDebts_0 9 rfl rfl)
theorem dX5_allDebts_12 : decode cX5_allDebts 12 = .ok (.iload_n 2, 1) := dk_28 (dk_at dksX5_allDebts_0 12 rfl rfl)
theorem dX5_allDebts_13 : decode cX5_allDebts 13 = .ok (.aload_n 0, 1) := dk_42 (dk_at dksX5_allDebts_0 13 rfl rfl)
theorem dX5_allDebts_14 : decode cX5_allDebts 14 = .ok (.iload_n 1, 1) := dk_27 (dk_at dksX5_allDebts_0 14 rfl rfl)
theorem dX5_allDebts_15 : decode cX5_allDebts 15 = .ok (.iload_n 3, 1) := dk_29 (dk_at dksX5_allDebts_0 15 rfl rfl)
theorem dX5_allDebts_16 : decode cX5_allDebts 16 = .ok (.invokevirtual 400, 3) := dk_182 1 144 (dk_at dksX5_allDebts_0 16 rfl rfl)
theorem dX5_allDebts_19 : decode cX5_allDebts 19 = .ok (.iadd, 1) := dk_96 (dk_at dksX5_allDebts_0 19 rfl rfl)
theorem dX5_allDebts_20 : decode cX5_allDebts 20 = .ok (.istore_n 2, 1) := dk_61 (dk_at dksX5_allDebts_0 20 rfl rfl)
theorem dX5_allDebts_21 : decode cX5_allDebts 21 = .ok (.iinc 3 1, 3) := dk_132 3 1 (dk_at dksX5_allDebts_0 21 rfl rfl)
theorem dX5_allDebts_24 : decode cX5_allDebts 24 = .ok (.goto (-20), 3) := dk_167 255 236 (dk_at dksX5_allDebts_1 0 rfl rfl)
theorem dX5_allDebts_27 : decode cX5_allDebts 27 = .ok (.iload_n 2, 1) := dk_28 (dk_at dksX5_allDebts_1 3 rfl rfl)
theorem dX5_allDebts_28 : decode cX5_allDebts 28 = .ok (.ireturn, 1) := dk_172 (dk_at dksX5_allDebts_1 4 rfl rfl)
abbrev cX5_nextPaid : ByteArray := prog_13_method_99_code
def yX5_nextPaid : MethodName := ⟨RX5, "nextPaid", "(III)I"⟩
def dkwX5_nextPaid_3 : List UInt8 := [167, 0, 5, 21, 4, 54, 4, 132, 5, 1, 167, 255, 184, 21, 4, 172]
abbrev dktX5_nextPaid_3 : List UInt8 := dkwX5_nextPaid_3 ++ []
def dkwX5_nextPaid_2 : List UInt8 := [160, 0, 25, 42, 28, 21, 5, 182, 1, 144, 42, 28, 21, 4, 182, 1, 144, 162, 0, 8, 21, 5]
abbrev dktX5_nextPaid_2 : List UInt8 := dkwX5_nextPaid_2 ++ dktX5_nextPaid_3
def dkwX5_nextPaid_1 : List UInt8 := [159, 0, 53, 42, 28, 21, 5, 182, 1, 144, 154, 0, 6, 167, 0, 40, 21, 4, 2, 159, 0, 25, 27, 4]
abbrev dktX5_nextPaid_1 : List UInt8 := dkwX5_nextPaid_1 ++ dktX5_nextPaid_2
def dkwX5_nextPaid_0 : List UInt8 := [2, 54, 4, 3, 54, 5, 21, 5, 42, 182, 0, 89, 162, 0, 69, 29, 21, 5, 122, 4, 126, 4]
abbrev dktX5_nextPaid_0 : List UInt8 := dkwX5_nextPaid_0 ++ dktX5_nextPaid_1
theorem dksX5_nextPaid_0 : cX5_nextPaid.data.toList.drop 0 = dktX5_nextPaid_0 := by decide +kernel
theorem dksX5_nextPaid_1 : cX5_nextPaid.data.toList.drop 22 = dktX5_nextPaid_1 := dk_seg dksX5_nextPaid_0 22 rfl rfl
theorem dksX5_nextPaid_2 : cX5_nextPaid.data.toList.drop 46 = dktX5_nextPaid_2 := dk_seg dksX5_nextPaid_1 24 rfl rfl
theorem dksX5_nextPaid_3 : cX5_nextPaid.data.toList.drop 68 = dktX5_nextPaid_3 := dk_seg dksX5_nextPaid_2 22 rfl rfl
theorem dX5_nextPaid_0 : decode cX5_nextPaid 0 = .ok (.iconst (-1), 1) := dk_2 (dk_at dksX5_nextPaid_0 0 rfl rfl)
theorem dX5_nextPaid_1 : decode cX5_nextPaid 1 = .ok (.istore 4, 2) := dk_54 4 (dk_at dksX5_nextPaid_0 1 rfl rfl)
theorem dX5_nextPaid_3 : decode cX5_nextPaid 3 = .ok (.iconst 0, 1) := dk_3 (dk_at dksX5_nextPaid_0 3 rfl rfl)
theorem dX5_nextPaid_4 : decode cX5_nextPaid 4 = .ok (.istore 5, 2) := dk_54 5 (dk_at dksX5_nextPaid_0 4 rfl rfl)
theorem dX5_nextPaid_6 : decode cX5_nextPaid 6 = .ok (.iload 5, 2) := dk_21 5 (dk_at dksX5_nextPaid_0 6 rfl rfl)
theorem dX5_nextPaid_8 : decode cX5_nextPaid 8 = .ok (.aload_n 0, 1) := dk_42 (dk_at dksX5_nextPaid_0 8 rfl rfl)
theorem dX5_nextPaid_9 : decode cX5_nextPaid 9 = .ok (.invokevirtual 89, 3) := dk_182 0 89 (dk_at dksX5_nextPaid_0 9 rfl rfl)
theorem dX5_nextPaid_12 : decode cX5_nextPaid 12 = .ok (.if_icmp .ge 69, 3) := dk_162 0 69 (dk_at dksX5_nextPaid_0 12 rfl rfl)
theorem dX5_nextPaid_15 : decode cX5_nextPaid 15 = .ok (.iload_n 3, 1) := dk_29 (dk_at dksX5_nextPaid_0 15 rfl rfl)
theorem dX5_nextPaid_16 : decode cX5_nextPaid 16 = .ok (.iload 5, 2) := dk_21 5 (dk_at dksX5_nextPaid_0 16 rfl rfl)
theorem dX5_nextPaid_18 : decode cX5_nextPaid 18 = .ok (.ishr, 1) := dk_122 (dk_at dksX5_nextPaid_0 18 rfl rfl)
theorem dX5_nextPaid_19 : decode cX5_nextPaid 19 = .ok (.iconst 1, 1) := dk_4 (dk_at dksX5_nextPaid_0 19 rfl rfl)
theorem dX5_nextPaid_20 : decode cX5_nextPaid 20 = .ok (.iand, 1) := dk_126 (dk_at dksX5_nextPaid_0 20 rfl rfl)
theorem dX5_nextPaid_21 : decode cX5_nextPaid 21 = .ok (.iconst 1, 1) := dk_4 (dk_at dksX5_nextPaid_0 21 rfl rfl)
theorem dX5_nextPaid_22 : decode cX5_nextPaid 22 = .ok (.if_icmp .eq 53, 3) := dk_159 0 53 (dk_at dksX5_nextPaid_1 0 rfl rfl)
theorem dX5_nextPaid_25 : decode cX5_nextPaid 25 = .ok (.aload_n 0, 1) := dk_42 (dk_at dksX5_nextPaid_1 3 rfl rfl)
theorem dX5_nextPaid_26 : decode cX5_nextPaid 26 = .ok (.iload_n 2, 1) := dk_28 (dk_at dksX5_nextPaid_1 4 rfl rfl)
theorem dX5_nextPaid_27 : decode cX5_nextPaid 27 = .ok (.iload 5, 2) := dk_21 5 (dk_at dksX5_nextPaid_1 5 rfl rfl)
theorem dX5_nextPaid_29 : decode cX5_nextPaid 29 = .ok (.invokevirtual 400, 3) := dk_182 1 144 (dk_at dksX5_nextPaid_1 7 rfl rfl)
theorem dX5_nextPaid_32 : decode cX5_nextPaid 32 = .ok (.ifCond .ne 6, 3) := dk_154 0 6 (dk_at dksX5_nextPaid_1 10 rfl rfl)
theorem dX5_nextPaid_35 : decode cX5_nextPaid 35 = .ok (.goto 40, 3) := dk_167 0 40 (dk_at dksX5_nextPaid_1 13 rfl rfl)
theorem dX5_nextPaid_38 : decode cX5_nextPaid 38 = .ok (.iload 4, 2) := dk_21 4 (dk_at dksX5_nextPaid_1 16 rfl rfl)
theorem dX5_nextPaid_40 : decode cX5_nextPaid 40 = .ok (.iconst (-1), 1) := dk_2 (dk_at dksX5_nextPaid_1 18 rfl rfl)
theorem dX5_nextPaid_41 : decode cX5_nextPaid 41 = .ok (.if_icmp .eq 25, 3) := dk_159 0 25 (dk_at dksX5_nextPaid_1 19 rfl rfl)
theorem dX5_nextPaid_44 : decode cX5_nextPaid 44 = .ok (.iload_n 1, 1) := dk_27 (dk_at dksX5_nextPaid_1 22 rfl rfl)
theorem dX5_nextPaid_45 : decode cX5_nextPaid 45 = .ok (.iconst 1, 1) := dk_4 (dk_at dksX5_nextPaid_1 23 rfl rfl)
theorem dX5_nextPaid_46 : decode cX5_nextPaid 46 = .ok (.if_icmp .ne 25, 3) := dk_160 0 25 (dk_at dksX5_nextPaid_2 0 rfl rfl)
theorem dX5_nextPaid_49 : decode cX5_nextPaid 49 = .ok (.aload_n 0, 1) := dk_42 (dk_at dksX5_nextPaid_2 3 rfl rfl)
theorem dX5_nextPaid_50 : decode cX5_nextPaid 50 = .ok (.iload_n 2, 1) := dk_28 (dk_at dksX5_nextPaid_2 4 rfl rfl)
theorem dX5_nextPaid_51 : decode cX5_nextPaid 51 = .ok (.iload 5, 2) := dk_21 5 (dk_at dksX5_nextPaid_2 5 rfl rfl)
theorem dX5_nextPaid_53 : decode cX5_nextPaid 53 = .ok (.invokevirtual 400, 3) := dk_182 1 144 (dk_at dksX5_nextPaid_2 7 rfl rfl)
theorem dX5_nextPaid_56 : decode cX5_nextPaid 56 = .ok (.aload_n 0, 1) := dk_42 (dk_at dksX5_nextPaid_2 10 rfl rfl)
theorem dX5_nextPaid_57 : decode cX5_nextPaid 57 = .ok (.iload_n 2, 1) := dk_28 (dk_at dksX5_nextPaid_2 11 rfl rfl)
theorem dX5_nextPaid_58 : decode cX5_nextPaid 58 = .ok (.iload 4, 2) := dk_21 4 (dk_at dksX5_nextPaid_2 12 rfl rfl)
theorem dX5_nextPaid_60 : decode cX5_nextPaid 60 = .ok (.invokevirtual 400, 3) := dk_182 1 144 (dk_at dksX5_nextPaid_2 14 rfl rfl)
theorem dX5_nextPaid_63 : decode cX5_nextPaid 63 = .ok (.if_icmp .ge 8, 3) := dk_162 0 8 (dk_at dksX5_nextPaid_2 17 rfl rfl)
theorem dX5_nextPaid_66 : decode cX5_nextPaid 66 = .ok (.iload 5, 2) := dk_21 5 (dk_at dksX5_nextPaid_2 20 rfl rfl)
theorem dX5_nextPaid_68 : decode cX5_nextPaid 68 = .ok (.goto 5, 3) := dk_167 0 5 (dk_at dksX5_nextPaid_3 0 rfl rfl)
theorem dX5_nextPaid_71 : decode cX5_nextPaid 71 = .ok (.iload 4, 2) := dk_21 4 (dk_at dksX5_nextPaid_3 3 rfl rfl)
theorem dX5_nextPaid_73 : decode cX5_nextPaid 73 = .ok (.istore 4, 2) := dk_54 4 (dk_at dksX5_nextPaid_3 5 rfl rfl)
theorem dX5_nextPaid_75 : decode cX5_nextPaid 75 = .ok (.iinc 5 1, 3) := dk_132 5 1 (dk_at dksX5_nextPaid_3 7 rfl rfl)
theorem dX5_nextPaid_78 : decode cX5_nextPaid 78 = .ok (.goto (-72), 3) := dk_167 255 184 (dk_at dksX5_nextPaid_3 10 rfl rfl)
theorem dX5_nextPaid_81 : decode cX5_nextPaid 81 = .ok (.iload 4, 2) := dk_21 4 (dk_at dksX5_nextPaid_3 13 rfl rfl)
theorem dX5_nextPaid_83 : decode cX5_nextPaid 83 = .ok (.ireturn, 1) := dk_172 (dk_at dksX5_nextPaid_3 15 rfl rfl)
abbrev cX5_ruined : ByteArray := prog_13_method_101_code
def yX5_ruined : MethodName := ⟨RX5, "ruined", "()I"⟩
def dkwX5_ruined_3 : List UInt8 := [4, 28, 120, 167, 0, 4, 3, 128, 60, 132, 2, 1, 167, 255, 177, 27, 172]
abbrev dktX5_ruined_3 : List UInt8 := dkwX5_ruined_3 ++ []
def dkwX5_ruined_2 : List UInt8 := [21, 5, 104, 28, 96, 46, 96, 54, 4, 132, 5, 1, 167, 255, 217, 27, 5, 21, 4, 104, 29, 162, 0, 9]
abbrev dktX5_ruined_2 : List UInt8 := dkwX5_ruined_2 ++ dktX5_ruined_3
def dkwX5_ruined_1 : List UInt8 := [182, 0, 89, 162, 0, 36, 29, 42, 21, 5, 28, 182, 1, 144, 96, 62, 21, 4, 42, 180, 0, 64, 16, 6]
abbrev dktX5_ruined_1 : List UInt8 := dkwX5_ruined_1 ++ dktX5_ruined_2
def dkwX5_ruined_0 : List UInt8 := [3, 60, 3, 61, 28, 42, 182, 0, 89, 162, 0, 77, 3, 62, 3, 54, 4, 3, 54, 5, 21, 5, 42]
abbrev dktX5_ruined_0 : List UInt8 := dkwX5_ruined_0 ++ dktX5_ruined_1
theorem dksX5_ruined_0 : cX5_ruined.data.toList.drop 0 = dktX5_ruined_0 := by decide +kernel
theorem dksX5_ruined_1 : cX5_ruined.data.toList.drop 23 = dktX5_ruined_1 := dk_seg dksX5_ruined_0 23 rfl rfl
theorem dksX5_ruined_2 : cX5_ruined.data.toList.drop 47 = dktX5_ruined_2 := dk_seg dksX5_ruined_1 24 rfl rfl
theorem dksX5_ruined_3 : cX5_ruined.data.toList.drop 71 = dktX5_ruined_3 := dk_seg dksX5_ruined_2 24 rfl rfl
theorem dX5_ruined_0 : decode cX5_ruined 0 = .ok (.iconst 0, 1) := dk_3 (dk_at dksX5_ruined_0 0 rfl rfl)
theorem dX5_ruined_1 : decode cX5_ruined 1 = .ok (.istore_n 1, 1) := dk_60 (dk_at dksX5_ruined_0 1 rfl rfl)
theorem dX5_ruined_2 : decode cX5_ruined 2 = .ok (.iconst 0, 1) := dk_3 (dk_at dksX5_ruined_0 2 rfl rfl)
theorem dX5_ruined_3 : decode cX5_ruined 3 = .ok (.istore_n 2, 1) := dk_61 (dk_at dksX5_ruined_0 3 rfl rfl)
theorem dX5_ruined_4 : decode cX5_ruined 4 = .ok (.iload_n 2, 1) := dk_28 (dk_at dksX5_ruined_0 4 rfl rfl)
theorem dX5_ruined_5 : decode cX5_ruined 5 = .ok (.aload_n 0, 1) := dk_42 (dk_at dksX5_ruined_0 5 rfl rfl)
theorem dX5_ruined_6 : decode cX5_ruined 6 = .ok (.invokevirtual 89, 3) := dk_182 0 89 (dk_at dksX5_ruined_0 6 rfl rfl)
theorem dX5_ruined_9 : decode cX5_ruined 9 = .ok (.if_icmp .ge 77, 3) := dk_162 0 77 (dk_at dksX5_ruined_0 9 rfl rfl)
theorem dX5_ruined_12 : decode cX5_ruined 12 = .ok (.iconst 0, 1) := dk_3 (dk_at dksX5_ruined_0 12 rfl rfl)
theorem dX5_ruined_13 : decode cX5_ruined 13 = .ok (.istore_n 3, 1) := dk_62 (dk_at dksX5_ruined_0 13 rfl rfl)
theorem dX5_ruined_14 : decode cX5_ruined 14 = .ok (.iconst 0, 1) := dk_3 (dk_at dksX5_ruined_0 14 rfl rfl)
theorem dX5_ruined_15 : decode cX5_ruined 15 = .ok (.istore 4, 2) := dk_54 4 (dk_at dksX5_ruined_0 15 rfl rfl)
theorem dX5_ruined_17 : decode cX5_ruined 17 = .ok (.iconst 0, 1) := dk_3 (dk_at dksX5_ruined_0 17 rfl rfl)
theorem dX5_ruined_18 : decode cX5_ruined 18 = .ok (.istore 5, 2) := dk_54 5 (dk_at dksX5_ruined_0 18 rfl rfl)
theorem dX5_ruined_20 : decode cX5_ruined 20 = .ok (.iload 5, 2) := dk_21 5 (dk_at dksX5_ruined_0 20 rfl rfl)
theorem dX5_ruined_22 : decode cX5_ruined 22 = .ok (.aload_n 0, 1) := dk_42 (dk_at dksX5_ruined_0 22 rfl rfl)
theorem dX5_ruined_23 : decode cX5_ruined 23 = .ok (.invokevirtual 89, 3) := dk_182 0 89 (dk_at dksX5_ruined_1 0 rfl rfl)
theorem dX5_ruined_26 : decode cX5_ruined 26 = .ok (.if_icmp .ge 36, 3) := dk_162 0 36 (dk_at dksX5_ruined_1 3 rfl rfl)
theorem dX5_ruined_29 : decode cX5_ruined 29 = .ok (.iload_n 3, 1) := dk_29 (dk_at dksX5_ruined_1 6 rfl rfl)
theorem dX5_ruined_30 : decode cX5_ruined 30 = .ok (.aload_n 0, 1) := dk_42 (dk_at dksX5_ruined_1 7 rfl rfl)
theorem dX5_ruined_31 : decode cX5_ruined 31 = .ok (.iload 5, 2) := dk_21 5 (dk_at dksX5_ruined_1 8 rfl rfl)
theorem dX5_ruined_33 : decode cX5_ruined 33 = .ok (.iload_n 2, 1) := dk_28 (dk_at dksX5_ruined_1 10 rfl rfl)
theorem dX5_ruined_34 : decode cX5_ruined 34 = .ok (.invokevirtual 400, 3) := dk_182 1 144 (dk_at dksX5_ruined_1 11 rfl rfl)
theorem dX5_ruined_37 : decode cX5_ruined 37 = .ok (.iadd, 1) := dk_96 (dk_at dksX5_ruined_1 14 rfl rfl)
theorem dX5_ruined_38 : decode cX5_ruined 38 = .ok (.istore_n 3, 1) := dk_62 (dk_at dksX5_ruined_1 15 rfl rfl)
theorem dX5_ruined_39 : decode cX5_ruined 39 = .ok (.iload 4, 2) := dk_21 4 (dk_at dksX5_ruined_1 16 rfl rfl)
theorem dX5_ruined_41 : decode cX5_ruined 41 = .ok (.aload_n 0, 1) := dk_42 (dk_at dksX5_ruined_1 18 rfl rfl)
theorem dX5_ruined_42 : decode cX5_ruined 42 = .ok (.getfield 64, 3) := dk_180 0 64 (dk_at dksX5_ruined_1 19 rfl rfl)
theorem dX5_ruined_45 : decode cX5_ruined 45 = .ok (.bipush 6, 2) := dk_16 6 (dk_at dksX5_ruined_1 22 rfl rfl)
theorem dX5_ruined_47 : decode cX5_ruined 47 = .ok (.iload 5, 2) := dk_21 5 (dk_at dksX5_ruined_2 0 rfl rfl)
theorem dX5_ruined_49 : decode cX5_ruined 49 = .ok (.imul, 1) := dk_104 (dk_at dksX5_ruined_2 2 rfl rfl)
theorem dX5_ruined_50 : decode cX5_ruined 50 = .ok (.iload_n 2, 1) := dk_28 (dk_at dksX5_ruined_2 3 rfl rfl)
theorem dX5_ruined_51 : decode cX5_ruined 51 = .ok (.iadd, 1) := dk_96 (dk_at dksX5_ruined_2 4 rfl rfl)
theorem dX5_ruined_52 : decode cX5_ruined 52 = .ok (.iaload, 1) := dk_46 (dk_at dksX5_ruined_2 5 rfl rfl)
theorem dX5_ruined_53 : decode cX5_ruined 53 = .ok (.iadd, 1) := dk_96 (dk_at dksX5_ruined_2 6 rfl rfl)
theorem dX5_ruined_54 : decode cX5_ruined 54 = .ok (.istore 4, 2) := dk_54 4 (dk_at dksX5_ruined_2 7 rfl rfl)
theorem dX5_ruined_56 : decode cX5_ruined 56 = .ok (.iinc 5 1, 3) := dk_132 5 1 (dk_at dksX5_ruined_2 9 rfl rfl)
theorem dX5_ruined_59 : decode cX5_ruined 59 = .ok (.goto (-39), 3) := dk_167 255 217 (dk_at dksX5_ruined_2 12 rfl rfl)
theorem dX5_ruined_62 : decode cX5_ruined 62 = .ok (.iload_n 1, 1) := dk_27 (dk_at dksX5_ruined_2 15 rfl rfl)
theorem dX5_ruined_63 : decode cX5_ruined 63 = .ok (.iconst 2, 1) := dk_5 (dk_at dksX5_ruined_2 16 rfl rfl)
theorem dX5_ruined_64 : decode cX5_ruined 64 = .ok (.iload 4, 2) := dk_21 4 (dk_at dksX5_ruined_2 17 rfl rfl)
theorem dX5_ruined_66 : decode cX5_ruined 66 = .ok (.imul, 1) := dk_104 (dk_at dksX5_ruined_2 19 rfl rfl)
theorem dX5_ruined_67 : decode cX5_ruined 67 = .ok (.iload_n 3, 1) := dk_29 (dk_at dksX5_ruined_2 20 rfl rfl)
theorem dX5_ruined_68 : decode cX5_ruined 68 = .ok (.if_icmp .ge 9, 3) := dk_162 0 9 (dk_at dksX5_ruined_2 21 rfl rfl)
theorem dX5_ruined_71 : decode cX5_ruined 71 = .ok (.iconst 1, 1) := dk_4 (dk_at dksX5_ruined_3 0 rfl rfl)
theorem dX5_ruined_72 : decode cX5_ruined 72 = .ok (.iload_n 2, 1) := dk_28 (dk_at dksX5_ruined_3 1 rfl rfl)
theorem dX5_ruined_73 : decode cX5_ruined 73 = .ok (.ishl, 1) := dk_120 (dk_at dksX5_ruined_3 2 rfl rfl)
theorem dX5_ruined_74 : decode cX5_ruined 74 = .ok (.goto 4, 3) := dk_167 0 4 (dk_at dksX5_ruined_3 3 rfl rfl)
theorem dX5_ruined_77 : decode cX5_ruined 77 = .ok (.iconst 0, 1) := dk_3 (dk_at dksX5_ruined_3 6 rfl rfl)
theorem dX5_ruined_78 : decode cX5_ruined 78 = .ok (.ior, 1) := dk_128 (dk_at dksX5_ruined_3 7 rfl rfl)
theorem dX5_ruined_79 : decode cX5_ruined 79 = .ok (.istore_n 1, 1) := dk_60 (dk_at dksX5_ruined_3 8 rfl rfl)
theorem dX5_ruined_80 : decode cX5_ruined 80 = .ok (.iinc 2 1, 3) := dk_132 2 1 (dk_at dksX5_ruined_3 9 rfl rfl)
theorem dX5_ruined_83 : decode cX5_ruined 83 = .ok (.goto (-79), 3) := dk_167 255 177 (dk_at dksX5_ruined_3 12 rfl rfl)
theorem dX5_ruined_86 : decode cX5_ruined 86 = .ok (.iload_n 1, 1) := dk_27 (dk_at dksX5_ruined_3 15 rfl rfl)
theorem dX5_ruined_87 : decode cX5_ruined 87 = .ok (.ireturn, 1) := dk_172 (dk_at dksX5_ruined_3 16 rfl rfl)
abbrev cX5_pays : ByteArray := prog_13_method_104_code
def yX5_pays : MethodName := ⟨RX5, "pays", "(III)I"⟩
def dkwX5_pays_1 : List UInt8 := [42, 27, 182, 1, 178, 42, 180, 0, 64, 16, 6, 28, 104, 29, 96, 46, 172]
abbrev dktX5_pays_1 : List UInt8 := dkwX5_pays_1 ++ []
def dkwX5_pays_0 : List UInt8 := [27, 133, 9, 20, 0, 83, 184, 0, 85, 153, 0, 12, 42, 28, 29, 182, 1, 165, 154, 0, 6, 16, 254, 172]
abbrev dktX5_pays_0 : List UInt8 := dkwX5_pays_0 ++ dktX5_pays_1
theorem dksX5_pays_0 : cX5_pays.data.toList.drop 0 = dktX5_pays_0 := by decide +kernel
theorem dksX5_pays_1 : cX5_pays.data.toList.drop 24 = dktX5_pays_1 := dk_seg dksX5_pays_0 24 rfl rfl
theorem dX5_pays_0 : decode cX5_pays 0 = .ok (.iload_n 1, 1) := dk_27 (dk_at dksX5_pays_0 0 rfl rfl)
theorem dX5_pays_1 : decode cX5_pays 1 = .ok (.i2l, 1) := dk_133 (dk_at dksX5_pays_0 1 rfl rfl)
theorem dX5_pays_2 : decode cX5_pays 2 = .ok (.lconst 0, 1) := dk_9 (dk_at dksX5_pays_0 2 rfl rfl)
theorem dX5_pays_3 : decode cX5_pays 3 = .ok (.ldc2_w 83, 3) := dk_20 0 83 (dk_at dksX5_pays_0 3 rfl rfl)
theorem dX5_pays_6 : decode cX5_pays 6 = .ok (.invokestatic 85, 3) := dk_184 0 85 (dk_at dksX5_pays_0 6 rfl rfl)
theorem dX5_pays_9 : decode cX5_pays 9 = .ok (.ifCond .eq 12, 3) := dk_153 0 12 (dk_at dksX5_pays_0 9 rfl rfl)
theorem dX5_pays_12 : decode cX5_pays 12 = .ok (.aload_n 0, 1) := dk_42 (dk_at dksX5_pays_0 12 rfl rfl)
theorem dX5_pays_13 : decode cX5_pays 13 = .ok (.iload_n 2, 1) := dk_28 (dk_at dksX5_pays_0 13 rfl rfl)
theorem dX5_pays_14 : decode cX5_pays 14 = .ok (.iload_n 3, 1) := dk_29 (dk_at dksX5_pays_0 14 rfl rfl)
theorem dX5_pays_15 : decode cX5_pays 15 = .ok (.invokevirtual 421, 3) := dk_182 1 165 (dk_at dksX5_pays_0 15 rfl rfl)
theorem dX5_pays_18 : decode cX5_pays 18 = .ok (.ifCond .ne 6, 3) := dk_154 0 6 (dk_at dksX5_pays_0 18 rfl rfl)
theorem dX5_pays_21 : decode cX5_pays 21 = .ok (.bipush (-2), 2) := dk_16 254 (dk_at dksX5_pays_0 21 rfl rfl)
theorem dX5_pays_23 : decode cX5_pays 23 = .ok (.ireturn, 1) := dk_172 (dk_at dksX5_pays_0 23 rfl rfl)
theorem dX5_pays_24 : decode cX5_pays 24 = .ok (.aload_n 0, 1) := dk_42 (dk_at dksX5_pays_1 0 rfl rfl)
theorem dX5_pays_25 : decode cX5_pays 25 = .ok (.iload_n 1, 1) := dk_27 (dk_at dksX5_pays_1 1 rfl rfl)
theorem dX5_pays_26 : decode cX5_pays 26 = .ok (.invokevirtual 434, 3) := dk_182 1 178 (dk_at dksX5_pays_1 2 rfl rfl)
theorem dX5_pays_29 : decode cX5_pays 29 = .ok (.aload_n 0, 1) := dk_42 (dk_at dksX5_pays_1 5 rfl rfl)
theorem dX5_pays_30 : decode cX5_pays 30 = .ok (.getfield 64, 3) := dk_180 0 64 (dk_at dksX5_pays_1 6 rfl rfl)
theorem dX5_pays_33 : decode cX5_pays 33 = .ok (.bipush 6, 2) := dk_16 6 (dk_at dksX5_pays_1 9 rfl rfl)
theorem dX5_pays_35 : decode cX5_pays 35 = .ok (.iload_n 2, 1) := dk_28 (dk_at dksX5_pays_1 11 rfl rfl)
theorem dX5_pays_36 : decode cX5_pays 36 = .ok (.imul, 1) := dk_104 (dk_at dksX5_pays_1 12 rfl rfl)
theorem dX5_pays_37 : decode cX5_pays 37 = .ok (.iload_n 3, 1) := dk_29 (dk_at dksX5_pays_1 13 rfl rfl)
theorem dX5_pays_38 : decode cX5_pays 38 = .ok (.iadd, 1) := dk_96 (dk_at dksX5_pays_1 14 rfl rfl)
theorem dX5_pays_39 : decode cX5_pays 39 = .ok (.iaload, 1) := dk_46 (dk_at dksX5_pays_1 15 rfl rfl)
theorem dX5_pays_40 : decode cX5_pays 40 = .ok (.ireturn, 1) := dk_172 (dk_at dksX5_pays_1 16 rfl rfl)
abbrev cX5_law : ByteArray := prog_13_method_105_code
def yX5_law : MethodName := ⟨RX5, "law", "()I"⟩
def dkwX5_law_2 : List UInt8 := [184, 1, 184, 61, 132, 3, 1, 167, 255, 219, 27, 172]
abbrev dktX5_law_2 : List UInt8 := dkwX5_law_2 ++ []
def dkwX5_law_1 : List UInt8 := [182, 1, 178, 42, 182, 1, 181, 184, 1, 184, 28, 161, 0, 6, 167, 0, 13, 29, 60, 42, 182, 1, 181]
abbrev dktX5_law_1 : List UInt8 := dkwX5_law_1 ++ dktX5_law_2
def dkwX5_law_0 : List UInt8 := [42, 182, 1, 66, 154, 0, 6, 16, 254, 172, 2, 60, 16, 7, 61, 3, 62, 29, 6, 162, 0, 38, 42, 29]
abbrev dktX5_law_0 : List UInt8 := dkwX5_law_0 ++ dktX5_law_1
theorem dksX5_law_0 : cX5_law.data.toList.drop 0 = dktX5_law_0 := by decide +kernel
theorem dksX5_law_1 : cX5_law.data.toList.drop 24 = dktX5_law_1 := dk_seg dksX5_law_0 24 rfl rfl
theorem dksX5_law_2 : cX5_law.data.toList.drop 47 = dktX5_law_2 := dk_seg dksX5_law_1 23 rfl rfl
theorem dX5_law_0 : decode cX5_law 0 = .ok (.aload_n 0, 1) := dk_42 (dk_at dksX5_law_0 0 rfl rfl)
theorem dX5_law_1 : decode cX5_law 1 = .ok (.invokevirtual 322, 3) := dk_182 1 66 (dk_at dksX5_law_0 1 rfl rfl)
theorem dX5_law_4 : decode cX5_law 4 = .ok (.ifCond .ne 6, 3) := dk_154 0 6 (dk_at dksX5_law_0 4 rfl rfl)
theorem dX5_law_7 : decode cX5_law 7 = .ok (.bipush (-2), 2) := dk_16 254 (dk_at dksX5_law_0 7 rfl rfl)
theorem dX5_law_9 : decode cX5_law 9 = .ok (.ireturn, 1) := dk_172 (dk_at dksX5_law_0 9 rfl rfl)
theorem dX5_law_10 : decode cX5_law 10 = .ok (.iconst (-1), 1) := dk_2 (dk_at dksX5_law_0 10 rfl rfl)
theorem dX5_law_11 : decode cX5_law 11 = .ok (.istore_n 1, 1) := dk_60 (dk_at dksX5_law_0 11 rfl rfl)
theorem dX5_law_12 : decode cX5_law 12 = .ok (.bipush 7, 2) := dk_16 7 (dk_at dksX5_law_0 12 rfl rfl)
theorem dX5_law_14 : decode cX5_law 14 = .ok (.istore_n 2, 1) := dk_61 (dk_at dksX5_law_0 14 rfl rfl)
theorem dX5_law_15 : decode cX5_law 15 = .ok (.iconst 0, 1) := dk_3 (dk_at dksX5_law_0 15 rfl rfl)
theorem dX5_law_16 : decode cX5_law 16 = .ok (.istore_n 3, 1) := dk_62 (dk_at dksX5_law_0 16 rfl rfl)
theorem dX5_law_17 : decode cX5_law 17 = .ok (.iload_n 3, 1) := dk_29 (dk_at dksX5_law_0 17 rfl rfl)
theorem dX5_law_18 : decode cX5_law 18 = .ok (.iconst 3, 1) := dk_6 (dk_at dksX5_law_0 18 rfl rfl)
theorem dX5_law_19 : decode cX5_law 19 = .ok (.if_icmp .ge 38, 3) := dk_162 0 38 (dk_at dksX5_law_0 19 rfl rfl)
theorem dX5_law_22 : decode cX5_law 22 = .ok (.aload_n 0, 1) := dk_42 (dk_at dksX5_law_0 22 rfl rfl)
theorem dX5_law_23 : decode cX5_law 23 = .ok (.iload_n 3, 1) := dk_29 (dk_at dksX5_law_0 23 rfl rfl)
theorem dX5_law_24 : decode cX5_law 24 = .ok (.invokevirtual 434, 3) := dk_182 1 178 (dk_at dksX5_law_1 0 rfl rfl)
theorem dX5_law_27 : decode cX5_law 27 = .ok (.aload_n 0, 1) := dk_42 (dk_at dksX5_law_1 3 rfl rfl)
theorem dX5_law_28 : decode cX5_law 28 = .ok (.invokevirtual 437, 3) := dk_182 1 181 (dk_at dksX5_law_1 4 rfl rfl)
theorem dX5_law_31 : decode cX5_law 31 = .ok (.invokestatic 440, 3) := dk_184 1 184 (dk_at dksX5_law_1 7 rfl rfl)
theorem dX5_law_34 : decode cX5_law 34 = .ok (.iload_n 2, 1) := dk_28 (dk_at dksX5_law_1 10 rfl rfl)
theorem dX5_law_35 : decode cX5_law 35 = .ok (.if_icmp .lt 6, 3) := dk_161 0 6 (dk_at dksX5_law_1 11 rfl rfl)
theorem dX5_law_38 : decode cX5_law 38 = .ok (.goto 13, 3) := dk_167 0 13 (dk_at dksX5_law_1 14 rfl rfl)
theorem dX5_law_41 : decode cX5_law 41 = .ok (.iload_n 3, 1) := dk_29 (dk_at dksX5_law_1 17 rfl rfl)
theorem dX5_law_42 : decode cX5_law 42 = .ok (.istore_n 1, 1) := dk_60 (dk_at dksX5_law_1 18 rfl rfl)
theorem dX5_law_43 : decode cX5_law 43 = .ok (.aload_n 0, 1) := dk_42 (dk_at dksX5_law_1 19 rfl rfl)
theorem dX5_law_44 : decode cX5_law 44 = .ok (.invokevirtual 437, 3) := dk_182 1 181 (dk_at dksX5_law_1 20 rfl rfl)
theorem dX5_law_47 : decode cX5_law 47 = .ok (.invokestatic 440, 3) := dk_184 1 184 (dk_at dksX5_law_2 0 rfl rfl)
theorem dX5_law_50 : decode cX5_law 50 = .ok (.istore_n 2, 1) := dk_61 (dk_at dksX5_law_2 3 rfl rfl)
theorem dX5_law_51 : decode cX5_law 51 = .ok (.iinc 3 1, 3) := dk_132 3 1 (dk_at dksX5_law_2 4 rfl rfl)
theorem dX5_law_54 : decode cX5_law 54 = .ok (.goto (-37), 3) := dk_167 255 219 (dk_at dksX5_law_2 7 rfl rfl)
theorem dX5_law_57 : decode cX5_law 57 = .ok (.iload_n 1, 1) := dk_27 (dk_at dksX5_law_2 10 rfl rfl)
theorem dX5_law_58 : decode cX5_law 58 = .ok (.ireturn, 1) := dk_172 (dk_at dksX5_law_2 11 rfl rfl)
abbrev cX5_bits : ByteArray := prog_13_method_102_code
def yX5_bits : MethodName := ⟨RX5, "bits", "(I)I"⟩
def dkwX5_bits_1 : List UInt8 := [27, 172]
abbrev dktX5_bits_1 : List UInt8 := dkwX5_bits_1 ++ []
def dkwX5_bits_0 : List UInt8 := [3, 60, 3, 61, 28, 16, 6, 162, 0, 17, 27, 26, 28, 122, 4, 126, 96, 60, 132, 2, 1, 167, 255, 239]
abbrev dktX5_bits_0 : List UInt8 := dkwX5_bits_0 ++ dktX5_bits_1
theorem dksX5_bits_0 : cX5_bits.data.toList.drop 0 = dktX5_bits_0 := by decide +kernel
theorem dksX5_bits_1 : cX5_bits.data.toList.drop 24 = dktX5_bits_1 := dk_seg dksX5_bits_0 24 rfl rfl
theorem dX5_bits_0 : decode cX5_bits 0 = .ok (.iconst 0, 1) := dk_3 (dk_at dksX5_bits_0 0 rfl rfl)
theorem dX5_bits_1 : decode cX5_bits 1 = .ok (.istore_n 1, 1) := dk_60 (dk_at dksX5_bits_0 1 rfl rfl)
theorem dX5_bits_2 : decode cX5_bits 2 = .ok (.iconst 0, 1) := dk_3 (dk_at dksX5_bits_0 2 rfl rfl)
theorem dX5_bits_3 : decode cX5_bits 3 = .ok (.istore_n 2, 1) := dk_61 (dk_at dksX5_bits_0 3 rfl rfl)
theorem dX5_bits_4 : decode cX5_bits 4 = .ok (.iload_n 2, 1) := dk_28 (dk_at dksX5_bits_0 4 rfl rfl)
theorem dX5_bits_5 : decode cX5_bits 5 = .ok (.bipush 6, 2) := dk_16 6 (dk_at dksX5_bits_0 5 rfl rfl)
theorem dX5_bits_7 : decode cX5_bits 7 = .ok (.if_icmp .ge 17, 3) := dk_162 0 17 (dk_at dksX5_bits_0 7 rfl rfl)
theorem dX5_bits_10 : decode cX5_bits 10 = .ok (.iload_n 1, 1) := dk_27 (dk_at dksX5_bits_0 10 rfl rfl)
theorem dX5_bits_11 : decode cX5_bits 11 = .ok (.iload_n 0, 1) := dk_26 (dk_at dksX5_bits_0 11 rfl rfl)
theorem dX5_bits_12 : decode cX5_bits 12 = .ok (.iload_n 2, 1) := dk_28 (dk_at dksX5_bits_0 12 rfl rfl)
theorem dX5_bits_13 : decode cX5_bits 13 = .ok (.ishr, 1) := dk_122 (dk_at dksX5_bits_0 13 rfl rfl)
theorem dX5_bits_14 : decode cX5_bits 14 = .ok (.iconst 1, 1) := dk_4 (dk_at dksX5_bits_0 14 rfl rfl)
theorem dX5_bits_15 : decode cX5_bits 15 = .ok (.iand, 1) := dk_126 (dk_at dksX5_bits_0 15 rfl rfl)
theorem dX5_bits_16 : decode cX5_bits 16 = .ok (.iadd, 1) := dk_96 (dk_at dksX5_bits_0 16 rfl rfl)
theorem dX5_bits_17 : decode cX5_bits 17 = .ok (.istore_n 1, 1) := dk_60 (dk_at dksX5_bits_0 17 rfl rfl)
theorem dX5_bits_18 : decode cX5_bits 18 = .ok (.iinc 2 1, 3) := dk_132 2 1 (dk_at dksX5_bits_0 18 rfl rfl)
theorem dX5_bits_21 : decode cX5_bits 21 = .ok (.goto (-17), 3) := dk_167 255 239 (dk_at dksX5_bits_0 21 rfl rfl)
theorem dX5_bits_24 : decode cX5_bits 24 = .ok (.iload_n 1, 1) := dk_27 (dk_at dksX5_bits_1 0 rfl rfl)
theorem dX5_bits_25 : decode cX5_bits 25 = .ok (.ireturn, 1) := dk_172 (dk_at dksX5_bits_1 1 rfl rfl)
abbrev cX5_melons : ByteArray := prog_13_method_107_code
def yX5_melons : MethodName := ⟨RX5, "melons", "(I)I"⟩
def dkwX5_melons_5 : List UInt8 := [132, 4, 1, 167, 255, 214, 29, 42, 28, 4, 182, 1, 11, 96, 4, 100, 42, 28, 4, 182, 1, 11, 108, 172]
abbrev dktX5_melons_5 : List UInt8 := dkwX5_melons_5 ++ []
def dkwX5_melons_4 : List UInt8 := [17, 0, 157, 21, 4, 96, 46, 27, 160, 0, 12, 42, 21, 4, 182, 1, 41, 167, 0, 4, 3, 96, 62]
abbrev dktX5_melons_4 : List UInt8 := dkwX5_melons_4 ++ dktX5_melons_5
def dkwX5_melons_3 : List UInt8 := [167, 255, 218, 3, 54, 4, 21, 4, 42, 180, 0, 9, 5, 46, 162, 0, 37, 29, 42, 180, 0, 9]
abbrev dktX5_melons_3 : List UInt8 := dkwX5_melons_3 ++ dktX5_melons_4
def dkwX5_melons_2 : List UInt8 := [4, 182, 1, 5, 27, 160, 0, 12, 42, 21, 4, 182, 1, 44, 167, 0, 4, 3, 96, 62, 132, 4, 1]
abbrev dktX5_melons_2 : List UInt8 := dkwX5_melons_2 ++ dktX5_melons_3
def dkwX5_melons_1 : List UInt8 := [42, 182, 1, 61, 3, 62, 3, 54, 4, 21, 4, 42, 180, 0, 9, 6, 46, 162, 0, 33, 29, 42, 21, 4]
abbrev dktX5_melons_1 : List UInt8 := dkwX5_melons_1 ++ dktX5_melons_2
def dkwX5_melons_0 : List UInt8 := [42, 27, 182, 0, 93, 154, 0, 6, 16, 254, 172, 42, 27, 182, 1, 187, 61, 28, 2, 160, 0, 5, 2, 172]
abbrev dktX5_melons_0 : List UInt8 := dkwX5_melons_0 ++ dktX5_melons_1
theorem dksX5_melons_0 : cX5_melons.data.toList.drop 0 = dktX5_melons_0 := by decide +kernel
theorem dksX5_melons_1 : cX5_melons.data.toList.drop 24 = dktX5_melons_1 := dk_seg dksX5_melons_0 24 rfl rfl
theorem dksX5_melons_2 : cX5_melons.data.toList.drop 48 = dktX5_melons_2 := dk_seg dksX5_melons_1 24 rfl rfl
theorem dksX5_melons_3 : cX5_melons.data.toList.drop 71 = dktX5_melons_3 := dk_seg dksX5_melons_2 23 rfl rfl
theorem dksX5_melons_4 : cX5_melons.data.toList.drop 93 = dktX5_melons_4 := dk_seg dksX5_melons_3 22 rfl rfl
theorem dksX5_melons_5 : cX5_melons.data.toList.drop 116 = dktX5_melons_5 := dk_seg dksX5_melons_4 23 rfl rfl
theorem dX5_melons_0 : decode cX5_melons 0 = .ok (.aload_n 0, 1) := dk_42 (dk_at dksX5_melons_0 0 rfl rfl)
theorem dX5_melons_1 : decode cX5_melons 1 = .ok (.iload_n 1, 1) := dk_27 (dk_at dksX5_melons_0 1 rfl rfl)
theorem dX5_melons_2 : decode cX5_melons 2 = .ok (.invokevirtual 93, 3) := dk_182 0 93 (dk_at dksX5_melons_0 2 rfl rfl)
theorem dX5_melons_5 : decode cX5_melons 5 = .ok (.ifCond .ne 6, 3) := dk_154 0 6 (dk_at dksX5_melons_0 5 rfl rfl)
theorem dX5_melons_8 : decode cX5_melons 8 = .ok (.bipush (-2), 2) := dk_16 254 (dk_at dksX5_melons_0 8 rfl rfl)
theorem dX5_melons_10 : decode cX5_melons 10 = .ok (.ireturn, 1) := dk_172 (dk_at dksX5_melons_0 10 rfl rfl)
theorem dX5_melons_11 : decode cX5_melons 11 = .ok (.aload_n 0, 1) := dk_42 (dk_at dksX5_melons_0 11 rfl rfl)
theorem dX5_melons_12 : decode cX5_melons 12 = .ok (.iload_n 1, 1) := dk_27 (dk_at dksX5_melons_0 12 rfl rfl)
theorem dX5_melons_13 : decode cX5_melons 13 = .ok (.invokevirtual 443, 3) := dk_182 1 187 (dk_at dksX5_melons_0 13 rfl rfl)
theorem dX5_melons_16 : decode cX5_melons 16 = .ok (.istore_n 2, 1) := dk_61 (dk_at dksX5_melons_0 16 rfl rfl)
theorem dX5_melons_17 : decode cX5_melons 17 = .ok (.iload_n 2, 1) := dk_28 (dk_at dksX5_melons_0 17 rfl rfl)
theorem dX5_melons_18 : decode cX5_melons 18 = .ok (.iconst (-1), 1) := dk_2 (dk_at dksX5_melons_0 18 rfl rfl)
theorem dX5_melons_19 : decode cX5_melons 19 = .ok (.if_icmp .ne 5, 3) := dk_160 0 5 (dk_at dksX5_melons_0 19 rfl rfl)
theorem dX5_melons_22 : decode cX5_melons 22 = .ok (.iconst (-1), 1) := dk_2 (dk_at dksX5_melons_0 22 rfl rfl)
theorem dX5_melons_23 : decode cX5_melons 23 = .ok (.ireturn, 1) := dk_172 (dk_at dksX5_melons_0 23 rfl rfl)
theorem dX5_melons_24 : decode cX5_melons 24 = .ok (.aload_n 0, 1) := dk_42 (dk_at dksX5_melons_1 0 rfl rfl)
theorem dX5_melons_25 : decode cX5_melons 25 = .ok (.invokevirtual 317, 3) := dk_182 1 61 (dk_at dksX5_melons_1 1 rfl rfl)
theorem dX5_melons_28 : decode cX5_melons 28 = .ok (.iconst 0, 1) := dk_3 (dk_at dksX5_melons_1 4 rfl rfl)
theorem dX5_melons_29 : decode cX5_melons 29 = .ok (.istore_n 3, 1) := dk_62 (dk_at dksX5_melons_1 5 rfl rfl)
theorem dX5_melons_30 : decode cX5_melons 30 = .ok (.iconst 0, 1) := dk_3 (dk_at dksX5_melons_1 6 rfl rfl)
theorem dX5_melons_31 : decode cX5_melons 31 = .ok (.istore 4, 2) := dk_54 4 (dk_at dksX5_melons_1 7 rfl rfl)
theorem dX5_melons_33 : decode cX5_melons 33 = .ok (.iload 4, 2) := dk_21 4 (dk_at dksX5_melons_1 9 rfl rfl)
theorem dX5_melons_35 : decode cX5_melons 35 = .ok (.aload_n 0, 1) := dk_42 (dk_at dksX5_melons_1 11 rfl rfl)
theorem dX5_melons_36 : decode cX5_melons 36 = .ok (.getfield 9, 3) := dk_180 0 9 (dk_at dksX5_melons_1 12 rfl rfl)
theorem dX5_melons_39 : decode cX5_melons 39 = .ok (.iconst 3, 1) := dk_6 (dk_at dksX5_melons_1 15 rfl rfl)
theorem dX5_melons_40 : decode cX5_melons 40 = .ok (.iaload, 1) := dk_46 (dk_at dksX5_melons_1 16 rfl rfl)
theorem dX5_melons_41 : decode cX5_melons 41 = .ok (.if_icmp .ge 33, 3) := dk_162 0 33 (dk_at dksX5_melons_1 17 rfl rfl)
theorem dX5_melons_44 : decode cX5_melons 44 = .ok (.iload_n 3, 1) := dk_29 (dk_at dksX5_melons_1 20 rfl rfl)
theorem dX5_melons_45 : decode cX5_melons 45 = .ok (.aload_n 0, 1) := dk_42 (dk_at dksX5_melons_1 21 rfl rfl)
theorem dX5_melons_46 : decode cX5_melons 46 = .ok (.iload 4, 2) := dk_21 4 (dk_at dksX5_melons_1 22 rfl rfl)
theorem dX5_melons_48 : decode cX5_melons 48 = .ok (.iconst 1, 1) := dk_4 (dk_at dksX5_melons_2 0 rfl rfl)
theorem dX5_melons_49 : decode cX5_melons 49 = .ok (.invokevirtual 261, 3) := dk_182 1 5 (dk_at dksX5_melons_2 1 rfl rfl)
theorem dX5_melons_52 : decode cX5_melons 52 = .ok (.iload_n 1, 1) := dk_27 (dk_at dksX5_melons_2 4 rfl rfl)
theorem dX5_melons_53 : decode cX5_melons 53 = .ok (.if_icmp .ne 12, 3) := dk_160 0 12 (dk_at dksX5_melons_2 5 rfl rfl)
theorem dX5_melons_56 : decode cX5_melons 56 = .ok (.aload_n 0, 1) := dk_42 (dk_at dksX5_melons_2 8 rfl rfl)
theorem dX5_melons_57 : decode cX5_melons 57 = .ok (.iload 4, 2) := dk_21 4 (dk_at dksX5_melons_2 9 rfl rfl)
theorem dX5_melons_59 : decode cX5_melons 59 = .ok (.invokevirtual 300, 3) := dk_182 1 44 (dk_at dksX5_melons_2 11 rfl rfl)
theorem dX5_melons_62 : decode cX5_melons 62 = .ok (.goto 4, 3) := dk_167 0 4 (dk_at dksX5_melons_2 14 rfl rfl)
theorem dX5_melons_65 : decode cX5_melons 65 = .ok (.iconst 0, 1) := dk_3 (dk_at dksX5_melons_2 17 rfl rfl)
theorem dX5_melons_66 : decode cX5_melons 66 = .ok (.iadd, 1) := dk_96 (dk_at dksX5_melons_2 18 rfl rfl)
theorem dX5_melons_67 : decode cX5_melons 67 = .ok (.istore_n 3, 1) := dk_62 (dk_at dksX5_melons_2 19 rfl rfl)
theorem dX5_melons_68 : decode cX5_melons 68 = .ok (.iinc 4 1, 3) := dk_132 4 1 (dk_at dksX5_melons_2 20 rfl rfl)
theorem dX5_melons_71 : decode cX5_melons 71 = .ok (.goto (-38), 3) := dk_167 255 218 (dk_at dksX5_melons_3 0 rfl rfl)
theorem dX5_melons_74 : decode cX5_melons 74 = .ok (.iconst 0, 1) := dk_3 (dk_at dksX5_melons_3 3 rfl rfl)
theorem dX5_melons_75 : decode cX5_melons 75 = .ok (.istore 4, 2) := dk_54 4 (dk_at dksX5_melons_3 4 rfl rfl)
theorem dX5_melons_77 : decode cX5_melons 77 = .ok (.iload 4, 2) := dk_21 4 (dk_at dksX5_melons_3 6 rfl rfl)
theorem dX5_melons_79 : decode cX5_melons 79 = .ok (.aload_n 0, 1) := dk_42 (dk_at dksX5_melons_3 8 rfl rfl)
theorem dX5_melons_80 : decode cX5_melons 80 = .ok (.getfield 9, 3) := dk_180 0 9 (dk_at dksX5_melons_3 9 rfl rfl)
theorem dX5_melons_83 : decode cX5_melons 83 = .ok (.iconst 2, 1) := dk_5 (dk_at dksX5_melons_3 12 rfl rfl)
theorem dX5_melons_84 : decode cX5_melons 84 = .ok (.iaload, 1) := dk_46 (dk_at dksX5_melons_3 13 rfl rfl)
theorem dX5_melons_85 : decode cX5_melons 85 = .ok (.if_icmp .ge 37, 3) := dk_162 0 37 (dk_at dksX5_melons_3 14 rfl rfl)
theorem dX5_melons_88 : decode cX5_melons 88 = .ok (.iload_n 3, 1) := dk_29 (dk_at dksX5_melons_3 17 rfl rfl)
theorem dX5_melons_89 : decode cX5_melons 89 = .ok (.aload_n 0, 1) := dk_42 (dk_at dksX5_melons_3 18 rfl rfl)
theorem dX5_melons_90 : decode cX5_melons 90 = .ok (.getfield 9, 3) := dk_180 0 9 (dk_at dksX5_melons_3 19 rfl rfl)
theorem dX5_melons_93 : decode cX5_melons 93 = .ok (.sipush 157, 3) := dk_17 0 157 (dk_at dksX5_melons_4 0 rfl rfl)
theorem dX5_melons_96 : decode cX5_melons 96 = .ok (.iload 4, 2) := dk_21 4 (dk_at dksX5_melons_4 3 rfl rfl)
theorem dX5_melons_98 : decode cX5_melons 98 = .ok (.iadd, 1) := dk_96 (dk_at dksX5_melons_4 5 rfl rfl)
theorem dX5_melons_99 : decode cX5_melons 99 = .ok (.iaload, 1) := dk_46 (dk_at dksX5_melons_4 6 rfl rfl)
theorem dX5_melons_100 : decode cX5_melons 100 = .ok (.iload_n 1, 1) := dk_27 (dk_at dksX5_melons_4 7 rfl rfl)
theorem dX5_melons_101 : decode cX5_melons 101 = .ok (.if_icmp .ne 12, 3) := dk_160 0 12 (dk_at dksX5_melons_4 8 rfl rfl)
theorem dX5_melons_104 : decode cX5_melons 104 = .ok (.aload_n 0, 1) := dk_42 (dk_at dksX5_melons_4 11 rfl rfl)
theorem dX5_melons_105 : decode cX5_melons 105 = .ok (.iload 4, 2) := dk_21 4 (dk_at dksX5_melons_4 12 rfl rfl)
theorem dX5_melons_107 : decode cX5_melons 107 = .ok (.invokevirtual 297, 3) := dk_182 1 41 (dk_at dksX5_melons_4 14 rfl rfl)
theorem dX5_melons_110 : decode cX5_melons 110 = .ok (.goto 4, 3) := dk_167 0 4 (dk_at dksX5_melons_4 17 rfl rfl)
theorem dX5_melons_113 : decode cX5_melons 113 = .ok (.iconst 0, 1) := dk_3 (dk_at dksX5_melons_4 20 rfl rfl)
theorem dX5_melons_114 : decode cX5_melons 114 = .ok (.iadd, 1) := dk_96 (dk_at dksX5_melons_4 21 rfl rfl)
theorem dX5_melons_115 : decode cX5_melons 115 = .ok (.istore_n 3, 1) := dk_62 (dk_at dksX5_melons_4 22 rfl rfl)
theorem dX5_melons_116 : decode cX5_melons 116 = .ok (.iinc 4 1, 3) := dk_132 4 1 (dk_at dksX5_melons_5 0 rfl rfl)
theorem dX5_melons_119 : decode cX5_melons 119 = .ok (.goto (-42), 3) := dk_167 255 214 (dk_at dksX5_melons_5 3 rfl rfl)
theorem dX5_melons_122 : decode cX5_melons 122 = .ok (.iload_n 3, 1) := dk_29 (dk_at dksX5_melons_5 6 rfl rfl)
theorem dX5_melons_123 : decode cX5_melons 123 = .ok (.aload_n 0, 1) := dk_42 (dk_at dksX5_melons_5 7 rfl rfl)
theorem dX5_melons_124 : decode cX5_melons 124 = .ok (.iload_n 2, 1) := dk_28 (dk_at dksX5_melons_5 8 rfl rfl)
theorem dX5_melons_125 : decode cX5_melons 125 = .ok (.iconst 1, 1) := dk_4 (dk_at dksX5_melons_5 9 rfl rfl)
theorem dX5_melons_126 : decode cX5_melons 126 = .ok (.invokevirtual 267, 3) := dk_182 1 11 (dk_at dksX5_melons_5 10 rfl rfl)
theorem dX5_melons_129 : decode cX5_melons 129 = .ok (.iadd, 1) := dk_96 (dk_at dksX5_melons_5 13 rfl rfl)
theorem dX5_melons_130 : decode cX5_melons 130 = .ok (.iconst 1, 1) := dk_4 (dk_at dksX5_melons_5 14 rfl rfl)
theorem dX5_melons_131 : decode cX5_melons 131 = .ok (.isub, 1) := dk_100 (dk_at dksX5_melons_5 15 rfl rfl)
theorem dX5_melons_132 : decode cX5_melons 132 = .ok (.aload_n 0, 1) := dk_42 (dk_at dksX5_melons_5 16 rfl rfl)
theorem dX5_melons_133 : decode cX5_melons 133 = .ok (.iload_n 2, 1) := dk_28 (dk_at dksX5_melons_5 17 rfl rfl)
theorem dX5_melons_134 : decode cX5_melons 134 = .ok (.iconst 1, 1) := dk_4 (dk_at dksX5_melons_5 18 rfl rfl)
theorem dX5_melons_135 : decode cX5_melons 135 = .ok (.invokevirtual 267, 3) := dk_182 1 11 (dk_at dksX5_melons_5 19 rfl rfl)
theorem dX5_melons_138 : decode cX5_melons 138 = .ok (.idiv, 1) := dk_108 (dk_at dksX5_melons_5 22 rfl rfl)
theorem dX5_melons_139 : decode cX5_melons 139 = .ok (.ireturn, 1) := dk_172 (dk_at dksX5_melons_5 23 rfl rfl)
abbrev cX5_firstCrop : ByteArray := prog_13_method_106_code
def yX5_firstCrop : MethodName := ⟨RX5, "firstCrop", "(I)I"⟩
def dkwX5_firstCrop_1 : List UInt8 := [132, 2, 1, 167, 255, 231, 2, 172]
abbrev dktX5_firstCrop_1 : List UInt8 := dkwX5_firstCrop_1 ++ []
def dkwX5_firstCrop_0 : List UInt8 := [3, 61, 28, 42, 180, 0, 9, 4, 46, 162, 0, 21, 42, 28, 3, 182, 1, 11, 27, 160, 0, 5, 28, 172]
abbrev dktX5_firstCrop_0 : List UInt8 := dkwX5_firstCrop_0 ++ dktX5_firstCrop_1
theorem dksX5_firstCrop_0 : cX5_firstCrop.data.toList.drop 0 = dktX5_firstCrop_0 := by decide +kernel
theorem dksX5_firstCrop_1 : cX5_firstCrop.data.toList.drop 24 = dktX5_firstCrop_1 := dk_seg dksX5_firstCrop_0 24 rfl rfl
theorem dX5_firstCrop_0 : decode cX5_firstCrop 0 = .ok (.iconst 0, 1) := dk_3 (dk_at dksX5_firstCrop_0 0 rfl rfl)
theorem dX5_firstCrop_1 : decode cX5_firstCrop 1 = .ok (.istore_n 2, 1) := dk_61 (dk_at dksX5_firstCrop_0 1 rfl rfl)
theorem dX5_firstCrop_2 : decode cX5_firstCrop 2 = .ok (.iload_n 2, 1) := dk_28 (dk_at dksX5_firstCrop_0 2 rfl rfl)
theorem dX5_firstCrop_3 : decode cX5_firstCrop 3 = .ok (.aload_n 0, 1) := dk_42 (dk_at dksX5_firstCrop_0 3 rfl rfl)
theorem dX5_firstCrop_4 : decode cX5_firstCrop 4 = .ok (.getfield 9, 3) := dk_180 0 9 (dk_at dksX5_firstCrop_0 4 rfl rfl)
theorem dX5_firstCrop_7 : decode cX5_firstCrop 7 = .ok (.iconst 1, 1) := dk_4 (dk_at dksX5_firstCrop_0 7 rfl rfl)
theorem dX5_firstCrop_8 : decode cX5_firstCrop 8 = .ok (.iaload, 1) := dk_46 (dk_at dksX5_firstCrop_0 8 rfl rfl)
theorem dX5_firstCrop_9 : decode cX5_firstCrop 9 = .ok (.if_icmp .ge 21, 3) := dk_162 0 21 (dk_at dksX5_firstCrop_0 9 rfl rfl)
theorem dX5_firstCrop_12 : decode cX5_firstCrop 12 = .ok (.aload_n 0, 1) := dk_42 (dk_at dksX5_firstCrop_0 12 rfl rfl)
theorem dX5_firstCrop_13 : decode cX5_firstCrop 13 = .ok (.iload_n 2, 1) := dk_28 (dk_at dksX5_firstCrop_0 13 rfl rfl)
theorem dX5_firstCrop_14 : decode cX5_firstCrop 14 = .ok (.iconst 0, 1) := dk_3 (dk_at dksX5_firstCrop_0 14 rfl rfl)
theorem dX5_firstCrop_15 : decode cX5_firstCrop 15 = .ok (.invokevirtual 267, 3) := dk_182 1 11 (dk_at dksX5_firstCrop_0 15 rfl rfl)
theorem dX5_firstCrop_18 : decode cX5_firstCrop 18 = .ok (.iload_n 1, 1) := dk_27 (dk_at dksX5_firstCrop_0 18 rfl rfl)
theorem dX5_firstCrop_19 : decode cX5_firstCrop 19 = .ok (.if_icmp .ne 5, 3) := dk_160 0 5 (dk_at dksX5_firstCrop_0 19 rfl rfl)
theorem dX5_firstCrop_22 : decode cX5_firstCrop 22 = .ok (.iload_n 2, 1) := dk_28 (dk_at dksX5_firstCrop_0 22 rfl rfl)
theorem dX5_firstCrop_23 : decode cX5_firstCrop 23 = .ok (.ireturn, 1) := dk_172 (dk_at dksX5_firstCrop_0 23 rfl rfl)
theorem dX5_firstCrop_24 : decode cX5_firstCrop 24 = .ok (.iinc 2 1, 3) := dk_132 2 1 (dk_at dksX5_firstCrop_1 0 rfl rfl)
theorem dX5_firstCrop_27 : decode cX5_firstCrop 27 = .ok (.goto (-25), 3) := dk_167 255 231 (dk_at dksX5_firstCrop_1 3 rfl rfl)
theorem dX5_firstCrop_30 : decode cX5_firstCrop 30 = .ok (.iconst (-1), 1) := dk_2 (dk_at dksX5_firstCrop_1 6 rfl rfl)
theorem dX5_firstCrop_31 : decode cX5_firstCrop 31 = .ok (.ireturn, 1) := dk_172 (dk_at dksX5_firstCrop_1 7 rfl rfl)
abbrev cX5_share : ByteArray := prog_13_method_109_code
def yX5_share : MethodName := ⟨RX5, "share", "(I)I"⟩
def dkwX5_share_2 : List UInt8 := [27, 162, 0, 11, 42, 29, 182, 1, 190, 167, 0, 4, 3, 100, 96, 61, 132, 3, 1, 167, 255, 221, 28, 172]
abbrev dktX5_share_2 : List UInt8 := dkwX5_share_2 ++ []
def dkwX5_share_1 : List UInt8 := [182, 1, 190, 172, 3, 61, 3, 62, 29, 42, 182, 0, 89, 162, 0, 33, 28, 42, 29, 7, 182, 0, 241, 29]
abbrev dktX5_share_1 : List UInt8 := dkwX5_share_1 ++ dktX5_share_2
def dkwX5_share_0 : List UInt8 := [42, 27, 182, 0, 93, 154, 0, 6, 16, 254, 172, 27, 42, 182, 0, 89, 4, 100, 162, 0, 9, 42, 27]
abbrev dktX5_share_0 : List UInt8 := dkwX5_share_0 ++ dktX5_share_1
theorem dksX5_share_0 : cX5_share.data.toList.drop 0 = dktX5_share_0 := by decide +kernel
theorem dksX5_share_1 : cX5_share.data.toList.drop 23 = dktX5_share_1 := dk_seg dksX5_share_0 23 rfl rfl
theorem dksX5_share_2 : cX5_share.data.toList.drop 47 = dktX5_share_2 := dk_seg dksX5_share_1 24 rfl rfl
theorem dX5_share_0 : decode cX5_share 0 = .ok (.aload_n 0, 1) := dk_42 (dk_at dksX5_share_0 0 rfl rfl)
theorem dX5_share_1 : decode cX5_share 1 = .ok (.iload_n 1, 1) := dk_27 (dk_at dksX5_share_0 1 rfl rfl)
theorem dX5_share_2 : decode cX5_share 2 = .ok (.invokevirtual 93, 3) := dk_182 0 93 (dk_at dksX5_share_0 2 rfl rfl)
theorem dX5_share_5 : decode cX5_share 5 = .ok (.ifCond .ne 6, 3) := dk_154 0 6 (dk_at dksX5_share_0 5 rfl rfl)
theorem dX5_share_8 : decode cX5_share 8 = .ok (.bipush (-2), 2) := dk_16 254 (dk_at dksX5_share_0 8 rfl rfl)
theorem dX5_share_10 : decode cX5_share 10 = .ok (.ireturn, 1) := dk_172 (dk_at dksX5_share_0 10 rfl rfl)
theorem dX5_share_11 : decode cX5_share 11 = .ok (.iload_n 1, 1) := dk_27 (dk_at dksX5_share_0 11 rfl rfl)
theorem dX5_share_12 : decode cX5_share 12 = .ok (.aload_n 0, 1) := dk_42 (dk_at dksX5_share_0 12 rfl rfl)
theorem dX5_share_13 : decode cX5_share 13 = .ok (.invokevirtual 89, 3) := dk_182 0 89 (dk_at dksX5_share_0 13 rfl rfl)
theorem dX5_share_16 : decode cX5_share 16 = .ok (.iconst 1, 1) := dk_4 (dk_at dksX5_share_0 16 rfl rfl)
theorem dX5_share_17 : decode cX5_share 17 = .ok (.isub, 1) := dk_100 (dk_at dksX5_share_0 17 rfl rfl)
theorem dX5_share_18 : decode cX5_share 18 = .ok (.if_icmp .ge 9, 3) := dk_162 0 9 (dk_at dksX5_share_0 18 rfl rfl)
theorem dX5_share_21 : decode cX5_share 21 = .ok (.aload_n 0, 1) := dk_42 (dk_at dksX5_share_0 21 rfl rfl)
theorem dX5_share_22 : decode cX5_share 22 = .ok (.iload_n 1, 1) := dk_27 (dk_at dksX5_share_0 22 rfl rfl)
theorem dX5_share_23 : decode cX5_share 23 = .ok (.invokevirtual 446, 3) := dk_182 1 190 (dk_at dksX5_share_1 0 rfl rfl)
theorem dX5_share_26 : decode cX5_share 26 = .ok (.ireturn, 1) := dk_172 (dk_at dksX5_share_1 3 rfl rfl)
theorem dX5_share_27 : decode cX5_share 27 = .ok (.iconst 0, 1) := dk_3 (dk_at dksX5_share_1 4 rfl rfl)
theorem dX5_share_28 : decode cX5_share 28 = .ok (.istore_n 2, 1) := dk_61 (dk_at dksX5_share_1 5 rfl rfl)
theorem dX5_share_29 : decode cX5_share 29 = .ok (.iconst 0, 1) := dk_3 (dk_at dksX5_share_1 6 rfl rfl)
theorem dX5_share_30 : decode cX5_share 30 = .ok (.istore_n 3, 1) := dk_62 (dk_at dksX5_share_1 7 rfl rfl)
theorem dX5_share_31 : decode cX5_share 31 = .ok (.iload_n 3, 1) := dk_29 (dk_at dksX5_share_1 8 rfl rfl)
theorem dX5_share_32 : decode cX5_share 32 = .ok (.aload_n 0, 1) := dk_42 (dk_at dksX5_share_1 9 rfl rfl)
theorem dX5_share_33 : decode cX5_share 33 = .ok (.invokevirtual 89, 3) := dk_182 0 89 (dk_at dksX5_share_1 10 rfl rfl)
theorem dX5_share_36 : decode cX5_share 36 = .ok (.if_icmp .ge 33, 3) := dk_162 0 33 (dk_at dksX5_share_1 13 rfl rfl)
theorem dX5_share_39 : decode cX5_share 39 = .ok (.iload_n 2, 1) := dk_28 (dk_at dksX5_share_1 16 rfl rfl)
theorem dX5_share_40 : decode cX5_share 40 = .ok (.aload_n 0, 1) := dk_42 (dk_at dksX5_share_1 17 rfl rfl)
theorem dX5_share_41 : decode cX5_share 41 = .ok (.iload_n 3, 1) := dk_29 (dk_at dksX5_share_1 18 rfl rfl)
theorem dX5_share_42 : decode cX5_share 42 = .ok (.iconst 4, 1) := dk_7 (dk_at dksX5_share_1 19 rfl rfl)
theorem dX5_share_43 : decode cX5_share 43 = .ok (.invokevirtual 241, 3) := dk_182 0 241 (dk_at dksX5_share_1 20 rfl rfl)
theorem dX5_share_46 : decode cX5_share 46 = .ok (.iload_n 3, 1) := dk_29 (dk_at dksX5_share_1 23 rfl rfl)
theorem dX5_share_47 : decode cX5_share 47 = .ok (.iload_n 1, 1) := dk_27 (dk_at dksX5_share_2 0 rfl rfl)
theorem dX5_share_48 : decode cX5_share 48 = .ok (.if_icmp .ge 11, 3) := dk_162 0 11 (dk_at dksX5_share_2 1 rfl rfl)
theorem dX5_share_51 : decode cX5_share 51 = .ok (.aload_n 0, 1) := dk_42 (dk_at dksX5_share_2 4 rfl rfl)
theorem dX5_share_52 : decode cX5_share 52 = .ok (.iload_n 3, 1) := dk_29 (dk_at dksX5_share_2 5 rfl rfl)
theorem dX5_share_53 : decode cX5_share 53 = .ok (.invokevirtual 446, 3) := dk_182 1 190 (dk_at dksX5_share_2 6 rfl rfl)
theorem dX5_share_56 : decode cX5_share 56 = .ok (.goto 4, 3) := dk_167 0 4 (dk_at dksX5_share_2 9 rfl rfl)
theorem dX5_share_59 : decode cX5_share 59 = .ok (.iconst 0, 1) := dk_3 (dk_at dksX5_share_2 12 rfl rfl)
theorem dX5_share_60 : decode cX5_share 60 = .ok (.isub, 1) := dk_100 (dk_at dksX5_share_2 13 rfl rfl)
theorem dX5_share_61 : decode cX5_share 61 = .ok (.iadd, 1) := dk_96 (dk_at dksX5_share_2 14 rfl rfl)
theorem dX5_share_62 : decode cX5_share 62 = .ok (.istore_n 2, 1) := dk_61 (dk_at dksX5_share_2 15 rfl rfl)
theorem dX5_share_63 : decode cX5_share 63 = .ok (.iinc 3 1, 3) := dk_132 3 1 (dk_at dksX5_share_2 16 rfl rfl)
theorem dX5_share_66 : decode cX5_share 66 = .ok (.goto (-35), 3) := dk_167 255 221 (dk_at dksX5_share_2 19 rfl rfl)
theorem dX5_share_69 : decode cX5_share 69 = .ok (.iload_n 2, 1) := dk_28 (dk_at dksX5_share_2 22 rfl rfl)
theorem dX5_share_70 : decode cX5_share 70 = .ok (.ireturn, 1) := dk_172 (dk_at dksX5_share_2 23 rfl rfl)
abbrev cX5_shareOf : ByteArray := prog_13_method_108_code
def yX5_shareOf : MethodName := ⟨RX5, "shareOf", "(I)I"⟩
def dkwX5_shareOf_1 : List UInt8 := [61, 132, 3, 1, 167, 255, 232, 28, 172]
abbrev dktX5_shareOf_1 : List UInt8 := dkwX5_shareOf_1 ++ []
def dkwX5_shareOf_0 : List UInt8 := [3, 61, 3, 62, 29, 27, 163, 0, 25, 28, 42, 29, 7, 182, 0, 241, 42, 182, 0, 89, 29, 100, 108, 96]
abbrev dktX5_shareOf_0 : List UInt8 := dkwX5_shareOf_0 ++ dktX5_shareOf_1
theorem dksX5_shareOf_0 : cX5_shareOf.data.toList.drop 0 = dktX5_shareOf_0 := by decide +kernel
theorem dksX5_shareOf_1 : cX5_shareOf.data.toList.drop 24 = dktX5_shareOf_1 := dk_seg dksX5_shareOf_0 24 rfl rfl
theorem dX5_shareOf_0 : decode cX5_shareOf 0 = .ok (.iconst 0, 1) := dk_3 (dk_at dksX5_shareOf_0 0 rfl rfl)
theorem dX5_shareOf_1 : decode cX5_shareOf 1 = .ok (.istore_n 2, 1) := dk_61 (dk_at dksX5_shareOf_0 1 rfl rfl)
theorem dX5_shareOf_2 : decode cX5_shareOf 2 = .ok (.iconst 0, 1) := dk_3 (dk_at dksX5_shareOf_0 2 rfl rfl)
theorem dX5_shareOf_3 : decode cX5_shareOf 3 = .ok (.istore_n 3, 1) := dk_62 (dk_at dksX5_shareOf_0 3 rfl rfl)
theorem dX5_shareOf_4 : decode cX5_shareOf 4 = .ok (.iload_n 3, 1) := dk_29 (dk_at dksX5_shareOf_0 4 rfl rfl)
theorem dX5_shareOf_5 : decode cX5_shareOf 5 = .ok (.iload_n 1, 1) := dk_27 (dk_at dksX5_shareOf_0 5 rfl rfl)
theorem dX5_shareOf_6 : decode cX5_shareOf 6 = .ok (.if_icmp .gt 25, 3) := dk_163 0 25 (dk_at dksX5_shareOf_0 6 rfl rfl)
theorem dX5_shareOf_9 : decode cX5_shareOf 9 = .ok (.iload_n 2, 1) := dk_28 (dk_at dksX5_shareOf_0 9 rfl rfl)
theorem dX5_shareOf_10 : decode cX5_shareOf 10 = .ok (.aload_n 0, 1) := dk_42 (dk_at dksX5_shareOf_0 10 rfl rfl)
theorem dX5_shareOf_11 : decode cX5_shareOf 11 = .ok (.iload_n 3, 1) := dk_29 (dk_at dksX5_shareOf_0 11 rfl rfl)
theorem dX5_shareOf_12 : decode cX5_shareOf 12 = .ok (.iconst 4, 1) := dk_7 (dk_at dksX5_shareOf_0 12 rfl rfl)
theorem dX5_shareOf_13 : decode cX5_shareOf 13 = .ok (.invokevirtual 241, 3) := dk_182 0 241 (dk_at dksX5_shareOf_0 13 rfl rfl)
theorem dX5_shareOf_16 : decode cX5_shareOf 16 = .ok (.aload_n 0, 1) := dk_42 (dk_at dksX5_shareOf_0 16 rfl rfl)
theorem dX5_shareOf_17 : decode cX5_shareOf 17 = .ok (.invokevirtual 89, 3) := dk_182 0 89 (dk_at dksX5_shareOf_0 17 rfl rfl)
theorem dX5_shareOf_20 : decode cX5_shareOf 20 = .ok (.iload_n 3, 1) := dk_29 (dk_at dksX5_shareOf_0 20 rfl rfl)
theorem dX5_shareOf_21 : decode cX5_shareOf 21 = .ok (.isub, 1) := dk_100 (dk_at dksX5_shareOf_0 21 rfl rfl)
theorem dX5_shareOf_22 : decode cX5_shareOf 22 = .ok (.idiv, 1) := dk_108 (dk_at dksX5_shareOf_0 22 rfl rfl)
theorem dX5_shareOf_23 : decode cX5_shareOf 23 = .ok (.iadd, 1) := dk_96 (dk_at dksX5_shareOf_0 23 rfl rfl)
theorem dX5_shareOf_24 : decode cX5_shareOf 24 = .ok (.istore_n 2, 1) := dk_61 (dk_at dksX5_shareOf_1 0 rfl rfl)
theorem dX5_shareOf_25 : decode cX5_shareOf 25 = .ok (.iinc 3 1, 3) := dk_132 3 1 (dk_at dksX5_shareOf_1 1 rfl rfl)
theorem dX5_shareOf_28 : decode cX5_shareOf 28 = .ok (.goto (-24), 3) := dk_167 255 232 (dk_at dksX5_shareOf_1 4 rfl rfl)
theorem dX5_shareOf_31 : decode cX5_shareOf 31 = .ok (.iload_n 2, 1) := dk_28 (dk_at dksX5_shareOf_1 7 rfl rfl)
theorem dX5_shareOf_32 : decode cX5_shareOf 32 = .ok (.ireturn, 1) := dk_172 (dk_at dksX5_shareOf_1 8 rfl rfl)
abbrev cX5_enough : ByteArray := prog_13_method_111_code
def yX5_enough : MethodName := ⟨RX5, "enough", "(I)I"⟩
def dkwX5_enough_3 : List UInt8 := [21, 5, 167, 0, 4, 2, 54, 4, 132, 5, 1, 167, 255, 208, 42, 180, 0, 9, 28, 29, 79, 21, 4, 172]
abbrev dktX5_enough_3 : List UInt8 := dkwX5_enough_3 ++ []
def dkwX5_enough_2 : List UInt8 := [160, 0, 37, 42, 180, 0, 9, 28, 21, 5, 79, 42, 182, 1, 61, 42, 27, 182, 1, 193, 153, 0, 8]
abbrev dktX5_enough_2 : List UInt8 := dkwX5_enough_2 ++ dktX5_enough_3
def dkwX5_enough_1 : List UInt8 := [28, 46, 62, 2, 54, 4, 3, 54, 5, 21, 5, 42, 27, 3, 182, 0, 241, 163, 0, 43, 21, 4, 2]
abbrev dktX5_enough_1 : List UInt8 := dkwX5_enough_1 ++ dktX5_enough_2
def dkwX5_enough_0 : List UInt8 := [42, 27, 182, 0, 93, 154, 0, 6, 16, 254, 172, 16, 8, 8, 27, 104, 96, 4, 96, 61, 42, 180, 0, 9]
abbrev dktX5_enough_0 : List UInt8 := dkwX5_enough_0 ++ dktX5_enough_1
theorem dksX5_enough_0 : cX5_enough.data.toList.drop 0 = dktX5_enough_0 := by decide +kernel
theorem dksX5_enough_1 : cX5_enough.data.toList.drop 24 = dktX5_enough_1 := dk_seg dksX5_enough_0 24 rfl rfl
theorem dksX5_enough_2 : cX5_enough.data.toList.drop 47 = dktX5_enough_2 := dk_seg dksX5_enough_1 23 rfl rfl
theorem dksX5_enough_3 : cX5_enough.data.toList.drop 70 = dktX5_enough_3 := dk_seg dksX5_enough_2 23 rfl rfl
theorem dX5_enough_0 : decode cX5_enough 0 = .ok (.aload_n 0, 1) := dk_42 (dk_at dksX5_enough_0 0 rfl rfl)
theorem dX5_enough_1 : decode cX5_enough 1 = .ok (.iload_n 1, 1) := dk_27 (dk_at dksX5_enough_0 1 rfl rfl)
theorem dX5_enough_2 : decode cX5_enough 2 = .ok (.invokevirtual 93, 3) := dk_182 0 93 (dk_at dksX5_enough_0 2 rfl rfl)
theorem dX5_enough_5 : decode cX5_enough 5 = .ok (.ifCond .ne 6, 3) := dk_154 0 6 (dk_at dksX5_enough_0 5 rfl rfl)
theorem dX5_enough_8 : decode cX5_enough 8 = .ok (.bipush (-2), 2) := dk_16 254 (dk_at dksX5_enough_0 8 rfl rfl)
theorem dX5_enough_10 : decode cX5_enough 10 = .ok (.ireturn, 1) := dk_172 (dk_at dksX5_enough_0 10 rfl rfl)
theorem dX5_enough_11 : decode cX5_enough 11 = .ok (.bipush 8, 2) := dk_16 8 (dk_at dksX5_enough_0 11 rfl rfl)
theorem dX5_enough_13 : decode cX5_enough 13 = .ok (.iconst 5, 1) := dk_8 (dk_at dksX5_enough_0 13 rfl rfl)
theorem dX5_enough_14 : decode cX5_enough 14 = .ok (.iload_n 1, 1) := dk_27 (dk_at dksX5_enough_0 14 rfl rfl)
theorem dX5_enough_15 : decode cX5_enough 15 = .ok (.imul, 1) := dk_104 (dk_at dksX5_enough_0 15 rfl rfl)
theorem dX5_enough_16 : decode cX5_enough 16 = .ok (.iadd, 1) := dk_96 (dk_at dksX5_enough_0 16 rfl rfl)
theorem dX5_enough_17 : decode cX5_enough 17 = .ok (.iconst 1, 1) := dk_4 (dk_at dksX5_enough_0 17 rfl rfl)
theorem dX5_enough_18 : decode cX5_enough 18 = .ok (.iadd, 1) := dk_96 (dk_at dksX5_enough_0 18 rfl rfl)
theorem dX5_enough_19 : decode cX5_enough 19 = .ok (.istore_n 2, 1) := dk_61 (dk_at dksX5_enough_0 19 rfl rfl)
theorem dX5_enough_20 : decode cX5_enough 20 = .ok (.aload_n 0, 1) := dk_42 (dk_at dksX5_enough_0 20 rfl rfl)
theorem dX5_enough_21 : decode cX5_enough 21 = .ok (.getfield 9, 3) := dk_180 0 9 (dk_at dksX5_enough_0 21 rfl rfl)
theorem dX5_enough_24 : decode cX5_enough 24 = .ok (.iload_n 2, 1) := dk_28 (dk_at dksX5_enough_1 0 rfl rfl)
theorem dX5_enough_25 : decode cX5_enough 25 = .ok (.iaload, 1) := dk_46 (dk_at dksX5_enough_1 1 rfl rfl)
theorem dX5_enough_26 : decode cX5_enough 26 = .ok (.istore_n 3, 1) := dk_62 (dk_at dksX5_enough_1 2 rfl rfl)
theorem dX5_enough_27 : decode cX5_enough 27 = .ok (.iconst (-1), 1) := dk_2 (dk_at dksX5_enough_1 3 rfl rfl)
theorem dX5_enough_28 : decode cX5_enough 28 = .ok (.istore 4, 2) := dk_54 4 (dk_at dksX5_enough_1 4 rfl rfl)
theorem dX5_enough_30 : decode cX5_enough 30 = .ok (.iconst 0, 1) := dk_3 (dk_at dksX5_enough_1 6 rfl rfl)
theorem dX5_enough_31 : decode cX5_enough 31 = .ok (.istore 5, 2) := dk_54 5 (dk_at dksX5_enough_1 7 rfl rfl)
theorem dX5_enough_33 : decode cX5_enough 33 = .ok (.iload 5, 2) := dk_21 5 (dk_at dksX5_enough_1 9 rfl rfl)
theorem dX5_enough_35 : decode cX5_enough 35 = .ok (.aload_n 0, 1) := dk_42 (dk_at dksX5_enough_1 11 rfl rfl)
theorem dX5_enough_36 : decode cX5_enough 36 = .ok (.iload_n 1, 1) := dk_27 (dk_at dksX5_enough_1 12 rfl rfl)
theorem dX5_enough_37 : decode cX5_enough 37 = .ok (.iconst 0, 1) := dk_3 (dk_at dksX5_enough_1 13 rfl rfl)
theorem dX5_enough_38 : decode cX5_enough 38 = .ok (.invokevirtual 241, 3) := dk_182 0 241 (dk_at dksX5_enough_1 14 rfl rfl)
theorem dX5_enough_41 : decode cX5_enough 41 = .ok (.if_icmp .gt 43, 3) := dk_163 0 43 (dk_at dksX5_enough_1 17 rfl rfl)
theorem dX5_enough_44 : decode cX5_enough 44 = .ok (.iload 4, 2) := dk_21 4 (dk_at dksX5_enough_1 20 rfl rfl)
theorem dX5_enough_46 : decode cX5_enough 46 = .ok (.iconst (-1), 1) := dk_2 (dk_at dksX5_enough_1 22 rfl rfl)
theorem dX5_enough_47 : decode cX5_enough 47 = .ok (.if_icmp .ne 37, 3) := dk_160 0 37 (dk_at dksX5_enough_2 0 rfl rfl)
theorem dX5_enough_50 : decode cX5_enough 50 = .ok (.aload_n 0, 1) := dk_42 (dk_at dksX5_enough_2 3 rfl rfl)
theorem dX5_enough_51 : decode cX5_enough 51 = .ok (.getfield 9, 3) := dk_180 0 9 (dk_at dksX5_enough_2 4 rfl rfl)
theorem dX5_enough_54 : decode cX5_enough 54 = .ok (.iload_n 2, 1) := dk_28 (dk_at dksX5_enough_2 7 rfl rfl)
theorem dX5_enough_55 : decode cX5_enough 55 = .ok (.iload 5, 2) := dk_21 5 (dk_at dksX5_enough_2 8 rfl rfl)
theorem dX5_enough_57 : decode cX5_enough 57 = .ok (.iastore, 1) := dk_79 (dk_at dksX5_enough_2 10 rfl rfl)
theorem dX5_enough_58 : decode cX5_enough 58 = .ok (.aload_n 0, 1) := dk_42 (dk_at dksX5_enough_2 11 rfl rfl)
theorem dX5_enough_59 : decode cX5_enough 59 = .ok (.invokevirtual 317, 3) := dk_182 1 61 (dk_at dksX5_enough_2 12 rfl rfl)
theorem dX5_enough_62 : decode cX5_enough 62 = .ok (.aload_n 0, 1) := dk_42 (dk_at dksX5_enough_2 15 rfl rfl)
theorem dX5_enough_63 : decode cX5_enough 63 = .ok (.iload_n 1, 1) := dk_27 (dk_at dksX5_enough_2 16 rfl rfl)
theorem dX5_enough_64 : decode cX5_enough 64 = .ok (.invokevirtual 449, 3) := dk_182 1 193 (dk_at dksX5_enough_2 17 rfl rfl)
theorem dX5_enough_67 : decode cX5_enough 67 = .ok (.ifCond .eq 8, 3) := dk_153 0 8 (dk_at dksX5_enough_2 20 rfl rfl)
theorem dX5_enough_70 : decode cX5_enough 70 = .ok (.iload 5, 2) := dk_21 5 (dk_at dksX5_enough_3 0 rfl rfl)
theorem dX5_enough_72 : decode cX5_enough 72 = .ok (.goto 4, 3) := dk_167 0 4 (dk_at dksX5_enough_3 2 rfl rfl)
theorem dX5_enough_75 : decode cX5_enough 75 = .ok (.iconst (-1), 1) := dk_2 (dk_at dksX5_enough_3 5 rfl rfl)
theorem dX5_enough_76 : decode cX5_enough 76 = .ok (.istore 4, 2) := dk_54 4 (dk_at dksX5_enough_3 6 rfl rfl)
theorem dX5_enough_78 : decode cX5_enough 78 = .ok (.iinc 5 1, 3) := dk_132 5 1 (dk_at dksX5_enough_3 8 rfl rfl)
theorem dX5_enough_81 : decode cX5_enough 81 = .ok (.goto (-48), 3) := dk_167 255 208 (dk_at dksX5_enough_3 11 rfl rfl)
theorem dX5_enough_84 : decode cX5_enough 84 = .ok (.aload_n 0, 1) := dk_42 (dk_at dksX5_enough_3 14 rfl rfl)
theorem dX5_enough_85 : decode cX5_enough 85 = .ok (.getfield 9, 3) := dk_180 0 9 (dk_at dksX5_enough_3 15 rfl rfl)
theorem dX5_enough_88 : decode cX5_enough 88 = .ok (.iload_n 2, 1) := dk_28 (dk_at dksX5_enough_3 18 rfl rfl)
theorem dX5_enough_89 : decode cX5_enough 89 = .ok (.iload_n 3, 1) := dk_29 (dk_at dksX5_enough_3 19 rfl rfl)
theorem dX5_enough_90 : decode cX5_enough 90 = .ok (.iastore, 1) := dk_79 (dk_at dksX5_enough_3 20 rfl rfl)
theorem dX5_enough_91 : decode cX5_enough 91 = .ok (.iload 4, 2) := dk_21 4 (dk_at dksX5_enough_3 21 rfl rfl)
theorem dX5_enough_93 : decode cX5_enough 93 = .ok (.ireturn, 1) := dk_172 (dk_at dksX5_enough_3 23 rfl rfl)
abbrev cX5_isNeverDry : ByteArray := prog_13_method_110_code
def yX5_isNeverDry : MethodName := ⟨RX5, "isNeverDry", "(I)Z"⟩
def dkwX5_isNeverDry_1 : List UInt8 := [180, 0, 46, 6, 28, 104, 4, 96, 46, 158, 0, 5, 3, 172, 132, 2, 1, 167, 255, 218, 4, 172]
abbrev dktX5_isNeverDry_1 : List UInt8 := dkwX5_isNeverDry_1 ++ []
def dkwX5_isNeverDry_0 : List UInt8 := [3, 61, 28, 42, 180, 0, 9, 4, 46, 162, 0, 34, 42, 28, 3, 182, 1, 11, 27, 160, 0, 18, 42]
abbrev dktX5_isNeverDry_0 : List UInt8 := dkwX5_isNeverDry_0 ++ dktX5_isNeverDry_1
theorem dksX5_isNeverDry_0 : cX5_isNeverDry.data.toList.drop 0 = dktX5_isNeverDry_0 := by decide +kernel
theorem dksX5_isNeverDry_1 : cX5_isNeverDry.data.toList.drop 23 = dktX5_isNeverDry_1 := dk_seg dksX5_isNeverDry_0 23 rfl rfl
theorem dX5_isNeverDry_0 : decode cX5_isNeverDry 0 = .ok (.iconst 0, 1) := dk_3 (dk_at dksX5_isNeverDry_0 0 rfl rfl)
theorem dX5_isNeverDry_1 : decode cX5_isNeverDry 1 = .ok (.istore_n 2, 1) := dk_61 (dk_at dksX5_isNeverDry_0 1 rfl rfl)
theorem dX5_isNeverDry_2 : decode cX5_isNeverDry 2 = .ok (.iload_n 2, 1) := dk_28 (dk_at dksX5_isNeverDry_0 2 rfl rfl)
theorem dX5_isNeverDry_3 : decode cX5_isNeverDry 3 = .ok (.aload_n 0, 1) := dk_42 (dk_at dksX5_isNeverDry_0 3 rfl rfl)
theorem dX5_isNeverDry_4 : decode cX5_isNeverDry 4 = .ok (.getfield 9, 3) := dk_180 0 9 (dk_at dksX5_isNeverDry_0 4 rfl rfl)
theorem dX5_isNeverDry_7 : decode cX5_isNeverDry 7 = .ok (.iconst 1, 1) := dk_4 (dk_at dksX5_isNeverDry_0 7 rfl rfl)
theorem dX5_isNeverDry_8 : decode cX5_isNeverDry 8 = .ok (.iaload, 1) := dk_46 (dk_at dksX5_isNeverDry_0 8 rfl rfl)
theorem dX5_isNeverDry_9 : decode cX5_isNeverDry 9 = .ok (.if_icmp .ge 34, 3) := dk_162 0 34 (dk_at dksX5_isNeverDry_0 9 rfl rfl)
theorem dX5_isNeverDry_12 : decode cX5_isNeverDry 12 = .ok (.aload_n 0, 1) := dk_42 (dk_at dksX5_isNeverDry_0 12 rfl rfl)
theorem dX5_isNeverDry_13 : decode cX5_isNeverDry 13 = .ok (.iload_n 2, 1) := dk_28 (dk_at dksX5_isNeverDry_0 13 rfl rfl)
theorem dX5_isNeverDry_14 : decode cX5_isNeverDry 14 = .ok (.iconst 0, 1) := dk_3 (dk_at dksX5_isNeverDry_0 14 rfl rfl)
theorem dX5_isNeverDry_15 : decode cX5_isNeverDry 15 = .ok (.invokevirtual 267, 3) := dk_182 1 11 (dk_at dksX5_isNeverDry_0 15 rfl rfl)
theorem dX5_isNeverDry_18 : decode cX5_isNeverDry 18 = .ok (.iload_n 1, 1) := dk_27 (dk_at dksX5_isNeverDry_0 18 rfl rfl)
theorem dX5_isNeverDry_19 : decode cX5_isNeverDry 19 = .ok (.if_icmp .ne 18, 3) := dk_160 0 18 (dk_at dksX5_isNeverDry_0 19 rfl rfl)
theorem dX5_isNeverDry_22 : decode cX5_isNeverDry 22 = .ok (.aload_n 0, 1) := dk_42 (dk_at dksX5_isNeverDry_0 22 rfl rfl)
theorem dX5_isNeverDry_23 : decode cX5_isNeverDry 23 = .ok (.getfield 46, 3) := dk_180 0 46 (dk_at dksX5_isNeverDry_1 0 rfl rfl)
theorem dX5_isNeverDry_26 : decode cX5_isNeverDry 26 = .ok (.iconst 3, 1) := dk_6 (dk_at dksX5_isNeverDry_1 3 rfl rfl)
theorem dX5_isNeverDry_27 : decode cX5_isNeverDry 27 = .ok (.iload_n 2, 1) := dk_28 (dk_at dksX5_isNeverDry_1 4 rfl rfl)
theorem dX5_isNeverDry_28 : decode cX5_isNeverDry 28 = .ok (.imul, 1) := dk_104 (dk_at dksX5_isNeverDry_1 5 rfl rfl)
theorem dX5_isNeverDry_29 : decode cX5_isNeverDry 29 = .ok (.iconst 1, 1) := dk_4 (dk_at dksX5_isNeverDry_1 6 rfl rfl)
theorem dX5_isNeverDry_30 : decode cX5_isNeverDry 30 = .ok (.iadd, 1) := dk_96 (dk_at dksX5_isNeverDry_1 7 rfl rfl)
theorem dX5_isNeverDry_31 : decode cX5_isNeverDry 31 = .ok (.iaload, 1) := dk_46 (dk_at dksX5_isNeverDry_1 8 rfl rfl)
theorem dX5_isNeverDry_32 : decode cX5_isNeverDry 32 = .ok (.ifCond .le 5, 3) := dk_158 0 5 (dk_at dksX5_isNeverDry_1 9 rfl rfl)
theorem dX5_isNeverDry_35 : decode cX5_isNeverDry 35 = .ok (.iconst 0, 1) := dk_3 (dk_at dksX5_isNeverDry_1 12 rfl rfl)
theorem dX5_isNeverDry_36 : decode cX5_isNeverDry 36 = .ok (.ireturn, 1) := dk_172 (dk_at dksX5_isNeverDry_1 13 rfl rfl)
theorem dX5_isNeverDry_37 : decode cX5_isNeverDry 37 = .ok (.iinc 2 1, 3) := dk_132 2 1 (dk_at dksX5_isNeverDry_1 14 rfl rfl)
theorem dX5_isNeverDry_40 : decode cX5_isNeverDry 40 = .ok (.goto (-38), 3) := dk_167 255 218 (dk_at dksX5_isNeverDry_1 17 rfl rfl)
theorem dX5_isNeverDry_43 : decode cX5_isNeverDry 43 = .ok (.iconst 1, 1) := dk_4 (dk_at dksX5_isNeverDry_1 20 rfl rfl)
theorem dX5_isNeverDry_44 : decode cX5_isNeverDry 44 = .ok (.ireturn, 1) := dk_172 (dk_at dksX5_isNeverDry_1 21 rfl rfl)
abbrev cX5_year_2 : ByteArray := prog_13_method_114_code
def yX5_year_2 : MethodName := ⟨RX5, "year", "(II)I"⟩
def dkwX5_year_2_3 : List UInt8 := [172]
abbrev dktX5_year_2_3 : List UInt8 := dkwX5_year_2_3 ++ []
def dkwX5_year_2_2 : List UInt8 := [28, 154, 0, 10, 42, 182, 1, 71, 167, 0, 16, 28, 4, 160, 0, 10, 42, 182, 1, 89, 167, 0, 4, 29]
abbrev dktX5_year_2_2 : List UInt8 := dkwX5_year_2_2 ++ dktX5_year_2_3
def dkwX5_year_2_1 : List UInt8 := [20, 0, 83, 184, 0, 85, 154, 0, 6, 16, 254, 172, 42, 27, 133, 182, 1, 212, 62, 42, 29, 182, 1, 38]
abbrev dktX5_year_2_1 : List UInt8 := dkwX5_year_2_1 ++ dktX5_year_2_2
def dkwX5_year_2_0 : List UInt8 := [42, 182, 1, 66, 153, 0, 27, 27, 133, 9, 20, 1, 210, 184, 0, 85, 153, 0, 15, 28, 133, 9]
abbrev dktX5_year_2_0 : List UInt8 := dkwX5_year_2_0 ++ dktX5_year_2_1
theorem dksX5_year_2_0 : cX5_year_2.data.toList.drop 0 = dktX5_year_2_0 := by decide +kernel
theorem dksX5_year_2_1 : cX5_year_2.data.toList.drop 22 = dktX5_year_2_1 := dk_seg dksX5_year_2_0 22 rfl rfl
theorem dksX5_year_2_2 : cX5_year_2.data.toList.drop 46 = dktX5_year_2_2 := dk_seg dksX5_year_2_1 24 rfl rfl
theorem dksX5_year_2_3 : cX5_year_2.data.toList.drop 70 = dktX5_year_2_3 := dk_seg dksX5_year_2_2 24 rfl rfl
theorem dX5_year_2_0 : decode cX5_year_2 0 = .ok (.aload_n 0, 1) := dk_42 (dk_at dksX5_year_2_0 0 rfl rfl)
theorem dX5_year_2_1 : decode cX5_year_2 1 = .ok (.invokevirtual 322, 3) := dk_182 1 66 (dk_at dksX5_year_2_0 1 rfl rfl)
theorem dX5_year_2_4 : decode cX5_year_2 4 = .ok (.ifCond .eq 27, 3) := dk_153 0 27 (dk_at dksX5_year_2_0 4 rfl rfl)
theorem dX5_year_2_7 : decode cX5_year_2 7 = .ok (.iload_n 1, 1) := dk_27 (dk_at dksX5_year_2_0 7 rfl rfl)
theorem dX5_year_2_8 : decode cX5_year_2 8 = .ok (.i2l, 1) := dk_133 (dk_at dksX5_year_2_0 8 rfl rfl)
theorem dX5_year_2_9 : decode cX5_year_2 9 = .ok (.lconst 0, 1) := dk_9 (dk_at dksX5_year_2_0 9 rfl rfl)
theorem dX5_year_2_10 : decode cX5_year_2 10 = .ok (.ldc2_w 466, 3) := dk_20 1 210 (dk_at dksX5_year_2_0 10 rfl rfl)
theorem dX5_year_2_13 : decode cX5_year_2 13 = .ok (.invokestatic 85, 3) := dk_184 0 85 (dk_at dksX5_year_2_0 13 rfl rfl)
theorem dX5_year_2_16 : decode cX5_year_2 16 = .ok (.ifCond .eq 15, 3) := dk_153 0 15 (dk_at dksX5_year_2_0 16 rfl rfl)
theorem dX5_year_2_19 : decode cX5_year_2 19 = .ok (.iload_n 2, 1) := dk_28 (dk_at dksX5_year_2_0 19 rfl rfl)
theorem dX5_year_2_20 : decode cX5_year_2 20 = .ok (.i2l, 1) := dk_133 (dk_at dksX5_year_2_0 20 rfl rfl)
theorem dX5_year_2_21 : decode cX5_year_2 21 = .ok (.lconst 0, 1) := dk_9 (dk_at dksX5_year_2_0 21 rfl rfl)
theorem dX5_year_2_22 : decode cX5_year_2 22 = .ok (.ldc2_w 83, 3) := dk_20 0 83 (dk_at dksX5_year_2_1 0 rfl rfl)
theorem dX5_year_2_25 : decode cX5_year_2 25 = .ok (.invokestatic 85, 3) := dk_184 0 85 (dk_at dksX5_year_2_1 3 rfl rfl)
theorem dX5_year_2_28 : decode cX5_year_2 28 = .ok (.ifCond .ne 6, 3) := dk_154 0 6 (dk_at dksX5_year_2_1 6 rfl rfl)
theorem dX5_year_2_31 : decode cX5_year_2 31 = .ok (.bipush (-2), 2) := dk_16 254 (dk_at dksX5_year_2_1 9 rfl rfl)
theorem dX5_year_2_33 : decode cX5_year_2 33 = .ok (.ireturn, 1) := dk_172 (dk_at dksX5_year_2_1 11 rfl rfl)
theorem dX5_year_2_34 : decode cX5_year_2 34 = .ok (.aload_n 0, 1) := dk_42 (dk_at dksX5_year_2_1 12 rfl rfl)
theorem dX5_year_2_35 : decode cX5_year_2 35 = .ok (.iload_n 1, 1) := dk_27 (dk_at dksX5_year_2_1 13 rfl rfl)
theorem dX5_year_2_36 : decode cX5_year_2 36 = .ok (.i2l, 1) := dk_133 (dk_at dksX5_year_2_1 14 rfl rfl)
theorem dX5_year_2_37 : decode cX5_year_2 37 = .ok (.invokevirtual 468, 3) := dk_182 1 212 (dk_at dksX5_year_2_1 15 rfl rfl)
theorem dX5_year_2_40 : decode cX5_year_2 40 = .ok (.istore_n 3, 1) := dk_62 (dk_at dksX5_year_2_1 18 rfl rfl)
theorem dX5_year_2_41 : decode cX5_year_2 41 = .ok (.aload_n 0, 1) := dk_42 (dk_at dksX5_year_2_1 19 rfl rfl)
theorem dX5_year_2_42 : decode cX5_year_2 42 = .ok (.iload_n 3, 1) := dk_29 (dk_at dksX5_year_2_1 20 rfl rfl)
theorem dX5_year_2_43 : decode cX5_year_2 43 = .ok (.invokevirtual 294, 3) := dk_182 1 38 (dk_at dksX5_year_2_1 21 rfl rfl)
theorem dX5_year_2_46 : decode cX5_year_2 46 = .ok (.iload_n 2, 1) := dk_28 (dk_at dksX5_year_2_2 0 rfl rfl)
theorem dX5_year_2_47 : decode cX5_year_2 47 = .ok (.ifCond .ne 10, 3) := dk_154 0 10 (dk_at dksX5_year_2_2 1 rfl rfl)
theorem dX5_year_2_50 : decode cX5_year_2 50 = .ok (.aload_n 0, 1) := dk_42 (dk_at dksX5_year_2_2 4 rfl rfl)
theorem dX5_year_2_51 : decode cX5_year_2 51 = .ok (.invokevirtual 327, 3) := dk_182 1 71 (dk_at dksX5_year_2_2 5 rfl rfl)
theorem dX5_year_2_54 : decode cX5_year_2 54 = .ok (.goto 16, 3) := dk_167 0 16 (dk_at dksX5_year_2_2 8 rfl rfl)
theorem dX5_year_2_57 : decode cX5_year_2 57 = .ok (.iload_n 2, 1) := dk_28 (dk_at dksX5_year_2_2 11 rfl rfl)
theorem dX5_year_2_58 : decode cX5_year_2 58 = .ok (.iconst 1, 1) := dk_4 (dk_at dksX5_year_2_2 12 rfl rfl)
theorem dX5_year_2_59 : decode cX5_year_2 59 = .ok (.if_icmp .ne 10, 3) := dk_160 0 10 (dk_at dksX5_year_2_2 13 rfl rfl)
theorem dX5_year_2_62 : decode cX5_year_2 62 = .ok (.aload_n 0, 1) := dk_42 (dk_at dksX5_year_2_2 16 rfl rfl)
theorem dX5_year_2_63 : decode cX5_year_2 63 = .ok (.invokevirtual 345, 3) := dk_182 1 89 (dk_at dksX5_year_2_2 17 rfl rfl)
theorem dX5_year_2_66 : decode cX5_year_2 66 = .ok (.goto 4, 3) := dk_167 0 4 (dk_at dksX5_year_2_2 20 rfl rfl)
theorem dX5_year_2_69 : decode cX5_year_2 69 = .ok (.iload_n 3, 1) := dk_29 (dk_at dksX5_year_2_2 23 rfl rfl)
theorem dX5_year_2_70 : decode cX5_year_2 70 = .ok (.ireturn, 1) := dk_172 (dk_at dksX5_year_2_3 0 rfl rfl)
abbrev cX5_floodsDrawn : ByteArray := prog_13_method_113_code
def yX5_floodsDrawn : MethodName := ⟨RX5, "floodsDrawn", "(J)I"⟩
def dkwX5_floodsDrawn_2 : List UInt8 := [132, 4, 1, 167, 255, 217, 29, 172]
abbrev dktX5_floodsDrawn_2 : List UInt8 := dkwX5_floodsDrawn_2 ++ []
def dkwX5_floodsDrawn_1 : List UInt8 := [182, 1, 207, 42, 21, 4, 5, 182, 0, 252, 162, 0, 10, 4, 21, 4, 120, 167, 0, 4, 3, 128, 62]
abbrev dktX5_floodsDrawn_1 : List UInt8 := dkwX5_floodsDrawn_1 ++ dktX5_floodsDrawn_2
def dkwX5_floodsDrawn_0 : List UInt8 := [42, 31, 181, 1, 198, 3, 62, 3, 54, 4, 21, 4, 42, 180, 0, 9, 5, 46, 162, 0, 34, 29, 42]
abbrev dktX5_floodsDrawn_0 : List UInt8 := dkwX5_floodsDrawn_0 ++ dktX5_floodsDrawn_1
theorem dksX5_floodsDrawn_0 : cX5_floodsDrawn.data.toList.drop 0 = dktX5_floodsDrawn_0 := by decide +kernel
theorem dksX5_floodsDrawn_1 : cX5_floodsDrawn.data.toList.drop 23 = dktX5_floodsDrawn_1 := dk_seg dksX5_floodsDrawn_0 23 rfl rfl
theorem dksX5_floodsDrawn_2 : cX5_floodsDrawn.data.toList.drop 46 = dktX5_floodsDrawn_2 := dk_seg dksX5_floodsDrawn_1 23 rfl rfl
theorem dX5_floodsDrawn_0 : decode cX5_floodsDrawn 0 = .ok (.aload_n 0, 1) := dk_42 (dk_at dksX5_floodsDrawn_0 0 rfl rfl)
theorem dX5_floodsDrawn_1 : decode cX5_floodsDrawn 1 = .ok (.lload_n 1, 1) := dk_31 (dk_at dksX5_floodsDrawn_0 1 rfl rfl)
theorem dX5_floodsDrawn_2 : decode cX5_floodsDrawn 2 = .ok (.putfield 454, 3) := dk_181 1 198 (dk_at dksX5_floodsDrawn_0 2 rfl rfl)
theorem dX5_floodsDrawn_5 : decode cX5_floodsDrawn 5 = .ok (.iconst 0, 1) := dk_3 (dk_at dksX5_floodsDrawn_0 5 rfl rfl)
theorem dX5_floodsDrawn_6 : decode cX5_floodsDrawn 6 = .ok (.istore_n 3, 1) := dk_62 (dk_at dksX5_floodsDrawn_0 6 rfl rfl)
theorem dX5_floodsDrawn_7 : decode cX5_floodsDrawn 7 = .ok (.iconst 0, 1) := dk_3 (dk_at dksX5_floodsDrawn_0 7 rfl rfl)
theorem dX5_floodsDrawn_8 : decode cX5_floodsDrawn 8 = .ok (.istore 4, 2) := dk_54 4 (dk_at dksX5_floodsDrawn_0 8 rfl rfl)
theorem dX5_floodsDrawn_10 : decode cX5_floodsDrawn 10 = .ok (.iload 4, 2) := dk_21 4 (dk_at dksX5_floodsDrawn_0 10 rfl rfl)
theorem dX5_floodsDrawn_12 : decode cX5_floodsDrawn 12 = .ok (.aload_n 0, 1) := dk_42 (dk_at dksX5_floodsDrawn_0 12 rfl rfl)
theorem dX5_floodsDrawn_13 : decode cX5_floodsDrawn 13 = .ok (.getfield 9, 3) := dk_180 0 9 (dk_at dksX5_floodsDrawn_0 13 rfl rfl)
theorem dX5_floodsDrawn_16 : decode cX5_floodsDrawn 16 = .ok (.iconst 2, 1) := dk_5 (dk_at dksX5_floodsDrawn_0 16 rfl rfl)
theorem dX5_floodsDrawn_17 : decode cX5_floodsDrawn 17 = .ok (.iaload, 1) := dk_46 (dk_at dksX5_floodsDrawn_0 17 rfl rfl)
theorem dX5_floodsDrawn_18 : decode cX5_floodsDrawn 18 = .ok (.if_icmp .ge 34, 3) := dk_162 0 34 (dk_at dksX5_floodsDrawn_0 18 rfl rfl)
theorem dX5_floodsDrawn_21 : decode cX5_floodsDrawn 21 = .ok (.iload_n 3, 1) := dk_29 (dk_at dksX5_floodsDrawn_0 21 rfl rfl)
theorem dX5_floodsDrawn_22 : decode cX5_floodsDrawn 22 = .ok (.aload_n 0, 1) := dk_42 (dk_at dksX5_floodsDrawn_0 22 rfl rfl)
theorem dX5_floodsDrawn_23 : decode cX5_floodsDrawn 23 = .ok (.invokevirtual 463, 3) := dk_182 1 207 (dk_at dksX5_floodsDrawn_1 0 rfl rfl)
theorem dX5_floodsDrawn_26 : decode cX5_floodsDrawn 26 = .ok (.aload_n 0, 1) := dk_42 (dk_at dksX5_floodsDrawn_1 3 rfl rfl)
theorem dX5_floodsDrawn_27 : decode cX5_floodsDrawn 27 = .ok (.iload 4, 2) := dk_21 4 (dk_at dksX5_floodsDrawn_1 4 rfl rfl)
theorem dX5_floodsDrawn_29 : decode cX5_floodsDrawn 29 = .ok (.iconst 2, 1) := dk_5 (dk_at dksX5_floodsDrawn_1 6 rfl rfl)
theorem dX5_floodsDrawn_30 : decode cX5_floodsDrawn 30 = .ok (.invokevirtual 252, 3) := dk_182 0 252 (dk_at dksX5_floodsDrawn_1 7 rfl rfl)
theorem dX5_floodsDrawn_33 : decode cX5_floodsDrawn 33 = .ok (.if_icmp .ge 10, 3) := dk_162 0 10 (dk_at dksX5_floodsDrawn_1 10 rfl rfl)
theorem dX5_floodsDrawn_36 : decode cX5_floodsDrawn 36 = .ok (.iconst 1, 1) := dk_4 (dk_at dksX5_floodsDrawn_1 13 rfl rfl)
theorem dX5_floodsDrawn_37 : decode cX5_floodsDrawn 37 = .ok (.iload 4, 2) := dk_21 4 (dk_at dksX5_floodsDrawn_1 14 rfl rfl)
theorem dX5_floodsDrawn_39 : decode cX5_floodsDrawn 39 = .ok (.ishl, 1) := dk_120 (dk_at dksX5_floodsDrawn_1 16 rfl rfl)
theorem dX5_floodsDrawn_40 : decode cX5_floodsDrawn 40 = .ok (.goto 4, 3) := dk_167 0 4 (dk_at dksX5_floodsDrawn_1 17 rfl rfl)
theorem dX5_floodsDrawn_43 : decode cX5_floodsDrawn 43 = .ok (.iconst 0, 1) := dk_3 (dk_at dksX5_floodsDrawn_1 20 rfl rfl)
theorem dX5_floodsDrawn_44 : decode cX5_floodsDrawn 44 = .ok (.ior, 1) := dk_128 (dk_at dksX5_floodsDrawn_1 21 rfl rfl)
theorem dX5_floodsDrawn_45 : decode cX5_floodsDrawn 45 = .ok (.istore_n 3, 1) := dk_62 (dk_at dksX5_floodsDrawn_1 22 rfl rfl)
theorem dX5_floodsDrawn_46 : decode cX5_floodsDrawn 46 = .ok (.iinc 4 1, 3) := dk_132 4 1 (dk_at dksX5_floodsDrawn_2 0 rfl rfl)
theorem dX5_floodsDrawn_49 : decode cX5_floodsDrawn 49 = .ok (.goto (-39), 3) := dk_167 255 217 (dk_at dksX5_floodsDrawn_2 3 rfl rfl)
theorem dX5_floodsDrawn_52 : decode cX5_floodsDrawn 52 = .ok (.iload_n 3, 1) := dk_29 (dk_at dksX5_floodsDrawn_2 6 rfl rfl)
theorem dX5_floodsDrawn_53 : decode cX5_floodsDrawn 53 = .ok (.ireturn, 1) := dk_172 (dk_at dksX5_floodsDrawn_2 7 rfl rfl)
abbrev cX5_draw : ByteArray := prog_13_method_112_code
def yX5_draw : MethodName := ⟨RX5, "draw", "()I"⟩
def dkwX5_draw_1 : List UInt8 := [20, 1, 205, 109, 20, 1, 101, 113, 136, 172]
abbrev dktX5_draw_1 : List UInt8 := dkwX5_draw_1 ++ []
def dkwX5_draw_0 : List UInt8 := [42, 20, 1, 196, 42, 180, 1, 198, 105, 20, 1, 201, 97, 20, 1, 203, 113, 181, 1, 198, 42, 180, 1, 198]
abbrev dktX5_draw_0 : List UInt8 := dkwX5_draw_0 ++ dktX5_draw_1
theorem dksX5_draw_0 : cX5_draw.data.toList.drop 0 = dktX5_draw_0 := by decide +kernel
theorem dksX5_draw_1 : cX5_draw.data.toList.drop 24 = dktX5_draw_1 := dk_seg dksX5_draw_0 24 rfl rfl
theorem dX5_draw_0 : decode cX5_draw 0 = .ok (.aload_n 0, 1) := dk_42 (dk_at dksX5_draw_0 0 rfl rfl)
theorem dX5_draw_1 : decode cX5_draw 1 = .ok (.ldc2_w 452, 3) := dk_20 1 196 (dk_at dksX5_draw_0 1 rfl rfl)
theorem dX5_draw_4 : decode cX5_draw 4 = .ok (.aload_n 0, 1) := dk_42 (dk_at dksX5_draw_0 4 rfl rfl)
theorem dX5_draw_5 : decode cX5_draw 5 = .ok (.getfield 454, 3) := dk_180 1 198 (dk_at dksX5_draw_0 5 rfl rfl)
theorem dX5_draw_8 : decode cX5_draw 8 = .ok (.lmul, 1) := dk_105 (dk_at dksX5_draw_0 8 rfl rfl)
theorem dX5_draw_9 : decode cX5_draw 9 = .ok (.ldc2_w 457, 3) := dk_20 1 201 (dk_at dksX5_draw_0 9 rfl rfl)
theorem dX5_draw_12 : decode cX5_draw 12 = .ok (.ladd, 1) := dk_97 (dk_at dksX5_draw_0 12 rfl rfl)
theorem dX5_draw_13 : decode cX5_draw 13 = .ok (.ldc2_w 459, 3) := dk_20 1 203 (dk_at dksX5_draw_0 13 rfl rfl)
theorem dX5_draw_16 : decode cX5_draw 16 = .ok (.lrem, 1) := dk_113 (dk_at dksX5_draw_0 16 rfl rfl)
theorem dX5_draw_17 : decode cX5_draw 17 = .ok (.putfield 454, 3) := dk_181 1 198 (dk_at dksX5_draw_0 17 rfl rfl)
theorem dX5_draw_20 : decode cX5_draw 20 = .ok (.aload_n 0, 1) := dk_42 (dk_at dksX5_draw_0 20 rfl rfl)
theorem dX5_draw_21 : decode cX5_draw 21 = .ok (.getfield 454, 3) := dk_180 1 198 (dk_at dksX5_draw_0 21 rfl rfl)
theorem dX5_draw_24 : decode cX5_draw 24 = .ok (.ldc2_w 461, 3) := dk_20 1 205 (dk_at dksX5_draw_1 0 rfl rfl)
theorem dX5_draw_27 : decode cX5_draw 27 = .ok (.ldiv, 1) := dk_109 (dk_at dksX5_draw_1 3 rfl rfl)
theorem dX5_draw_28 : decode cX5_draw 28 = .ok (.ldc2_w 357, 3) := dk_20 1 101 (dk_at dksX5_draw_1 4 rfl rfl)
theorem dX5_draw_31 : decode cX5_draw 31 = .ok (.lrem, 1) := dk_113 (dk_at dksX5_draw_1 7 rfl rfl)
theorem dX5_draw_32 : decode cX5_draw 32 = .ok (.l2i, 1) := dk_136 (dk_at dksX5_draw_1 8 rfl rfl)
theorem dX5_draw_33 : decode cX5_draw 33 = .ok (.ireturn, 1) := dk_172 (dk_at dksX5_draw_1 9 rfl rfl)
abbrev cX5_years : ByteArray := prog_13_method_115_code
def yX5_years : MethodName := ⟨RX5, "years", "(II)I"⟩
def dkwX5_years_3 : List UInt8 := [167, 0, 4, 3, 96, 62, 132, 4, 1, 167, 255, 218, 29, 172]
abbrev dktX5_years_3 : List UInt8 := dkwX5_years_3 ++ []
def dkwX5_years_2 : List UInt8 := [42, 27, 133, 21, 4, 133, 97, 182, 1, 212, 182, 1, 38, 29, 42, 182, 1, 89, 154, 0, 7, 4]
abbrev dktX5_years_2 : List UInt8 := dkwX5_years_2 ++ dktX5_years_3
def dkwX5_years_1 : List UInt8 := [20, 1, 216, 184, 0, 85, 154, 0, 6, 16, 254, 172, 3, 62, 3, 54, 4, 21, 4, 28, 162, 0, 38, 42]
abbrev dktX5_years_1 : List UInt8 := dkwX5_years_1 ++ dktX5_years_2
def dkwX5_years_0 : List UInt8 := [42, 182, 1, 66, 153, 0, 27, 27, 133, 9, 20, 1, 210, 184, 0, 85, 153, 0, 15, 28, 133, 10]
abbrev dktX5_years_0 : List UInt8 := dkwX5_years_0 ++ dktX5_years_1
theorem dksX5_years_0 : cX5_years.data.toList.drop 0 = dktX5_years_0 := by decide +kernel
theorem dksX5_years_1 : cX5_years.data.toList.drop 22 = dktX5_years_1 := dk_seg dksX5_years_0 22 rfl rfl
theorem dksX5_years_2 : cX5_years.data.toList.drop 46 = dktX5_years_2 := dk_seg dksX5_years_1 24 rfl rfl
theorem dksX5_years_3 : cX5_years.data.toList.drop 68 = dktX5_years_3 := dk_seg dksX5_years_2 22 rfl rfl
theorem dX5_years_0 : decode cX5_years 0 = .ok (.aload_n 0, 1) := dk_42 (dk_at dksX5_years_0 0 rfl rfl)
theorem dX5_years_1 : decode cX5_years 1 = .ok (.invokevirtual 322, 3) := dk_182 1 66 (dk_at dksX5_years_0 1 rfl rfl)
theorem dX5_years_4 : decode cX5_years 4 = .ok (.ifCond .eq 27, 3) := dk_153 0 27 (dk_at dksX5_years_0 4 rfl rfl)
theorem dX5_years_7 : decode cX5_years 7 = .ok (.iload_n 1, 1) := dk_27 (dk_at dksX5_years_0 7 rfl rfl)
theorem dX5_years_8 : decode cX5_years 8 = .ok (.i2l, 1) := dk_133 (dk_at dksX5_years_0 8 rfl rfl)
theorem dX5_years_9 : decode cX5_years 9 = .ok (.lconst 0, 1) := dk_9 (dk_at dksX5_years_0 9 rfl rfl)
theorem dX5_years_10 : decode cX5_years 10 = .ok (.ldc2_w 466, 3) := dk_20 1 210 (dk_at dksX5_years_0 10 rfl rfl)
theorem dX5_years_13 : decode cX5_years 13 = .ok (.invokestatic 85, 3) := dk_184 0 85 (dk_at dksX5_years_0 13 rfl rfl)
theorem dX5_years_16 : decode cX5_years 16 = .ok (.ifCond .eq 15, 3) := dk_153 0 15 (dk_at dksX5_years_0 16 rfl rfl)
theorem dX5_years_19 : decode cX5_years 19 = .ok (.iload_n 2, 1) := dk_28 (dk_at dksX5_years_0 19 rfl rfl)
theorem dX5_years_20 : decode cX5_years 20 = .ok (.i2l, 1) := dk_133 (dk_at dksX5_years_0 20 rfl rfl)
theorem dX5_years_21 : decode cX5_years 21 = .ok (.lconst 1, 1) := dk_10 (dk_at dksX5_years_0 21 rfl rfl)
theorem dX5_years_22 : decode cX5_years 22 = .ok (.ldc2_w 472, 3) := dk_20 1 216 (dk_at dksX5_years_1 0 rfl rfl)
theorem dX5_years_25 : decode cX5_years 25 = .ok (.invokestatic 85, 3) := dk_184 0 85 (dk_at dksX5_years_1 3 rfl rfl)
theorem dX5_years_28 : decode cX5_years 28 = .ok (.ifCond .ne 6, 3) := dk_154 0 6 (dk_at dksX5_years_1 6 rfl rfl)
theorem dX5_years_31 : decode cX5_years 31 = .ok (.bipush (-2), 2) := dk_16 254 (dk_at dksX5_years_1 9 rfl rfl)
theorem dX5_years_33 : decode cX5_years 33 = .ok (.ireturn, 1) := dk_172 (dk_at dksX5_years_1 11 rfl rfl)
theorem dX5_years_34 : decode cX5_years 34 = .ok (.iconst 0, 1) := dk_3 (dk_at dksX5_years_1 12 rfl rfl)
theorem dX5_years_35 : decode cX5_years 35 = .ok (.istore_n 3, 1) := dk_62 (dk_at dksX5_years_1 13 rfl rfl)
theorem dX5_years_36 : decode cX5_years 36 = .ok (.iconst 0, 1) := dk_3 (dk_at dksX5_years_1 14 rfl rfl)
theorem dX5_years_37 : decode cX5_years 37 = .ok (.istore 4, 2) := dk_54 4 (dk_at dksX5_years_1 15 rfl rfl)
theorem dX5_years_39 : decode cX5_years 39 = .ok (.iload 4, 2) := dk_21 4 (dk_at dksX5_years_1 17 rfl rfl)
theorem dX5_years_41 : decode cX5_years 41 = .ok (.iload_n 2, 1) := dk_28 (dk_at dksX5_years_1 19 rfl rfl)
theorem dX5_years_42 : decode cX5_years 42 = .ok (.if_icmp .ge 38, 3) := dk_162 0 38 (dk_at dksX5_years_1 20 rfl rfl)
theorem dX5_years_45 : decode cX5_years 45 = .ok (.aload_n 0, 1) := dk_42 (dk_at dksX5_years_1 23 rfl rfl)
theorem dX5_years_46 : decode cX5_years 46 = .ok (.aload_n 0, 1) := dk_42 (dk_at dksX5_years_2 0 rfl rfl)
theorem dX5_years_47 : decode cX5_years 47 = .ok (.iload_n 1, 1) := dk_27 (dk_at dksX5_years_2 1 rfl rfl)
theorem dX5_years_48 : decode cX5_years 48 = .ok (.i2l, 1) := dk_133 (dk_at dksX5_years_2 2 rfl rfl)
theorem dX5_years_49 : decode cX5_years 49 = .ok (.iload 4, 2) := dk_21 4 (dk_at dksX5_years_2 3 rfl rfl)
theorem dX5_years_51 : decode cX5_years 51 = .ok (.i2l, 1) := dk_133 (dk_at dksX5_years_2 5 rfl rfl)
theorem dX5_years_52 : decode cX5_years 52 = .ok (.ladd, 1) := dk_97 (dk_at dksX5_years_2 6 rfl rfl)
theorem dX5_years_53 : decode cX5_years 53 = .ok (.invokevirtual 468, 3) := dk_182 1 212 (dk_at dksX5_years_2 7 rfl rfl)
theorem dX5_years_56 : decode cX5_years 56 = .ok (.invokevirtual 294, 3) := dk_182 1 38 (dk_at dksX5_years_2 10 rfl rfl)
theorem dX5_years_59 : decode cX5_years 59 = .ok (.iload_n 3, 1) := dk_29 (dk_at dksX5_years_2 13 rfl rfl)
theorem dX5_years_60 : decode cX5_years 60 = .ok (.aload_n 0, 1) := dk_42 (dk_at dksX5_years_2 14 rfl rfl)
theorem dX5_years_61 : decode cX5_years 61 = .ok (.invokevirtual 345, 3) := dk_182 1 89 (dk_at dksX5_years_2 15 rfl rfl)
theorem dX5_years_64 : decode cX5_years 64 = .ok (.ifCond .ne 7, 3) := dk_154 0 7 (dk_at dksX5_years_2 18 rfl rfl)
theorem dX5_years_67 : decode cX5_years 67 = .ok (.iconst 1, 1) := dk_4 (dk_at dksX5_years_2 21 rfl rfl)
theorem dX5_years_68 : decode cX5_years 68 = .ok (.goto 4, 3) := dk_167 0 4 (dk_at dksX5_years_3 0 rfl rfl)
theorem dX5_years_71 : decode cX5_years 71 = .ok (.iconst 0, 1) := dk_3 (dk_at dksX5_years_3 3 rfl rfl)
theorem dX5_years_72 : decode cX5_years 72 = .ok (.iadd, 1) := dk_96 (dk_at dksX5_years_3 4 rfl rfl)
theorem dX5_years_73 : decode cX5_years 73 = .ok (.istore_n 3, 1) := dk_62 (dk_at dksX5_years_3 5 rfl rfl)
theorem dX5_years_74 : decode cX5_years 74 = .ok (.iinc 4 1, 3) := dk_132 4 1 (dk_at dksX5_years_3 6 rfl rfl)
theorem dX5_years_77 : decode cX5_years 77 = .ok (.goto (-38), 3) := dk_167 255 218 (dk_at dksX5_years_3 9 rfl rfl)
theorem dX5_years_80 : decode cX5_years 80 = .ok (.iload_n 3, 1) := dk_29 (dk_at dksX5_years_3 12 rfl rfl)
theorem dX5_years_81 : decode cX5_years 81 = .ok (.ireturn, 1) := dk_172 (dk_at dksX5_years_3 13 rfl rfl)
abbrev cX5_count : ByteArray := prog_13_method_116_code
def yX5_count : MethodName := ⟨RX5, "count", "(I)I"⟩
def dkwX5_count_6 : List UInt8 := [2, 172]
abbrev dktX5_count_6 : List UInt8 := dkwX5_count_6 ++ []
def dkwX5_count_5 : List UInt8 := [180, 0, 67, 29, 46, 2, 160, 0, 7, 3, 167, 0, 4, 4, 96, 61, 132, 3, 1, 167, 255, 230, 28, 172]
abbrev dktX5_count_5 : List UInt8 := dkwX5_count_5 ++ dktX5_count_6
def dkwX5_count_4 : List UInt8 := [180, 0, 9, 16, 6, 46, 172, 42, 180, 0, 9, 16, 7, 46, 172, 3, 62, 29, 7, 162, 0, 27, 28, 42]
abbrev dktX5_count_4 : List UInt8 := dkwX5_count_4 ++ dktX5_count_5
def dkwX5_count_3 : List UInt8 := [46, 172, 42, 180, 0, 9, 6, 46, 172, 42, 180, 0, 9, 7, 46, 172, 42, 180, 0, 97, 172, 42]
abbrev dktX5_count_3 : List UInt8 := dkwX5_count_3 ++ dktX5_count_4
def dkwX5_count_2 : List UInt8 := [42, 180, 0, 9, 8, 46, 172, 42, 182, 0, 89, 172, 42, 180, 0, 9, 4, 46, 172, 42, 180, 0, 9, 5]
abbrev dktX5_count_2 : List UInt8 := dkwX5_count_2 ++ dktX5_count_3
def dkwX5_count_1 : List UInt8 := [170, 0, 0, 0, 147, 0, 0, 0, 0, 0, 0, 0, 9, 0, 0, 0, 53, 0, 0, 0, 60, 0, 0, 0, 65, 0, 0, 0, 72, 0, 0, 0, 79, 0, 0, 0, 86, 0, 0, 0, 93, 0, 0, 0, 98, 0, 0, 0, 106, 0, 0, 0, 114]
abbrev dktX5_count_1 : List UInt8 := dkwX5_count_1 ++ dktX5_count_2
def dkwX5_count_0 : List UInt8 := [3, 61, 27]
abbrev dktX5_count_0 : List UInt8 := dkwX5_count_0 ++ dktX5_count_1
theorem dksX5_count_0 : cX5_count.data.toList.drop 0 = dktX5_count_0 := by decide +kernel
theorem dksX5_count_1 : cX5_count.data.toList.drop 3 = dktX5_count_1 := dk_seg dksX5_count_0 3 rfl rfl
theorem dksX5_count_2 : cX5_count.data.toList.drop 56 = dktX5_count_2 := dk_seg dksX5_count_1 53 rfl rfl
theorem dksX5_count_3 : cX5_count.data.toList.drop 80 = dktX5_count_3 := dk_seg dksX5_count_2 24 rfl rfl
theorem dksX5_count_4 : cX5_count.data.toList.drop 102 = dktX5_count_4 := dk_seg dksX5_count_3 22 rfl rfl
theorem dksX5_count_5 : cX5_count.data.toList.drop 126 = dktX5_count_5 := dk_seg dksX5_count_4 24 rfl rfl
theorem dksX5_count_6 : cX5_count.data.toList.drop 150 = dktX5_count_6 := dk_seg dksX5_count_5 24 rfl rfl
theorem dX5_count_0 : decode cX5_count 0 = .ok (.iconst 0, 1) := dk_3 (dk_at dksX5_count_0 0 rfl rfl)
theorem dX5_count_1 : decode cX5_count 1 = .ok (.istore_n 2, 1) := dk_61 (dk_at dksX5_count_0 1 rfl rfl)
theorem dX5_count_2 : decode cX5_count 2 = .ok (.iload_n 1, 1) := dk_27 (dk_at dksX5_count_0 2 rfl rfl)
theorem dX5_count_3 : decode cX5_count 3 = .ok (.tableswitch 147 0 9 #[53, 60, 65, 72, 79, 86, 93, 98, 106, 114], 53) := by decide +kernel
theorem dX5_count_56 : decode cX5_count 56 = .ok (.aload_n 0, 1) := dk_42 (dk_at dksX5_count_2 0 rfl rfl)
theorem dX5_count_57 : decode cX5_count 57 = .ok (.getfield 9, 3) := dk_180 0 9 (dk_at dksX5_count_2 1 rfl rfl)
theorem dX5_count_60 : decode cX5_count 60 = .ok (.iconst 5, 1) := dk_8 (dk_at dksX5_count_2 4 rfl rfl)
theorem dX5_count_61 : decode cX5_count 61 = .ok (.iaload, 1) := dk_46 (dk_at dksX5_count_2 5 rfl rfl)
theorem dX5_count_62 : decode cX5_count 62 = .ok (.ireturn, 1) := dk_172 (dk_at dksX5_count_2 6 rfl rfl)
theorem dX5_count_63 : decode cX5_count 63 = .ok (.aload_n 0, 1) := dk_42 (dk_at dksX5_count_2 7 rfl rfl)
theorem dX5_count_64 : decode cX5_count 64 = .ok (.invokevirtual 89, 3) := dk_182 0 89 (dk_at dksX5_count_2 8 rfl rfl)
theorem dX5_count_67 : decode cX5_count 67 = .ok (.ireturn, 1) := dk_172 (dk_at dksX5_count_2 11 rfl rfl)
theorem dX5_count_68 : decode cX5_count 68 = .ok (.aload_n 0, 1) := dk_42 (dk_at dksX5_count_2 12 rfl rfl)
theorem dX5_count_69 : decode cX5_count 69 = .ok (.getfield 9, 3) := dk_180 0 9 (dk_at dksX5_count_2 13 rfl rfl)
theorem dX5_count_72 : decode cX5_count 72 = .ok (.iconst 1, 1) := dk_4 (dk_at dksX5_count_2 16 rfl rfl)
theorem dX5_count_73 : decode cX5_count 73 = .ok (.iaload, 1) := dk_46 (dk_at dksX5_count_2 17 rfl rfl)
theorem dX5_count_74 : decode cX5_count 74 = .ok (.ireturn, 1) := dk_172 (dk_at dksX5_count_2 18 rfl rfl)
theorem dX5_count_75 : decode cX5_count 75 = .ok (.aload_n 0, 1) := dk_42 (dk_at dksX5_count_2 19 rfl rfl)
theorem dX5_count_76 : decode cX5_count 76 = .ok (.getfield 9, 3) := dk_180 0 9 (dk_at dksX5_count_2 20 rfl rfl)
theorem dX5_count_79 : decode cX5_count 79 = .ok (.iconst 2, 1) := dk_5 (dk_at dksX5_count_2 23 rfl rfl)
theorem dX5_count_80 : decode cX5_count 80 = .ok (.iaload, 1) := dk_46 (dk_at dksX5_count_3 0 rfl rfl)
theorem dX5_count_81 : decode cX5_count 81 = .ok (.ireturn, 1) := dk_172 (dk_at dksX5_count_3 1 rfl rfl)
theorem dX5_count_82 : decode cX5_count 82 = .ok (.aload_n 0, 1) := dk_42 (dk_at dksX5_count_3 2 rfl rfl)
theorem dX5_count_83 : decode cX5_count 83 = .ok (.getfield 9, 3) := dk_180 0 9 (dk_at dksX5_count_3 3 rfl rfl)
theorem dX5_count_86 : decode cX5_count 86 = .ok (.iconst 3, 1) := dk_6 (dk_at dksX5_count_3 6 rfl rfl)
theorem dX5_count_87 : decode cX5_count 87 = .ok (.iaload, 1) := dk_46 (dk_at dksX5_count_3 7 rfl rfl)
theorem dX5_count_88 : decode cX5_count 88 = .ok (.ireturn, 1) := dk_172 (dk_at dksX5_count_3 8 rfl rfl)
theorem dX5_count_89 : decode cX5_count 89 = .ok (.aload_n 0, 1) := dk_42 (dk_at dksX5_count_3 9 rfl rfl)
theorem dX5_count_90 : decode cX5_count 90 = .ok (.getfield 9, 3) := dk_180 0 9 (dk_at dksX5_count_3 10 rfl rfl)
theorem dX5_count_93 : decode cX5_count 93 = .ok (.iconst 4, 1) := dk_7 (dk_at dksX5_count_3 13 rfl rfl)
theorem dX5_count_94 : decode cX5_count 94 = .ok (.iaload, 1) := dk_46 (dk_at dksX5_count_3 14 rfl rfl)
theorem dX5_count_95 : decode cX5_count 95 = .ok (.ireturn, 1) := dk_172 (dk_at dksX5_count_3 15 rfl rfl)
theorem dX5_count_96 : decode cX5_count 96 = .ok (.aload_n 0, 1) := dk_42 (dk_at dksX5_count_3 16 rfl rfl)
theorem dX5_count_97 : decode cX5_count 97 = .ok (.getfield 97, 3) := dk_180 0 97 (dk_at dksX5_count_3 17 rfl rfl)
theorem dX5_count_100 : decode cX5_count 100 = .ok (.ireturn, 1) := dk_172 (dk_at dksX5_count_3 20 rfl rfl)
theorem dX5_count_101 : decode cX5_count 101 = .ok (.aload_n 0, 1) := dk_42 (dk_at dksX5_count_3 21 rfl rfl)
theorem dX5_count_102 : decode cX5_count 102 = .ok (.getfield 9, 3) := dk_180 0 9 (dk_at dksX5_count_4 0 rfl rfl)
theorem dX5_count_105 : decode cX5_count 105 = .ok (.bipush 6, 2) := dk_16 6 (dk_at dksX5_count_4 3 rfl rfl)
theorem dX5_count_107 : decode cX5_count 107 = .ok (.iaload, 1) := dk_46 (dk_at dksX5_count_4 5 rfl rfl)
theorem dX5_count_108 : decode cX5_count 108 = .ok (.ireturn, 1) := dk_172 (dk_at dksX5_count_4 6 rfl rfl)
theorem dX5_count_109 : decode cX5_count 109 = .ok (.aload_n 0, 1) := dk_42 (dk_at dksX5_count_4 7 rfl rfl)
theorem dX5_count_110 : decode cX5_count 110 = .ok (.getfield 9, 3) := dk_180 0 9 (dk_at dksX5_count_4 8 rfl rfl)
theorem dX5_count_113 : decode cX5_count 113 = .ok (.bipush 7, 2) := dk_16 7 (dk_at dksX5_count_4 11 rfl rfl)
theorem dX5_count_115 : decode cX5_count 115 = .ok (.iaload, 1) := dk_46 (dk_at dksX5_count_4 13 rfl rfl)
theorem dX5_count_116 : decode cX5_count 116 = .ok (.ireturn, 1) := dk_172 (dk_at dksX5_count_4 14 rfl rfl)
theorem dX5_count_117 : decode cX5_count 117 = .ok (.iconst 0, 1) := dk_3 (dk_at dksX5_count_4 15 rfl rfl)
theorem dX5_count_118 : decode cX5_count 118 = .ok (.istore_n 3, 1) := dk_62 (dk_at dksX5_count_4 16 rfl rfl)
theorem dX5_count_119 : decode cX5_count 119 = .ok (.iload_n 3, 1) := dk_29 (dk_at dksX5_count_4 17 rfl rfl)
theorem dX5_count_120 : decode cX5_count 120 = .ok (.iconst 4, 1) := dk_7 (dk_at dksX5_count_4 18 rfl rfl)
theorem dX5_count_121 : decode cX5_count 121 = .ok (.if_icmp .ge 27, 3) := dk_162 0 27 (dk_at dksX5_count_4 19 rfl rfl)
theorem dX5_count_124 : decode cX5_count 124 = .ok (.iload_n 2, 1) := dk_28 (dk_at dksX5_count_4 22 rfl rfl)
theorem dX5_count_125 : decode cX5_count 125 = .ok (.aload_n 0, 1) := dk_42 (dk_at dksX5_count_4 23 rfl rfl)
theorem dX5_count_126 : decode cX5_count 126 = .ok (.getfield 67, 3) := dk_180 0 67 (dk_at dksX5_count_5 0 rfl rfl)
theorem dX5_count_129 : decode cX5_count 129 = .ok (.iload_n 3, 1) := dk_29 (dk_at dksX5_count_5 3 rfl rfl)
theorem dX5_count_130 : decode cX5_count 130 = .ok (.iaload, 1) := dk_46 (dk_at dksX5_count_5 4 rfl rfl)
theorem dX5_count_131 : decode cX5_count 131 = .ok (.iconst (-1), 1) := dk_2 (dk_at dksX5_count_5 5 rfl rfl)
theorem dX5_count_132 : decode cX5_count 132 = .ok (.if_icmp .ne 7, 3) := dk_160 0 7 (dk_at dksX5_count_5 6 rfl rfl)
theorem dX5_count_135 : decode cX5_count 135 = .ok (.iconst 0, 1) := dk_3 (dk_at dksX5_count_5 9 rfl rfl)
theorem dX5_count_136 : decode cX5_count 136 = .ok (.goto 4, 3) := dk_167 0 4 (dk_at dksX5_count_5 10 rfl rfl)
theorem dX5_count_139 : decode cX5_count 139 = .ok (.iconst 1, 1) := dk_4 (dk_at dksX5_count_5 13 rfl rfl)
theorem dX5_count_140 : decode cX5_count 140 = .ok (.iadd, 1) := dk_96 (dk_at dksX5_count_5 14 rfl rfl)
theorem dX5_count_141 : decode cX5_count 141 = .ok (.istore_n 2, 1) := dk_61 (dk_at dksX5_count_5 15 rfl rfl)
theorem dX5_count_142 : decode cX5_count 142 = .ok (.iinc 3 1, 3) := dk_132 3 1 (dk_at dksX5_count_5 16 rfl rfl)
theorem dX5_count_145 : decode cX5_count 145 = .ok (.goto (-26), 3) := dk_167 255 230 (dk_at dksX5_count_5 19 rfl rfl)
theorem dX5_count_148 : decode cX5_count 148 = .ok (.iload_n 2, 1) := dk_28 (dk_at dksX5_count_5 22 rfl rfl)
theorem dX5_count_149 : decode cX5_count 149 = .ok (.ireturn, 1) := dk_172 (dk_at dksX5_count_5 23 rfl rfl)
theorem dX5_count_150 : decode cX5_count 150 = .ok (.iconst (-1), 1) := dk_2 (dk_at dksX5_count_6 0 rfl rfl)
theorem dX5_count_151 : decode cX5_count 151 = .ok (.ireturn, 1) := dk_172 (dk_at dksX5_count_6 1 rfl rfl)
abbrev cX5_row : ByteArray := prog_13_method_119_code
def yX5_row : MethodName := ⟨RX5, "row", "(III)I"⟩
def dkwX5_row_3 : List UInt8 := [9, 80, 132, 4, 1, 167, 255, 233, 3, 172]
abbrev dktX5_row_3 : List UInt8 := dkwX5_row_3 ++ []
def dkwX5_row_2 : List UInt8 := [27, 28, 79, 3, 54, 4, 21, 4, 16, 60, 162, 0, 22, 42, 180, 0, 73, 16, 60, 27, 104, 21, 4, 96]
abbrev dktX5_row_2 : List UInt8 := dkwX5_row_2 ++ dktX5_row_3
def dkwX5_row_1 : List UInt8 := [164, 0, 6, 16, 254, 172, 29, 156, 0, 6, 16, 253, 172, 42, 180, 0, 67, 27, 29, 79, 42, 180, 0, 70]
abbrev dktX5_row_1 : List UInt8 := dkwX5_row_1 ++ dktX5_row_2
def dkwX5_row_0 : List UInt8 := [27, 184, 1, 127, 153, 0, 21, 28, 133, 9, 20, 1, 64, 184, 0, 85, 153, 0, 9, 29, 16, 60]
abbrev dktX5_row_0 : List UInt8 := dkwX5_row_0 ++ dktX5_row_1
theorem dksX5_row_0 : cX5_row.data.toList.drop 0 = dktX5_row_0 := by decide +kernel
theorem dksX5_row_1 : cX5_row.data.toList.drop 22 = dktX5_row_1 := dk_seg dksX5_row_0 22 rfl rfl
theorem dksX5_row_2 : cX5_row.data.toList.drop 46 = dktX5_row_2 := dk_seg dksX5_row_1 24 rfl rfl
theorem dksX5_row_3 : cX5_row.data.toList.drop 70 = dktX5_row_3 := dk_seg dksX5_row_2 24 rfl rfl
theorem dX5_row_0 : decode cX5_row 0 = .ok (.iload_n 1, 1) := dk_27 (dk_at dksX5_row_0 0 rfl rfl)
theorem dX5_row_1 : decode cX5_row 1 = .ok (.invokestatic 383, 3) := dk_184 1 127 (dk_at dksX5_row_0 1 rfl rfl)
theorem dX5_row_4 : decode cX5_row 4 = .ok (.ifCond .eq 21, 3) := dk_153 0 21 (dk_at dksX5_row_0 4 rfl rfl)
theorem dX5_row_7 : decode cX5_row 7 = .ok (.iload_n 2, 1) := dk_28 (dk_at dksX5_row_0 7 rfl rfl)
theorem dX5_row_8 : decode cX5_row 8 = .ok (.i2l, 1) := dk_133 (dk_at dksX5_row_0 8 rfl rfl)
theorem dX5_row_9 : decode cX5_row 9 = .ok (.lconst 0, 1) := dk_9 (dk_at dksX5_row_0 9 rfl rfl)
theorem dX5_row_10 : decode cX5_row 10 = .ok (.ldc2_w 320, 3) := dk_20 1 64 (dk_at dksX5_row_0 10 rfl rfl)
theorem dX5_row_13 : decode cX5_row 13 = .ok (.invokestatic 85, 3) := dk_184 0 85 (dk_at dksX5_row_0 13 rfl rfl)
theorem dX5_row_16 : decode cX5_row 16 = .ok (.ifCond .eq 9, 3) := dk_153 0 9 (dk_at dksX5_row_0 16 rfl rfl)
theorem dX5_row_19 : decode cX5_row 19 = .ok (.iload_n 3, 1) := dk_29 (dk_at dksX5_row_0 19 rfl rfl)
theorem dX5_row_20 : decode cX5_row 20 = .ok (.bipush 60, 2) := dk_16 60 (dk_at dksX5_row_0 20 rfl rfl)
theorem dX5_row_22 : decode cX5_row 22 = .ok (.if_icmp .le 6, 3) := dk_164 0 6 (dk_at dksX5_row_1 0 rfl rfl)
theorem dX5_row_25 : decode cX5_row 25 = .ok (.bipush (-2), 2) := dk_16 254 (dk_at dksX5_row_1 3 rfl rfl)
theorem dX5_row_27 : decode cX5_row 27 = .ok (.ireturn, 1) := dk_172 (dk_at dksX5_row_1 5 rfl rfl)
theorem dX5_row_28 : decode cX5_row 28 = .ok (.iload_n 3, 1) := dk_29 (dk_at dksX5_row_1 6 rfl rfl)
theorem dX5_row_29 : decode cX5_row 29 = .ok (.ifCond .ge 6, 3) := dk_156 0 6 (dk_at dksX5_row_1 7 rfl rfl)
theorem dX5_row_32 : decode cX5_row 32 = .ok (.bipush (-3), 2) := dk_16 253 (dk_at dksX5_row_1 10 rfl rfl)
theorem dX5_row_34 : decode cX5_row 34 = .ok (.ireturn, 1) := dk_172 (dk_at dksX5_row_1 12 rfl rfl)
theorem dX5_row_35 : decode cX5_row 35 = .ok (.aload_n 0, 1) := dk_42 (dk_at dksX5_row_1 13 rfl rfl)
theorem dX5_row_36 : decode cX5_row 36 = .ok (.getfield 67, 3) := dk_180 0 67 (dk_at dksX5_row_1 14 rfl rfl)
theorem dX5_row_39 : decode cX5_row 39 = .ok (.iload_n 1, 1) := dk_27 (dk_at dksX5_row_1 17 rfl rfl)
theorem dX5_row_40 : decode cX5_row 40 = .ok (.iload_n 3, 1) := dk_29 (dk_at dksX5_row_1 18 rfl rfl)
theorem dX5_row_41 : decode cX5_row 41 = .ok (.iastore, 1) := dk_79 (dk_at dksX5_row_1 19 rfl rfl)
theorem dX5_row_42 : decode cX5_row 42 = .ok (.aload_n 0, 1) := dk_42 (dk_at dksX5_row_1 20 rfl rfl)
theorem dX5_row_43 : decode cX5_row 43 = .ok (.getfield 70, 3) := dk_180 0 70 (dk_at dksX5_row_1 21 rfl rfl)
theorem dX5_row_46 : decode cX5_row 46 = .ok (.iload_n 1, 1) := dk_27 (dk_at dksX5_row_2 0 rfl rfl)
theorem dX5_row_47 : decode cX5_row 47 = .ok (.iload_n 2, 1) := dk_28 (dk_at dksX5_row_2 1 rfl rfl)
theorem dX5_row_48 : decode cX5_row 48 = .ok (.iastore, 1) := dk_79 (dk_at dksX5_row_2 2 rfl rfl)
theorem dX5_row_49 : decode cX5_row 49 = .ok (.iconst 0, 1) := dk_3 (dk_at dksX5_row_2 3 rfl rfl)
theorem dX5_row_50 : decode cX5_row 50 = .ok (.istore 4, 2) := dk_54 4 (dk_at dksX5_row_2 4 rfl rfl)
theorem dX5_row_52 : decode cX5_row 52 = .ok (.iload 4, 2) := dk_21 4 (dk_at dksX5_row_2 6 rfl rfl)
theorem dX5_row_54 : decode cX5_row 54 = .ok (.bipush 60, 2) := dk_16 60 (dk_at dksX5_row_2 8 rfl rfl)
theorem dX5_row_56 : decode cX5_row 56 = .ok (.if_icmp .ge 22, 3) := dk_162 0 22 (dk_at dksX5_row_2 10 rfl rfl)
theorem dX5_row_59 : decode cX5_row 59 = .ok (.aload_n 0, 1) := dk_42 (dk_at dksX5_row_2 13 rfl rfl)
theorem dX5_row_60 : decode cX5_row 60 = .ok (.getfield 73, 3) := dk_180 0 73 (dk_at dksX5_row_2 14 rfl rfl)
theorem dX5_row_63 : decode cX5_row 63 = .ok (.bipush 60, 2) := dk_16 60 (dk_at dksX5_row_2 17 rfl rfl)
theorem dX5_row_65 : decode cX5_row 65 = .ok (.iload_n 1, 1) := dk_27 (dk_at dksX5_row_2 19 rfl rfl)
theorem dX5_row_66 : decode cX5_row 66 = .ok (.imul, 1) := dk_104 (dk_at dksX5_row_2 20 rfl rfl)
theorem dX5_row_67 : decode cX5_row 67 = .ok (.iload 4, 2) := dk_21 4 (dk_at dksX5_row_2 21 rfl rfl)
theorem dX5_row_69 : decode cX5_row 69 = .ok (.iadd, 1) := dk_96 (dk_at dksX5_row_2 23 rfl rfl)
theorem dX5_row_70 : decode cX5_row 70 = .ok (.lconst 0, 1) := dk_9 (dk_at dksX5_row_3 0 rfl rfl)
theorem dX5_row_71 : decode cX5_row 71 = .ok (.lastore, 1) := dk_80 (dk_at dksX5_row_3 1 rfl rfl)
theorem dX5_row_72 : decode cX5_row 72 = .ok (.iinc 4 1, 3) := dk_132 4 1 (dk_at dksX5_row_3 2 rfl rfl)
theorem dX5_row_75 : decode cX5_row 75 = .ok (.goto (-23), 3) := dk_167 255 233 (dk_at dksX5_row_3 5 rfl rfl)
theorem dX5_row_78 : decode cX5_row 78 = .ok (.iconst 0, 1) := dk_3 (dk_at dksX5_row_3 8 rfl rfl)
theorem dX5_row_79 : decode cX5_row 79 = .ok (.ireturn, 1) := dk_172 (dk_at dksX5_row_3 9 rfl rfl)
abbrev cX5_write : ByteArray := prog_13_method_120_code
def yX5_write : MethodName := ⟨RX5, "write", "(IIJ)I"⟩
def dkwX5_write_2 : List UInt8 := [16, 60, 27, 104, 28, 96, 33, 42, 180, 0, 70, 27, 46, 184, 1, 218, 80, 3, 172]
abbrev dktX5_write_2 : List UInt8 := dkwX5_write_2 ++ []
def dkwX5_write_1 : List UInt8 := [133, 9, 42, 180, 0, 67, 27, 46, 4, 100, 133, 184, 0, 85, 154, 0, 6, 16, 249, 172, 42, 180, 0, 73]
abbrev dktX5_write_1 : List UInt8 := dkwX5_write_1 ++ dktX5_write_2
def dkwX5_write_0 : List UInt8 := [27, 184, 1, 127, 154, 0, 6, 16, 254, 172, 42, 180, 0, 67, 27, 46, 2, 160, 0, 6, 16, 250, 172, 28]
abbrev dktX5_write_0 : List UInt8 := dkwX5_write_0 ++ dktX5_write_1
theorem dksX5_write_0 : cX5_write.data.toList.drop 0 = dktX5_write_0 := by decide +kernel
theorem dksX5_write_1 : cX5_write.data.toList.drop 24 = dktX5_write_1 := dk_seg dksX5_write_0 24 rfl rfl
theorem dksX5_write_2 : cX5_write.data.toList.drop 48 = dktX5_write_2 := dk_seg dksX5_write_1 24 rfl rfl
theorem dX5_write_0 : decode cX5_write 0 = .ok (.iload_n 1, 1) := dk_27 (dk_at dksX5_write_0 0 rfl rfl)
theorem dX5_write_1 : decode cX5_write 1 = .ok (.invokestatic 383, 3) := dk_184 1 127 (dk_at dksX5_write_0 1 rfl rfl)
theorem dX5_write_4 : decode cX5_write 4 = .ok (.ifCond .ne 6, 3) := dk_154 0 6 (dk_at dksX5_write_0 4 rfl rfl)
theorem dX5_write_7 : decode cX5_write 7 = .ok (.bipush (-2), 2) := dk_16 254 (dk_at dksX5_write_0 7 rfl rfl)
theorem dX5_write_9 : decode cX5_write 9 = .ok (.ireturn, 1) := dk_172 (dk_at dksX5_write_0 9 rfl rfl)
theorem dX5_write_10 : decode cX5_write 10 = .ok (.aload_n 0, 1) := dk_42 (dk_at dksX5_write_0 10 rfl rfl)
theorem dX5_write_11 : decode cX5_write 11 = .ok (.getfield 67, 3) := dk_180 0 67 (dk_at dksX5_write_0 11 rfl rfl)
theorem dX5_write_14 : decode cX5_write 14 = .ok (.iload_n 1, 1) := dk_27 (dk_at dksX5_write_0 14 rfl rfl)
theorem dX5_write_15 : decode cX5_write 15 = .ok (.iaload, 1) := dk_46 (dk_at dksX5_write_0 15 rfl rfl)
theorem dX5_write_16 : decode cX5_write 16 = .ok (.iconst (-1), 1) := dk_2 (dk_at dksX5_write_0 16 rfl rfl)
theorem dX5_write_17 : decode cX5_write 17 = .ok (.if_icmp .ne 6, 3) := dk_160 0 6 (dk_at dksX5_write_0 17 rfl rfl)
theorem dX5_write_20 : decode cX5_write 20 = .ok (.bipush (-6), 2) := dk_16 250 (dk_at dksX5_write_0 20 rfl rfl)
theorem dX5_write_22 : decode cX5_write 22 = .ok (.ireturn, 1) := dk_172 (dk_at dksX5_write_0 22 rfl rfl)
theorem dX5_write_23 : decode cX5_write 23 = .ok (.iload_n 2, 1) := dk_28 (dk_at dksX5_write_0 23 rfl rfl)
theorem dX5_write_24 : decode cX5_write 24 = .ok (.i2l, 1) := dk_133 (dk_at dksX5_write_1 0 rfl rfl)
theorem dX5_write_25 : decode cX5_write 25 = .ok (.lconst 0, 1) := dk_9 (dk_at dksX5_write_1 1 rfl rfl)
theorem dX5_write_26 : decode cX5_write 26 = .ok (.aload_n 0, 1) := dk_42 (dk_at dksX5_write_1 2 rfl rfl)
theorem dX5_write_27 : decode cX5_write 27 = .ok (.getfield 67, 3) := dk_180 0 67 (dk_at dksX5_write_1 3 rfl rfl)
theorem dX5_write_30 : decode cX5_write 30 = .ok (.iload_n 1, 1) := dk_27 (dk_at dksX5_write_1 6 rfl rfl)
theorem dX5_write_31 : decode cX5_write 31 = .ok (.iaload, 1) := dk_46 (dk_at dksX5_write_1 7 rfl rfl)
theorem dX5_write_32 : decode cX5_write 32 = .ok (.iconst 1, 1) := dk_4 (dk_at dksX5_write_1 8 rfl rfl)
theorem dX5_write_33 : decode cX5_write 33 = .ok (.isub, 1) := dk_100 (dk_at dksX5_write_1 9 rfl rfl)
theorem dX5_write_34 : decode cX5_write 34 = .ok (.i2l, 1) := dk_133 (dk_at dksX5_write_1 10 rfl rfl)
theorem dX5_write_35 : decode cX5_write 35 = .ok (.invokestatic 85, 3) := dk_184 0 85 (dk_at dksX5_write_1 11 rfl rfl)
theorem dX5_write_38 : decode cX5_write 38 = .ok (.ifCond .ne 6, 3) := dk_154 0 6 (dk_at dksX5_write_1 14 rfl rfl)
theorem dX5_write_41 : decode cX5_write 41 = .ok (.bipush (-7), 2) := dk_16 249 (dk_at dksX5_write_1 17 rfl rfl)
theorem dX5_write_43 : decode cX5_write 43 = .ok (.ireturn, 1) := dk_172 (dk_at dksX5_write_1 19 rfl rfl)
theorem dX5_write_44 : decode cX5_write 44 = .ok (.aload_n 0, 1) := dk_42 (dk_at dksX5_write_1 20 rfl rfl)
theorem dX5_write_45 : decode cX5_write 45 = .ok (.getfield 73, 3) := dk_180 0 73 (dk_at dksX5_write_1 21 rfl rfl)
theorem dX5_write_48 : decode cX5_write 48 = .ok (.bipush 60, 2) := dk_16 60 (dk_at dksX5_write_2 0 rfl rfl)
theorem dX5_write_50 : decode cX5_write 50 = .ok (.iload_n 1, 1) := dk_27 (dk_at dksX5_write_2 2 rfl rfl)
theorem dX5_write_51 : decode cX5_write 51 = .ok (.imul, 1) := dk_104 (dk_at dksX5_write_2 3 rfl rfl)
theorem dX5_write_52 : decode cX5_write 52 = .ok (.iload_n 2, 1) := dk_28 (dk_at dksX5_write_2 4 rfl rfl)
theorem dX5_write_53 : decode cX5_write 53 = .ok (.iadd, 1) := dk_96 (dk_at dksX5_write_2 5 rfl rfl)
theorem dX5_write_54 : decode cX5_write 54 = .ok (.lload_n 3, 1) := dk_33 (dk_at dksX5_write_2 6 rfl rfl)
theorem dX5_write_55 : decode cX5_write 55 = .ok (.aload_n 0, 1) := dk_42 (dk_at dksX5_write_2 7 rfl rfl)
theorem dX5_write_56 : decode cX5_write 56 = .ok (.getfield 70, 3) := dk_180 0 70 (dk_at dksX5_write_2 8 rfl rfl)
theorem dX5_write_59 : decode cX5_write 59 = .ok (.iload_n 1, 1) := dk_27 (dk_at dksX5_write_2 11 rfl rfl)
theorem dX5_write_60 : decode cX5_write 60 = .ok (.iaload, 1) := dk_46 (dk_at dksX5_write_2 12 rfl rfl)
theorem dX5_write_61 : decode cX5_write 61 = .ok (.invokestatic 474, 3) := dk_184 1 218 (dk_at dksX5_write_2 13 rfl rfl)
theorem dX5_write_64 : decode cX5_write 64 = .ok (.lastore, 1) := dk_80 (dk_at dksX5_write_2 16 rfl rfl)
theorem dX5_write_65 : decode cX5_write 65 = .ok (.iconst 0, 1) := dk_3 (dk_at dksX5_write_2 17 rfl rfl)
theorem dX5_write_66 : decode cX5_write 66 = .ok (.ireturn, 1) := dk_172 (dk_at dksX5_write_2 18 rfl rfl)
abbrev cX5_cut : ByteArray := prog_13_method_118_code
def yX5_cut : MethodName := ⟨RX5, "cut", "(JI)J"⟩
def dkwX5_cut_0 : List UInt8 := [16, 64, 16, 8, 28, 120, 100, 62, 30, 29, 121, 29, 123, 173]
abbrev dktX5_cut_0 : List UInt8 := dkwX5_cut_0 ++ []
theorem dksX5_cut_0 : cX5_cut.data.toList.drop 0 = dktX5_cut_0 := by decide +kernel
theorem dX5_cut_0 : decode cX5_cut 0 = .ok (.bipush 64, 2) := dk_16 64 (dk_at dksX5_cut_0 0 rfl rfl)
theorem dX5_cut_2 : decode cX5_cut 2 = .ok (.bipush 8, 2) := dk_16 8 (dk_at dksX5_cut_0 2 rfl rfl)
theorem dX5_cut_4 : decode cX5_cut 4 = .ok (.iload_n 2, 1) := dk_28 (dk_at dksX5_cut_0 4 rfl rfl)
theorem dX5_cut_5 : decode cX5_cut 5 = .ok (.ishl, 1) := dk_120 (dk_at dksX5_cut_0 5 rfl rfl)
theorem dX5_cut_6 : decode cX5_cut 6 = .ok (.isub, 1) := dk_100 (dk_at dksX5_cut_0 6 rfl rfl)
theorem dX5_cut_7 : decode cX5_cut 7 = .ok (.istore_n 3, 1) := dk_62 (dk_at dksX5_cut_0 7 rfl rfl)
theorem dX5_cut_8 : decode cX5_cut 8 = .ok (.lload_n 0, 1) := dk_30 (dk_at dksX5_cut_0 8 rfl rfl)
theorem dX5_cut_9 : decode cX5_cut 9 = .ok (.iload_n 3, 1) := dk_29 (dk_at dksX5_cut_0 9 rfl rfl)
theorem dX5_cut_10 : decode cX5_cut 10 = .ok (.lshl, 1) := dk_121 (dk_at dksX5_cut_0 10 rfl rfl)
theorem dX5_cut_11 : decode cX5_cut 11 = .ok (.iload_n 3, 1) := dk_29 (dk_at dksX5_cut_0 11 rfl rfl)
theorem dX5_cut_12 : decode cX5_cut 12 = .ok (.lshr, 1) := dk_123 (dk_at dksX5_cut_0 12 rfl rfl)
theorem dX5_cut_13 : decode cX5_cut 13 = .ok (.lreturn, 1) := dk_173 (dk_at dksX5_cut_0 13 rfl rfl)
abbrev cX5_paste : ByteArray := prog_13_method_121_code
def yX5_paste : MethodName := ⟨RX5, "paste", "(IIIII)I"⟩
def dkwX5_paste_7 : List UInt8 := [29, 104, 21, 4, 96, 21, 6, 96, 42, 180, 0, 77, 21, 6, 47, 80, 132, 6, 1, 167, 255, 224, 3, 172]
abbrev dktX5_paste_7 : List UInt8 := dkwX5_paste_7 ++ []
def dkwX5_paste_6 : List UInt8 := [47, 80, 132, 6, 1, 167, 255, 225, 3, 54, 6, 21, 6, 21, 5, 162, 0, 31, 42, 180, 0, 73, 16, 60]
abbrev dktX5_paste_6 : List UInt8 := dkwX5_paste_6 ++ dktX5_paste_7
def dkwX5_paste_5 : List UInt8 := [21, 5, 162, 0, 30, 42, 180, 0, 77, 21, 6, 42, 180, 0, 73, 16, 60, 27, 104, 28, 96, 21, 6, 96]
abbrev dktX5_paste_5 : List UInt8 := dkwX5_paste_5 ++ dktX5_paste_6
def dkwX5_paste_4 : List UInt8 := [21, 5, 133, 97, 42, 180, 0, 67, 29, 46, 133, 148, 158, 0, 6, 16, 249, 172, 3, 54, 6, 21, 6]
abbrev dktX5_paste_4 : List UInt8 := dkwX5_paste_4 ++ dktX5_paste_5
def dkwX5_paste_3 : List UInt8 := [155, 0, 38, 28, 133, 21, 5, 133, 97, 42, 180, 0, 67, 27, 46, 133, 148, 157, 0, 21, 21, 4, 133]
abbrev dktX5_paste_3 : List UInt8 := dkwX5_paste_3 ++ dktX5_paste_4
def dkwX5_paste_2 : List UInt8 := [180, 0, 70, 29, 46, 159, 0, 6, 16, 248, 172, 28, 155, 0, 48, 21, 4, 155, 0, 43, 21, 5]
abbrev dktX5_paste_2 : List UInt8 := dkwX5_paste_2 ++ dktX5_paste_3
def dkwX5_paste_1 : List UInt8 := [159, 0, 13, 42, 180, 0, 67, 29, 46, 2, 160, 0, 6, 16, 250, 172, 42, 180, 0, 70, 27, 46, 42]
abbrev dktX5_paste_1 : List UInt8 := dkwX5_paste_1 ++ dktX5_paste_2
def dkwX5_paste_0 : List UInt8 := [27, 184, 1, 127, 153, 0, 10, 29, 184, 1, 127, 154, 0, 6, 16, 254, 172, 42, 180, 0, 67, 27, 46, 2]
abbrev dktX5_paste_0 : List UInt8 := dkwX5_paste_0 ++ dktX5_paste_1
theorem dksX5_paste_0 : cX5_paste.data.toList.drop 0 = dktX5_paste_0 := by decide +kernel
theorem dksX5_paste_1 : cX5_paste.data.toList.drop 24 = dktX5_paste_1 := dk_seg dksX5_paste_0 24 rfl rfl
theorem dksX5_paste_2 : cX5_paste.data.toList.drop 47 = dktX5_paste_2 := dk_seg dksX5_paste_1 23 rfl rfl
theorem dksX5_paste_3 : cX5_paste.data.toList.drop 69 = dktX5_paste_3 := dk_seg dksX5_paste_2 22 rfl rfl
theorem dksX5_paste_4 : cX5_paste.data.toList.drop 92 = dktX5_paste_4 := dk_seg dksX5_paste_3 23 rfl rfl
theorem dksX5_paste_5 : cX5_paste.data.toList.drop 115 = dktX5_paste_5 := dk_seg dksX5_paste_4 23 rfl rfl
theorem dksX5_paste_6 : cX5_paste.data.toList.drop 139 = dktX5_paste_6 := dk_seg dksX5_paste_5 24 rfl rfl
theorem dksX5_paste_7 : cX5_paste.data.toList.drop 163 = dktX5_paste_7 := dk_seg dksX5_paste_6 24 rfl rfl
theorem dX5_paste_0 : decode cX5_paste 0 = .ok (.iload_n 1, 1) := dk_27 (dk_at dksX5_paste_0 0 rfl rfl)
theorem dX5_paste_1 : decode cX5_paste 1 = .ok (.invokestatic 383, 3) := dk_184 1 127 (dk_at dksX5_paste_0 1 rfl rfl)
theorem dX5_paste_4 : decode cX5_paste 4 = .ok (.ifCond .eq 10, 3) := dk_153 0 10 (dk_at dksX5_paste_0 4 rfl rfl)
theorem dX5_paste_7 : decode cX5_paste 7 = .ok (.iload_n 3, 1) := dk_29 (dk_at dksX5_paste_0 7 rfl rfl)
theorem dX5_paste_8 : decode cX5_paste 8 = .ok (.invokestatic 383, 3) := dk_184 1 127 (dk_at dksX5_paste_0 8 rfl rfl)
theorem dX5_paste_11 : decode cX5_paste 11 = .ok (.ifCond .ne 6, 3) := dk_154 0 6 (dk_at dksX5_paste_0 11 rfl rfl)
theorem dX5_paste_14 : decode cX5_paste 14 = .ok (.bipush (-2), 2) := dk_16 254 (dk_at dksX5_paste_0 14 rfl rfl)
theorem dX5_paste_16 : decode cX5_paste 16 = .ok (.ireturn, 1) := dk_172 (dk_at dksX5_paste_0 16 rfl rfl)
theorem dX5_paste_17 : decode cX5_paste 17 = .ok (.aload_n 0, 1) := dk_42 (dk_at dksX5_paste_0 17 rfl rfl)
theorem dX5_paste_18 : decode cX5_paste 18 = .ok (.getfield 67, 3) := dk_180 0 67 (dk_at dksX5_paste_0 18 rfl rfl)
theorem dX5_paste_21 : decode cX5_paste 21 = .ok (.iload_n 1, 1) := dk_27 (dk_at dksX5_paste_0 21 rfl rfl)
theorem dX5_paste_22 : decode cX5_paste 22 = .ok (.iaload, 1) := dk_46 (dk_at dksX5_paste_0 22 rfl rfl)
theorem dX5_paste_23 : decode cX5_paste 23 = .ok (.iconst (-1), 1) := dk_2 (dk_at dksX5_paste_0 23 rfl rfl)
theorem dX5_paste_24 : decode cX5_paste 24 = .ok (.if_icmp .eq 13, 3) := dk_159 0 13 (dk_at dksX5_paste_1 0 rfl rfl)
theorem dX5_paste_27 : decode cX5_paste 27 = .ok (.aload_n 0, 1) := dk_42 (dk_at dksX5_paste_1 3 rfl rfl)
theorem dX5_paste_28 : decode cX5_paste 28 = .ok (.getfield 67, 3) := dk_180 0 67 (dk_at dksX5_paste_1 4 rfl rfl)
theorem dX5_paste_31 : decode cX5_paste 31 = .ok (.iload_n 3, 1) := dk_29 (dk_at dksX5_paste_1 7 rfl rfl)
theorem dX5_paste_32 : decode cX5_paste 32 = .ok (.iaload, 1) := dk_46 (dk_at dksX5_paste_1 8 rfl rfl)
theorem dX5_paste_33 : decode cX5_paste 33 = .ok (.iconst (-1), 1) := dk_2 (dk_at dksX5_paste_1 9 rfl rfl)
theorem dX5_paste_34 : decode cX5_paste 34 = .ok (.if_icmp .ne 6, 3) := dk_160 0 6 (dk_at dksX5_paste_1 10 rfl rfl)
theorem dX5_paste_37 : decode cX5_paste 37 = .ok (.bipush (-6), 2) := dk_16 250 (dk_at dksX5_paste_1 13 rfl rfl)
theorem dX5_paste_39 : decode cX5_paste 39 = .ok (.ireturn, 1) := dk_172 (dk_at dksX5_paste_1 15 rfl rfl)
theorem dX5_paste_40 : decode cX5_paste 40 = .ok (.aload_n 0, 1) := dk_42 (dk_at dksX5_paste_1 16 rfl rfl)
theorem dX5_paste_41 : decode cX5_paste 41 = .ok (.getfield 70, 3) := dk_180 0 70 (dk_at dksX5_paste_1 17 rfl rfl)
theorem dX5_paste_44 : decode cX5_paste 44 = .ok (.iload_n 1, 1) := dk_27 (dk_at dksX5_paste_1 20 rfl rfl)
theorem dX5_paste_45 : decode cX5_paste 45 = .ok (.iaload, 1) := dk_46 (dk_at dksX5_paste_1 21 rfl rfl)
theorem dX5_paste_46 : decode cX5_paste 46 = .ok (.aload_n 0, 1) := dk_42 (dk_at dksX5_paste_1 22 rfl rfl)
theorem dX5_paste_47 : decode cX5_paste 47 = .ok (.getfield 70, 3) := dk_180 0 70 (dk_at dksX5_paste_2 0 rfl rfl)
theorem dX5_paste_50 : decode cX5_paste 50 = .ok (.iload_n 3, 1) := dk_29 (dk_at dksX5_paste_2 3 rfl rfl)
theorem dX5_paste_51 : decode cX5_paste 51 = .ok (.iaload, 1) := dk_46 (dk_at dksX5_paste_2 4 rfl rfl)
theorem dX5_paste_52 : decode cX5_paste 52 = .ok (.if_icmp .eq 6, 3) := dk_159 0 6 (dk_at dksX5_paste_2 5 rfl rfl)
theorem dX5_paste_55 : decode cX5_paste 55 = .ok (.bipush (-8), 2) := dk_16 248 (dk_at dksX5_paste_2 8 rfl rfl)
theorem dX5_paste_57 : decode cX5_paste 57 = .ok (.ireturn, 1) := dk_172 (dk_at dksX5_paste_2 10 rfl rfl)
theorem dX5_paste_58 : decode cX5_paste 58 = .ok (.iload_n 2, 1) := dk_28 (dk_at dksX5_paste_2 11 rfl rfl)
theorem dX5_paste_59 : decode cX5_paste 59 = .ok (.ifCond .lt 48, 3) := dk_155 0 48 (dk_at dksX5_paste_2 12 rfl rfl)
theorem dX5_paste_62 : decode cX5_paste 62 = .ok (.iload 4, 2) := dk_21 4 (dk_at dksX5_paste_2 15 rfl rfl)
theorem dX5_paste_64 : decode cX5_paste 64 = .ok (.ifCond .lt 43, 3) := dk_155 0 43 (dk_at dksX5_paste_2 17 rfl rfl)
theorem dX5_paste_67 : decode cX5_paste 67 = .ok (.iload 5, 2) := dk_21 5 (dk_at dksX5_paste_2 20 rfl rfl)
theorem dX5_paste_69 : decode cX5_paste 69 = .ok (.ifCond .lt 38, 3) := dk_155 0 38 (dk_at dksX5_paste_3 0 rfl rfl)
theorem dX5_paste_72 : decode cX5_paste 72 = .ok (.iload_n 2, 1) := dk_28 (dk_at dksX5_paste_3 3 rfl rfl)
theorem dX5_paste_73 : decode cX5_paste 73 = .ok (.i2l, 1) := dk_133 (dk_at dksX5_paste_3 4 rfl rfl)
theorem dX5_paste_74 : decode cX5_paste 74 = .ok (.iload 5, 2) := dk_21 5 (dk_at dksX5_paste_3 5 rfl rfl)
theorem dX5_paste_76 : decode cX5_paste 76 = .ok (.i2l, 1) := dk_133 (dk_at dksX5_paste_3 7 rfl rfl)
theorem dX5_paste_77 : decode cX5_paste 77 = .ok (.ladd, 1) := dk_97 (dk_at dksX5_paste_3 8 rfl rfl)
theorem dX5_paste_78 : decode cX5_paste 78 = .ok (.aload_n 0, 1) := dk_42 (dk_at dksX5_paste_3 9 rfl rfl)
theorem dX5_paste_79 : decode cX5_paste 79 = .ok (.getfield 67, 3) := dk_180 0 67 (dk_at dksX5_paste_3 10 rfl rfl)
theorem dX5_paste_82 : decode cX5_paste 82 = .ok (.iload_n 1, 1) := dk_27 (dk_at dksX5_paste_3 13 rfl rfl)
theorem dX5_paste_83 : decode cX5_paste 83 = .ok (.iaload, 1) := dk_46 (dk_at dksX5_paste_3 14 rfl rfl)
theorem dX5_paste_84 : decode cX5_paste 84 = .ok (.i2l, 1) := dk_133 (dk_at dksX5_paste_3 15 rfl rfl)
theorem dX5_paste_85 : decode cX5_paste 85 = .ok (.lcmp, 1) := dk_148 (dk_at dksX5_paste_3 16 rfl rfl)
theorem dX5_paste_86 : decode cX5_paste 86 = .ok (.ifCond .gt 21, 3) := dk_157 0 21 (dk_at dksX5_paste_3 17 rfl rfl)
theorem dX5_paste_89 : decode cX5_paste 89 = .ok (.iload 4, 2) := dk_21 4 (dk_at dksX5_paste_3 20 rfl rfl)
theorem dX5_paste_91 : decode cX5_paste 91 = .ok (.i2l, 1) := dk_133 (dk_at dksX5_paste_3 22 rfl rfl)
theorem dX5_paste_92 : decode cX5_paste 92 = .ok (.iload 5, 2) := dk_21 5 (dk_at dksX5_paste_4 0 rfl rfl)
theorem dX5_paste_94 : decode cX5_paste 94 = .ok (.i2l, 1) := dk_133 (dk_at dksX5_paste_4 2 rfl rfl)
theorem dX5_paste_95 : decode cX5_paste 95 = .ok (.ladd, 1) := dk_97 (dk_at dksX5_paste_4 3 rfl rfl)
theorem dX5_paste_96 : decode cX5_paste 96 = .ok (.aload_n 0, 1) := dk_42 (dk_at dksX5_paste_4 4 rfl rfl)
theorem dX5_paste_97 : decode cX5_paste 97 = .ok (.getfield 67, 3) := dk_180 0 67 (dk_at dksX5_paste_4 5 rfl rfl)
theorem dX5_paste_100 : decode cX5_paste 100 = .ok (.iload_n 3, 1) := dk_29 (dk_at dksX5_paste_4 8 rfl rfl)
theorem dX5_paste_101 : decode cX5_paste 101 = .ok (.iaload, 1) := dk_46 (dk_at dksX5_paste_4 9 rfl rfl)
theorem dX5_paste_102 : decode cX5_paste 102 = .ok (.i2l, 1) := dk_133 (dk_at dksX5_paste_4 10 rfl rfl)
theorem dX5_paste_103 : decode cX5_paste 103 = .ok (.lcmp, 1) := dk_148 (dk_at dksX5_paste_4 11 rfl rfl)
theorem dX5_paste_104 : decode cX5_paste 104 = .ok (.ifCond .le 6, 3) := dk_158 0 6 (dk_at dksX5_paste_4 12 rfl rfl)
theorem dX5_paste_107 : decode cX5_paste 107 = .ok (.bipush (-7), 2) := dk_16 249 (dk_at dksX5_paste_4 15 rfl rfl)
theorem dX5_paste_109 : decode cX5_paste 109 = .ok (.ireturn, 1) := dk_172 (dk_at dksX5_paste_4 17 rfl rfl)
theorem dX5_paste_110 : decode cX5_paste 110 = .ok (.iconst 0, 1) := dk_3 (dk_at dksX5_paste_4 18 rfl rfl)
theorem dX5_paste_111 : decode cX5_paste 111 = .ok (.istore 6, 2) := dk_54 6 (dk_at dksX5_paste_4 19 rfl rfl)
theorem dX5_paste_113 : decode cX5_paste 113 = .ok (.iload 6, 2) := dk_21 6 (dk_at dksX5_paste_4 21 rfl rfl)
theorem dX5_paste_115 : decode cX5_paste 115 = .ok (.iload 5, 2) := dk_21 5 (dk_at dksX5_paste_5 0 rfl rfl)
theorem dX5_paste_117 : decode cX5_paste 117 = .ok (.if_icmp .ge 30, 3) := dk_162 0 30 (dk_at dksX5_paste_5 2 rfl rfl)
theorem dX5_paste_120 : decode cX5_paste 120 = .ok (.aload_n 0, 1) := dk_42 (dk_at dksX5_paste_5 5 rfl rfl)
theorem dX5_paste_121 : decode cX5_paste 121 = .ok (.getfield 77, 3) := dk_180 0 77 (dk_at dksX5_paste_5 6 rfl rfl)
theorem dX5_paste_124 : decode cX5_paste 124 = .ok (.iload 6, 2) := dk_21 6 (dk_at dksX5_paste_5 9 rfl rfl)
theorem dX5_paste_126 : decode cX5_paste 126 = .ok (.aload_n 0, 1) := dk_42 (dk_at dksX5_paste_5 11 rfl rfl)
theorem dX5_paste_127 : decode cX5_paste 127 = .ok (.getfield 73, 3) := dk_180 0 73 (dk_at dksX5_paste_5 12 rfl rfl)
theorem dX5_paste_130 : decode cX5_paste 130 = .ok (.bipush 60, 2) := dk_16 60 (dk_at dksX5_paste_5 15 rfl rfl)
theorem dX5_paste_132 : decode cX5_paste 132 = .ok (.iload_n 1, 1) := dk_27 (dk_at dksX5_paste_5 17 rfl rfl)
theorem dX5_paste_133 : decode cX5_paste 133 = .ok (.imul, 1) := dk_104 (dk_at dksX5_paste_5 18 rfl rfl)
theorem dX5_paste_134 : decode cX5_paste 134 = .ok (.iload_n 2, 1) := dk_28 (dk_at dksX5_paste_5 19 rfl rfl)
theorem dX5_paste_135 : decode cX5_paste 135 = .ok (.iadd, 1) := dk_96 (dk_at dksX5_paste_5 20 rfl rfl)
theorem dX5_paste_136 : decode cX5_paste 136 = .ok (.iload 6, 2) := dk_21 6 (dk_at dksX5_paste_5 21 rfl rfl)
theorem dX5_paste_138 : decode cX5_paste 138 = .ok (.iadd, 1) := dk_96 (dk_at dksX5_paste_5 23 rfl rfl)
theorem dX5_paste_139 : decode cX5_paste 139 = .ok (.laload, 1) := dk_47 (dk_at dksX5_paste_6 0 rfl rfl)
theorem dX5_paste_140 : decode cX5_paste 140 = .ok (.lastore, 1) := dk_80 (dk_at dksX5_paste_6 1 rfl rfl)
theorem dX5_paste_141 : decode cX5_paste 141 = .ok (.iinc 6 1, 3) := dk_132 6 1 (dk_at dksX5_paste_6 2 rfl rfl)
theorem dX5_paste_144 : decode cX5_paste 144 = .ok (.goto (-31), 3) := dk_167 255 225 (dk_at dksX5_paste_6 5 rfl rfl)
theorem dX5_paste_147 : decode cX5_paste 147 = .ok (.iconst 0, 1) := dk_3 (dk_at dksX5_paste_6 8 rfl rfl)
theorem dX5_paste_148 : decode cX5_paste 148 = .ok (.istore 6, 2) := dk_54 6 (dk_at dksX5_paste_6 9 rfl rfl)
theorem dX5_paste_150 : decode cX5_paste 150 = .ok (.iload 6, 2) := dk_21 6 (dk_at dksX5_paste_6 11 rfl rfl)
theorem dX5_paste_152 : decode cX5_paste 152 = .ok (.iload 5, 2) := dk_21 5 (dk_at dksX5_paste_6 13 rfl rfl)
theorem dX5_paste_154 : decode cX5_paste 154 = .ok (.if_icmp .ge 31, 3) := dk_162 0 31 (dk_at dksX5_paste_6 15 rfl rfl)
theorem dX5_paste_157 : decode cX5_paste 157 = .ok (.aload_n 0, 1) := dk_42 (dk_at dksX5_paste_6 18 rfl rfl)
theorem dX5_paste_158 : decode cX5_paste 158 = .ok (.getfield 73, 3) := dk_180 0 73 (dk_at dksX5_paste_6 19 rfl rfl)
theorem dX5_paste_161 : decode cX5_paste 161 = .ok (.bipush 60, 2) := dk_16 60 (dk_at dksX5_paste_6 22 rfl rfl)
theorem dX5_paste_163 : decode cX5_paste 163 = .ok (.iload_n 3, 1) := dk_29 (dk_at dksX5_paste_7 0 rfl rfl)
theorem dX5_paste_164 : decode cX5_paste 164 = .ok (.imul, 1) := dk_104 (dk_at dksX5_paste_7 1 rfl rfl)
theorem dX5_paste_165 : decode cX5_paste 165 = .ok (.iload 4, 2) := dk_21 4 (dk_at dksX5_paste_7 2 rfl rfl)
theorem dX5_paste_167 : decode cX5_paste 167 = .ok (.iadd, 1) := dk_96 (dk_at dksX5_paste_7 4 rfl rfl)
theorem dX5_paste_168 : decode cX5_paste 168 = .ok (.iload 6, 2) := dk_21 6 (dk_at dksX5_paste_7 5 rfl rfl)
theorem dX5_paste_170 : decode cX5_paste 170 = .ok (.iadd, 1) := dk_96 (dk_at dksX5_paste_7 7 rfl rfl)
theorem dX5_paste_171 : decode cX5_paste 171 = .ok (.aload_n 0, 1) := dk_42 (dk_at dksX5_paste_7 8 rfl rfl)
theorem dX5_paste_172 : decode cX5_paste 172 = .ok (.getfield 77, 3) := dk_180 0 77 (dk_at dksX5_paste_7 9 rfl rfl)
theorem dX5_paste_175 : decode cX5_paste 175 = .ok (.iload 6, 2) := dk_21 6 (dk_at dksX5_paste_7 12 rfl rfl)
theorem dX5_paste_177 : decode cX5_paste 177 = .ok (.laload, 1) := dk_47 (dk_at dksX5_paste_7 14 rfl rfl)
theorem dX5_paste_178 : decode cX5_paste 178 = .ok (.lastore, 1) := dk_80 (dk_at dksX5_paste_7 15 rfl rfl)
theorem dX5_paste_179 : decode cX5_paste 179 = .ok (.iinc 6 1, 3) := dk_132 6 1 (dk_at dksX5_paste_7 16 rfl rfl)
theorem dX5_paste_182 : decode cX5_paste 182 = .ok (.goto (-32), 3) := dk_167 255 224 (dk_at dksX5_paste_7 19 rfl rfl)
theorem dX5_paste_185 : decode cX5_paste 185 = .ok (.iconst 0, 1) := dk_3 (dk_at dksX5_paste_7 22 rfl rfl)
theorem dX5_paste_186 : decode cX5_paste 186 = .ok (.ireturn, 1) := dk_172 (dk_at dksX5_paste_7 23 rfl rfl)
theorem q141 : (Jvm.Cond.initialized "FloodLentModel") ∈ lw_all := lw_g (lw_at lw_m1 9 rfl) rfl
theorem q928 : (Jvm.Cond.selects "FloodLentModel" ({ cls := "java/lang/Object", name := "getClass", desc := "()Ljava/lang/Class;" } : Jvm.MethodName) ({ cls := "java/lang/Object", name := "getClass", desc := "()Ljava/lang/Class;" } : Jvm.MethodName)) ∈ lw_all := lw_g (lw_at lw_m4 76 rfl) rfl
theorem q1467 : (Jvm.Cond.instantiable "FloodLentModel" (40 : Nat)) ∈ lw_all := lw_g (lw_at lw_m6 135 rfl) rfl
theorem q1469 : (Jvm.Cond.instanceMethod ({ cls := "FloodLentModel", name := "<init>", desc := "()V" } : Jvm.MethodName)) ∈ lw_all := lw_g (lw_at lw_m6 137 rfl) rfl
theorem q1470 : (Jvm.Cond.code ({ cls := "FloodLentModel", name := "<init>", desc := "()V" } : Jvm.MethodName) prog_13_method_1_code (1 : Nat) (Option.none : Option Jvm.ClassFile.FieldType)) ∈ lw_all := lw_g (lw_at lw_m6 138 rfl) rfl
theorem q1471 : (Jvm.Cond.methodLink "FloodLentModel" (3 : Nat) ({ cls := "java/lang/Object", name := "<init>", desc := "()V" } : Jvm.MethodName)) ∈ lw_all := lw_g (lw_at lw_m6 139 rfl) rfl
theorem q1472 : (Jvm.Cond.fieldLink "FloodLentModel" (9 : Nat) "FloodLentModel" "world" "[I") ∈ lw_all := lw_g (lw_at lw_m6 140 rfl) rfl
theorem q1473 : (Jvm.Cond.fieldLink "FloodLentModel" (13 : Nat) "FloodLentModel" "images" "[I") ∈ lw_all := lw_g (lw_at lw_m6 141 rfl) rfl
theorem q1474 : (Jvm.Cond.fieldLink "FloodLentModel" (16 : Nat) "FloodLentModel" "hasImage" "[Z") ∈ lw_all := lw_g (lw_at lw_m6 142 rfl) rfl
theorem q1475 : (Jvm.Cond.fieldLink "FloodLentModel" (20 : Nat) "FloodLentModel" "tape" "[B") ∈ lw_all := lw_g (lw_at lw_m6 143 rfl) rfl
theorem q1476 : (Jvm.Cond.fieldLink "FloodLentModel" (97 : Nat) "FloodLentModel" "taped" "I") ∈ lw_all := lw_g (lw_at lw_m6 144 rfl) rfl
theorem q1477 : (Jvm.Cond.fieldLink "FloodLentModel" (24 : Nat) "FloodLentModel" "five" "[I") ∈ lw_all := lw_g (lw_at lw_m6 145 rfl) rfl
theorem q1478 : (Jvm.Cond.fieldLink "FloodLentModel" (100 : Nat) "FloodLentModel" "size" "I") ∈ lw_all := lw_g (lw_at lw_m6 146 rfl) rfl
theorem q1479 : (Jvm.Cond.fieldLink "FloodLentModel" (103 : Nat) "FloodLentModel" "at" "I") ∈ lw_all := lw_g (lw_at lw_m6 147 rfl) rfl
theorem q1480 : (Jvm.Cond.fieldLink "FloodLentModel" (110 : Nat) "FloodLentModel" "from" "I") ∈ lw_all := lw_g (lw_at lw_m6 148 rfl) rfl
theorem q1481 : (Jvm.Cond.fieldLink "FloodLentModel" (113 : Nat) "FloodLentModel" "token" "I") ∈ lw_all := lw_g (lw_at lw_m6 149 rfl) rfl
theorem q1482 : (Jvm.Cond.fieldLink "FloodLentModel" (124 : Nat) "FloodLentModel" "value" "I") ∈ lw_all := lw_g (lw_at lw_m6 150 rfl) rfl
theorem q1483 : (Jvm.Cond.fieldLink "FloodLentModel" (134 : Nat) "FloodLentModel" "faultKind" "I") ∈ lw_all := lw_g (lw_at lw_m6 151 rfl) rfl
theorem q1484 : (Jvm.Cond.fieldLink "FloodLentModel" (27 : Nat) "FloodLentModel" "faultPlace" "I") ∈ lw_all := lw_g (lw_at lw_m6 152 rfl) rfl
theorem q1485 : (Jvm.Cond.fieldLink "FloodLentModel" (31 : Nat) "FloodLentModel" "fresh" "[I") ∈ lw_all := lw_g (lw_at lw_m6 153 rfl) rfl
theorem q1486 : (Jvm.Cond.fieldLink "FloodLentModel" (34 : Nat) "FloodLentModel" "water" "[I") ∈ lw_all := lw_g (lw_at lw_m6 154 rfl) rfl
theorem q1487 : (Jvm.Cond.fieldLink "FloodLentModel" (37 : Nat) "FloodLentModel" "waterBehind" "[I") ∈ lw_all := lw_g (lw_at lw_m6 155 rfl) rfl
theorem q1488 : (Jvm.Cond.fieldLink "FloodLentModel" (40 : Nat) "FloodLentModel" "flooded" "[I") ∈ lw_all := lw_g (lw_at lw_m6 156 rfl) rfl
theorem q1489 : (Jvm.Cond.fieldLink "FloodLentModel" (43 : Nat) "FloodLentModel" "lent" "[I") ∈ lw_all := lw_g (lw_at lw_m6 157 rfl) rfl
theorem q1490 : (Jvm.Cond.fieldLink "FloodLentModel" (46 : Nat) "FloodLentModel" "cropped" "[I") ∈ lw_all := lw_g (lw_at lw_m6 158 rfl) rfl
theorem q1491 : (Jvm.Cond.fieldLink "FloodLentModel" (273 : Nat) "FloodLentModel" "sky" "I") ∈ lw_all := lw_g (lw_at lw_m6 159 rfl) rfl
theorem q1492 : (Jvm.Cond.fieldLink "FloodLentModel" (276 : Nat) "FloodLentModel" "sea" "I") ∈ lw_all := lw_g (lw_at lw_m6 160 rfl) rfl
theorem q1493 : (Jvm.Cond.fieldLink "FloodLentModel" (270 : Nat) "FloodLentModel" "drunk" "I") ∈ lw_all := lw_g (lw_at lw_m6 161 rfl) rfl
theorem q1494 : (Jvm.Cond.fieldLink "FloodLentModel" (246 : Nat) "FloodLentModel" "firstWrong" "I") ∈ lw_all := lw_g (lw_at lw_m6 162 rfl) rfl
theorem q1495 : (Jvm.Cond.fieldLink "FloodLentModel" (243 : Nat) "FloodLentModel" "coming" "I") ∈ lw_all := lw_g (lw_at lw_m6 163 rfl) rfl
theorem q1496 : (Jvm.Cond.fieldLink "FloodLentModel" (49 : Nat) "FloodLentModel" "lendsNothing" "I") ∈ lw_all := lw_g (lw_at lw_m6 164 rfl) rfl
theorem q1497 : (Jvm.Cond.fieldLink "FloodLentModel" (52 : Nat) "FloodLentModel" "takersWere" "[I") ∈ lw_all := lw_g (lw_at lw_m6 165 rfl) rfl
theorem q1498 : (Jvm.Cond.fieldLink "FloodLentModel" (336 : Nat) "FloodLentModel" "bestBrought" "I") ∈ lw_all := lw_g (lw_at lw_m6 166 rfl) rfl
theorem q1499 : (Jvm.Cond.fieldLink "FloodLentModel" (376 : Nat) "FloodLentModel" "wisestAbove" "J") ∈ lw_all := lw_g (lw_at lw_m6 167 rfl) rfl
theorem q1500 : (Jvm.Cond.fieldLink "FloodLentModel" (55 : Nat) "FloodLentModel" "debts" "[I") ∈ lw_all := lw_g (lw_at lw_m6 168 rfl) rfl
theorem q1501 : (Jvm.Cond.fieldLink "FloodLentModel" (58 : Nat) "FloodLentModel" "cleared" "[I") ∈ lw_all := lw_g (lw_at lw_m6 169 rfl) rfl
theorem q1502 : (Jvm.Cond.fieldLink "FloodLentModel" (412 : Nat) "FloodLentModel" "clearedMany" "I") ∈ lw_all := lw_g (lw_at lw_m6 170 rfl) rfl
theorem q1503 : (Jvm.Cond.fieldLink "FloodLentModel" (415 : Nat) "FloodLentModel" "clearedBy" "I") ∈ lw_all := lw_g (lw_at lw_m6 171 rfl) rfl
theorem q1504 : (Jvm.Cond.fieldLink "FloodLentModel" (61 : Nat) "FloodLentModel" "row" "[I") ∈ lw_all := lw_g (lw_at lw_m6 172 rfl) rfl
theorem q1505 : (Jvm.Cond.fieldLink "FloodLentModel" (64 : Nat) "FloodLentModel" "paying" "[I") ∈ lw_all := lw_g (lw_at lw_m6 173 rfl) rfl
theorem q1506 : (Jvm.Cond.fieldLink "FloodLentModel" (454 : Nat) "FloodLentModel" "drawn" "J") ∈ lw_all := lw_g (lw_at lw_m6 174 rfl) rfl
theorem q1507 : (Jvm.Cond.fieldLink "FloodLentModel" (67 : Nat) "FloodLentModel" "many" "[I") ∈ lw_all := lw_g (lw_at lw_m6 175 rfl) rfl
theorem q1508 : (Jvm.Cond.fieldLink "FloodLentModel" (70 : Nat) "FloodLentModel" "width" "[I") ∈ lw_all := lw_g (lw_at lw_m6 176 rfl) rfl
theorem q1509 : (Jvm.Cond.fieldLink "FloodLentModel" (73 : Nat) "FloodLentModel" "numbers" "[J") ∈ lw_all := lw_g (lw_at lw_m6 177 rfl) rfl
theorem q1510 : (Jvm.Cond.fieldLink "FloodLentModel" (77 : Nat) "FloodLentModel" "moving" "[J") ∈ lw_all := lw_g (lw_at lw_m6 178 rfl) rfl
theorem q1511 : (Jvm.Cond.lays "FloodLentModel" "FloodLentModel" "thrown" "I") ∈ lw_all := lw_g (lw_at lw_m6 179 rfl) rfl
theorem q1512 : (Jvm.Cond.soleField "FloodLentModel" "thrown") ∈ lw_all := lw_g (lw_at lw_m6 180 rfl) rfl
theorem q1513 : (Jvm.Cond.laysFinal "FloodLentModel" "FloodLentModel" "world" "[I") ∈ lw_all := lw_g (lw_at lw_m6 181 rfl) rfl
theorem q1514 : (Jvm.Cond.soleField "FloodLentModel" "world") ∈ lw_all := lw_g (lw_at lw_m6 182 rfl) rfl
theorem q1515 : (Jvm.Cond.laysFinal "FloodLentModel" "FloodLentModel" "images" "[I") ∈ lw_all := lw_g (lw_at lw_m6 183 rfl) rfl
theorem q1516 : (Jvm.Cond.soleField "FloodLentModel" "images") ∈ lw_all := lw_g (lw_at lw_m6 184 rfl) rfl
theorem q1517 : (Jvm.Cond.laysFinal "FloodLentModel" "FloodLentModel" "hasImage" "[Z") ∈ lw_all := lw_g (lw_at lw_m6 185 rfl) rfl
theorem q1518 : (Jvm.Cond.soleField "FloodLentModel" "hasImage") ∈ lw_all := lw_g (lw_at lw_m6 186 rfl) rfl
theorem q1519 : (Jvm.Cond.laysFinal "FloodLentModel" "FloodLentModel" "tape" "[B") ∈ lw_all := lw_g (lw_at lw_m6 187 rfl) rfl
theorem q1520 : (Jvm.Cond.soleField "FloodLentModel" "tape") ∈ lw_all := lw_g (lw_at lw_m6 188 rfl) rfl
theorem q1521 : (Jvm.Cond.lays "FloodLentModel" "FloodLentModel" "taped" "I") ∈ lw_all := lw_g (lw_at lw_m6 189 rfl) rfl
theorem q1522 : (Jvm.Cond.soleField "FloodLentModel" "taped") ∈ lw_all := lw_g (lw_at lw_m6 190 rfl) rfl
theorem q1523 : (Jvm.Cond.laysFinal "FloodLentModel" "FloodLentModel" "five" "[I") ∈ lw_all := lw_g (lw_at lw_m6 191 rfl) rfl
theorem q1524 : (Jvm.Cond.soleField "FloodLentModel" "five") ∈ lw_all := lw_g (lw_at lw_m6 192 rfl) rfl
theorem q1525 : (Jvm.Cond.lays "FloodLentModel" "FloodLentModel" "size" "I") ∈ lw_all := lw_g (lw_at lw_m6 193 rfl) rfl
theorem q1526 : (Jvm.Cond.soleField "FloodLentModel" "size") ∈ lw_all := lw_g (lw_at lw_m6 194 rfl) rfl
theorem q1527 : (Jvm.Cond.lays "FloodLentModel" "FloodLentModel" "at" "I") ∈ lw_all := lw_g (lw_at lw_m6 195 rfl) rfl
theorem q1528 : (Jvm.Cond.soleField "FloodLentModel" "at") ∈ lw_all := lw_g (lw_at lw_m6 196 rfl) rfl
theorem q1529 : (Jvm.Cond.lays "FloodLentModel" "FloodLentModel" "from" "I") ∈ lw_all := lw_g (lw_at lw_m6 197 rfl) rfl
theorem q1530 : (Jvm.Cond.soleField "FloodLentModel" "from") ∈ lw_all := lw_g (lw_at lw_m6 198 rfl) rfl
theorem q1531 : (Jvm.Cond.lays "FloodLentModel" "FloodLentModel" "token" "I") ∈ lw_all := lw_g (lw_at lw_m6 199 rfl) rfl
theorem q1532 : (Jvm.Cond.soleField "FloodLentModel" "token") ∈ lw_all := lw_g (lw_at lw_m6 200 rfl) rfl
theorem q1533 : (Jvm.Cond.lays "FloodLentModel" "FloodLentModel" "value" "I") ∈ lw_all := lw_g (lw_at lw_m6 201 rfl) rfl
theorem q1534 : (Jvm.Cond.soleField "FloodLentModel" "value") ∈ lw_all := lw_g (lw_at lw_m6 202 rfl) rfl
theorem q1535 : (Jvm.Cond.lays "FloodLentModel" "FloodLentModel" "faultKind" "I") ∈ lw_all := lw_g (lw_at lw_m6 203 rfl) rfl
theorem q1536 : (Jvm.Cond.soleField "FloodLentModel" "faultKind") ∈ lw_all := lw_g (lw_at lw_m6 204 rfl) rfl
theorem q1537 : (Jvm.Cond.lays "FloodLentModel" "FloodLentModel" "faultPlace" "I") ∈ lw_all := lw_g (lw_at lw_m6 205 rfl) rfl
theorem q1538 : (Jvm.Cond.soleField "FloodLentModel" "faultPlace") ∈ lw_all := lw_g (lw_at lw_m6 206 rfl) rfl
theorem q1539 : (Jvm.Cond.laysFinal "FloodLentModel" "FloodLentModel" "fresh" "[I") ∈ lw_all := lw_g (lw_at lw_m6 207 rfl) rfl
theorem q1540 : (Jvm.Cond.soleField "FloodLentModel" "fresh") ∈ lw_all := lw_g (lw_at lw_m6 208 rfl) rfl
theorem q1541 : (Jvm.Cond.laysFinal "FloodLentModel" "FloodLentModel" "water" "[I") ∈ lw_all := lw_g (lw_at lw_m6 209 rfl) rfl
theorem q1542 : (Jvm.Cond.soleField "FloodLentModel" "water") ∈ lw_all := lw_g (lw_at lw_m6 210 rfl) rfl
theorem q1543 : (Jvm.Cond.laysFinal "FloodLentModel" "FloodLentModel" "waterBehind" "[I") ∈ lw_all := lw_g (lw_at lw_m6 211 rfl) rfl
theorem q1544 : (Jvm.Cond.soleField "FloodLentModel" "waterBehind") ∈ lw_all := lw_g (lw_at lw_m6 212 rfl) rfl
theorem q1545 : (Jvm.Cond.laysFinal "FloodLentModel" "FloodLentModel" "flooded" "[I") ∈ lw_all := lw_g (lw_at lw_m6 213 rfl) rfl
theorem q1546 : (Jvm.Cond.soleField "FloodLentModel" "flooded") ∈ lw_all := lw_g (lw_at lw_m6 214 rfl) rfl
theorem q1547 : (Jvm.Cond.laysFinal "FloodLentModel" "FloodLentModel" "lent" "[I") ∈ lw_all := lw_g (lw_at lw_m6 215 rfl) rfl
theorem q1548 : (Jvm.Cond.soleField "FloodLentModel" "lent") ∈ lw_all := lw_g (lw_at lw_m6 216 rfl) rfl
theorem q1549 : (Jvm.Cond.laysFinal "FloodLentModel" "FloodLentModel" "cropped" "[I") ∈ lw_all := lw_g (lw_at lw_m6 217 rfl) rfl
theorem q1550 : (Jvm.Cond.soleField "FloodLentModel" "cropped") ∈ lw_all := lw_g (lw_at lw_m6 218 rfl) rfl
theorem q1551 : (Jvm.Cond.lays "FloodLentModel" "FloodLentModel" "sky" "I") ∈ lw_all := lw_g (lw_at lw_m6 219 rfl) rfl
theorem q1552 : (Jvm.Cond.soleField "FloodLentModel" "sky") ∈ lw_all := lw_g (lw_at lw_m6 220 rfl) rfl
theorem q1553 : (Jvm.Cond.lays "FloodLentModel" "FloodLentModel" "sea" "I") ∈ lw_all := lw_g (lw_at lw_m6 221 rfl) rfl
theorem q1554 : (Jvm.Cond.soleField "FloodLentModel" "sea") ∈ lw_all := lw_g (lw_at lw_m6 222 rfl) rfl
theorem q1555 : (Jvm.Cond.lays "FloodLentModel" "FloodLentModel" "drunk" "I") ∈ lw_all := lw_g (lw_at lw_m6 223 rfl) rfl
theorem q1556 : (Jvm.Cond.soleField "FloodLentModel" "drunk") ∈ lw_all := lw_g (lw_at lw_m6 224 rfl) rfl
theorem q1557 : (Jvm.Cond.lays "FloodLentModel" "FloodLentModel" "firstWrong" "I") ∈ lw_all := lw_g (lw_at lw_m6 225 rfl) rfl
theorem q1558 : (Jvm.Cond.soleField "FloodLentModel" "firstWrong") ∈ lw_all := lw_g (lw_at lw_m6 226 rfl) rfl
theorem q1559 : (Jvm.Cond.lays "FloodLentModel" "FloodLentModel" "coming" "I") ∈ lw_all := lw_g (lw_at lw_m6 227 rfl) rfl
theorem q1560 : (Jvm.Cond.soleField "FloodLentModel" "coming") ∈ lw_all := lw_g (lw_at lw_m6 228 rfl) rfl
theorem q1561 : (Jvm.Cond.lays "FloodLentModel" "FloodLentModel" "lendsNothing" "I") ∈ lw_all := lw_g (lw_at lw_m6 229 rfl) rfl
theorem q1562 : (Jvm.Cond.soleField "FloodLentModel" "lendsNothing") ∈ lw_all := lw_g (lw_at lw_m6 230 rfl) rfl
theorem q1563 : (Jvm.Cond.laysFinal "FloodLentModel" "FloodLentModel" "takersWere" "[I") ∈ lw_all := lw_g (lw_at lw_m6 231 rfl) rfl
theorem q1564 : (Jvm.Cond.soleField "FloodLentModel" "takersWere") ∈ lw_all := lw_g (lw_at lw_m6 232 rfl) rfl
theorem q1565 : (Jvm.Cond.lays "FloodLentModel" "FloodLentModel" "bestBrought" "I") ∈ lw_all := lw_g (lw_at lw_m6 233 rfl) rfl
theorem q1566 : (Jvm.Cond.soleField "FloodLentModel" "bestBrought") ∈ lw_all := lw_g (lw_at lw_m6 234 rfl) rfl
theorem q1567 : (Jvm.Cond.lays "FloodLentModel" "FloodLentModel" "wisestAbove" "J") ∈ lw_all := lw_g (lw_at lw_m6 235 rfl) rfl
theorem q1568 : (Jvm.Cond.soleField "FloodLentModel" "wisestAbove") ∈ lw_all := lw_g (lw_at lw_m6 236 rfl) rfl
theorem q1569 : (Jvm.Cond.laysFinal "FloodLentModel" "FloodLentModel" "debts" "[I") ∈ lw_all := lw_g (lw_at lw_m6 237 rfl) rfl
theorem q1570 : (Jvm.Cond.soleField "FloodLentModel" "debts") ∈ lw_all := lw_g (lw_at lw_m6 238 rfl) rfl
theorem q1571 : (Jvm.Cond.laysFinal "FloodLentModel" "FloodLentModel" "cleared" "[I") ∈ lw_all := lw_g (lw_at lw_m6 239 rfl) rfl
theorem q1572 : (Jvm.Cond.soleField "FloodLentModel" "cleared") ∈ lw_all := lw_g (lw_at lw_m7 0 rfl) rfl
theorem q1573 : (Jvm.Cond.lays "FloodLentModel" "FloodLentModel" "clearedMany" "I") ∈ lw_all := lw_g (lw_at lw_m7 1 rfl) rfl
theorem q1574 : (Jvm.Cond.soleField "FloodLentModel" "clearedMany") ∈ lw_all := lw_g (lw_at lw_m7 2 rfl) rfl
theorem q1575 : (Jvm.Cond.lays "FloodLentModel" "FloodLentModel" "clearedBy" "I") ∈ lw_all := lw_g (lw_at lw_m7 3 rfl) rfl
theorem q1576 : (Jvm.Cond.soleField "FloodLentModel" "clearedBy") ∈ lw_all := lw_g (lw_at lw_m7 4 rfl) rfl
theorem q1577 : (Jvm.Cond.laysFinal "FloodLentModel" "FloodLentModel" "row" "[I") ∈ lw_all := lw_g (lw_at lw_m7 5 rfl) rfl
theorem q1578 : (Jvm.Cond.soleField "FloodLentModel" "row") ∈ lw_all := lw_g (lw_at lw_m7 6 rfl) rfl
theorem q1579 : (Jvm.Cond.laysFinal "FloodLentModel" "FloodLentModel" "paying" "[I") ∈ lw_all := lw_g (lw_at lw_m7 7 rfl) rfl
theorem q1580 : (Jvm.Cond.soleField "FloodLentModel" "paying") ∈ lw_all := lw_g (lw_at lw_m7 8 rfl) rfl
theorem q1581 : (Jvm.Cond.lays "FloodLentModel" "FloodLentModel" "drawn" "J") ∈ lw_all := lw_g (lw_at lw_m7 9 rfl) rfl
theorem q1582 : (Jvm.Cond.soleField "FloodLentModel" "drawn") ∈ lw_all := lw_g (lw_at lw_m7 10 rfl) rfl
theorem q1583 : (Jvm.Cond.laysFinal "FloodLentModel" "FloodLentModel" "many" "[I") ∈ lw_all := lw_g (lw_at lw_m7 11 rfl) rfl
theorem q1584 : (Jvm.Cond.soleField "FloodLentModel" "many") ∈ lw_all := lw_g (lw_at lw_m7 12 rfl) rfl
theorem q1585 : (Jvm.Cond.laysFinal "FloodLentModel" "FloodLentModel" "width" "[I") ∈ lw_all := lw_g (lw_at lw_m7 13 rfl) rfl
theorem q1586 : (Jvm.Cond.soleField "FloodLentModel" "width") ∈ lw_all := lw_g (lw_at lw_m7 14 rfl) rfl
theorem q1587 : (Jvm.Cond.laysFinal "FloodLentModel" "FloodLentModel" "numbers" "[J") ∈ lw_all := lw_g (lw_at lw_m7 15 rfl) rfl
theorem q1588 : (Jvm.Cond.soleField "FloodLentModel" "numbers") ∈ lw_all := lw_g (lw_at lw_m7 16 rfl) rfl
theorem q1589 : (Jvm.Cond.laysFinal "FloodLentModel" "FloodLentModel" "moving" "[J") ∈ lw_all := lw_g (lw_at lw_m7 17 rfl) rfl
theorem q1590 : (Jvm.Cond.soleField "FloodLentModel" "moving") ∈ lw_all := lw_g (lw_at lw_m7 18 rfl) rfl
theorem q1591 : (Jvm.Cond.superclass "FloodLentModel" "java/lang/Object") ∈ lw_all := lw_g (lw_at lw_m7 19 rfl) rfl
theorem q1594 : (Jvm.Cond.instanceMethod ({ cls := "FloodLentModel", name := "image", desc := "(I)I" } : Jvm.MethodName)) ∈ lw_all := lw_g (lw_at lw_m7 22 rfl) rfl
theorem q1595 : (Jvm.Cond.selects "FloodLentModel" ({ cls := "FloodLentModel", name := "image", desc := "(I)I" } : Jvm.MethodName) ({ cls := "FloodLentModel", name := "image", desc := "(I)I" } : Jvm.MethodName)) ∈ lw_all := lw_g (lw_at lw_m7 23 rfl) rfl
theorem q1596 : (Jvm.Cond.code ({ cls := "FloodLentModel", name := "image", desc := "(I)I" } : Jvm.MethodName) prog_13_method_4_code (3 : Nat) (Option.some Jvm.ClassFile.FieldType.int)) ∈ lw_all := lw_g (lw_at lw_m7 24 rfl) rfl
theorem q1597 : (Jvm.Cond.constantLong "FloodLentModel" (83 : Nat) (2 : Int64)) ∈ lw_all := lw_g (lw_at lw_m7 25 rfl) rfl
theorem q1598 : (Jvm.Cond.methodLink "FloodLentModel" (85 : Nat) ({ cls := "FloodLentModel", name := "in", desc := "(JJJ)Z" } : Jvm.MethodName)) ∈ lw_all := lw_g (lw_at lw_m7 26 rfl) rfl
theorem q1599 : (Jvm.Cond.static ({ cls := "FloodLentModel", name := "in", desc := "(JJJ)Z" } : Jvm.MethodName)) ∈ lw_all := lw_g (lw_at lw_m7 27 rfl) rfl
theorem q1600 : (Jvm.Cond.code ({ cls := "FloodLentModel", name := "in", desc := "(JJJ)Z" } : Jvm.MethodName) prog_13_method_3_code (6 : Nat) (Option.some Jvm.ClassFile.FieldType.boolean)) ∈ lw_all := lw_g (lw_at lw_m7 28 rfl) rfl
theorem q1602 : (Jvm.Cond.instanceMethod ({ cls := "FloodLentModel", name := "restore", desc := "(I)I" } : Jvm.MethodName)) ∈ lw_all := lw_g (lw_at lw_m7 30 rfl) rfl
theorem q1603 : (Jvm.Cond.selects "FloodLentModel" ({ cls := "FloodLentModel", name := "restore", desc := "(I)I" } : Jvm.MethodName) ({ cls := "FloodLentModel", name := "restore", desc := "(I)I" } : Jvm.MethodName)) ∈ lw_all := lw_g (lw_at lw_m7 31 rfl) rfl
theorem q1604 : (Jvm.Cond.code ({ cls := "FloodLentModel", name := "restore", desc := "(I)I" } : Jvm.MethodName) prog_13_method_5_code (3 : Nat) (Option.some Jvm.ClassFile.FieldType.int)) ∈ lw_all := lw_g (lw_at lw_m7 32 rfl) rfl
theorem q1606 : (Jvm.Cond.instanceMethod ({ cls := "FloodLentModel", name := "feed", desc := "(IIIII)I" } : Jvm.MethodName)) ∈ lw_all := lw_g (lw_at lw_m7 34 rfl) rfl
theorem q1607 : (Jvm.Cond.selects "FloodLentModel" ({ cls := "FloodLentModel", name := "feed", desc := "(IIIII)I" } : Jvm.MethodName) ({ cls := "FloodLentModel", name := "feed", desc := "(IIIII)I" } : Jvm.MethodName)) ∈ lw_all := lw_g (lw_at lw_m7 35 rfl) rfl
theorem q1608 : (Jvm.Cond.code ({ cls := "FloodLentModel", name := "feed", desc := "(IIIII)I" } : Jvm.MethodName) prog_13_method_16_code (7 : Nat) (Option.some Jvm.ClassFile.FieldType.int)) ∈ lw_all := lw_g (lw_at lw_m7 36 rfl) rfl
theorem q1610 : (Jvm.Cond.instanceMethod ({ cls := "FloodLentModel", name := "end", desc := "(I)I" } : Jvm.MethodName)) ∈ lw_all := lw_g (lw_at lw_m7 38 rfl) rfl
theorem q1611 : (Jvm.Cond.selects "FloodLentModel" ({ cls := "FloodLentModel", name := "end", desc := "(I)I" } : Jvm.MethodName) ({ cls := "FloodLentModel", name := "end", desc := "(I)I" } : Jvm.MethodName)) ∈ lw_all := lw_g (lw_at lw_m7 39 rfl) rfl
theorem q1612 : (Jvm.Cond.code ({ cls := "FloodLentModel", name := "end", desc := "(I)I" } : Jvm.MethodName) prog_13_method_17_code (2 : Nat) (Option.some Jvm.ClassFile.FieldType.int)) ∈ lw_all := lw_g (lw_at lw_m7 40 rfl) rfl
theorem q1614 : (Jvm.Cond.instanceMethod ({ cls := "FloodLentModel", name := "fault", desc := "(I)I" } : Jvm.MethodName)) ∈ lw_all := lw_g (lw_at lw_m7 42 rfl) rfl
theorem q1615 : (Jvm.Cond.selects "FloodLentModel" ({ cls := "FloodLentModel", name := "fault", desc := "(I)I" } : Jvm.MethodName) ({ cls := "FloodLentModel", name := "fault", desc := "(I)I" } : Jvm.MethodName)) ∈ lw_all := lw_g (lw_at lw_m7 43 rfl) rfl
theorem q1616 : (Jvm.Cond.code ({ cls := "FloodLentModel", name := "fault", desc := "(I)I" } : Jvm.MethodName) prog_13_method_27_code (2 : Nat) (Option.some Jvm.ClassFile.FieldType.int)) ∈ lw_all := lw_g (lw_at lw_m7 44 rfl) rfl
theorem q1618 : (Jvm.Cond.instanceMethod ({ cls := "FloodLentModel", name := "plain", desc := "()I" } : Jvm.MethodName)) ∈ lw_all := lw_g (lw_at lw_m7 46 rfl) rfl
theorem q1619 : (Jvm.Cond.selects "FloodLentModel" ({ cls := "FloodLentModel", name := "plain", desc := "()I" } : Jvm.MethodName) ({ cls := "FloodLentModel", name := "plain", desc := "()I" } : Jvm.MethodName)) ∈ lw_all := lw_g (lw_at lw_m7 47 rfl) rfl
theorem q1620 : (Jvm.Cond.code ({ cls := "FloodLentModel", name := "plain", desc := "()I" } : Jvm.MethodName) prog_13_method_35_code (2 : Nat) (Option.some Jvm.ClassFile.FieldType.int)) ∈ lw_all := lw_g (lw_at lw_m7 48 rfl) rfl
theorem q1621 : (Jvm.Cond.methodLink "FloodLentModel" (154 : Nat) ({ cls := "FloodLentModel", name := "advance", desc := "()V" } : Jvm.MethodName)) ∈ lw_all := lw_g (lw_at lw_m7 49 rfl) rfl
theorem q1622 : (Jvm.Cond.privateMethod ({ cls := "FloodLentModel", name := "advance", desc := "()V" } : Jvm.MethodName)) ∈ lw_tbl := lw_at lw_m7 50 rfl
theorem q1623 : (Jvm.Cond.instanceMethod ({ cls := "FloodLentModel", name := "advance", desc := "()V" } : Jvm.MethodName)) ∈ lw_all := lw_g (lw_at lw_m7 51 rfl) rfl
theorem q1624 : (Jvm.Cond.code ({ cls := "FloodLentModel", name := "advance", desc := "()V" } : Jvm.MethodName) prog_13_method_19_code (2 : Nat) (Option.none : Option Jvm.ClassFile.FieldType)) ∈ lw_all := lw_g (lw_at lw_m7 52 rfl) rfl
theorem q1625 : (Jvm.Cond.methodLink "FloodLentModel" (106 : Nat) ({ cls := "FloodLentModel", name := "see", desc := "(I)I" } : Jvm.MethodName)) ∈ lw_all := lw_g (lw_at lw_m7 53 rfl) rfl
theorem q1626 : (Jvm.Cond.privateMethod ({ cls := "FloodLentModel", name := "see", desc := "(I)I" } : Jvm.MethodName)) ∈ lw_tbl := lw_at lw_m7 54 rfl
theorem q1627 : (Jvm.Cond.instanceMethod ({ cls := "FloodLentModel", name := "see", desc := "(I)I" } : Jvm.MethodName)) ∈ lw_all := lw_g (lw_at lw_m7 55 rfl) rfl
theorem q1628 : (Jvm.Cond.code ({ cls := "FloodLentModel", name := "see", desc := "(I)I" } : Jvm.MethodName) prog_13_method_18_code (2 : Nat) (Option.some Jvm.ClassFile.FieldType.int)) ∈ lw_all := lw_g (lw_at lw_m7 56 rfl) rfl
theorem q1629 : (Jvm.Cond.constantLong "FloodLentModel" (116 : Nat) (97 : Int64)) ∈ lw_all := lw_g (lw_at lw_m7 57 rfl) rfl
theorem q1630 : (Jvm.Cond.constantLong "FloodLentModel" (118 : Nat) (122 : Int64)) ∈ lw_all := lw_g (lw_at lw_m7 58 rfl) rfl
theorem q1631 : (Jvm.Cond.constantLong "FloodLentModel" (120 : Nat) (48 : Int64)) ∈ lw_all := lw_g (lw_at lw_m7 59 rfl) rfl
theorem q1632 : (Jvm.Cond.constantLong "FloodLentModel" (122 : Nat) (57 : Int64)) ∈ lw_all := lw_g (lw_at lw_m7 60 rfl) rfl
theorem q1633 : (Jvm.Cond.constant "FloodLentModel" (127 : Nat) (99999 : Int32)) ∈ lw_all := lw_g (lw_at lw_m7 61 rfl) rfl
theorem q1634 : (Jvm.Cond.methodLink "FloodLentModel" (128 : Nat) ({ cls := "java/lang/Math", name := "min", desc := "(II)I" } : Jvm.MethodName)) ∈ lw_all := lw_g (lw_at lw_m7 62 rfl) rfl
theorem q1635 : (Jvm.Cond.methodLink "FloodLentModel" (137 : Nat) ({ cls := "FloodLentModel", name := "good", desc := "()Z" } : Jvm.MethodName)) ∈ lw_all := lw_g (lw_at lw_m7 63 rfl) rfl
theorem q1636 : (Jvm.Cond.privateMethod ({ cls := "FloodLentModel", name := "good", desc := "()Z" } : Jvm.MethodName)) ∈ lw_tbl := lw_at lw_m7 64 rfl
theorem q1637 : (Jvm.Cond.instanceMethod ({ cls := "FloodLentModel", name := "good", desc := "()Z" } : Jvm.MethodName)) ∈ lw_all := lw_g (lw_at lw_m7 65 rfl) rfl
theorem q1638 : (Jvm.Cond.code ({ cls := "FloodLentModel", name := "good", desc := "()Z" } : Jvm.MethodName) prog_13_method_20_code (1 : Nat) (Option.some Jvm.ClassFile.FieldType.boolean)) ∈ lw_all := lw_g (lw_at lw_m7 66 rfl) rfl
theorem q1639 : (Jvm.Cond.methodLink "FloodLentModel" (238 : Nat) ({ cls := "FloodLentModel", name := "readLine", desc := "()V" } : Jvm.MethodName)) ∈ lw_all := lw_g (lw_at lw_m7 67 rfl) rfl
theorem q1640 : (Jvm.Cond.privateMethod ({ cls := "FloodLentModel", name := "readLine", desc := "()V" } : Jvm.MethodName)) ∈ lw_tbl := lw_at lw_m7 68 rfl
theorem q1641 : (Jvm.Cond.instanceMethod ({ cls := "FloodLentModel", name := "readLine", desc := "()V" } : Jvm.MethodName)) ∈ lw_all := lw_g (lw_at lw_m7 69 rfl) rfl
theorem q1642 : (Jvm.Cond.code ({ cls := "FloodLentModel", name := "readLine", desc := "()V" } : Jvm.MethodName) prog_13_method_34_code (1 : Nat) (Option.none : Option Jvm.ClassFile.FieldType)) ∈ lw_all := lw_g (lw_at lw_m7 70 rfl) rfl
theorem q1643 : (Jvm.Cond.stringRef "FloodLentModel" (227 : Nat) "river") ∈ lw_tbl := lw_at lw_m7 71 rfl
theorem q1644 : (Jvm.Cond.methodLink "FloodLentModel" (164 : Nat) ({ cls := "FloodLentModel", name := "needs", desc := "(Ljava/lang/String;)V" } : Jvm.MethodName)) ∈ lw_all := lw_g (lw_at lw_m7 72 rfl) rfl
theorem q1645 : (Jvm.Cond.privateMethod ({ cls := "FloodLentModel", name := "needs", desc := "(Ljava/lang/String;)V" } : Jvm.MethodName)) ∈ lw_tbl := lw_at lw_m7 73 rfl
theorem q1646 : (Jvm.Cond.instanceMethod ({ cls := "FloodLentModel", name := "needs", desc := "(Ljava/lang/String;)V" } : Jvm.MethodName)) ∈ lw_all := lw_g (lw_at lw_m7 74 rfl) rfl
theorem q1647 : (Jvm.Cond.code ({ cls := "FloodLentModel", name := "needs", desc := "(Ljava/lang/String;)V" } : Jvm.MethodName) prog_13_method_24_code (2 : Nat) (Option.none : Option Jvm.ClassFile.FieldType)) ∈ lw_all := lw_g (lw_at lw_m7 75 rfl) rfl
theorem q1648 : (Jvm.Cond.methodLink "FloodLentModel" (157 : Nat) ({ cls := "FloodLentModel", name := "takes", desc := "(Ljava/lang/String;)Z" } : Jvm.MethodName)) ∈ lw_all := lw_g (lw_at lw_m7 76 rfl) rfl
theorem q1649 : (Jvm.Cond.privateMethod ({ cls := "FloodLentModel", name := "takes", desc := "(Ljava/lang/String;)Z" } : Jvm.MethodName)) ∈ lw_tbl := lw_at lw_m7 77 rfl
theorem q1650 : (Jvm.Cond.instanceMethod ({ cls := "FloodLentModel", name := "takes", desc := "(Ljava/lang/String;)Z" } : Jvm.MethodName)) ∈ lw_all := lw_g (lw_at lw_m7 78 rfl) rfl
theorem q1651 : (Jvm.Cond.code ({ cls := "FloodLentModel", name := "takes", desc := "(Ljava/lang/String;)Z" } : Jvm.MethodName) prog_13_method_23_code (3 : Nat) (Option.some Jvm.ClassFile.FieldType.boolean)) ∈ lw_all := lw_g (lw_at lw_m7 79 rfl) rfl
theorem q1652 : (Jvm.Cond.methodLink "FloodLentModel" (150 : Nat) ({ cls := "FloodLentModel", name := "is", desc := "(Ljava/lang/String;)Z" } : Jvm.MethodName)) ∈ lw_all := lw_g (lw_at lw_m7 80 rfl) rfl
theorem q1653 : (Jvm.Cond.privateMethod ({ cls := "FloodLentModel", name := "is", desc := "(Ljava/lang/String;)Z" } : Jvm.MethodName)) ∈ lw_tbl := lw_at lw_m7 81 rfl
theorem q1654 : (Jvm.Cond.instanceMethod ({ cls := "FloodLentModel", name := "is", desc := "(Ljava/lang/String;)Z" } : Jvm.MethodName)) ∈ lw_all := lw_g (lw_at lw_m7 82 rfl) rfl
theorem q1655 : (Jvm.Cond.code ({ cls := "FloodLentModel", name := "is", desc := "(Ljava/lang/String;)Z" } : Jvm.MethodName) prog_13_method_22_code (4 : Nat) (Option.some Jvm.ClassFile.FieldType.boolean)) ∈ lw_all := lw_g (lw_at lw_m7 83 rfl) rfl
theorem q1656 : (Jvm.Cond.methodLink "FloodLentModel" (141 : Nat) ({ cls := "java/lang/String", name := "length", desc := "()I" } : Jvm.MethodName)) ∈ lw_all := lw_g (lw_at lw_m7 84 rfl) rfl
theorem q1657 : (Jvm.Cond.methodLink "FloodLentModel" (146 : Nat) ({ cls := "java/lang/String", name := "charAt", desc := "(I)C" } : Jvm.MethodName)) ∈ lw_all := lw_g (lw_at lw_m7 85 rfl) rfl
theorem q1658 : (Jvm.Cond.methodLink "FloodLentModel" (160 : Nat) ({ cls := "FloodLentModel", name := "errs", desc := "(I)V" } : Jvm.MethodName)) ∈ lw_all := lw_g (lw_at lw_m7 86 rfl) rfl
theorem q1659 : (Jvm.Cond.privateMethod ({ cls := "FloodLentModel", name := "errs", desc := "(I)V" } : Jvm.MethodName)) ∈ lw_tbl := lw_at lw_m7 87 rfl
theorem q1660 : (Jvm.Cond.instanceMethod ({ cls := "FloodLentModel", name := "errs", desc := "(I)V" } : Jvm.MethodName)) ∈ lw_all := lw_g (lw_at lw_m7 88 rfl) rfl
theorem q1661 : (Jvm.Cond.code ({ cls := "FloodLentModel", name := "errs", desc := "(I)V" } : Jvm.MethodName) prog_13_method_21_code (2 : Nat) (Option.none : Option Jvm.ClassFile.FieldType)) ∈ lw_all := lw_g (lw_at lw_m7 89 rfl) rfl
theorem q1662 : (Jvm.Cond.stringRef "FloodLentModel" (229 : Nat) "weeks") ∈ lw_tbl := lw_at lw_m7 90 rfl
theorem q1663 : (Jvm.Cond.methodLink "FloodLentModel" (173 : Nat) ({ cls := "FloodLentModel", name := "told", desc := "(Ljava/lang/String;II)I" } : Jvm.MethodName)) ∈ lw_all := lw_g (lw_at lw_m7 91 rfl) rfl
theorem q1664 : (Jvm.Cond.privateMethod ({ cls := "FloodLentModel", name := "told", desc := "(Ljava/lang/String;II)I" } : Jvm.MethodName)) ∈ lw_tbl := lw_at lw_m7 92 rfl
theorem q1665 : (Jvm.Cond.instanceMethod ({ cls := "FloodLentModel", name := "told", desc := "(Ljava/lang/String;II)I" } : Jvm.MethodName)) ∈ lw_all := lw_g (lw_at lw_m7 93 rfl) rfl
theorem q1666 : (Jvm.Cond.code ({ cls := "FloodLentModel", name := "told", desc := "(Ljava/lang/String;II)I" } : Jvm.MethodName) prog_13_method_26_code (4 : Nat) (Option.some Jvm.ClassFile.FieldType.int)) ∈ lw_all := lw_g (lw_at lw_m7 94 rfl) rfl
theorem q1667 : (Jvm.Cond.methodLink "FloodLentModel" (168 : Nat) ({ cls := "FloodLentModel", name := "number", desc := "(II)I" } : Jvm.MethodName)) ∈ lw_all := lw_g (lw_at lw_m7 95 rfl) rfl
theorem q1668 : (Jvm.Cond.privateMethod ({ cls := "FloodLentModel", name := "number", desc := "(II)I" } : Jvm.MethodName)) ∈ lw_tbl := lw_at lw_m7 96 rfl
theorem q1669 : (Jvm.Cond.instanceMethod ({ cls := "FloodLentModel", name := "number", desc := "(II)I" } : Jvm.MethodName)) ∈ lw_all := lw_g (lw_at lw_m7 97 rfl) rfl
theorem q1670 : (Jvm.Cond.code ({ cls := "FloodLentModel", name := "number", desc := "(II)I" } : Jvm.MethodName) prog_13_method_25_code (4 : Nat) (Option.some Jvm.ClassFile.FieldType.int)) ∈ lw_all := lw_g (lw_at lw_m7 98 rfl) rfl
theorem q1671 : (Jvm.Cond.stringRef "FloodLentModel" (231 : Nat) "more") ∈ lw_tbl := lw_at lw_m7 99 rfl
theorem q1672 : (Jvm.Cond.stringRef "FloodLentModel" (233 : Nat) "back") ∈ lw_tbl := lw_at lw_m7 100 rfl
theorem q1673 : (Jvm.Cond.methodLink "FloodLentModel" (235 : Nat) ({ cls := "FloodLentModel", name := "readNext", desc := "()V" } : Jvm.MethodName)) ∈ lw_all := lw_g (lw_at lw_m7 101 rfl) rfl
theorem q1674 : (Jvm.Cond.privateMethod ({ cls := "FloodLentModel", name := "readNext", desc := "()V" } : Jvm.MethodName)) ∈ lw_tbl := lw_at lw_m7 102 rfl
theorem q1675 : (Jvm.Cond.instanceMethod ({ cls := "FloodLentModel", name := "readNext", desc := "()V" } : Jvm.MethodName)) ∈ lw_all := lw_g (lw_at lw_m7 103 rfl) rfl
theorem q1676 : (Jvm.Cond.code ({ cls := "FloodLentModel", name := "readNext", desc := "()V" } : Jvm.MethodName) prog_13_method_33_code (3 : Nat) (Option.none : Option Jvm.ClassFile.FieldType)) ∈ lw_all := lw_g (lw_at lw_m7 104 rfl) rfl
theorem q1677 : (Jvm.Cond.stringRef "FloodLentModel" (200 : Nat) "village") ∈ lw_tbl := lw_at lw_m7 105 rfl
theorem q1678 : (Jvm.Cond.stringRef "FloodLentModel" (202 : Nat) "crop") ∈ lw_tbl := lw_at lw_m7 106 rfl
theorem q1679 : (Jvm.Cond.stringRef "FloodLentModel" (204 : Nat) "sun") ∈ lw_tbl := lw_at lw_m7 107 rfl
theorem q1680 : (Jvm.Cond.stringRef "FloodLentModel" (206 : Nat) "flood") ∈ lw_tbl := lw_at lw_m7 108 rfl
theorem q1681 : (Jvm.Cond.stringRef "FloodLentModel" (208 : Nat) "loan") ∈ lw_tbl := lw_at lw_m7 109 rfl
theorem q1682 : (Jvm.Cond.stringRef "FloodLentModel" (210 : Nat) "canal") ∈ lw_tbl := lw_at lw_m7 110 rfl
theorem q1683 : (Jvm.Cond.methodLink "FloodLentModel" (212 : Nat) ({ cls := "FloodLentModel", name := "readVillage", desc := "()V" } : Jvm.MethodName)) ∈ lw_all := lw_g (lw_at lw_m7 111 rfl) rfl
theorem q1684 : (Jvm.Cond.privateMethod ({ cls := "FloodLentModel", name := "readVillage", desc := "()V" } : Jvm.MethodName)) ∈ lw_tbl := lw_at lw_m7 112 rfl
theorem q1685 : (Jvm.Cond.instanceMethod ({ cls := "FloodLentModel", name := "readVillage", desc := "()V" } : Jvm.MethodName)) ∈ lw_all := lw_g (lw_at lw_m7 113 rfl) rfl
theorem q1686 : (Jvm.Cond.code ({ cls := "FloodLentModel", name := "readVillage", desc := "()V" } : Jvm.MethodName) prog_13_method_29_code (2 : Nat) (Option.none : Option Jvm.ClassFile.FieldType)) ∈ lw_all := lw_g (lw_at lw_m7 114 rfl) rfl
theorem q1687 : (Jvm.Cond.stringRef "FloodLentModel" (171 : Nat) "pond") ∈ lw_tbl := lw_at lw_m7 115 rfl
theorem q1688 : (Jvm.Cond.stringRef "FloodLentModel" (177 : Nat) "water") ∈ lw_tbl := lw_at lw_m7 116 rfl
theorem q1689 : (Jvm.Cond.stringRef "FloodLentModel" (178 : Nat) "face") ∈ lw_tbl := lw_at lw_m7 117 rfl
theorem q1690 : (Jvm.Cond.stringRef "FloodLentModel" (180 : Nat) "seep") ∈ lw_tbl := lw_at lw_m7 118 rfl
theorem q1691 : (Jvm.Cond.methodLink "FloodLentModel" (215 : Nat) ({ cls := "FloodLentModel", name := "readCrop", desc := "()V" } : Jvm.MethodName)) ∈ lw_all := lw_g (lw_at lw_m7 119 rfl) rfl
theorem q1692 : (Jvm.Cond.privateMethod ({ cls := "FloodLentModel", name := "readCrop", desc := "()V" } : Jvm.MethodName)) ∈ lw_tbl := lw_at lw_m7 120 rfl
theorem q1693 : (Jvm.Cond.instanceMethod ({ cls := "FloodLentModel", name := "readCrop", desc := "()V" } : Jvm.MethodName)) ∈ lw_all := lw_g (lw_at lw_m7 121 rfl) rfl
theorem q1694 : (Jvm.Cond.code ({ cls := "FloodLentModel", name := "readCrop", desc := "()V" } : Jvm.MethodName) prog_13_method_30_code (2 : Nat) (Option.none : Option Jvm.ClassFile.FieldType)) ∈ lw_all := lw_g (lw_at lw_m7 122 rfl) rfl
theorem q1695 : (Jvm.Cond.methodLink "FloodLentModel" (182 : Nat) ({ cls := "FloodLentModel", name := "freshVillage", desc := "()I" } : Jvm.MethodName)) ∈ lw_all := lw_g (lw_at lw_m7 123 rfl) rfl
theorem q1696 : (Jvm.Cond.privateMethod ({ cls := "FloodLentModel", name := "freshVillage", desc := "()I" } : Jvm.MethodName)) ∈ lw_tbl := lw_at lw_m7 124 rfl
theorem q1697 : (Jvm.Cond.instanceMethod ({ cls := "FloodLentModel", name := "freshVillage", desc := "()I" } : Jvm.MethodName)) ∈ lw_all := lw_g (lw_at lw_m7 125 rfl) rfl
theorem q1698 : (Jvm.Cond.code ({ cls := "FloodLentModel", name := "freshVillage", desc := "()I" } : Jvm.MethodName) prog_13_method_28_code (1 : Nat) (Option.some Jvm.ClassFile.FieldType.int)) ∈ lw_all := lw_g (lw_at lw_m7 126 rfl) rfl
theorem q1699 : (Jvm.Cond.stringRef "FloodLentModel" (185 : Nat) "drinks") ∈ lw_tbl := lw_at lw_m7 127 rfl
theorem q1700 : (Jvm.Cond.stringRef "FloodLentModel" (187 : Nat) "brings") ∈ lw_tbl := lw_at lw_m7 128 rfl
theorem q1701 : (Jvm.Cond.stringRef "FloodLentModel" (189 : Nat) "from") ∈ lw_tbl := lw_at lw_m7 129 rfl
theorem q1702 : (Jvm.Cond.stringRef "FloodLentModel" (190 : Nat) "to") ∈ lw_tbl := lw_at lw_m7 130 rfl
theorem q1703 : (Jvm.Cond.stringRef "FloodLentModel" (218 : Nat) "is") ∈ lw_tbl := lw_at lw_m7 131 rfl
theorem q1704 : (Jvm.Cond.methodLink "FloodLentModel" (219 : Nat) ({ cls := "FloodLentModel", name := "readFlood", desc := "()V" } : Jvm.MethodName)) ∈ lw_all := lw_g (lw_at lw_m7 132 rfl) rfl
theorem q1705 : (Jvm.Cond.privateMethod ({ cls := "FloodLentModel", name := "readFlood", desc := "()V" } : Jvm.MethodName)) ∈ lw_tbl := lw_at lw_m7 133 rfl
theorem q1706 : (Jvm.Cond.instanceMethod ({ cls := "FloodLentModel", name := "readFlood", desc := "()V" } : Jvm.MethodName)) ∈ lw_all := lw_g (lw_at lw_m7 134 rfl) rfl
theorem q1707 : (Jvm.Cond.code ({ cls := "FloodLentModel", name := "readFlood", desc := "()V" } : Jvm.MethodName) prog_13_method_31_code (2 : Nat) (Option.none : Option Jvm.ClassFile.FieldType)) ∈ lw_all := lw_g (lw_at lw_m7 135 rfl) rfl
theorem q1708 : (Jvm.Cond.stringRef "FloodLentModel" (192 : Nat) "odds") ∈ lw_tbl := lw_at lw_m7 136 rfl
theorem q1709 : (Jvm.Cond.methodLink "FloodLentModel" (222 : Nat) ({ cls := "FloodLentModel", name := "readLoan", desc := "()V" } : Jvm.MethodName)) ∈ lw_all := lw_g (lw_at lw_m7 137 rfl) rfl
theorem q1710 : (Jvm.Cond.privateMethod ({ cls := "FloodLentModel", name := "readLoan", desc := "()V" } : Jvm.MethodName)) ∈ lw_tbl := lw_at lw_m7 138 rfl
theorem q1711 : (Jvm.Cond.instanceMethod ({ cls := "FloodLentModel", name := "readLoan", desc := "()V" } : Jvm.MethodName)) ∈ lw_all := lw_g (lw_at lw_m7 139 rfl) rfl
theorem q1712 : (Jvm.Cond.code ({ cls := "FloodLentModel", name := "readLoan", desc := "()V" } : Jvm.MethodName) prog_13_method_32_code (3 : Nat) (Option.none : Option Jvm.ClassFile.FieldType)) ∈ lw_all := lw_g (lw_at lw_m7 140 rfl) rfl
theorem q1713 : (Jvm.Cond.stringRef "FloodLentModel" (194 : Nat) "of") ∈ lw_tbl := lw_at lw_m7 141 rfl
theorem q1714 : (Jvm.Cond.stringRef "FloodLentModel" (196 : Nat) "on") ∈ lw_tbl := lw_at lw_m7 142 rfl
theorem q1715 : (Jvm.Cond.stringRef "FloodLentModel" (198 : Nat) "till") ∈ lw_tbl := lw_at lw_m7 143 rfl
theorem q1716 : (Jvm.Cond.stringRef "FloodLentModel" (225 : Nat) "costs") ∈ lw_tbl := lw_at lw_m7 144 rfl
theorem q1718 : (Jvm.Cond.instanceMethod ({ cls := "FloodLentModel", name := "village", desc := "(II)I" } : Jvm.MethodName)) ∈ lw_all := lw_g (lw_at lw_m7 146 rfl) rfl
theorem q1719 : (Jvm.Cond.selects "FloodLentModel" ({ cls := "FloodLentModel", name := "village", desc := "(II)I" } : Jvm.MethodName) ({ cls := "FloodLentModel", name := "village", desc := "(II)I" } : Jvm.MethodName)) ∈ lw_all := lw_g (lw_at lw_m7 147 rfl) rfl
theorem q1720 : (Jvm.Cond.code ({ cls := "FloodLentModel", name := "village", desc := "(II)I" } : Jvm.MethodName) prog_13_method_53_code (3 : Nat) (Option.some Jvm.ClassFile.FieldType.int)) ∈ lw_all := lw_g (lw_at lw_m7 148 rfl) rfl
theorem q1721 : (Jvm.Cond.methodLink "FloodLentModel" (93 : Nat) ({ cls := "FloodLentModel", name := "isVillage", desc := "(I)Z" } : Jvm.MethodName)) ∈ lw_all := lw_g (lw_at lw_m7 149 rfl) rfl
theorem q1722 : (Jvm.Cond.privateMethod ({ cls := "FloodLentModel", name := "isVillage", desc := "(I)Z" } : Jvm.MethodName)) ∈ lw_tbl := lw_at lw_m7 150 rfl
theorem q1723 : (Jvm.Cond.instanceMethod ({ cls := "FloodLentModel", name := "isVillage", desc := "(I)Z" } : Jvm.MethodName)) ∈ lw_all := lw_g (lw_at lw_m7 151 rfl) rfl
theorem q1724 : (Jvm.Cond.code ({ cls := "FloodLentModel", name := "isVillage", desc := "(I)Z" } : Jvm.MethodName) prog_13_method_8_code (2 : Nat) (Option.some Jvm.ClassFile.FieldType.boolean)) ∈ lw_all := lw_g (lw_at lw_m7 152 rfl) rfl
theorem q1725 : (Jvm.Cond.methodLink "FloodLentModel" (89 : Nat) ({ cls := "FloodLentModel", name := "villages", desc := "()I" } : Jvm.MethodName)) ∈ lw_all := lw_g (lw_at lw_m7 153 rfl) rfl
theorem q1726 : (Jvm.Cond.privateMethod ({ cls := "FloodLentModel", name := "villages", desc := "()I" } : Jvm.MethodName)) ∈ lw_tbl := lw_at lw_m7 154 rfl
theorem q1727 : (Jvm.Cond.instanceMethod ({ cls := "FloodLentModel", name := "villages", desc := "()I" } : Jvm.MethodName)) ∈ lw_all := lw_g (lw_at lw_m7 155 rfl) rfl
theorem q1728 : (Jvm.Cond.code ({ cls := "FloodLentModel", name := "villages", desc := "()I" } : Jvm.MethodName) prog_13_method_7_code (1 : Nat) (Option.some Jvm.ClassFile.FieldType.int)) ∈ lw_all := lw_g (lw_at lw_m7 156 rfl) rfl
theorem q1729 : (Jvm.Cond.constantLong "FloodLentModel" (309 : Nat) (4 : Int64)) ∈ lw_all := lw_g (lw_at lw_m7 157 rfl) rfl
theorem q1730 : (Jvm.Cond.methodLink "FloodLentModel" (241 : Nat) ({ cls := "FloodLentModel", name := "of", desc := "(II)I" } : Jvm.MethodName)) ∈ lw_all := lw_g (lw_at lw_m7 158 rfl) rfl
theorem q1731 : (Jvm.Cond.privateMethod ({ cls := "FloodLentModel", name := "of", desc := "(II)I" } : Jvm.MethodName)) ∈ lw_tbl := lw_at lw_m7 159 rfl
theorem q1732 : (Jvm.Cond.instanceMethod ({ cls := "FloodLentModel", name := "of", desc := "(II)I" } : Jvm.MethodName)) ∈ lw_all := lw_g (lw_at lw_m7 160 rfl) rfl
theorem q1733 : (Jvm.Cond.code ({ cls := "FloodLentModel", name := "of", desc := "(II)I" } : Jvm.MethodName) prog_13_method_12_code (3 : Nat) (Option.some Jvm.ClassFile.FieldType.int)) ∈ lw_all := lw_g (lw_at lw_m7 161 rfl) rfl
theorem q1735 : (Jvm.Cond.instanceMethod ({ cls := "FloodLentModel", name := "takes", desc := "(II)I" } : Jvm.MethodName)) ∈ lw_all := lw_g (lw_at lw_m7 163 rfl) rfl
theorem q1736 : (Jvm.Cond.selects "FloodLentModel" ({ cls := "FloodLentModel", name := "takes", desc := "(II)I" } : Jvm.MethodName) ({ cls := "FloodLentModel", name := "takes", desc := "(II)I" } : Jvm.MethodName)) ∈ lw_all := lw_g (lw_at lw_m7 164 rfl) rfl
theorem q1737 : (Jvm.Cond.code ({ cls := "FloodLentModel", name := "takes", desc := "(II)I" } : Jvm.MethodName) prog_13_method_54_code (4 : Nat) (Option.some Jvm.ClassFile.FieldType.int)) ∈ lw_all := lw_g (lw_at lw_m7 165 rfl) rfl
theorem q1738 : (Jvm.Cond.methodLink "FloodLentModel" (311 : Nat) ({ cls := "FloodLentModel", name := "isFlood", desc := "(I)Z" } : Jvm.MethodName)) ∈ lw_all := lw_g (lw_at lw_m7 166 rfl) rfl
theorem q1739 : (Jvm.Cond.privateMethod ({ cls := "FloodLentModel", name := "isFlood", desc := "(I)Z" } : Jvm.MethodName)) ∈ lw_tbl := lw_at lw_m7 167 rfl
theorem q1740 : (Jvm.Cond.instanceMethod ({ cls := "FloodLentModel", name := "isFlood", desc := "(I)Z" } : Jvm.MethodName)) ∈ lw_all := lw_g (lw_at lw_m7 168 rfl) rfl
theorem q1741 : (Jvm.Cond.code ({ cls := "FloodLentModel", name := "isFlood", desc := "(I)Z" } : Jvm.MethodName) prog_13_method_10_code (2 : Nat) (Option.some Jvm.ClassFile.FieldType.boolean)) ∈ lw_all := lw_g (lw_at lw_m7 169 rfl) rfl
theorem q1743 : (Jvm.Cond.instanceMethod ({ cls := "FloodLentModel", name := "water", desc := "(II)I" } : Jvm.MethodName)) ∈ lw_all := lw_g (lw_at lw_m7 171 rfl) rfl
theorem q1744 : (Jvm.Cond.selects "FloodLentModel" ({ cls := "FloodLentModel", name := "water", desc := "(II)I" } : Jvm.MethodName) ({ cls := "FloodLentModel", name := "water", desc := "(II)I" } : Jvm.MethodName)) ∈ lw_all := lw_g (lw_at lw_m7 172 rfl) rfl
theorem q1745 : (Jvm.Cond.code ({ cls := "FloodLentModel", name := "water", desc := "(II)I" } : Jvm.MethodName) prog_13_method_55_code (3 : Nat) (Option.some Jvm.ClassFile.FieldType.int)) ∈ lw_all := lw_g (lw_at lw_m7 173 rfl) rfl
theorem q1746 : (Jvm.Cond.methodLink "FloodLentModel" (314 : Nat) ({ cls := "FloodLentModel", name := "isWeek", desc := "(I)Z" } : Jvm.MethodName)) ∈ lw_all := lw_g (lw_at lw_m7 174 rfl) rfl
theorem q1747 : (Jvm.Cond.privateMethod ({ cls := "FloodLentModel", name := "isWeek", desc := "(I)Z" } : Jvm.MethodName)) ∈ lw_tbl := lw_at lw_m7 175 rfl
theorem q1748 : (Jvm.Cond.instanceMethod ({ cls := "FloodLentModel", name := "isWeek", desc := "(I)Z" } : Jvm.MethodName)) ∈ lw_all := lw_g (lw_at lw_m7 176 rfl) rfl
theorem q1749 : (Jvm.Cond.code ({ cls := "FloodLentModel", name := "isWeek", desc := "(I)Z" } : Jvm.MethodName) prog_13_method_9_code (2 : Nat) (Option.some Jvm.ClassFile.FieldType.boolean)) ∈ lw_all := lw_g (lw_at lw_m7 177 rfl) rfl
theorem q1750 : (Jvm.Cond.methodLink "FloodLentModel" (317 : Nat) ({ cls := "FloodLentModel", name := "year", desc := "()V" } : Jvm.MethodName)) ∈ lw_all := lw_g (lw_at lw_m7 178 rfl) rfl
theorem q1751 : (Jvm.Cond.privateMethod ({ cls := "FloodLentModel", name := "year", desc := "()V" } : Jvm.MethodName)) ∈ lw_tbl := lw_at lw_m7 179 rfl
theorem q1752 : (Jvm.Cond.instanceMethod ({ cls := "FloodLentModel", name := "year", desc := "()V" } : Jvm.MethodName)) ∈ lw_all := lw_g (lw_at lw_m7 180 rfl) rfl
theorem q1753 : (Jvm.Cond.code ({ cls := "FloodLentModel", name := "year", desc := "()V" } : Jvm.MethodName) prog_13_method_46_code (1 : Nat) (Option.none : Option Jvm.ClassFile.FieldType)) ∈ lw_all := lw_g (lw_at lw_m7 181 rfl) rfl
theorem q1754 : (Jvm.Cond.methodLink "FloodLentModel" (294 : Nat) ({ cls := "FloodLentModel", name := "runs", desc := "(I)V" } : Jvm.MethodName)) ∈ lw_all := lw_g (lw_at lw_m7 182 rfl) rfl
theorem q1755 : (Jvm.Cond.privateMethod ({ cls := "FloodLentModel", name := "runs", desc := "(I)V" } : Jvm.MethodName)) ∈ lw_tbl := lw_at lw_m7 183 rfl
theorem q1756 : (Jvm.Cond.instanceMethod ({ cls := "FloodLentModel", name := "runs", desc := "(I)V" } : Jvm.MethodName)) ∈ lw_all := lw_g (lw_at lw_m7 184 rfl) rfl
theorem q1757 : (Jvm.Cond.code ({ cls := "FloodLentModel", name := "runs", desc := "(I)V" } : Jvm.MethodName) prog_13_method_45_code (4 : Nat) (Option.none : Option Jvm.ClassFile.FieldType)) ∈ lw_all := lw_g (lw_at lw_m7 185 rfl) rfl
theorem q1758 : (Jvm.Cond.methodLink "FloodLentModel" (279 : Nat) ({ cls := "FloodLentModel", name := "floodsIn", desc := "(I)V" } : Jvm.MethodName)) ∈ lw_all := lw_g (lw_at lw_m7 186 rfl) rfl
theorem q1759 : (Jvm.Cond.privateMethod ({ cls := "FloodLentModel", name := "floodsIn", desc := "(I)V" } : Jvm.MethodName)) ∈ lw_tbl := lw_at lw_m7 187 rfl
theorem q1760 : (Jvm.Cond.instanceMethod ({ cls := "FloodLentModel", name := "floodsIn", desc := "(I)V" } : Jvm.MethodName)) ∈ lw_all := lw_g (lw_at lw_m7 188 rfl) rfl
theorem q1761 : (Jvm.Cond.code ({ cls := "FloodLentModel", name := "floodsIn", desc := "(I)V" } : Jvm.MethodName) prog_13_method_40_code (4 : Nat) (Option.none : Option Jvm.ClassFile.FieldType)) ∈ lw_all := lw_g (lw_at lw_m7 189 rfl) rfl
theorem q1762 : (Jvm.Cond.methodLink "FloodLentModel" (249 : Nat) ({ cls := "FloodLentModel", name := "takerNow", desc := "(I)I" } : Jvm.MethodName)) ∈ lw_all := lw_g (lw_at lw_m7 190 rfl) rfl
theorem q1763 : (Jvm.Cond.privateMethod ({ cls := "FloodLentModel", name := "takerNow", desc := "(I)I" } : Jvm.MethodName)) ∈ lw_tbl := lw_at lw_m7 191 rfl
theorem q1764 : (Jvm.Cond.instanceMethod ({ cls := "FloodLentModel", name := "takerNow", desc := "(I)I" } : Jvm.MethodName)) ∈ lw_all := lw_g (lw_at lw_m7 192 rfl) rfl
theorem q1765 : (Jvm.Cond.code ({ cls := "FloodLentModel", name := "takerNow", desc := "(I)I" } : Jvm.MethodName) prog_13_method_38_code (2 : Nat) (Option.some Jvm.ClassFile.FieldType.int)) ∈ lw_all := lw_g (lw_at lw_m7 193 rfl) rfl
theorem q1766 : (Jvm.Cond.methodLink "FloodLentModel" (252 : Nat) ({ cls := "FloodLentModel", name := "ofFlood", desc := "(II)I" } : Jvm.MethodName)) ∈ lw_all := lw_g (lw_at lw_m7 194 rfl) rfl
theorem q1767 : (Jvm.Cond.privateMethod ({ cls := "FloodLentModel", name := "ofFlood", desc := "(II)I" } : Jvm.MethodName)) ∈ lw_tbl := lw_at lw_m7 195 rfl
theorem q1768 : (Jvm.Cond.instanceMethod ({ cls := "FloodLentModel", name := "ofFlood", desc := "(II)I" } : Jvm.MethodName)) ∈ lw_all := lw_g (lw_at lw_m7 196 rfl) rfl
theorem q1769 : (Jvm.Cond.code ({ cls := "FloodLentModel", name := "ofFlood", desc := "(II)I" } : Jvm.MethodName) prog_13_method_14_code (3 : Nat) (Option.some Jvm.ClassFile.FieldType.int)) ∈ lw_all := lw_g (lw_at lw_m7 197 rfl) rfl
theorem q1770 : (Jvm.Cond.methodLink "FloodLentModel" (255 : Nat) ({ cls := "FloodLentModel", name := "room", desc := "(I)I" } : Jvm.MethodName)) ∈ lw_all := lw_g (lw_at lw_m7 198 rfl) rfl
theorem q1771 : (Jvm.Cond.privateMethod ({ cls := "FloodLentModel", name := "room", desc := "(I)I" } : Jvm.MethodName)) ∈ lw_tbl := lw_at lw_m7 199 rfl
theorem q1772 : (Jvm.Cond.instanceMethod ({ cls := "FloodLentModel", name := "room", desc := "(I)I" } : Jvm.MethodName)) ∈ lw_all := lw_g (lw_at lw_m7 200 rfl) rfl
theorem q1773 : (Jvm.Cond.code ({ cls := "FloodLentModel", name := "room", desc := "(I)I" } : Jvm.MethodName) prog_13_method_36_code (2 : Nat) (Option.some Jvm.ClassFile.FieldType.int)) ∈ lw_all := lw_g (lw_at lw_m7 201 rfl) rfl
theorem q1774 : (Jvm.Cond.methodLink "FloodLentModel" (258 : Nat) ({ cls := "FloodLentModel", name := "owed", desc := "(I)I" } : Jvm.MethodName)) ∈ lw_all := lw_g (lw_at lw_m7 202 rfl) rfl
theorem q1775 : (Jvm.Cond.privateMethod ({ cls := "FloodLentModel", name := "owed", desc := "(I)I" } : Jvm.MethodName)) ∈ lw_tbl := lw_at lw_m7 203 rfl
theorem q1776 : (Jvm.Cond.instanceMethod ({ cls := "FloodLentModel", name := "owed", desc := "(I)I" } : Jvm.MethodName)) ∈ lw_all := lw_g (lw_at lw_m7 204 rfl) rfl
theorem q1777 : (Jvm.Cond.code ({ cls := "FloodLentModel", name := "owed", desc := "(I)I" } : Jvm.MethodName) prog_13_method_37_code (2 : Nat) (Option.some Jvm.ClassFile.FieldType.int)) ∈ lw_all := lw_g (lw_at lw_m7 205 rfl) rfl
theorem q1778 : (Jvm.Cond.methodLink "FloodLentModel" (282 : Nat) ({ cls := "FloodLentModel", name := "loansIn", desc := "(I)V" } : Jvm.MethodName)) ∈ lw_all := lw_g (lw_at lw_m7 206 rfl) rfl
theorem q1779 : (Jvm.Cond.privateMethod ({ cls := "FloodLentModel", name := "loansIn", desc := "(I)V" } : Jvm.MethodName)) ∈ lw_tbl := lw_at lw_m7 207 rfl
theorem q1780 : (Jvm.Cond.instanceMethod ({ cls := "FloodLentModel", name := "loansIn", desc := "(I)V" } : Jvm.MethodName)) ∈ lw_all := lw_g (lw_at lw_m7 208 rfl) rfl
theorem q1781 : (Jvm.Cond.code ({ cls := "FloodLentModel", name := "loansIn", desc := "(I)V" } : Jvm.MethodName) prog_13_method_41_code (6 : Nat) (Option.none : Option Jvm.ClassFile.FieldType)) ∈ lw_all := lw_g (lw_at lw_m7 209 rfl) rfl
theorem q1782 : (Jvm.Cond.methodLink "FloodLentModel" (261 : Nat) ({ cls := "FloodLentModel", name := "ofLoan", desc := "(II)I" } : Jvm.MethodName)) ∈ lw_all := lw_g (lw_at lw_m7 210 rfl) rfl
theorem q1783 : (Jvm.Cond.privateMethod ({ cls := "FloodLentModel", name := "ofLoan", desc := "(II)I" } : Jvm.MethodName)) ∈ lw_tbl := lw_at lw_m7 211 rfl
theorem q1784 : (Jvm.Cond.instanceMethod ({ cls := "FloodLentModel", name := "ofLoan", desc := "(II)I" } : Jvm.MethodName)) ∈ lw_all := lw_g (lw_at lw_m7 212 rfl) rfl
theorem q1785 : (Jvm.Cond.code ({ cls := "FloodLentModel", name := "ofLoan", desc := "(II)I" } : Jvm.MethodName) prog_13_method_15_code (3 : Nat) (Option.some Jvm.ClassFile.FieldType.int)) ∈ lw_all := lw_g (lw_at lw_m7 213 rfl) rfl
theorem q1786 : (Jvm.Cond.methodLink "FloodLentModel" (285 : Nat) ({ cls := "FloodLentModel", name := "dueIn", desc := "(I)V" } : Jvm.MethodName)) ∈ lw_all := lw_g (lw_at lw_m7 214 rfl) rfl
theorem q1787 : (Jvm.Cond.privateMethod ({ cls := "FloodLentModel", name := "dueIn", desc := "(I)V" } : Jvm.MethodName)) ∈ lw_tbl := lw_at lw_m7 215 rfl
theorem q1788 : (Jvm.Cond.instanceMethod ({ cls := "FloodLentModel", name := "dueIn", desc := "(I)V" } : Jvm.MethodName)) ∈ lw_all := lw_g (lw_at lw_m7 216 rfl) rfl
theorem q1789 : (Jvm.Cond.code ({ cls := "FloodLentModel", name := "dueIn", desc := "(I)V" } : Jvm.MethodName) prog_13_method_42_code (6 : Nat) (Option.none : Option Jvm.ClassFile.FieldType)) ∈ lw_all := lw_g (lw_at lw_m7 217 rfl) rfl
theorem q1790 : (Jvm.Cond.methodLink "FloodLentModel" (264 : Nat) ({ cls := "FloodLentModel", name := "wrongIn", desc := "(I)V" } : Jvm.MethodName)) ∈ lw_all := lw_g (lw_at lw_m7 218 rfl) rfl
theorem q1791 : (Jvm.Cond.privateMethod ({ cls := "FloodLentModel", name := "wrongIn", desc := "(I)V" } : Jvm.MethodName)) ∈ lw_tbl := lw_at lw_m7 219 rfl
theorem q1792 : (Jvm.Cond.instanceMethod ({ cls := "FloodLentModel", name := "wrongIn", desc := "(I)V" } : Jvm.MethodName)) ∈ lw_all := lw_g (lw_at lw_m7 220 rfl) rfl
theorem q1793 : (Jvm.Cond.code ({ cls := "FloodLentModel", name := "wrongIn", desc := "(I)V" } : Jvm.MethodName) prog_13_method_39_code (2 : Nat) (Option.none : Option Jvm.ClassFile.FieldType)) ∈ lw_all := lw_g (lw_at lw_m7 221 rfl) rfl
theorem q1794 : (Jvm.Cond.methodLink "FloodLentModel" (288 : Nat) ({ cls := "FloodLentModel", name := "cropsIn", desc := "(I)V" } : Jvm.MethodName)) ∈ lw_all := lw_g (lw_at lw_m7 222 rfl) rfl
theorem q1795 : (Jvm.Cond.privateMethod ({ cls := "FloodLentModel", name := "cropsIn", desc := "(I)V" } : Jvm.MethodName)) ∈ lw_tbl := lw_at lw_m7 223 rfl
theorem q1796 : (Jvm.Cond.instanceMethod ({ cls := "FloodLentModel", name := "cropsIn", desc := "(I)V" } : Jvm.MethodName)) ∈ lw_all := lw_g (lw_at lw_m7 224 rfl) rfl
theorem q1797 : (Jvm.Cond.code ({ cls := "FloodLentModel", name := "cropsIn", desc := "(I)V" } : Jvm.MethodName) prog_13_method_43_code (4 : Nat) (Option.none : Option Jvm.ClassFile.FieldType)) ∈ lw_all := lw_g (lw_at lw_m7 225 rfl) rfl
theorem q1798 : (Jvm.Cond.methodLink "FloodLentModel" (267 : Nat) ({ cls := "FloodLentModel", name := "ofCrop", desc := "(II)I" } : Jvm.MethodName)) ∈ lw_all := lw_g (lw_at lw_m7 226 rfl) rfl
theorem q1799 : (Jvm.Cond.privateMethod ({ cls := "FloodLentModel", name := "ofCrop", desc := "(II)I" } : Jvm.MethodName)) ∈ lw_tbl := lw_at lw_m7 227 rfl
theorem q1800 : (Jvm.Cond.instanceMethod ({ cls := "FloodLentModel", name := "ofCrop", desc := "(II)I" } : Jvm.MethodName)) ∈ lw_all := lw_g (lw_at lw_m7 228 rfl) rfl
theorem q1801 : (Jvm.Cond.code ({ cls := "FloodLentModel", name := "ofCrop", desc := "(II)I" } : Jvm.MethodName) prog_13_method_13_code (3 : Nat) (Option.some Jvm.ClassFile.FieldType.int)) ∈ lw_all := lw_g (lw_at lw_m7 229 rfl) rfl
theorem q1802 : (Jvm.Cond.methodLink "FloodLentModel" (291 : Nat) ({ cls := "FloodLentModel", name := "losesIn", desc := "(I)V" } : Jvm.MethodName)) ∈ lw_all := lw_g (lw_at lw_m7 230 rfl) rfl
theorem q1803 : (Jvm.Cond.privateMethod ({ cls := "FloodLentModel", name := "losesIn", desc := "(I)V" } : Jvm.MethodName)) ∈ lw_tbl := lw_at lw_m7 231 rfl
theorem q1804 : (Jvm.Cond.instanceMethod ({ cls := "FloodLentModel", name := "losesIn", desc := "(I)V" } : Jvm.MethodName)) ∈ lw_all := lw_g (lw_at lw_m7 232 rfl) rfl
theorem q1805 : (Jvm.Cond.code ({ cls := "FloodLentModel", name := "losesIn", desc := "(I)V" } : Jvm.MethodName) prog_13_method_44_code (5 : Nat) (Option.none : Option Jvm.ClassFile.FieldType)) ∈ lw_all := lw_g (lw_at lw_m7 233 rfl) rfl
theorem q1807 : (Jvm.Cond.instanceMethod ({ cls := "FloodLentModel", name := "flood", desc := "(II)I" } : Jvm.MethodName)) ∈ lw_all := lw_g (lw_at lw_m7 235 rfl) rfl
theorem q1808 : (Jvm.Cond.selects "FloodLentModel" ({ cls := "FloodLentModel", name := "flood", desc := "(II)I" } : Jvm.MethodName) ({ cls := "FloodLentModel", name := "flood", desc := "(II)I" } : Jvm.MethodName)) ∈ lw_all := lw_g (lw_at lw_m7 236 rfl) rfl
theorem q1809 : (Jvm.Cond.code ({ cls := "FloodLentModel", name := "flood", desc := "(II)I" } : Jvm.MethodName) prog_13_method_56_code (3 : Nat) (Option.some Jvm.ClassFile.FieldType.int)) ∈ lw_all := lw_g (lw_at lw_m7 237 rfl) rfl
theorem q1810 : (Jvm.Cond.constantLong "FloodLentModel" (320 : Nat) (3 : Int64)) ∈ lw_all := lw_g (lw_at lw_m7 238 rfl) rfl
theorem q1811 : (Jvm.Cond.methodLink "FloodLentModel" (297 : Nat) ({ cls := "FloodLentModel", name := "shortOfFlood", desc := "(I)I" } : Jvm.MethodName)) ∈ lw_all := lw_g (lw_at lw_m7 239 rfl) rfl
theorem q1812 : (Jvm.Cond.privateMethod ({ cls := "FloodLentModel", name := "shortOfFlood", desc := "(I)I" } : Jvm.MethodName)) ∈ lw_tbl := lw_at lw_m8 0 rfl
theorem q1813 : (Jvm.Cond.instanceMethod ({ cls := "FloodLentModel", name := "shortOfFlood", desc := "(I)I" } : Jvm.MethodName)) ∈ lw_all := lw_g (lw_at lw_m8 1 rfl) rfl
theorem q1814 : (Jvm.Cond.code ({ cls := "FloodLentModel", name := "shortOfFlood", desc := "(I)I" } : Jvm.MethodName) prog_13_method_48_code (2 : Nat) (Option.some Jvm.ClassFile.FieldType.int)) ∈ lw_all := lw_g (lw_at lw_m8 2 rfl) rfl
theorem q1816 : (Jvm.Cond.instanceMethod ({ cls := "FloodLentModel", name := "loan", desc := "(II)I" } : Jvm.MethodName)) ∈ lw_all := lw_g (lw_at lw_m8 4 rfl) rfl
theorem q1817 : (Jvm.Cond.selects "FloodLentModel" ({ cls := "FloodLentModel", name := "loan", desc := "(II)I" } : Jvm.MethodName) ({ cls := "FloodLentModel", name := "loan", desc := "(II)I" } : Jvm.MethodName)) ∈ lw_all := lw_g (lw_at lw_m8 5 rfl) rfl
theorem q1818 : (Jvm.Cond.code ({ cls := "FloodLentModel", name := "loan", desc := "(II)I" } : Jvm.MethodName) prog_13_method_57_code (3 : Nat) (Option.some Jvm.ClassFile.FieldType.int)) ∈ lw_all := lw_g (lw_at lw_m8 6 rfl) rfl
theorem q1819 : (Jvm.Cond.methodLink "FloodLentModel" (300 : Nat) ({ cls := "FloodLentModel", name := "shortOfLoan", desc := "(I)I" } : Jvm.MethodName)) ∈ lw_all := lw_g (lw_at lw_m8 7 rfl) rfl
theorem q1820 : (Jvm.Cond.privateMethod ({ cls := "FloodLentModel", name := "shortOfLoan", desc := "(I)I" } : Jvm.MethodName)) ∈ lw_tbl := lw_at lw_m8 8 rfl
theorem q1821 : (Jvm.Cond.instanceMethod ({ cls := "FloodLentModel", name := "shortOfLoan", desc := "(I)I" } : Jvm.MethodName)) ∈ lw_all := lw_g (lw_at lw_m8 9 rfl) rfl
theorem q1822 : (Jvm.Cond.code ({ cls := "FloodLentModel", name := "shortOfLoan", desc := "(I)I" } : Jvm.MethodName) prog_13_method_49_code (2 : Nat) (Option.some Jvm.ClassFile.FieldType.int)) ∈ lw_all := lw_g (lw_at lw_m8 10 rfl) rfl
theorem q1824 : (Jvm.Cond.instanceMethod ({ cls := "FloodLentModel", name := "crop", desc := "(II)I" } : Jvm.MethodName)) ∈ lw_all := lw_g (lw_at lw_m8 12 rfl) rfl
theorem q1825 : (Jvm.Cond.selects "FloodLentModel" ({ cls := "FloodLentModel", name := "crop", desc := "(II)I" } : Jvm.MethodName) ({ cls := "FloodLentModel", name := "crop", desc := "(II)I" } : Jvm.MethodName)) ∈ lw_all := lw_g (lw_at lw_m8 13 rfl) rfl
theorem q1826 : (Jvm.Cond.code ({ cls := "FloodLentModel", name := "crop", desc := "(II)I" } : Jvm.MethodName) prog_13_method_58_code (3 : Nat) (Option.some Jvm.ClassFile.FieldType.int)) ∈ lw_all := lw_g (lw_at lw_m8 14 rfl) rfl
theorem q1828 : (Jvm.Cond.instanceMethod ({ cls := "FloodLentModel", name := "sum", desc := "(I)I" } : Jvm.MethodName)) ∈ lw_all := lw_g (lw_at lw_m8 16 rfl) rfl
theorem q1829 : (Jvm.Cond.selects "FloodLentModel" ({ cls := "FloodLentModel", name := "sum", desc := "(I)I" } : Jvm.MethodName) ({ cls := "FloodLentModel", name := "sum", desc := "(I)I" } : Jvm.MethodName)) ∈ lw_all := lw_g (lw_at lw_m8 17 rfl) rfl
theorem q1830 : (Jvm.Cond.code ({ cls := "FloodLentModel", name := "sum", desc := "(I)I" } : Jvm.MethodName) prog_13_method_60_code (4 : Nat) (Option.some Jvm.ClassFile.FieldType.int)) ∈ lw_all := lw_g (lw_at lw_m8 18 rfl) rfl
theorem q1831 : (Jvm.Cond.methodLink "FloodLentModel" (322 : Nat) ({ cls := "FloodLentModel", name := "isPlain", desc := "()Z" } : Jvm.MethodName)) ∈ lw_all := lw_g (lw_at lw_m8 19 rfl) rfl
theorem q1832 : (Jvm.Cond.privateMethod ({ cls := "FloodLentModel", name := "isPlain", desc := "()Z" } : Jvm.MethodName)) ∈ lw_tbl := lw_at lw_m8 20 rfl
theorem q1833 : (Jvm.Cond.instanceMethod ({ cls := "FloodLentModel", name := "isPlain", desc := "()Z" } : Jvm.MethodName)) ∈ lw_all := lw_g (lw_at lw_m8 21 rfl) rfl
theorem q1834 : (Jvm.Cond.code ({ cls := "FloodLentModel", name := "isPlain", desc := "()Z" } : Jvm.MethodName) prog_13_method_6_code (1 : Nat) (Option.some Jvm.ClassFile.FieldType.boolean)) ∈ lw_all := lw_g (lw_at lw_m8 22 rfl) rfl
theorem q1835 : (Jvm.Cond.constantLong "FloodLentModel" (325 : Nat) (8 : Int64)) ∈ lw_all := lw_g (lw_at lw_m8 23 rfl) rfl
theorem q1836 : (Jvm.Cond.methodLink "FloodLentModel" (327 : Nat) ({ cls := "FloodLentModel", name := "brought", desc := "()I" } : Jvm.MethodName)) ∈ lw_all := lw_g (lw_at lw_m8 24 rfl) rfl
theorem q1837 : (Jvm.Cond.privateMethod ({ cls := "FloodLentModel", name := "brought", desc := "()I" } : Jvm.MethodName)) ∈ lw_tbl := lw_at lw_m8 25 rfl
theorem q1838 : (Jvm.Cond.instanceMethod ({ cls := "FloodLentModel", name := "brought", desc := "()I" } : Jvm.MethodName)) ∈ lw_all := lw_g (lw_at lw_m8 26 rfl) rfl
theorem q1839 : (Jvm.Cond.code ({ cls := "FloodLentModel", name := "brought", desc := "()I" } : Jvm.MethodName) prog_13_method_47_code (3 : Nat) (Option.some Jvm.ClassFile.FieldType.int)) ∈ lw_all := lw_g (lw_at lw_m8 27 rfl) rfl
theorem q1840 : (Jvm.Cond.methodLink "FloodLentModel" (303 : Nat) ({ cls := "FloodLentModel", name := "shortOfFloods", desc := "()I" } : Jvm.MethodName)) ∈ lw_all := lw_g (lw_at lw_m8 28 rfl) rfl
theorem q1841 : (Jvm.Cond.privateMethod ({ cls := "FloodLentModel", name := "shortOfFloods", desc := "()I" } : Jvm.MethodName)) ∈ lw_tbl := lw_at lw_m8 29 rfl
theorem q1842 : (Jvm.Cond.instanceMethod ({ cls := "FloodLentModel", name := "shortOfFloods", desc := "()I" } : Jvm.MethodName)) ∈ lw_all := lw_g (lw_at lw_m8 30 rfl) rfl
theorem q1843 : (Jvm.Cond.code ({ cls := "FloodLentModel", name := "shortOfFloods", desc := "()I" } : Jvm.MethodName) prog_13_method_50_code (3 : Nat) (Option.some Jvm.ClassFile.FieldType.int)) ∈ lw_all := lw_g (lw_at lw_m8 31 rfl) rfl
theorem q1844 : (Jvm.Cond.methodLink "FloodLentModel" (306 : Nat) ({ cls := "FloodLentModel", name := "shortOfLoans", desc := "()I" } : Jvm.MethodName)) ∈ lw_all := lw_g (lw_at lw_m8 32 rfl) rfl
theorem q1845 : (Jvm.Cond.privateMethod ({ cls := "FloodLentModel", name := "shortOfLoans", desc := "()I" } : Jvm.MethodName)) ∈ lw_tbl := lw_at lw_m8 33 rfl
theorem q1846 : (Jvm.Cond.instanceMethod ({ cls := "FloodLentModel", name := "shortOfLoans", desc := "()I" } : Jvm.MethodName)) ∈ lw_all := lw_g (lw_at lw_m8 34 rfl) rfl
theorem q1847 : (Jvm.Cond.code ({ cls := "FloodLentModel", name := "shortOfLoans", desc := "()I" } : Jvm.MethodName) prog_13_method_51_code (3 : Nat) (Option.some Jvm.ClassFile.FieldType.int)) ∈ lw_all := lw_g (lw_at lw_m8 35 rfl) rfl
theorem q1848 : (Jvm.Cond.methodLink "FloodLentModel" (330 : Nat) ({ cls := "FloodLentModel", name := "floodSum", desc := "(I)I" } : Jvm.MethodName)) ∈ lw_all := lw_g (lw_at lw_m8 36 rfl) rfl
theorem q1849 : (Jvm.Cond.privateMethod ({ cls := "FloodLentModel", name := "floodSum", desc := "(I)I" } : Jvm.MethodName)) ∈ lw_tbl := lw_at lw_m8 37 rfl
theorem q1850 : (Jvm.Cond.instanceMethod ({ cls := "FloodLentModel", name := "floodSum", desc := "(I)I" } : Jvm.MethodName)) ∈ lw_all := lw_g (lw_at lw_m8 38 rfl) rfl
theorem q1851 : (Jvm.Cond.code ({ cls := "FloodLentModel", name := "floodSum", desc := "(I)I" } : Jvm.MethodName) prog_13_method_59_code (4 : Nat) (Option.some Jvm.ClassFile.FieldType.int)) ∈ lw_all := lw_g (lw_at lw_m8 39 rfl) rfl
theorem q1853 : (Jvm.Cond.instanceMethod ({ cls := "FloodLentModel", name := "first", desc := "()I" } : Jvm.MethodName)) ∈ lw_all := lw_g (lw_at lw_m8 41 rfl) rfl
theorem q1854 : (Jvm.Cond.selects "FloodLentModel" ({ cls := "FloodLentModel", name := "first", desc := "()I" } : Jvm.MethodName) ({ cls := "FloodLentModel", name := "first", desc := "()I" } : Jvm.MethodName)) ∈ lw_all := lw_g (lw_at lw_m8 42 rfl) rfl
theorem q1855 : (Jvm.Cond.code ({ cls := "FloodLentModel", name := "first", desc := "()I" } : Jvm.MethodName) prog_13_method_61_code (1 : Nat) (Option.some Jvm.ClassFile.FieldType.int)) ∈ lw_all := lw_g (lw_at lw_m8 43 rfl) rfl
theorem q1857 : (Jvm.Cond.instanceMethod ({ cls := "FloodLentModel", name := "best", desc := "()I" } : Jvm.MethodName)) ∈ lw_all := lw_g (lw_at lw_m8 45 rfl) rfl
theorem q1858 : (Jvm.Cond.selects "FloodLentModel" ({ cls := "FloodLentModel", name := "best", desc := "()I" } : Jvm.MethodName) ({ cls := "FloodLentModel", name := "best", desc := "()I" } : Jvm.MethodName)) ∈ lw_all := lw_g (lw_at lw_m8 46 rfl) rfl
theorem q1859 : (Jvm.Cond.code ({ cls := "FloodLentModel", name := "best", desc := "()I" } : Jvm.MethodName) prog_13_method_68_code (1 : Nat) (Option.some Jvm.ClassFile.FieldType.int)) ∈ lw_all := lw_g (lw_at lw_m8 47 rfl) rfl
theorem q1860 : (Jvm.Cond.methodLink "FloodLentModel" (351 : Nat) ({ cls := "FloodLentModel", name := "bestTakers", desc := "()I" } : Jvm.MethodName)) ∈ lw_all := lw_g (lw_at lw_m8 48 rfl) rfl
theorem q1861 : (Jvm.Cond.privateMethod ({ cls := "FloodLentModel", name := "bestTakers", desc := "()I" } : Jvm.MethodName)) ∈ lw_tbl := lw_at lw_m8 49 rfl
theorem q1862 : (Jvm.Cond.instanceMethod ({ cls := "FloodLentModel", name := "bestTakers", desc := "()I" } : Jvm.MethodName)) ∈ lw_all := lw_g (lw_at lw_m8 50 rfl) rfl
theorem q1863 : (Jvm.Cond.code ({ cls := "FloodLentModel", name := "bestTakers", desc := "()I" } : Jvm.MethodName) prog_13_method_67_code (4 : Nat) (Option.some Jvm.ClassFile.FieldType.int)) ∈ lw_all := lw_g (lw_at lw_m8 51 rfl) rfl
theorem q1864 : (Jvm.Cond.methodLink "FloodLentModel" (333 : Nat) ({ cls := "FloodLentModel", name := "keepsTakers", desc := "()V" } : Jvm.MethodName)) ∈ lw_all := lw_g (lw_at lw_m8 52 rfl) rfl
theorem q1865 : (Jvm.Cond.privateMethod ({ cls := "FloodLentModel", name := "keepsTakers", desc := "()V" } : Jvm.MethodName)) ∈ lw_tbl := lw_at lw_m8 53 rfl
theorem q1866 : (Jvm.Cond.instanceMethod ({ cls := "FloodLentModel", name := "keepsTakers", desc := "()V" } : Jvm.MethodName)) ∈ lw_all := lw_g (lw_at lw_m8 54 rfl) rfl
theorem q1867 : (Jvm.Cond.code ({ cls := "FloodLentModel", name := "keepsTakers", desc := "()V" } : Jvm.MethodName) prog_13_method_63_code (2 : Nat) (Option.none : Option Jvm.ClassFile.FieldType)) ∈ lw_all := lw_g (lw_at lw_m8 55 rfl) rfl
theorem q1868 : (Jvm.Cond.methodLink "FloodLentModel" (339 : Nat) ({ cls := "FloodLentModel", name := "takersMany", desc := "()I" } : Jvm.MethodName)) ∈ lw_all := lw_g (lw_at lw_m8 56 rfl) rfl
theorem q1869 : (Jvm.Cond.privateMethod ({ cls := "FloodLentModel", name := "takersMany", desc := "()I" } : Jvm.MethodName)) ∈ lw_tbl := lw_at lw_m8 57 rfl
theorem q1870 : (Jvm.Cond.instanceMethod ({ cls := "FloodLentModel", name := "takersMany", desc := "()I" } : Jvm.MethodName)) ∈ lw_all := lw_g (lw_at lw_m8 58 rfl) rfl
theorem q1871 : (Jvm.Cond.code ({ cls := "FloodLentModel", name := "takersMany", desc := "()I" } : Jvm.MethodName) prog_13_method_62_code (3 : Nat) (Option.some Jvm.ClassFile.FieldType.int)) ∈ lw_all := lw_g (lw_at lw_m8 59 rfl) rfl
theorem q1872 : (Jvm.Cond.methodLink "FloodLentModel" (342 : Nat) ({ cls := "FloodLentModel", name := "takersAre", desc := "(I)V" } : Jvm.MethodName)) ∈ lw_all := lw_g (lw_at lw_m8 60 rfl) rfl
theorem q1873 : (Jvm.Cond.privateMethod ({ cls := "FloodLentModel", name := "takersAre", desc := "(I)V" } : Jvm.MethodName)) ∈ lw_tbl := lw_at lw_m8 61 rfl
theorem q1874 : (Jvm.Cond.instanceMethod ({ cls := "FloodLentModel", name := "takersAre", desc := "(I)V" } : Jvm.MethodName)) ∈ lw_all := lw_g (lw_at lw_m8 62 rfl) rfl
theorem q1875 : (Jvm.Cond.code ({ cls := "FloodLentModel", name := "takersAre", desc := "(I)V" } : Jvm.MethodName) prog_13_method_65_code (4 : Nat) (Option.none : Option Jvm.ClassFile.FieldType)) ∈ lw_all := lw_g (lw_at lw_m8 63 rfl) rfl
theorem q1876 : (Jvm.Cond.methodLink "FloodLentModel" (345 : Nat) ({ cls := "FloodLentModel", name := "shortOfAll", desc := "()I" } : Jvm.MethodName)) ∈ lw_all := lw_g (lw_at lw_m8 64 rfl) rfl
theorem q1877 : (Jvm.Cond.privateMethod ({ cls := "FloodLentModel", name := "shortOfAll", desc := "()I" } : Jvm.MethodName)) ∈ lw_tbl := lw_at lw_m8 65 rfl
theorem q1878 : (Jvm.Cond.instanceMethod ({ cls := "FloodLentModel", name := "shortOfAll", desc := "()I" } : Jvm.MethodName)) ∈ lw_all := lw_g (lw_at lw_m8 66 rfl) rfl
theorem q1879 : (Jvm.Cond.code ({ cls := "FloodLentModel", name := "shortOfAll", desc := "()I" } : Jvm.MethodName) prog_13_method_52_code (1 : Nat) (Option.some Jvm.ClassFile.FieldType.int)) ∈ lw_all := lw_g (lw_at lw_m8 67 rfl) rfl
theorem q1880 : (Jvm.Cond.methodLink "FloodLentModel" (348 : Nat) ({ cls := "FloodLentModel", name := "bringsTakersBack", desc := "()V" } : Jvm.MethodName)) ∈ lw_all := lw_g (lw_at lw_m8 68 rfl) rfl
theorem q1881 : (Jvm.Cond.privateMethod ({ cls := "FloodLentModel", name := "bringsTakersBack", desc := "()V" } : Jvm.MethodName)) ∈ lw_tbl := lw_at lw_m8 69 rfl
theorem q1882 : (Jvm.Cond.instanceMethod ({ cls := "FloodLentModel", name := "bringsTakersBack", desc := "()V" } : Jvm.MethodName)) ∈ lw_all := lw_g (lw_at lw_m8 70 rfl) rfl
theorem q1883 : (Jvm.Cond.code ({ cls := "FloodLentModel", name := "bringsTakersBack", desc := "()V" } : Jvm.MethodName) prog_13_method_64_code (2 : Nat) (Option.none : Option Jvm.ClassFile.FieldType)) ∈ lw_all := lw_g (lw_at lw_m8 71 rfl) rfl
theorem q1885 : (Jvm.Cond.instanceMethod ({ cls := "FloodLentModel", name := "taker", desc := "(I)I" } : Jvm.MethodName)) ∈ lw_all := lw_g (lw_at lw_m8 73 rfl) rfl
theorem q1886 : (Jvm.Cond.selects "FloodLentModel" ({ cls := "FloodLentModel", name := "taker", desc := "(I)I" } : Jvm.MethodName) ({ cls := "FloodLentModel", name := "taker", desc := "(I)I" } : Jvm.MethodName)) ∈ lw_all := lw_g (lw_at lw_m8 74 rfl) rfl
theorem q1887 : (Jvm.Cond.code ({ cls := "FloodLentModel", name := "taker", desc := "(I)I" } : Jvm.MethodName) prog_13_method_69_code (3 : Nat) (Option.some Jvm.ClassFile.FieldType.int)) ∈ lw_all := lw_g (lw_at lw_m8 75 rfl) rfl
theorem q1888 : (Jvm.Cond.methodLink "FloodLentModel" (354 : Nat) ({ cls := "FloodLentModel", name := "takerIn", desc := "(II)I" } : Jvm.MethodName)) ∈ lw_all := lw_g (lw_at lw_m8 76 rfl) rfl
theorem q1889 : (Jvm.Cond.privateMethod ({ cls := "FloodLentModel", name := "takerIn", desc := "(II)I" } : Jvm.MethodName)) ∈ lw_tbl := lw_at lw_m8 77 rfl
theorem q1890 : (Jvm.Cond.instanceMethod ({ cls := "FloodLentModel", name := "takerIn", desc := "(II)I" } : Jvm.MethodName)) ∈ lw_all := lw_g (lw_at lw_m8 78 rfl) rfl
theorem q1891 : (Jvm.Cond.code ({ cls := "FloodLentModel", name := "takerIn", desc := "(II)I" } : Jvm.MethodName) prog_13_method_66_code (5 : Nat) (Option.some Jvm.ClassFile.FieldType.int)) ∈ lw_all := lw_g (lw_at lw_m8 79 rfl) rfl
theorem q1893 : (Jvm.Cond.instanceMethod ({ cls := "FloodLentModel", name := "safe", desc := "()I" } : Jvm.MethodName)) ∈ lw_all := lw_g (lw_at lw_m8 81 rfl) rfl
theorem q1894 : (Jvm.Cond.selects "FloodLentModel" ({ cls := "FloodLentModel", name := "safe", desc := "()I" } : Jvm.MethodName) ({ cls := "FloodLentModel", name := "safe", desc := "()I" } : Jvm.MethodName)) ∈ lw_all := lw_g (lw_at lw_m8 82 rfl) rfl
theorem q1895 : (Jvm.Cond.code ({ cls := "FloodLentModel", name := "safe", desc := "()I" } : Jvm.MethodName) prog_13_method_70_code (4 : Nat) (Option.some Jvm.ClassFile.FieldType.int)) ∈ lw_all := lw_g (lw_at lw_m8 83 rfl) rfl
theorem q1897 : (Jvm.Cond.instanceMethod ({ cls := "FloodLentModel", name := "hope", desc := "(I)J" } : Jvm.MethodName)) ∈ lw_all := lw_g (lw_at lw_m8 85 rfl) rfl
theorem q1898 : (Jvm.Cond.selects "FloodLentModel" ({ cls := "FloodLentModel", name := "hope", desc := "(I)J" } : Jvm.MethodName) ({ cls := "FloodLentModel", name := "hope", desc := "(I)J" } : Jvm.MethodName)) ∈ lw_all := lw_g (lw_at lw_m8 86 rfl) rfl
theorem q1899 : (Jvm.Cond.code ({ cls := "FloodLentModel", name := "hope", desc := "(I)J" } : Jvm.MethodName) prog_13_method_74_code (2 : Nat) (Option.some Jvm.ClassFile.FieldType.long)) ∈ lw_all := lw_g (lw_at lw_m8 87 rfl) rfl
theorem q1900 : (Jvm.Cond.methodLink "FloodLentModel" (363 : Nat) ({ cls := "FloodLentModel", name := "hopeAbove", desc := "()J" } : Jvm.MethodName)) ∈ lw_all := lw_g (lw_at lw_m8 88 rfl) rfl
theorem q1901 : (Jvm.Cond.privateMethod ({ cls := "FloodLentModel", name := "hopeAbove", desc := "()J" } : Jvm.MethodName)) ∈ lw_tbl := lw_at lw_m8 89 rfl
theorem q1902 : (Jvm.Cond.instanceMethod ({ cls := "FloodLentModel", name := "hopeAbove", desc := "()J" } : Jvm.MethodName)) ∈ lw_all := lw_g (lw_at lw_m8 90 rfl) rfl
theorem q1903 : (Jvm.Cond.code ({ cls := "FloodLentModel", name := "hopeAbove", desc := "()J" } : Jvm.MethodName) prog_13_method_72_code (7 : Nat) (Option.some Jvm.ClassFile.FieldType.long)) ∈ lw_all := lw_g (lw_at lw_m8 91 rfl) rfl
theorem q1904 : (Jvm.Cond.methodLink "FloodLentModel" (367 : Nat) ({ cls := "FloodLentModel", name := "hopeBelow", desc := "()J" } : Jvm.MethodName)) ∈ lw_all := lw_g (lw_at lw_m8 92 rfl) rfl
theorem q1905 : (Jvm.Cond.privateMethod ({ cls := "FloodLentModel", name := "hopeBelow", desc := "()J" } : Jvm.MethodName)) ∈ lw_tbl := lw_at lw_m8 93 rfl
theorem q1906 : (Jvm.Cond.instanceMethod ({ cls := "FloodLentModel", name := "hopeBelow", desc := "()J" } : Jvm.MethodName)) ∈ lw_all := lw_g (lw_at lw_m8 94 rfl) rfl
theorem q1907 : (Jvm.Cond.code ({ cls := "FloodLentModel", name := "hopeBelow", desc := "()J" } : Jvm.MethodName) prog_13_method_71_code (4 : Nat) (Option.some Jvm.ClassFile.FieldType.long)) ∈ lw_all := lw_g (lw_at lw_m8 95 rfl) rfl
theorem q1908 : (Jvm.Cond.constantLong "FloodLentModel" (357 : Nat) (100 : Int64)) ∈ lw_all := lw_g (lw_at lw_m8 96 rfl) rfl
theorem q1909 : (Jvm.Cond.methodLink "FloodLentModel" (370 : Nat) ({ cls := "FloodLentModel", name := "part", desc := "(JJI)J" } : Jvm.MethodName)) ∈ lw_all := lw_g (lw_at lw_m8 97 rfl) rfl
theorem q1910 : (Jvm.Cond.static ({ cls := "FloodLentModel", name := "part", desc := "(JJI)J" } : Jvm.MethodName)) ∈ lw_all := lw_g (lw_at lw_m8 98 rfl) rfl
theorem q1911 : (Jvm.Cond.code ({ cls := "FloodLentModel", name := "part", desc := "(JJI)J" } : Jvm.MethodName) prog_13_method_73_code (11 : Nat) (Option.some Jvm.ClassFile.FieldType.long)) ∈ lw_all := lw_g (lw_at lw_m8 99 rfl) rfl
theorem q1912 : (Jvm.Cond.methodLink "FloodLentModel" (359 : Nat) ({ cls := "java/lang/Math", name := "abs", desc := "(J)J" } : Jvm.MethodName)) ∈ lw_all := lw_g (lw_at lw_m8 100 rfl) rfl
theorem q1913 : (Jvm.Cond.constantLong "FloodLentModel" (374 : Nat) (-2 : Int64)) ∈ lw_all := lw_g (lw_at lw_m8 101 rfl) rfl
theorem q1915 : (Jvm.Cond.instanceMethod ({ cls := "FloodLentModel", name := "wise", desc := "(I)I" } : Jvm.MethodName)) ∈ lw_all := lw_g (lw_at lw_m8 103 rfl) rfl
theorem q1916 : (Jvm.Cond.selects "FloodLentModel" ({ cls := "FloodLentModel", name := "wise", desc := "(I)I" } : Jvm.MethodName) ({ cls := "FloodLentModel", name := "wise", desc := "(I)I" } : Jvm.MethodName)) ∈ lw_all := lw_g (lw_at lw_m8 104 rfl) rfl
theorem q1917 : (Jvm.Cond.code ({ cls := "FloodLentModel", name := "wise", desc := "(I)I" } : Jvm.MethodName) prog_13_method_76_code (2 : Nat) (Option.some Jvm.ClassFile.FieldType.int)) ∈ lw_all := lw_g (lw_at lw_m8 105 rfl) rfl
theorem q1918 : (Jvm.Cond.methodLink "FloodLentModel" (380 : Nat) ({ cls := "FloodLentModel", name := "wiseTakers", desc := "()I" } : Jvm.MethodName)) ∈ lw_all := lw_g (lw_at lw_m8 106 rfl) rfl
theorem q1919 : (Jvm.Cond.privateMethod ({ cls := "FloodLentModel", name := "wiseTakers", desc := "()I" } : Jvm.MethodName)) ∈ lw_tbl := lw_at lw_m8 107 rfl
theorem q1920 : (Jvm.Cond.instanceMethod ({ cls := "FloodLentModel", name := "wiseTakers", desc := "()I" } : Jvm.MethodName)) ∈ lw_all := lw_g (lw_at lw_m8 108 rfl) rfl
theorem q1921 : (Jvm.Cond.code ({ cls := "FloodLentModel", name := "wiseTakers", desc := "()I" } : Jvm.MethodName) prog_13_method_75_code (6 : Nat) (Option.some Jvm.ClassFile.FieldType.int)) ∈ lw_all := lw_g (lw_at lw_m8 109 rfl) rfl
theorem q1923 : (Jvm.Cond.instanceMethod ({ cls := "FloodLentModel", name := "wisest", desc := "(I)J" } : Jvm.MethodName)) ∈ lw_all := lw_g (lw_at lw_m8 111 rfl) rfl
theorem q1924 : (Jvm.Cond.selects "FloodLentModel" ({ cls := "FloodLentModel", name := "wisest", desc := "(I)J" } : Jvm.MethodName) ({ cls := "FloodLentModel", name := "wisest", desc := "(I)J" } : Jvm.MethodName)) ∈ lw_all := lw_g (lw_at lw_m8 112 rfl) rfl
theorem q1925 : (Jvm.Cond.code ({ cls := "FloodLentModel", name := "wisest", desc := "(I)J" } : Jvm.MethodName) prog_13_method_77_code (2 : Nat) (Option.some Jvm.ClassFile.FieldType.long)) ∈ lw_all := lw_g (lw_at lw_m8 113 rfl) rfl
theorem q1927 : (Jvm.Cond.instanceMethod ({ cls := "FloodLentModel", name := "agree", desc := "(I)I" } : Jvm.MethodName)) ∈ lw_all := lw_g (lw_at lw_m8 115 rfl) rfl
theorem q1928 : (Jvm.Cond.selects "FloodLentModel" ({ cls := "FloodLentModel", name := "agree", desc := "(I)I" } : Jvm.MethodName) ({ cls := "FloodLentModel", name := "agree", desc := "(I)I" } : Jvm.MethodName)) ∈ lw_all := lw_g (lw_at lw_m8 116 rfl) rfl
theorem q1929 : (Jvm.Cond.code ({ cls := "FloodLentModel", name := "agree", desc := "(I)I" } : Jvm.MethodName) prog_13_method_81_code (3 : Nat) (Option.some Jvm.ClassFile.FieldType.int)) ∈ lw_all := lw_g (lw_at lw_m8 117 rfl) rfl
theorem q1930 : (Jvm.Cond.methodLink "FloodLentModel" (390 : Nat) ({ cls := "FloodLentModel", name := "asksMarks", desc := "(IZ)I" } : Jvm.MethodName)) ∈ lw_all := lw_g (lw_at lw_m8 118 rfl) rfl
theorem q1931 : (Jvm.Cond.privateMethod ({ cls := "FloodLentModel", name := "asksMarks", desc := "(IZ)I" } : Jvm.MethodName)) ∈ lw_tbl := lw_at lw_m8 119 rfl
theorem q1932 : (Jvm.Cond.instanceMethod ({ cls := "FloodLentModel", name := "asksMarks", desc := "(IZ)I" } : Jvm.MethodName)) ∈ lw_all := lw_g (lw_at lw_m8 120 rfl) rfl
theorem q1933 : (Jvm.Cond.code ({ cls := "FloodLentModel", name := "asksMarks", desc := "(IZ)I" } : Jvm.MethodName) prog_13_method_78_code (4 : Nat) (Option.some Jvm.ClassFile.FieldType.int)) ∈ lw_all := lw_g (lw_at lw_m8 121 rfl) rfl
theorem q1934 : (Jvm.Cond.methodLink "FloodLentModel" (383 : Nat) ({ cls := "FloodLentModel", name := "isSlot", desc := "(I)Z" } : Jvm.MethodName)) ∈ lw_all := lw_g (lw_at lw_m8 122 rfl) rfl
theorem q1935 : (Jvm.Cond.static ({ cls := "FloodLentModel", name := "isSlot", desc := "(I)Z" } : Jvm.MethodName)) ∈ lw_all := lw_g (lw_at lw_m8 123 rfl) rfl
theorem q1936 : (Jvm.Cond.code ({ cls := "FloodLentModel", name := "isSlot", desc := "(I)Z" } : Jvm.MethodName) prog_13_method_117_code (1 : Nat) (Option.some Jvm.ClassFile.FieldType.boolean)) ∈ lw_all := lw_g (lw_at lw_m8 124 rfl) rfl
theorem q1937 : (Jvm.Cond.methodLink "FloodLentModel" (394 : Nat) ({ cls := "FloodLentModel", name := "agreeBut", desc := "(II)I" } : Jvm.MethodName)) ∈ lw_all := lw_g (lw_at lw_m8 125 rfl) rfl
theorem q1938 : (Jvm.Cond.privateMethod ({ cls := "FloodLentModel", name := "agreeBut", desc := "(II)I" } : Jvm.MethodName)) ∈ lw_tbl := lw_at lw_m8 126 rfl
theorem q1939 : (Jvm.Cond.instanceMethod ({ cls := "FloodLentModel", name := "agreeBut", desc := "(II)I" } : Jvm.MethodName)) ∈ lw_all := lw_g (lw_at lw_m8 127 rfl) rfl
theorem q1940 : (Jvm.Cond.code ({ cls := "FloodLentModel", name := "agreeBut", desc := "(II)I" } : Jvm.MethodName) prog_13_method_80_code (6 : Nat) (Option.some Jvm.ClassFile.FieldType.int)) ∈ lw_all := lw_g (lw_at lw_m8 128 rfl) rfl
theorem q1941 : (Jvm.Cond.methodLink "FloodLentModel" (386 : Nat) ({ cls := "FloodLentModel", name := "agrees", desc := "(II)Z" } : Jvm.MethodName)) ∈ lw_all := lw_g (lw_at lw_m8 129 rfl) rfl
theorem q1942 : (Jvm.Cond.privateMethod ({ cls := "FloodLentModel", name := "agrees", desc := "(II)Z" } : Jvm.MethodName)) ∈ lw_tbl := lw_at lw_m8 130 rfl
theorem q1943 : (Jvm.Cond.instanceMethod ({ cls := "FloodLentModel", name := "agrees", desc := "(II)Z" } : Jvm.MethodName)) ∈ lw_all := lw_g (lw_at lw_m8 131 rfl) rfl
theorem q1944 : (Jvm.Cond.code ({ cls := "FloodLentModel", name := "agrees", desc := "(II)Z" } : Jvm.MethodName) prog_13_method_79_code (5 : Nat) (Option.some Jvm.ClassFile.FieldType.boolean)) ∈ lw_all := lw_g (lw_at lw_m8 132 rfl) rfl
theorem q1946 : (Jvm.Cond.instanceMethod ({ cls := "FloodLentModel", name := "who", desc := "(II)I" } : Jvm.MethodName)) ∈ lw_all := lw_g (lw_at lw_m8 134 rfl) rfl
theorem q1947 : (Jvm.Cond.selects "FloodLentModel" ({ cls := "FloodLentModel", name := "who", desc := "(II)I" } : Jvm.MethodName) ({ cls := "FloodLentModel", name := "who", desc := "(II)I" } : Jvm.MethodName)) ∈ lw_all := lw_g (lw_at lw_m8 135 rfl) rfl
theorem q1948 : (Jvm.Cond.code ({ cls := "FloodLentModel", name := "who", desc := "(II)I" } : Jvm.MethodName) prog_13_method_82_code (9 : Nat) (Option.some Jvm.ClassFile.FieldType.int)) ∈ lw_all := lw_g (lw_at lw_m8 136 rfl) rfl
theorem q1950 : (Jvm.Cond.instanceMethod ({ cls := "FloodLentModel", name := "sure", desc := "(III)I" } : Jvm.MethodName)) ∈ lw_all := lw_g (lw_at lw_m8 138 rfl) rfl
theorem q1951 : (Jvm.Cond.selects "FloodLentModel" ({ cls := "FloodLentModel", name := "sure", desc := "(III)I" } : Jvm.MethodName) ({ cls := "FloodLentModel", name := "sure", desc := "(III)I" } : Jvm.MethodName)) ∈ lw_all := lw_g (lw_at lw_m8 139 rfl) rfl
theorem q1952 : (Jvm.Cond.code ({ cls := "FloodLentModel", name := "sure", desc := "(III)I" } : Jvm.MethodName) prog_13_method_83_code (9 : Nat) (Option.some Jvm.ClassFile.FieldType.int)) ∈ lw_all := lw_g (lw_at lw_m8 140 rfl) rfl
theorem q1954 : (Jvm.Cond.instanceMethod ({ cls := "FloodLentModel", name := "needed", desc := "(I)I" } : Jvm.MethodName)) ∈ lw_all := lw_g (lw_at lw_m8 142 rfl) rfl
theorem q1955 : (Jvm.Cond.selects "FloodLentModel" ({ cls := "FloodLentModel", name := "needed", desc := "(I)I" } : Jvm.MethodName) ({ cls := "FloodLentModel", name := "needed", desc := "(I)I" } : Jvm.MethodName)) ∈ lw_all := lw_g (lw_at lw_m8 143 rfl) rfl
theorem q1956 : (Jvm.Cond.code ({ cls := "FloodLentModel", name := "needed", desc := "(I)I" } : Jvm.MethodName) prog_13_method_84_code (5 : Nat) (Option.some Jvm.ClassFile.FieldType.int)) ∈ lw_all := lw_g (lw_at lw_m8 144 rfl) rfl
theorem q1958 : (Jvm.Cond.instanceMethod ({ cls := "FloodLentModel", name := "fair", desc := "(I)I" } : Jvm.MethodName)) ∈ lw_all := lw_g (lw_at lw_m8 146 rfl) rfl
theorem q1959 : (Jvm.Cond.selects "FloodLentModel" ({ cls := "FloodLentModel", name := "fair", desc := "(I)I" } : Jvm.MethodName) ({ cls := "FloodLentModel", name := "fair", desc := "(I)I" } : Jvm.MethodName)) ∈ lw_all := lw_g (lw_at lw_m8 147 rfl) rfl
theorem q1960 : (Jvm.Cond.code ({ cls := "FloodLentModel", name := "fair", desc := "(I)I" } : Jvm.MethodName) prog_13_method_86_code (6 : Nat) (Option.some Jvm.ClassFile.FieldType.int)) ∈ lw_all := lw_g (lw_at lw_m8 148 rfl) rfl
theorem q1961 : (Jvm.Cond.methodLink "FloodLentModel" (397 : Nat) ({ cls := "FloodLentModel", name := "haveOf", desc := "(I)I" } : Jvm.MethodName)) ∈ lw_all := lw_g (lw_at lw_m8 149 rfl) rfl
theorem q1962 : (Jvm.Cond.privateMethod ({ cls := "FloodLentModel", name := "haveOf", desc := "(I)I" } : Jvm.MethodName)) ∈ lw_tbl := lw_at lw_m8 150 rfl
theorem q1963 : (Jvm.Cond.instanceMethod ({ cls := "FloodLentModel", name := "haveOf", desc := "(I)I" } : Jvm.MethodName)) ∈ lw_all := lw_g (lw_at lw_m8 151 rfl) rfl
theorem q1964 : (Jvm.Cond.code ({ cls := "FloodLentModel", name := "haveOf", desc := "(I)I" } : Jvm.MethodName) prog_13_method_85_code (4 : Nat) (Option.some Jvm.ClassFile.FieldType.int)) ∈ lw_all := lw_g (lw_at lw_m8 152 rfl) rfl
theorem q1966 : (Jvm.Cond.instanceMethod ({ cls := "FloodLentModel", name := "more", desc := "(I)I" } : Jvm.MethodName)) ∈ lw_all := lw_g (lw_at lw_m8 154 rfl) rfl
theorem q1967 : (Jvm.Cond.selects "FloodLentModel" ({ cls := "FloodLentModel", name := "more", desc := "(I)I" } : Jvm.MethodName) ({ cls := "FloodLentModel", name := "more", desc := "(I)I" } : Jvm.MethodName)) ∈ lw_all := lw_g (lw_at lw_m8 155 rfl) rfl
theorem q1968 : (Jvm.Cond.code ({ cls := "FloodLentModel", name := "more", desc := "(I)I" } : Jvm.MethodName) prog_13_method_87_code (3 : Nat) (Option.some Jvm.ClassFile.FieldType.int)) ∈ lw_all := lw_g (lw_at lw_m8 156 rfl) rfl
theorem q1970 : (Jvm.Cond.instanceMethod ({ cls := "FloodLentModel", name := "owes", desc := "(II)I" } : Jvm.MethodName)) ∈ lw_all := lw_g (lw_at lw_m8 158 rfl) rfl
theorem q1971 : (Jvm.Cond.selects "FloodLentModel" ({ cls := "FloodLentModel", name := "owes", desc := "(II)I" } : Jvm.MethodName) ({ cls := "FloodLentModel", name := "owes", desc := "(II)I" } : Jvm.MethodName)) ∈ lw_all := lw_g (lw_at lw_m8 159 rfl) rfl
theorem q1972 : (Jvm.Cond.code ({ cls := "FloodLentModel", name := "owes", desc := "(II)I" } : Jvm.MethodName) prog_13_method_94_code (3 : Nat) (Option.some Jvm.ClassFile.FieldType.int)) ∈ lw_all := lw_g (lw_at lw_m8 160 rfl) rfl
theorem q1973 : (Jvm.Cond.methodLink "FloodLentModel" (421 : Nat) ({ cls := "FloodLentModel", name := "areTwo", desc := "(II)Z" } : Jvm.MethodName)) ∈ lw_all := lw_g (lw_at lw_m8 161 rfl) rfl
theorem q1974 : (Jvm.Cond.privateMethod ({ cls := "FloodLentModel", name := "areTwo", desc := "(II)Z" } : Jvm.MethodName)) ∈ lw_tbl := lw_at lw_m8 162 rfl
theorem q1975 : (Jvm.Cond.instanceMethod ({ cls := "FloodLentModel", name := "areTwo", desc := "(II)Z" } : Jvm.MethodName)) ∈ lw_all := lw_g (lw_at lw_m8 163 rfl) rfl
theorem q1976 : (Jvm.Cond.code ({ cls := "FloodLentModel", name := "areTwo", desc := "(II)Z" } : Jvm.MethodName) prog_13_method_11_code (3 : Nat) (Option.some Jvm.ClassFile.FieldType.boolean)) ∈ lw_all := lw_g (lw_at lw_m8 164 rfl) rfl
theorem q1977 : (Jvm.Cond.methodLink "FloodLentModel" (409 : Nat) ({ cls := "FloodLentModel", name := "fillDebts", desc := "()V" } : Jvm.MethodName)) ∈ lw_all := lw_g (lw_at lw_m8 165 rfl) rfl
theorem q1978 : (Jvm.Cond.privateMethod ({ cls := "FloodLentModel", name := "fillDebts", desc := "()V" } : Jvm.MethodName)) ∈ lw_tbl := lw_at lw_m8 166 rfl
theorem q1979 : (Jvm.Cond.instanceMethod ({ cls := "FloodLentModel", name := "fillDebts", desc := "()V" } : Jvm.MethodName)) ∈ lw_all := lw_g (lw_at lw_m8 167 rfl) rfl
theorem q1980 : (Jvm.Cond.code ({ cls := "FloodLentModel", name := "fillDebts", desc := "()V" } : Jvm.MethodName) prog_13_method_88_code (2 : Nat) (Option.none : Option Jvm.ClassFile.FieldType)) ∈ lw_all := lw_g (lw_at lw_m8 168 rfl) rfl
theorem q1981 : (Jvm.Cond.methodLink "FloodLentModel" (400 : Nat) ({ cls := "FloodLentModel", name := "debt", desc := "(II)I" } : Jvm.MethodName)) ∈ lw_all := lw_g (lw_at lw_m8 169 rfl) rfl
theorem q1982 : (Jvm.Cond.privateMethod ({ cls := "FloodLentModel", name := "debt", desc := "(II)I" } : Jvm.MethodName)) ∈ lw_tbl := lw_at lw_m8 170 rfl
theorem q1983 : (Jvm.Cond.instanceMethod ({ cls := "FloodLentModel", name := "debt", desc := "(II)I" } : Jvm.MethodName)) ∈ lw_all := lw_g (lw_at lw_m8 171 rfl) rfl
theorem q1984 : (Jvm.Cond.code ({ cls := "FloodLentModel", name := "debt", desc := "(II)I" } : Jvm.MethodName) prog_13_method_89_code (3 : Nat) (Option.some Jvm.ClassFile.FieldType.int)) ∈ lw_all := lw_g (lw_at lw_m8 172 rfl) rfl
theorem q1986 : (Jvm.Cond.instanceMethod ({ cls := "FloodLentModel", name := "rings", desc := "(I)I" } : Jvm.MethodName)) ∈ lw_all := lw_g (lw_at lw_m8 174 rfl) rfl
theorem q1987 : (Jvm.Cond.selects "FloodLentModel" ({ cls := "FloodLentModel", name := "rings", desc := "(I)I" } : Jvm.MethodName) ({ cls := "FloodLentModel", name := "rings", desc := "(I)I" } : Jvm.MethodName)) ∈ lw_all := lw_g (lw_at lw_m8 175 rfl) rfl
theorem q1988 : (Jvm.Cond.code ({ cls := "FloodLentModel", name := "rings", desc := "(I)I" } : Jvm.MethodName) prog_13_method_95_code (2 : Nat) (Option.some Jvm.ClassFile.FieldType.int)) ∈ lw_all := lw_g (lw_at lw_m8 176 rfl) rfl
theorem q1989 : (Jvm.Cond.methodLink "FloodLentModel" (424 : Nat) ({ cls := "FloodLentModel", name := "clears", desc := "()V" } : Jvm.MethodName)) ∈ lw_all := lw_g (lw_at lw_m8 177 rfl) rfl
theorem q1990 : (Jvm.Cond.privateMethod ({ cls := "FloodLentModel", name := "clears", desc := "()V" } : Jvm.MethodName)) ∈ lw_tbl := lw_at lw_m8 178 rfl
theorem q1991 : (Jvm.Cond.instanceMethod ({ cls := "FloodLentModel", name := "clears", desc := "()V" } : Jvm.MethodName)) ∈ lw_all := lw_g (lw_at lw_m8 179 rfl) rfl
theorem q1992 : (Jvm.Cond.code ({ cls := "FloodLentModel", name := "clears", desc := "()V" } : Jvm.MethodName) prog_13_method_93_code (5 : Nat) (Option.none : Option Jvm.ClassFile.FieldType)) ∈ lw_all := lw_g (lw_at lw_m8 180 rfl) rfl
theorem q1993 : (Jvm.Cond.methodLink "FloodLentModel" (418 : Nat) ({ cls := "FloodLentModel", name := "ringSize", desc := "()I" } : Jvm.MethodName)) ∈ lw_all := lw_g (lw_at lw_m8 181 rfl) rfl
theorem q1994 : (Jvm.Cond.privateMethod ({ cls := "FloodLentModel", name := "ringSize", desc := "()I" } : Jvm.MethodName)) ∈ lw_tbl := lw_at lw_m8 182 rfl
theorem q1995 : (Jvm.Cond.instanceMethod ({ cls := "FloodLentModel", name := "ringSize", desc := "()I" } : Jvm.MethodName)) ∈ lw_all := lw_g (lw_at lw_m8 183 rfl) rfl
theorem q1996 : (Jvm.Cond.code ({ cls := "FloodLentModel", name := "ringSize", desc := "()I" } : Jvm.MethodName) prog_13_method_92_code (2 : Nat) (Option.some Jvm.ClassFile.FieldType.int)) ∈ lw_all := lw_g (lw_at lw_m8 184 rfl) rfl
theorem q1997 : (Jvm.Cond.methodLink "FloodLentModel" (406 : Nat) ({ cls := "FloodLentModel", name := "findsRing", desc := "(I)Z" } : Jvm.MethodName)) ∈ lw_all := lw_g (lw_at lw_m8 185 rfl) rfl
theorem q1998 : (Jvm.Cond.privateMethod ({ cls := "FloodLentModel", name := "findsRing", desc := "(I)Z" } : Jvm.MethodName)) ∈ lw_tbl := lw_at lw_m8 186 rfl
theorem q1999 : (Jvm.Cond.instanceMethod ({ cls := "FloodLentModel", name := "findsRing", desc := "(I)Z" } : Jvm.MethodName)) ∈ lw_all := lw_g (lw_at lw_m8 187 rfl) rfl
theorem q2000 : (Jvm.Cond.code ({ cls := "FloodLentModel", name := "findsRing", desc := "(I)Z" } : Jvm.MethodName) prog_13_method_91_code (6 : Nat) (Option.some Jvm.ClassFile.FieldType.boolean)) ∈ lw_all := lw_g (lw_at lw_m8 188 rfl) rfl
theorem q2001 : (Jvm.Cond.methodLink "FloodLentModel" (403 : Nat) ({ cls := "FloodLentModel", name := "isRing", desc := "(I)Z" } : Jvm.MethodName)) ∈ lw_all := lw_g (lw_at lw_m8 189 rfl) rfl
theorem q2002 : (Jvm.Cond.privateMethod ({ cls := "FloodLentModel", name := "isRing", desc := "(I)Z" } : Jvm.MethodName)) ∈ lw_tbl := lw_at lw_m8 190 rfl
theorem q2003 : (Jvm.Cond.instanceMethod ({ cls := "FloodLentModel", name := "isRing", desc := "(I)Z" } : Jvm.MethodName)) ∈ lw_all := lw_g (lw_at lw_m8 191 rfl) rfl
theorem q2004 : (Jvm.Cond.code ({ cls := "FloodLentModel", name := "isRing", desc := "(I)Z" } : Jvm.MethodName) prog_13_method_90_code (4 : Nat) (Option.some Jvm.ClassFile.FieldType.boolean)) ∈ lw_all := lw_g (lw_at lw_m8 192 rfl) rfl
theorem q2006 : (Jvm.Cond.instanceMethod ({ cls := "FloodLentModel", name := "ring", desc := "(I)I" } : Jvm.MethodName)) ∈ lw_all := lw_g (lw_at lw_m8 194 rfl) rfl
theorem q2007 : (Jvm.Cond.selects "FloodLentModel" ({ cls := "FloodLentModel", name := "ring", desc := "(I)I" } : Jvm.MethodName) ({ cls := "FloodLentModel", name := "ring", desc := "(I)I" } : Jvm.MethodName)) ∈ lw_all := lw_g (lw_at lw_m8 195 rfl) rfl
theorem q2008 : (Jvm.Cond.code ({ cls := "FloodLentModel", name := "ring", desc := "(I)I" } : Jvm.MethodName) prog_13_method_96_code (2 : Nat) (Option.some Jvm.ClassFile.FieldType.int)) ∈ lw_all := lw_g (lw_at lw_m8 196 rfl) rfl
theorem q2010 : (Jvm.Cond.instanceMethod ({ cls := "FloodLentModel", name := "left", desc := "(II)I" } : Jvm.MethodName)) ∈ lw_all := lw_g (lw_at lw_m8 198 rfl) rfl
theorem q2011 : (Jvm.Cond.selects "FloodLentModel" ({ cls := "FloodLentModel", name := "left", desc := "(II)I" } : Jvm.MethodName) ({ cls := "FloodLentModel", name := "left", desc := "(II)I" } : Jvm.MethodName)) ∈ lw_all := lw_g (lw_at lw_m8 199 rfl) rfl
theorem q2012 : (Jvm.Cond.code ({ cls := "FloodLentModel", name := "left", desc := "(II)I" } : Jvm.MethodName) prog_13_method_97_code (3 : Nat) (Option.some Jvm.ClassFile.FieldType.int)) ∈ lw_all := lw_g (lw_at lw_m8 200 rfl) rfl
theorem q2014 : (Jvm.Cond.instanceMethod ({ cls := "FloodLentModel", name := "struck", desc := "(II)I" } : Jvm.MethodName)) ∈ lw_all := lw_g (lw_at lw_m8 202 rfl) rfl
theorem q2015 : (Jvm.Cond.selects "FloodLentModel" ({ cls := "FloodLentModel", name := "struck", desc := "(II)I" } : Jvm.MethodName) ({ cls := "FloodLentModel", name := "struck", desc := "(II)I" } : Jvm.MethodName)) ∈ lw_all := lw_g (lw_at lw_m8 203 rfl) rfl
theorem q2016 : (Jvm.Cond.code ({ cls := "FloodLentModel", name := "struck", desc := "(II)I" } : Jvm.MethodName) prog_13_method_103_code (5 : Nat) (Option.some Jvm.ClassFile.FieldType.int)) ∈ lw_all := lw_g (lw_at lw_m8 204 rfl) rfl
theorem q2017 : (Jvm.Cond.methodLink "FloodLentModel" (434 : Nat) ({ cls := "FloodLentModel", name := "strikes", desc := "(I)V" } : Jvm.MethodName)) ∈ lw_all := lw_g (lw_at lw_m8 205 rfl) rfl
theorem q2018 : (Jvm.Cond.privateMethod ({ cls := "FloodLentModel", name := "strikes", desc := "(I)V" } : Jvm.MethodName)) ∈ lw_tbl := lw_at lw_m8 206 rfl
theorem q2019 : (Jvm.Cond.instanceMethod ({ cls := "FloodLentModel", name := "strikes", desc := "(I)V" } : Jvm.MethodName)) ∈ lw_all := lw_g (lw_at lw_m8 207 rfl) rfl
theorem q2020 : (Jvm.Cond.code ({ cls := "FloodLentModel", name := "strikes", desc := "(I)V" } : Jvm.MethodName) prog_13_method_100_code (8 : Nat) (Option.none : Option Jvm.ClassFile.FieldType)) ∈ lw_all := lw_g (lw_at lw_m8 208 rfl) rfl
theorem q2021 : (Jvm.Cond.methodLink "FloodLentModel" (427 : Nat) ({ cls := "FloodLentModel", name := "allDebts", desc := "(I)I" } : Jvm.MethodName)) ∈ lw_all := lw_g (lw_at lw_m8 209 rfl) rfl
theorem q2022 : (Jvm.Cond.privateMethod ({ cls := "FloodLentModel", name := "allDebts", desc := "(I)I" } : Jvm.MethodName)) ∈ lw_tbl := lw_at lw_m8 210 rfl
theorem q2023 : (Jvm.Cond.instanceMethod ({ cls := "FloodLentModel", name := "allDebts", desc := "(I)I" } : Jvm.MethodName)) ∈ lw_all := lw_g (lw_at lw_m8 211 rfl) rfl
theorem q2024 : (Jvm.Cond.code ({ cls := "FloodLentModel", name := "allDebts", desc := "(I)I" } : Jvm.MethodName) prog_13_method_98_code (4 : Nat) (Option.some Jvm.ClassFile.FieldType.int)) ∈ lw_all := lw_g (lw_at lw_m8 212 rfl) rfl
theorem q2025 : (Jvm.Cond.methodLink "FloodLentModel" (430 : Nat) ({ cls := "FloodLentModel", name := "nextPaid", desc := "(III)I" } : Jvm.MethodName)) ∈ lw_all := lw_g (lw_at lw_m8 213 rfl) rfl
theorem q2026 : (Jvm.Cond.privateMethod ({ cls := "FloodLentModel", name := "nextPaid", desc := "(III)I" } : Jvm.MethodName)) ∈ lw_tbl := lw_at lw_m8 214 rfl
theorem q2027 : (Jvm.Cond.instanceMethod ({ cls := "FloodLentModel", name := "nextPaid", desc := "(III)I" } : Jvm.MethodName)) ∈ lw_all := lw_g (lw_at lw_m8 215 rfl) rfl
theorem q2028 : (Jvm.Cond.code ({ cls := "FloodLentModel", name := "nextPaid", desc := "(III)I" } : Jvm.MethodName) prog_13_method_99_code (6 : Nat) (Option.some Jvm.ClassFile.FieldType.int)) ∈ lw_all := lw_g (lw_at lw_m8 216 rfl) rfl
theorem q2029 : (Jvm.Cond.methodLink "FloodLentModel" (437 : Nat) ({ cls := "FloodLentModel", name := "ruined", desc := "()I" } : Jvm.MethodName)) ∈ lw_all := lw_g (lw_at lw_m8 217 rfl) rfl
theorem q2030 : (Jvm.Cond.privateMethod ({ cls := "FloodLentModel", name := "ruined", desc := "()I" } : Jvm.MethodName)) ∈ lw_tbl := lw_at lw_m8 218 rfl
theorem q2031 : (Jvm.Cond.instanceMethod ({ cls := "FloodLentModel", name := "ruined", desc := "()I" } : Jvm.MethodName)) ∈ lw_all := lw_g (lw_at lw_m8 219 rfl) rfl
theorem q2032 : (Jvm.Cond.code ({ cls := "FloodLentModel", name := "ruined", desc := "()I" } : Jvm.MethodName) prog_13_method_101_code (6 : Nat) (Option.some Jvm.ClassFile.FieldType.int)) ∈ lw_all := lw_g (lw_at lw_m8 220 rfl) rfl
theorem q2034 : (Jvm.Cond.instanceMethod ({ cls := "FloodLentModel", name := "pays", desc := "(III)I" } : Jvm.MethodName)) ∈ lw_all := lw_g (lw_at lw_m8 222 rfl) rfl
theorem q2035 : (Jvm.Cond.selects "FloodLentModel" ({ cls := "FloodLentModel", name := "pays", desc := "(III)I" } : Jvm.MethodName) ({ cls := "FloodLentModel", name := "pays", desc := "(III)I" } : Jvm.MethodName)) ∈ lw_all := lw_g (lw_at lw_m8 223 rfl) rfl
theorem q2036 : (Jvm.Cond.code ({ cls := "FloodLentModel", name := "pays", desc := "(III)I" } : Jvm.MethodName) prog_13_method_104_code (4 : Nat) (Option.some Jvm.ClassFile.FieldType.int)) ∈ lw_all := lw_g (lw_at lw_m8 224 rfl) rfl
theorem q2038 : (Jvm.Cond.instanceMethod ({ cls := "FloodLentModel", name := "law", desc := "()I" } : Jvm.MethodName)) ∈ lw_all := lw_g (lw_at lw_m8 226 rfl) rfl
theorem q2039 : (Jvm.Cond.selects "FloodLentModel" ({ cls := "FloodLentModel", name := "law", desc := "()I" } : Jvm.MethodName) ({ cls := "FloodLentModel", name := "law", desc := "()I" } : Jvm.MethodName)) ∈ lw_all := lw_g (lw_at lw_m8 227 rfl) rfl
theorem q2040 : (Jvm.Cond.code ({ cls := "FloodLentModel", name := "law", desc := "()I" } : Jvm.MethodName) prog_13_method_105_code (4 : Nat) (Option.some Jvm.ClassFile.FieldType.int)) ∈ lw_all := lw_g (lw_at lw_m8 228 rfl) rfl
theorem q2041 : (Jvm.Cond.methodLink "FloodLentModel" (440 : Nat) ({ cls := "FloodLentModel", name := "bits", desc := "(I)I" } : Jvm.MethodName)) ∈ lw_all := lw_g (lw_at lw_m8 229 rfl) rfl
theorem q2042 : (Jvm.Cond.static ({ cls := "FloodLentModel", name := "bits", desc := "(I)I" } : Jvm.MethodName)) ∈ lw_all := lw_g (lw_at lw_m8 230 rfl) rfl
theorem q2043 : (Jvm.Cond.code ({ cls := "FloodLentModel", name := "bits", desc := "(I)I" } : Jvm.MethodName) prog_13_method_102_code (3 : Nat) (Option.some Jvm.ClassFile.FieldType.int)) ∈ lw_all := lw_g (lw_at lw_m8 231 rfl) rfl
theorem q2045 : (Jvm.Cond.instanceMethod ({ cls := "FloodLentModel", name := "melons", desc := "(I)I" } : Jvm.MethodName)) ∈ lw_all := lw_g (lw_at lw_m8 233 rfl) rfl
theorem q2046 : (Jvm.Cond.selects "FloodLentModel" ({ cls := "FloodLentModel", name := "melons", desc := "(I)I" } : Jvm.MethodName) ({ cls := "FloodLentModel", name := "melons", desc := "(I)I" } : Jvm.MethodName)) ∈ lw_all := lw_g (lw_at lw_m8 234 rfl) rfl
theorem q2047 : (Jvm.Cond.code ({ cls := "FloodLentModel", name := "melons", desc := "(I)I" } : Jvm.MethodName) prog_13_method_107_code (5 : Nat) (Option.some Jvm.ClassFile.FieldType.int)) ∈ lw_all := lw_g (lw_at lw_m8 235 rfl) rfl
theorem q2048 : (Jvm.Cond.methodLink "FloodLentModel" (443 : Nat) ({ cls := "FloodLentModel", name := "firstCrop", desc := "(I)I" } : Jvm.MethodName)) ∈ lw_all := lw_g (lw_at lw_m8 236 rfl) rfl
theorem q2049 : (Jvm.Cond.privateMethod ({ cls := "FloodLentModel", name := "firstCrop", desc := "(I)I" } : Jvm.MethodName)) ∈ lw_tbl := lw_at lw_m8 237 rfl
theorem q2050 : (Jvm.Cond.instanceMethod ({ cls := "FloodLentModel", name := "firstCrop", desc := "(I)I" } : Jvm.MethodName)) ∈ lw_all := lw_g (lw_at lw_m8 238 rfl) rfl
theorem q2051 : (Jvm.Cond.code ({ cls := "FloodLentModel", name := "firstCrop", desc := "(I)I" } : Jvm.MethodName) prog_13_method_106_code (3 : Nat) (Option.some Jvm.ClassFile.FieldType.int)) ∈ lw_all := lw_g (lw_at lw_m8 239 rfl) rfl
theorem q2053 : (Jvm.Cond.instanceMethod ({ cls := "FloodLentModel", name := "share", desc := "(I)I" } : Jvm.MethodName)) ∈ lw_all := lw_g (lw_at lw_m9 1 rfl) rfl
theorem q2054 : (Jvm.Cond.selects "FloodLentModel" ({ cls := "FloodLentModel", name := "share", desc := "(I)I" } : Jvm.MethodName) ({ cls := "FloodLentModel", name := "share", desc := "(I)I" } : Jvm.MethodName)) ∈ lw_all := lw_g (lw_at lw_m9 2 rfl) rfl
theorem q2055 : (Jvm.Cond.code ({ cls := "FloodLentModel", name := "share", desc := "(I)I" } : Jvm.MethodName) prog_13_method_109_code (4 : Nat) (Option.some Jvm.ClassFile.FieldType.int)) ∈ lw_all := lw_g (lw_at lw_m9 3 rfl) rfl
theorem q2056 : (Jvm.Cond.methodLink "FloodLentModel" (446 : Nat) ({ cls := "FloodLentModel", name := "shareOf", desc := "(I)I" } : Jvm.MethodName)) ∈ lw_all := lw_g (lw_at lw_m9 4 rfl) rfl
theorem q2057 : (Jvm.Cond.privateMethod ({ cls := "FloodLentModel", name := "shareOf", desc := "(I)I" } : Jvm.MethodName)) ∈ lw_tbl := lw_at lw_m9 5 rfl
theorem q2058 : (Jvm.Cond.instanceMethod ({ cls := "FloodLentModel", name := "shareOf", desc := "(I)I" } : Jvm.MethodName)) ∈ lw_all := lw_g (lw_at lw_m9 6 rfl) rfl
theorem q2059 : (Jvm.Cond.code ({ cls := "FloodLentModel", name := "shareOf", desc := "(I)I" } : Jvm.MethodName) prog_13_method_108_code (4 : Nat) (Option.some Jvm.ClassFile.FieldType.int)) ∈ lw_all := lw_g (lw_at lw_m9 7 rfl) rfl
theorem q2061 : (Jvm.Cond.instanceMethod ({ cls := "FloodLentModel", name := "enough", desc := "(I)I" } : Jvm.MethodName)) ∈ lw_all := lw_g (lw_at lw_m9 9 rfl) rfl
theorem q2062 : (Jvm.Cond.selects "FloodLentModel" ({ cls := "FloodLentModel", name := "enough", desc := "(I)I" } : Jvm.MethodName) ({ cls := "FloodLentModel", name := "enough", desc := "(I)I" } : Jvm.MethodName)) ∈ lw_all := lw_g (lw_at lw_m9 10 rfl) rfl
theorem q2063 : (Jvm.Cond.code ({ cls := "FloodLentModel", name := "enough", desc := "(I)I" } : Jvm.MethodName) prog_13_method_111_code (6 : Nat) (Option.some Jvm.ClassFile.FieldType.int)) ∈ lw_all := lw_g (lw_at lw_m9 11 rfl) rfl
theorem q2064 : (Jvm.Cond.methodLink "FloodLentModel" (449 : Nat) ({ cls := "FloodLentModel", name := "isNeverDry", desc := "(I)Z" } : Jvm.MethodName)) ∈ lw_all := lw_g (lw_at lw_m9 12 rfl) rfl
theorem q2065 : (Jvm.Cond.privateMethod ({ cls := "FloodLentModel", name := "isNeverDry", desc := "(I)Z" } : Jvm.MethodName)) ∈ lw_tbl := lw_at lw_m9 13 rfl
theorem q2066 : (Jvm.Cond.instanceMethod ({ cls := "FloodLentModel", name := "isNeverDry", desc := "(I)Z" } : Jvm.MethodName)) ∈ lw_all := lw_g (lw_at lw_m9 14 rfl) rfl
theorem q2067 : (Jvm.Cond.code ({ cls := "FloodLentModel", name := "isNeverDry", desc := "(I)Z" } : Jvm.MethodName) prog_13_method_110_code (3 : Nat) (Option.some Jvm.ClassFile.FieldType.boolean)) ∈ lw_all := lw_g (lw_at lw_m9 15 rfl) rfl
theorem q2069 : (Jvm.Cond.instanceMethod ({ cls := "FloodLentModel", name := "year", desc := "(II)I" } : Jvm.MethodName)) ∈ lw_all := lw_g (lw_at lw_m9 17 rfl) rfl
theorem q2070 : (Jvm.Cond.selects "FloodLentModel" ({ cls := "FloodLentModel", name := "year", desc := "(II)I" } : Jvm.MethodName) ({ cls := "FloodLentModel", name := "year", desc := "(II)I" } : Jvm.MethodName)) ∈ lw_all := lw_g (lw_at lw_m9 18 rfl) rfl
theorem q2071 : (Jvm.Cond.code ({ cls := "FloodLentModel", name := "year", desc := "(II)I" } : Jvm.MethodName) prog_13_method_114_code (4 : Nat) (Option.some Jvm.ClassFile.FieldType.int)) ∈ lw_all := lw_g (lw_at lw_m9 19 rfl) rfl
theorem q2072 : (Jvm.Cond.constantLong "FloodLentModel" (466 : Nat) (2000000000 : Int64)) ∈ lw_all := lw_g (lw_at lw_m9 20 rfl) rfl
theorem q2073 : (Jvm.Cond.methodLink "FloodLentModel" (468 : Nat) ({ cls := "FloodLentModel", name := "floodsDrawn", desc := "(J)I" } : Jvm.MethodName)) ∈ lw_all := lw_g (lw_at lw_m9 21 rfl) rfl
theorem q2074 : (Jvm.Cond.privateMethod ({ cls := "FloodLentModel", name := "floodsDrawn", desc := "(J)I" } : Jvm.MethodName)) ∈ lw_tbl := lw_at lw_m9 22 rfl
theorem q2075 : (Jvm.Cond.instanceMethod ({ cls := "FloodLentModel", name := "floodsDrawn", desc := "(J)I" } : Jvm.MethodName)) ∈ lw_all := lw_g (lw_at lw_m9 23 rfl) rfl
theorem q2076 : (Jvm.Cond.code ({ cls := "FloodLentModel", name := "floodsDrawn", desc := "(J)I" } : Jvm.MethodName) prog_13_method_113_code (5 : Nat) (Option.some Jvm.ClassFile.FieldType.int)) ∈ lw_all := lw_g (lw_at lw_m9 24 rfl) rfl
theorem q2077 : (Jvm.Cond.methodLink "FloodLentModel" (463 : Nat) ({ cls := "FloodLentModel", name := "draw", desc := "()I" } : Jvm.MethodName)) ∈ lw_all := lw_g (lw_at lw_m9 25 rfl) rfl
theorem q2078 : (Jvm.Cond.privateMethod ({ cls := "FloodLentModel", name := "draw", desc := "()I" } : Jvm.MethodName)) ∈ lw_tbl := lw_at lw_m9 26 rfl
theorem q2079 : (Jvm.Cond.instanceMethod ({ cls := "FloodLentModel", name := "draw", desc := "()I" } : Jvm.MethodName)) ∈ lw_all := lw_g (lw_at lw_m9 27 rfl) rfl
theorem q2080 : (Jvm.Cond.code ({ cls := "FloodLentModel", name := "draw", desc := "()I" } : Jvm.MethodName) prog_13_method_112_code (1 : Nat) (Option.some Jvm.ClassFile.FieldType.int)) ∈ lw_all := lw_g (lw_at lw_m9 28 rfl) rfl
theorem q2081 : (Jvm.Cond.constantLong "FloodLentModel" (452 : Nat) (1103515245 : Int64)) ∈ lw_all := lw_g (lw_at lw_m9 29 rfl) rfl
theorem q2082 : (Jvm.Cond.constantLong "FloodLentModel" (457 : Nat) (12345 : Int64)) ∈ lw_all := lw_g (lw_at lw_m9 30 rfl) rfl
theorem q2083 : (Jvm.Cond.constantLong "FloodLentModel" (459 : Nat) (2147483648 : Int64)) ∈ lw_all := lw_g (lw_at lw_m9 31 rfl) rfl
theorem q2084 : (Jvm.Cond.constantLong "FloodLentModel" (461 : Nat) (65536 : Int64)) ∈ lw_all := lw_g (lw_at lw_m9 32 rfl) rfl
theorem q2086 : (Jvm.Cond.instanceMethod ({ cls := "FloodLentModel", name := "years", desc := "(II)I" } : Jvm.MethodName)) ∈ lw_all := lw_g (lw_at lw_m9 34 rfl) rfl
theorem q2087 : (Jvm.Cond.selects "FloodLentModel" ({ cls := "FloodLentModel", name := "years", desc := "(II)I" } : Jvm.MethodName) ({ cls := "FloodLentModel", name := "years", desc := "(II)I" } : Jvm.MethodName)) ∈ lw_all := lw_g (lw_at lw_m9 35 rfl) rfl
theorem q2088 : (Jvm.Cond.code ({ cls := "FloodLentModel", name := "years", desc := "(II)I" } : Jvm.MethodName) prog_13_method_115_code (5 : Nat) (Option.some Jvm.ClassFile.FieldType.int)) ∈ lw_all := lw_g (lw_at lw_m9 36 rfl) rfl
theorem q2089 : (Jvm.Cond.constantLong "FloodLentModel" (472 : Nat) (20 : Int64)) ∈ lw_all := lw_g (lw_at lw_m9 37 rfl) rfl
theorem q2091 : (Jvm.Cond.instanceMethod ({ cls := "FloodLentModel", name := "count", desc := "(I)I" } : Jvm.MethodName)) ∈ lw_all := lw_g (lw_at lw_m9 39 rfl) rfl
theorem q2092 : (Jvm.Cond.selects "FloodLentModel" ({ cls := "FloodLentModel", name := "count", desc := "(I)I" } : Jvm.MethodName) ({ cls := "FloodLentModel", name := "count", desc := "(I)I" } : Jvm.MethodName)) ∈ lw_all := lw_g (lw_at lw_m9 40 rfl) rfl
theorem q2093 : (Jvm.Cond.code ({ cls := "FloodLentModel", name := "count", desc := "(I)I" } : Jvm.MethodName) prog_13_method_116_code (4 : Nat) (Option.some Jvm.ClassFile.FieldType.int)) ∈ lw_all := lw_g (lw_at lw_m9 41 rfl) rfl
theorem q2095 : (Jvm.Cond.instanceMethod ({ cls := "FloodLentModel", name := "row", desc := "(III)I" } : Jvm.MethodName)) ∈ lw_all := lw_g (lw_at lw_m9 43 rfl) rfl
theorem q2096 : (Jvm.Cond.selects "FloodLentModel" ({ cls := "FloodLentModel", name := "row", desc := "(III)I" } : Jvm.MethodName) ({ cls := "FloodLentModel", name := "row", desc := "(III)I" } : Jvm.MethodName)) ∈ lw_all := lw_g (lw_at lw_m9 44 rfl) rfl
theorem q2097 : (Jvm.Cond.code ({ cls := "FloodLentModel", name := "row", desc := "(III)I" } : Jvm.MethodName) prog_13_method_119_code (5 : Nat) (Option.some Jvm.ClassFile.FieldType.int)) ∈ lw_all := lw_g (lw_at lw_m9 45 rfl) rfl
theorem q2099 : (Jvm.Cond.instanceMethod ({ cls := "FloodLentModel", name := "write", desc := "(IIJ)I" } : Jvm.MethodName)) ∈ lw_all := lw_g (lw_at lw_m9 47 rfl) rfl
theorem q2100 : (Jvm.Cond.selects "FloodLentModel" ({ cls := "FloodLentModel", name := "write", desc := "(IIJ)I" } : Jvm.MethodName) ({ cls := "FloodLentModel", name := "write", desc := "(IIJ)I" } : Jvm.MethodName)) ∈ lw_all := lw_g (lw_at lw_m9 48 rfl) rfl
theorem q2101 : (Jvm.Cond.code ({ cls := "FloodLentModel", name := "write", desc := "(IIJ)I" } : Jvm.MethodName) prog_13_method_120_code (5 : Nat) (Option.some Jvm.ClassFile.FieldType.int)) ∈ lw_all := lw_g (lw_at lw_m9 49 rfl) rfl
theorem q2102 : (Jvm.Cond.methodLink "FloodLentModel" (474 : Nat) ({ cls := "FloodLentModel", name := "cut", desc := "(JI)J" } : Jvm.MethodName)) ∈ lw_all := lw_g (lw_at lw_m9 50 rfl) rfl
theorem q2103 : (Jvm.Cond.static ({ cls := "FloodLentModel", name := "cut", desc := "(JI)J" } : Jvm.MethodName)) ∈ lw_all := lw_g (lw_at lw_m9 51 rfl) rfl
theorem q2104 : (Jvm.Cond.code ({ cls := "FloodLentModel", name := "cut", desc := "(JI)J" } : Jvm.MethodName) prog_13_method_118_code (4 : Nat) (Option.some Jvm.ClassFile.FieldType.long)) ∈ lw_all := lw_g (lw_at lw_m9 52 rfl) rfl
theorem q2106 : (Jvm.Cond.instanceMethod ({ cls := "FloodLentModel", name := "paste", desc := "(IIIII)I" } : Jvm.MethodName)) ∈ lw_all := lw_g (lw_at lw_m9 54 rfl) rfl
theorem q2107 : (Jvm.Cond.selects "FloodLentModel" ({ cls := "FloodLentModel", name := "paste", desc := "(IIIII)I" } : Jvm.MethodName) ({ cls := "FloodLentModel", name := "paste", desc := "(IIIII)I" } : Jvm.MethodName)) ∈ lw_all := lw_g (lw_at lw_m9 55 rfl) rfl
theorem q2108 : (Jvm.Cond.code ({ cls := "FloodLentModel", name := "paste", desc := "(IIIII)I" } : Jvm.MethodName) prog_13_method_121_code (7 : Nat) (Option.some Jvm.ClassFile.FieldType.int)) ∈ lw_all := lw_g (lw_at lw_m9 56 rfl) rfl
theorem q2120 : (Jvm.Cond.castable "FloodLentModel" "java/lang/Object") ∈ lw_tbl := lw_at lw_m9 68 rfl
theorem in_X5 : ∀ w ∈ wsX50, w ∈ lw_all := lw_in wsX50 [1511, 1513, 1515, 1517, 1519, 1521, 1523, 1525, 1527, 1529, 1531, 1533, 1535, 1537, 1539, 1541, 1543, 1545, 1547, 1549, 1551, 1553, 1555, 1557, 1559, 1561, 1563, 1565, 1567, 1569, 1571, 1573, 1575, 1577, 1579, 1581, 1583, 1585, 1587, 1589] (by decide +kernel) (by decide +kernel)
